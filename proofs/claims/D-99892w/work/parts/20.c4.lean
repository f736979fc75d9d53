set_option maxRecDepth 100000
section CWc4
variable {p : Program} {l : Launch} {e : Env} {s : State} {m : MethodId} {args : Array Value} {below : List Frame} {meth : Method} {c : Code} {D : va_G} {Z : State → Prop} {Hb : Heap} {A : Nat → Prop} {ad : Nat → Nat} {sc : Option Nat × Option Nat × (Nat → Value)} {tw : Option TD} {τ : TD} {w0 : va_W} {b0 : Nat}
theorem v1_1_lowest : GoodIn lw_all (va_wsS RX1 333 yX1_lowest (ws_ yX1_lowest cX1_lowest 5 (some .long))) := lw_S q1272 q1273 q118 q1274
theorem h1_odds : yX1_odds.cls = RX1 ∧ yX1_odds.cls ≠ "java/lang/invoke/MethodHandle" ∧ yX1_odds.cls ≠ "java/lang/invoke/VarHandle" ∧ (parseMethodDescriptor yX1_odds.desc).map (fun d => d.parameters.length) = some 3 := by decide +kernel
def j1_odds_56 (post : Int64 → CS → Prop) (tw : Option TD) (S : CS) (x1 : Int32) (x2 : Int32) (x3 : Int32) (y0 : Int32) : Prop :=
  (w4_isRight (fun r8 => ((r8 = 0 → (w1_lowest (fun r10 => (post r10 S)) ((y0 + 0).toInt64) 100 x3)) ∧ (¬ r8 = 0 → ((∃ τ, tw = some τ) ∧ (w1_lowest (fun r11 => (post r11 S)) ((y0 + (S.1.1 50 7)).toInt64) 100 x3))))) tw S 0 x1 x2 1)
set_option maxHeartbeats 4000000 in
theorem k1_odds_56 {post : Int64 → CS → Prop} {S : CS} {x1 : Int32} {x2 : Int32} {x3 : Int32} {y0 : Int32} (hC : CX RX1 cX1_odds 7 (some .long) D gCl nwG Z Hb A p s m args meth c) (hw : j1_odds_56 post tw S x1 x2 x3 y0) : ∀ (H : Heap) (locs : List Loc) (ls : Array Slot), va_P D gCl (wC D ad sc tw S) H → va_D A (wC D ad sc tw S) → va_S A s.heap H locs → lv_has ls 7 [(0, .ref (ad 0)), (1, .int x1), (2, .int x2), (3, .int x3)] → W p l e ({ frames := 123, cells := 0, slots := 0, locals := 6070 } : Room) s m args below meth c H locs 0 0 (MQ below (va_Ql post (BW D gCl A (fun u => (wC D ad sc tw u))) A) args s 0 0 A) (F0 m 56 ls [.int y0]) := by
  intro H locs ls hP hD hS hl
  unfold j1_odds_56 at hw
  refine lv_aload_n hC.x hC.b dX1_odds_56 rfl (lv_at hl 0 rfl) ?_
  refine gO_9 hC hP dX1_odds_57 ?_
  refine lv_iload_n hC.x hC.b dX1_odds_60 rfl (lv_at hl 1 rfl) ?_
  refine lv_iload_n hC.x hC.b dX1_odds_61 rfl (lv_at hl 2 rfl) ?_
  refine lv_iconst (v := 1) hC.x hC.b dX1_odds_62 (by decide) ?_
  refine go_i (run_V (rest := [.int y0]) hC (m4_isRight l (by decide) hw) v1_4_isRight h4_isRight (17 + 4 * 0) 3 gCl_X4 (wC_so (by decide)) rfl ⟨rfl, rfl, Nat.le_of_ble_eq_true rfl, Nat.le_of_ble_eq_true rfl⟩ ⟨Nat.le_refl _, Nat.le_refl _⟩ hP hD hS hl.1 (Nat.le_of_ble_eq_true rfl) dX1_odds_63 rfl) hS (fun r8 u H locs hw853 hP hD hS => ?_)
  refine lv_if_eq (tgt := 79) hC.x hC.b dX1_odds_66 (by decide) (fun c9 => ?_) (fun c9 => ?_)
  · have hw854 := hw853.1 c9
    refine lv_iconst (v := 0) hC.x hC.b dX1_odds_79 (by decide) ?_
    refine lv_iadd hC.x hC.b dX1_odds_80 ?_
    refine lv_i2l (v := ((y0 + 0).toInt64)) hC.x hC.b dX1_odds_81 rfl ?_
    refine lv_lstore (lv' := [(5, .long ((y0 + 0).toInt64)), (0, .ref (ad 0)), (1, .int x1), (2, .int x2), (3, .int x3)]) hC.x hC.b dX1_odds_82 hl (by decide) rfl (fun ls hl => ?_)
    refine lv_lload hC.x hC.b dX1_odds_84 (lv_at hl 0 rfl) ?_
    refine lv_ldc2 (v := 100) hC.x hC.b hC.ow (hC.ts _ q1271) dX1_odds_86 ?_
    refine lv_iload_n hC.x hC.b dX1_odds_89 rfl (lv_at hl 4 rfl) ?_
    refine go_l (run_S (rest := []) hC (m1_lowest l hw854) v1_1_lowest h1_lowest ⟨rfl, rfl, Nat.le_of_ble_eq_true rfl, Nat.le_of_ble_eq_true rfl⟩ ⟨Nat.le_refl _, Nat.le_refl _⟩ hP hD hS hl.1 (Nat.le_of_ble_eq_true rfl) dX1_odds_90 rfl) hS (fun r10 u H locs hw855 hP hD hS => ?_)
    exact rt_l hC hw855 hP hD hS dX1_odds_93
  · have hw856 := hw853.2 c9
    refine lv_aload_n hC.x hC.b dX1_odds_69 rfl (lv_at hl 0 rfl) ?_
    refine gO_3 hC hP dX1_odds_70 ?_
    obtain ⟨⟨τ, rfl⟩, hw857⟩ := hw856
    refine gX1T_7 hC hP dX1_odds_73 ?_
    refine lv_goto (tgt := 80) hC.x hC.b dX1_odds_76 (by decide) ?_
    refine lv_iadd hC.x hC.b dX1_odds_80 ?_
    refine lv_i2l (v := ((y0 + (S.1.1 50 7)).toInt64)) hC.x hC.b dX1_odds_81 rfl ?_
    refine lv_lstore (lv' := [(5, .long ((y0 + (S.1.1 50 7)).toInt64)), (0, .ref (ad 0)), (1, .int x1), (2, .int x2), (3, .int x3)]) hC.x hC.b dX1_odds_82 hl (by decide) rfl (fun ls hl => ?_)
    refine lv_lload hC.x hC.b dX1_odds_84 (lv_at hl 0 rfl) ?_
    refine lv_ldc2 (v := 100) hC.x hC.b hC.ow (hC.ts _ q1271) dX1_odds_86 ?_
    refine lv_iload_n hC.x hC.b dX1_odds_89 rfl (lv_at hl 4 rfl) ?_
    refine go_l (run_S (rest := []) hC (m1_lowest l hw857) v1_1_lowest h1_lowest ⟨rfl, rfl, Nat.le_of_ble_eq_true rfl, Nat.le_of_ble_eq_true rfl⟩ ⟨Nat.le_refl _, Nat.le_refl _⟩ hP hD hS hl.1 (Nat.le_of_ble_eq_true rfl) dX1_odds_90 rfl) hS (fun r11 u H locs hw858 hP hD hS => ?_)
    exact rt_l hC hw858 hP hD hS dX1_odds_93
def w1_odds (post : Int64 → CS → Prop) (tw : Option TD) (S : CS) (x1 : Int32) (x2 : Int32) (x3 : Int32) : Prop :=
  (w1_anew (fun S2 => (w1_isDead (fun r3 => (w1_nightWhy (fun r4 => ((r4 = 0 → (w4_isRight (fun r6 => ((r6 = 0 → (j1_odds_56 post tw S2 x1 x2 x3 0)) ∧ (¬ r6 = 0 → ((∃ τ, tw = some τ) ∧ (j1_odds_56 post tw S2 x1 x2 x3 (100 - (S2.1.1 50 7))))))) tw S2 0 x1 x2 0)) ∧ (¬ r4 = 0 → (w1_no (fun r12 S13 => (post (r12.toInt64) S13)) S2 r4)))) S2 r3 x2)) tw S2 x1)) S)
set_option maxHeartbeats 4000000 in
theorem m1_odds (l : Launch) {post : Int64 → CS → Prop} {S : CS} {x1 : Int32} {x2 : Int32} {x3 : Int32} (hw : w1_odds post tw S x1 x2 x3) : Met l yX1_odds (ws_ yX1_odds cX1_odds 7 (some .long)) ({ frames := 123, cells := 0, slots := 0, locals := 6070 } : Room) (va_Pc [.ref (ad 0), .int x1, .int x2, .int x3] (PcG D gCl nwG Z Hb A (wC D ad sc tw S))) (va_Ql post (BW D gCl A (fun u => (wC D ad sc tw u))) A) 0 0 A := by
  refine Met.ofG (by decide) (Nat.le_of_ble_eq_true rfl) ?_
  intro p e s m below meth c ls hC _ hP hD hS hl
  have hC : CX RX1 cX1_odds 7 (some .long) D gCl nwG Z Hb A p s m _ meth c := hC
  have hl : lv_has ls 7 [(0, .ref (ad 0)), (1, .int x1), (2, .int x2), (3, .int x3)] := hl
  unfold w1_odds at hw
  refine lv_aload_n hC.x hC.b dX1_odds_0 rfl (lv_at hl 0 rfl) ?_
  refine go_v (run_V (rest := []) hC (m1_anew l hw) v1_1_anew h1_anew 0 0 gCl_X1 rfl rfl ⟨rfl, rfl, Nat.le_of_ble_eq_true rfl, Nat.le_of_ble_eq_true rfl⟩ ⟨Nat.le_refl _, Nat.le_refl _⟩ hP hD hS hl.1 (Nat.le_of_ble_eq_true rfl) dX1_odds_1 rfl) hS (fun S2 H locs hw847 hP hD hS => ?_)
  refine lv_aload_n hC.x hC.b dX1_odds_4 rfl (lv_at hl 0 rfl) ?_
  refine lv_aload_n hC.x hC.b dX1_odds_5 rfl (lv_at hl 0 rfl) ?_
  refine lv_iload_n hC.x hC.b dX1_odds_6 rfl (lv_at hl 1 rfl) ?_
  refine go_i (run_V (rest := [.ref (ad 0)]) hC (m1_isDead l hw847) v1_1_isDead h1_isDead 0 0 gCl_X1 rfl rfl ⟨rfl, rfl, Nat.le_of_ble_eq_true rfl, Nat.le_of_ble_eq_true rfl⟩ ⟨Nat.le_refl _, Nat.le_refl _⟩ hP hD hS hl.1 (Nat.le_of_ble_eq_true rfl) dX1_odds_7 rfl) hS (fun r3 u H locs hw848 hP hD hS => ?_)
  refine lv_iload_n hC.x hC.b dX1_odds_10 rfl (lv_at hl 2 rfl) ?_
  refine go_i (run_V (rest := []) hC (m1_nightWhy l hw848) v1_1_nightWhy h1_nightWhy 0 0 gCl_X1 rfl rfl ⟨rfl, rfl, Nat.le_of_ble_eq_true rfl, Nat.le_of_ble_eq_true rfl⟩ ⟨Nat.le_refl _, Nat.le_refl _⟩ hP hD hS hl.1 (Nat.le_of_ble_eq_true rfl) dX1_odds_11 rfl) hS (fun r4 u H locs hw849 hP hD hS => ?_)
  refine lv_istore (lv' := [(4, .int r4), (0, .ref (ad 0)), (1, .int x1), (2, .int x2), (3, .int x3)]) hC.x hC.b dX1_odds_14 hl (by decide) rfl (fun ls hl => ?_)
  refine lv_iload hC.x hC.b dX1_odds_16 (lv_at hl 0 rfl) ?_
  refine lv_if_eq (tgt := 29) hC.x hC.b dX1_odds_18 (by decide) (fun c5 => ?_) (fun c5 => ?_)
  · have hw850 := hw849.1 c5
    refine lv_aload_n hC.x hC.b dX1_odds_29 rfl (lv_at hl 1 rfl) ?_
    refine gO_9 hC hP dX1_odds_30 ?_
    refine lv_iload_n hC.x hC.b dX1_odds_33 rfl (lv_at hl 2 rfl) ?_
    refine lv_iload_n hC.x hC.b dX1_odds_34 rfl (lv_at hl 3 rfl) ?_
    refine lv_iconst (v := 0) hC.x hC.b dX1_odds_35 (by decide) ?_
    refine go_i (run_V (rest := []) hC (m4_isRight l (by decide) hw850) v1_4_isRight h4_isRight (17 + 4 * 0) 3 gCl_X4 (wC_so (by decide)) rfl ⟨rfl, rfl, Nat.le_of_ble_eq_true rfl, Nat.le_of_ble_eq_true rfl⟩ ⟨Nat.le_refl _, Nat.le_refl _⟩ hP hD hS hl.1 (Nat.le_of_ble_eq_true rfl) dX1_odds_36 rfl) hS (fun r6 u H locs hw851 hP hD hS => ?_)
    refine lv_if_eq (tgt := 55) hC.x hC.b dX1_odds_39 (by decide) (fun c7 => ?_) (fun c7 => ?_)
    · have hw852 := hw851.1 c7
      refine lv_iconst (v := 0) hC.x hC.b dX1_odds_55 (by decide) ?_
      exact k1_odds_56 hC hw852 H locs ls hP hD hS (lv_sub hl [1, 2, 3, 4] rfl)
    · have hw859 := hw851.2 c7
      refine lv_bipush (v := 100) hC.x hC.b dX1_odds_42 (by decide) ?_
      refine lv_aload_n hC.x hC.b dX1_odds_44 rfl (lv_at hl 1 rfl) ?_
      refine gO_3 hC hP dX1_odds_45 ?_
      obtain ⟨⟨τ, rfl⟩, hw860⟩ := hw859
      refine gX1T_7 hC hP dX1_odds_48 ?_
      refine lv_isub hC.x hC.b dX1_odds_51 ?_
      refine lv_goto (tgt := 56) hC.x hC.b dX1_odds_52 (by decide) ?_
      exact k1_odds_56 hC hw860 H locs ls hP hD hS (lv_sub hl [1, 2, 3, 4] rfl)
  · have hw861 := hw849.2 c5
    refine lv_aload_n hC.x hC.b dX1_odds_21 rfl (lv_at hl 1 rfl) ?_
    refine lv_iload hC.x hC.b dX1_odds_22 (lv_at hl 0 rfl) ?_
    refine go_i (run_V (rest := []) hC (m1_no l hw861) v1_1_no h1_no 0 0 gCl_X1 rfl rfl ⟨rfl, rfl, Nat.le_of_ble_eq_true rfl, Nat.le_of_ble_eq_true rfl⟩ ⟨Nat.le_refl _, Nat.le_refl _⟩ hP hD hS hl.1 (Nat.le_of_ble_eq_true rfl) dX1_odds_24 rfl) hS (fun r12 S13 H locs hw862 hP hD hS => ?_)
    refine lv_i2l (v := (r12.toInt64)) hC.x hC.b dX1_odds_27 rfl ?_
    exact rt_l hC hw862 hP hD hS dX1_odds_28
theorem h1_tryLips : yX1_tryLips.cls = RX1 ∧ yX1_tryLips.cls ≠ "java/lang/invoke/MethodHandle" ∧ yX1_tryLips.cls ≠ "java/lang/invoke/VarHandle" ∧ (parseMethodDescriptor yX1_tryLips.desc).map (fun d => d.parameters.length) = some 3 := by decide +kernel
def j1_tryLips_183 (K18 : (CS × Int32) → Prop) (S : CS) (x4 : Int32) (x5 : Int64) (x8 : Int32) (y1 : Int64) (y2 : Int64) : Prop :=
  (∀ S8, S8 = sL S 0 26 (y1 + y2) → (∀ S9, S9 = sL S8 0 27 ((S8.1.2 0 27) + (x5 * (x8.toInt64))) → (K18 (S9, (x4 + 1)))))
set_option maxHeartbeats 4000000 in
theorem k1_tryLips_183 {post : CS → Prop} {S : CS} {x1 : Int32} {x2 : Int32} {x3 : Int32} {x4 : Int32} {x5 : Int64} {x8 : Int32} {y1 : Int64} {y2 : Int64} {K18 : (CS × Int32) → Prop} (hC : CX RX1 cX1_tryLips 11 none D gCl nwG Z Hb A p s m args meth c) (hK18 : ∀ z : (CS × Int32), K18 z → ∀ (H : Heap) (locs : List Loc) (ls : Array Slot), va_P D gCl (wC D ad sc (some τ) z.1) H → va_D A (wC D ad sc (some τ) z.1) → va_S A s.heap H locs → lv_has ls 11 [(0, .ref (ad 0)), (1, .int x1), (2, .int x2), (3, .int x3), (4, .int z.2)] → W p l e ({ frames := 123, cells := 0, slots := 0, locals := 6070 } : Room) s m args below meth c H locs 0 0 (MQ below (va_Qv post (BW D gCl A (fun u => (wC D ad sc (some τ) u))) A) args s 0 0 A) (F0 m 18 ls [])) (hw : j1_tryLips_183 K18 S x4 x5 x8 y1 y2) : ∀ (H : Heap) (locs : List Loc) (ls : Array Slot), va_P D gCl (wC D ad sc (some τ) S) H → va_D A (wC D ad sc (some τ) S) → va_S A s.heap H locs → lv_has ls 11 [(0, .ref (ad 0)), (1, .int x1), (2, .int x2), (3, .int x3), (4, .int x4), (5, .long x5), (8, .int x8)] → W p l e ({ frames := 123, cells := 0, slots := 0, locals := 6070 } : Room) s m args below meth c H locs 0 0 (MQ below (va_Qv post (BW D gCl A (fun u => (wC D ad sc (some τ) u))) A) args s 0 0 A) (F0 m 183 ls [.long y2, .long y1, .ref (ad 0)]) := by
  intro H locs ls hP hD hS hl
  unfold j1_tryLips_183 at hw
  refine lv_ladd hC.x hC.b dX1_tryLips_183 ?_
  refine pO_26 hC hP hD hS (v := (y1 + y2)) dX1_tryLips_184 (fun S8 eS8 H locs hP hD hS => ?_)
  have hw872 := hw S8 eS8
  refine lv_aload_n hC.x hC.b dX1_tryLips_187 rfl (lv_at hl 0 rfl) ?_
  refine lv_dup hC.x hC.b dX1_tryLips_188 rfl ?_
  refine gO_27 hC hP dX1_tryLips_189 ?_
  refine lv_lload hC.x hC.b dX1_tryLips_192 (lv_at hl 5 rfl) ?_
  refine lv_iload hC.x hC.b dX1_tryLips_194 (lv_at hl 6 rfl) ?_
  refine lv_i2l (v := (x8.toInt64)) hC.x hC.b dX1_tryLips_196 rfl ?_
  refine lv_lmul hC.x hC.b dX1_tryLips_197 ?_
  refine lv_ladd hC.x hC.b dX1_tryLips_198 ?_
  refine pO_27 hC hP hD hS (v := ((S8.1.2 0 27) + (x5 * (x8.toInt64)))) dX1_tryLips_199 (fun S9 eS9 H locs hP hD hS => ?_)
  have hw873 := hw872 S9 eS9
  refine lv_iinc (v := (x4 + 1)) (lv' := [(4, .int (x4 + 1)), (0, .ref (ad 0)), (1, .int x1), (2, .int x2), (3, .int x3), (5, .long x5), (8, .int x8)]) hC.x hC.b dX1_tryLips_202 hl (k := 4) rfl rfl (by decide) rfl (fun ls hl => ?_)
  refine lv_goto (tgt := 18) hC.x hC.b dX1_tryLips_205 (by decide) ?_
  exact hK18 (S9, (x4 + 1)) hw873 H locs ls hP hD hS (lv_sub hl [1, 2, 3, 4, 0] rfl)
def j1_tryLips_120 (tw : Option TD) (K44 : (Int64 × Int32 × Int32 × Int32) → Prop) (S : CS) (x2 : Int32) (x3 : Int32) (x5 : Int64) (x8 : Int32) (x9 : Int32) (x10 : Int32) (y0 : Int32) (y1 : Int32) : Prop :=
  (w4_ear (fun r13 => ((¬ r13 = x2 → (K44 (x5, (y0 + y1), (x8 + 0), (x9 + 1)))) ∧ (r13 = x2 → (K44 (x5, (y0 + y1), (x8 + 1), (x9 + 1)))))) tw S 0 x9 x3 x10)
set_option maxHeartbeats 4000000 in
theorem k1_tryLips_120 {post : CS → Prop} {S : CS} {x1 : Int32} {x2 : Int32} {x3 : Int32} {x4 : Int32} {x5 : Int64} {x8 : Int32} {x9 : Int32} {x10 : Int32} {y0 : Int32} {y1 : Int32} {K44 : (Int64 × Int32 × Int32 × Int32) → Prop} (hC : CX RX1 cX1_tryLips 11 none D gCl nwG Z Hb A p s m args meth c) (hK44 : ∀ z : (Int64 × Int32 × Int32 × Int32), K44 z → ∀ (H : Heap) (locs : List Loc) (ls : Array Slot), va_P D gCl (wC D ad sc (some τ) S) H → va_D A (wC D ad sc (some τ) S) → va_S A s.heap H locs → lv_has ls 11 [(0, .ref (ad 0)), (1, .int x1), (2, .int x2), (3, .int x3), (4, .int x4), (5, .long z.1), (7, .int z.2.1), (8, .int z.2.2.1), (9, .int z.2.2.2)] → W p l e ({ frames := 123, cells := 0, slots := 0, locals := 6070 } : Room) s m args below meth c H locs 0 0 (MQ below (va_Qv post (BW D gCl A (fun u => (wC D ad sc (some τ) u))) A) args s 0 0 A) (F0 m 44 ls [])) (hw : j1_tryLips_120 (some τ) K44 S x2 x3 x5 x8 x9 x10 y0 y1) : ∀ (H : Heap) (locs : List Loc) (ls : Array Slot), va_P D gCl (wC D ad sc (some τ) S) H → va_D A (wC D ad sc (some τ) S) → va_S A s.heap H locs → lv_has ls 11 [(0, .ref (ad 0)), (1, .int x1), (2, .int x2), (3, .int x3), (4, .int x4), (5, .long x5), (8, .int x8), (9, .int x9), (10, .int x10)] → W p l e ({ frames := 123, cells := 0, slots := 0, locals := 6070 } : Room) s m args below meth c H locs 0 0 (MQ below (va_Qv post (BW D gCl A (fun u => (wC D ad sc (some τ) u))) A) args s 0 0 A) (F0 m 120 ls [.int y1, .int y0]) := by
  intro H locs ls hP hD hS hl
  unfold j1_tryLips_120 at hw
  refine lv_iadd hC.x hC.b dX1_tryLips_120 ?_
  refine lv_istore (lv' := [(7, .int (y0 + y1)), (0, .ref (ad 0)), (1, .int x1), (2, .int x2), (3, .int x3), (4, .int x4), (5, .long x5), (8, .int x8), (9, .int x9), (10, .int x10)]) hC.x hC.b dX1_tryLips_121 hl (by decide) rfl (fun ls hl => ?_)
  refine lv_iload hC.x hC.b dX1_tryLips_123 (lv_at hl 7 rfl) ?_
  refine lv_aload_n hC.x hC.b dX1_tryLips_125 rfl (lv_at hl 1 rfl) ?_
  refine gO_9 hC hP dX1_tryLips_126 ?_
  refine lv_iload hC.x hC.b dX1_tryLips_129 (lv_at hl 8 rfl) ?_
  refine lv_iload_n hC.x hC.b dX1_tryLips_131 rfl (lv_at hl 4 rfl) ?_
  refine lv_iload hC.x hC.b dX1_tryLips_132 (lv_at hl 9 rfl) ?_
  refine go_i (run_V (rest := [.int x8]) hC (m4_ear l (by decide) hw) v1_4_ear h4_ear (17 + 4 * 0) 3 gCl_X4 (wC_so (by decide)) rfl ⟨rfl, rfl, Nat.le_of_ble_eq_true rfl, Nat.le_of_ble_eq_true rfl⟩ ⟨Nat.le_refl _, Nat.le_refl _⟩ hP hD hS hl.1 (Nat.le_of_ble_eq_true rfl) dX1_tryLips_134 rfl) hS (fun r13 u H locs hw879 hP hD hS => ?_)
  refine lv_iload_n hC.x hC.b dX1_tryLips_137 rfl (lv_at hl 3 rfl) ?_
  refine lv_icmp_ne (tgt := 145) hC.x hC.b dX1_tryLips_138 (by decide) (fun c14 => ?_) (fun c14 => ?_)
  · have hw880 := hw879.1 c14
    refine lv_iconst (v := 0) hC.x hC.b dX1_tryLips_145 (by decide) ?_
    refine lv_iadd hC.x hC.b dX1_tryLips_146 ?_
    refine lv_istore (lv' := [(8, .int (x8 + 0)), (7, .int (y0 + y1)), (0, .ref (ad 0)), (1, .int x1), (2, .int x2), (3, .int x3), (4, .int x4), (5, .long x5), (9, .int x9), (10, .int x10)]) hC.x hC.b dX1_tryLips_147 hl (by decide) rfl (fun ls hl => ?_)
    refine lv_iinc (v := (x9 + 1)) (lv' := [(9, .int (x9 + 1)), (8, .int (x8 + 0)), (7, .int (y0 + y1)), (0, .ref (ad 0)), (1, .int x1), (2, .int x2), (3, .int x3), (4, .int x4), (5, .long x5), (10, .int x10)]) hC.x hC.b dX1_tryLips_149 hl (k := 8) rfl rfl (by decide) rfl (fun ls hl => ?_)
    refine lv_goto (tgt := 44) hC.x hC.b dX1_tryLips_152 (by decide) ?_
    exact hK44 (x5, (y0 + y1), (x8 + 0), (x9 + 1)) hw880 H locs ls hP hD hS (lv_sub hl [3, 4, 5, 6, 7, 8, 2, 1, 0] rfl)
  · have hw881 := hw879.2 c14
    refine lv_iconst (v := 1) hC.x hC.b dX1_tryLips_141 (by decide) ?_
    refine lv_goto (tgt := 146) hC.x hC.b dX1_tryLips_142 (by decide) ?_
    refine lv_iadd hC.x hC.b dX1_tryLips_146 ?_
    refine lv_istore (lv' := [(8, .int (x8 + 1)), (7, .int (y0 + y1)), (0, .ref (ad 0)), (1, .int x1), (2, .int x2), (3, .int x3), (4, .int x4), (5, .long x5), (9, .int x9), (10, .int x10)]) hC.x hC.b dX1_tryLips_147 hl (by decide) rfl (fun ls hl => ?_)
    refine lv_iinc (v := (x9 + 1)) (lv' := [(9, .int (x9 + 1)), (8, .int (x8 + 1)), (7, .int (y0 + y1)), (0, .ref (ad 0)), (1, .int x1), (2, .int x2), (3, .int x3), (4, .int x4), (5, .long x5), (10, .int x10)]) hC.x hC.b dX1_tryLips_149 hl (k := 8) rfl rfl (by decide) rfl (fun ls hl => ?_)
    refine lv_goto (tgt := 44) hC.x hC.b dX1_tryLips_152 (by decide) ?_
    exact hK44 (x5, (y0 + y1), (x8 + 1), (x9 + 1)) hw881 H locs ls hP hD hS (lv_sub hl [3, 4, 5, 6, 7, 8, 2, 1, 0] rfl)
def j1_tryLips_95 (tw : Option TD) (K44 : (Int64 × Int32 × Int32 × Int32) → Prop) (S : CS) (x2 : Int32) (x3 : Int32) (x7 : Int32) (x8 : Int32) (x9 : Int32) (x10 : Int32) (y0 : Int64) (y1 : Int64) : Prop :=
  (w4_isRight (fun r11 => ((r11 = 0 → (j1_tryLips_120 tw K44 S x2 x3 (y0 * y1) x8 x9 x10 x7 0)) ∧ (¬ r11 = 0 → (j1_tryLips_120 tw K44 S x2 x3 (y0 * y1) x8 x9 x10 x7 1)))) tw S 0 x9 x3 x10)
set_option maxHeartbeats 4000000 in
theorem k1_tryLips_95 {post : CS → Prop} {S : CS} {x1 : Int32} {x2 : Int32} {x3 : Int32} {x4 : Int32} {x7 : Int32} {x8 : Int32} {x9 : Int32} {x10 : Int32} {y0 : Int64} {y1 : Int64} {K44 : (Int64 × Int32 × Int32 × Int32) → Prop} (hC : CX RX1 cX1_tryLips 11 none D gCl nwG Z Hb A p s m args meth c) (hK44 : ∀ z : (Int64 × Int32 × Int32 × Int32), K44 z → ∀ (H : Heap) (locs : List Loc) (ls : Array Slot), va_P D gCl (wC D ad sc (some τ) S) H → va_D A (wC D ad sc (some τ) S) → va_S A s.heap H locs → lv_has ls 11 [(0, .ref (ad 0)), (1, .int x1), (2, .int x2), (3, .int x3), (4, .int x4), (5, .long z.1), (7, .int z.2.1), (8, .int z.2.2.1), (9, .int z.2.2.2)] → W p l e ({ frames := 123, cells := 0, slots := 0, locals := 6070 } : Room) s m args below meth c H locs 0 0 (MQ below (va_Qv post (BW D gCl A (fun u => (wC D ad sc (some τ) u))) A) args s 0 0 A) (F0 m 44 ls [])) (hw : j1_tryLips_95 (some τ) K44 S x2 x3 x7 x8 x9 x10 y0 y1) : ∀ (H : Heap) (locs : List Loc) (ls : Array Slot), va_P D gCl (wC D ad sc (some τ) S) H → va_D A (wC D ad sc (some τ) S) → va_S A s.heap H locs → lv_has ls 11 [(0, .ref (ad 0)), (1, .int x1), (2, .int x2), (3, .int x3), (4, .int x4), (7, .int x7), (8, .int x8), (9, .int x9), (10, .int x10)] → W p l e ({ frames := 123, cells := 0, slots := 0, locals := 6070 } : Room) s m args below meth c H locs 0 0 (MQ below (va_Qv post (BW D gCl A (fun u => (wC D ad sc (some τ) u))) A) args s 0 0 A) (F0 m 95 ls [.long y1, .long y0]) := by
  intro H locs ls hP hD hS hl
  unfold j1_tryLips_95 at hw
  refine lv_lmul hC.x hC.b dX1_tryLips_95 ?_
  refine lv_lstore (lv' := [(5, .long (y0 * y1)), (0, .ref (ad 0)), (1, .int x1), (2, .int x2), (3, .int x3), (4, .int x4), (7, .int x7), (8, .int x8), (9, .int x9), (10, .int x10)]) hC.x hC.b dX1_tryLips_96 hl (by decide) rfl (fun ls hl => ?_)
  refine lv_iload hC.x hC.b dX1_tryLips_98 (lv_at hl 6 rfl) ?_
  refine lv_aload_n hC.x hC.b dX1_tryLips_100 rfl (lv_at hl 1 rfl) ?_
  refine gO_9 hC hP dX1_tryLips_101 ?_
  refine lv_iload hC.x hC.b dX1_tryLips_104 (lv_at hl 8 rfl) ?_
  refine lv_iload_n hC.x hC.b dX1_tryLips_106 rfl (lv_at hl 4 rfl) ?_
  refine lv_iload hC.x hC.b dX1_tryLips_107 (lv_at hl 9 rfl) ?_
  refine go_i (run_V (rest := [.int x7]) hC (m4_isRight l (by decide) hw) v1_4_isRight h4_isRight (17 + 4 * 0) 3 gCl_X4 (wC_so (by decide)) rfl ⟨rfl, rfl, Nat.le_of_ble_eq_true rfl, Nat.le_of_ble_eq_true rfl⟩ ⟨Nat.le_refl _, Nat.le_refl _⟩ hP hD hS hl.1 (Nat.le_of_ble_eq_true rfl) dX1_tryLips_109 rfl) hS (fun r11 u H locs hw877 hP hD hS => ?_)
  refine lv_if_eq (tgt := 119) hC.x hC.b dX1_tryLips_112 (by decide) (fun c12 => ?_) (fun c12 => ?_)
  · have hw878 := hw877.1 c12
    refine lv_iconst (v := 0) hC.x hC.b dX1_tryLips_119 (by decide) ?_
    exact k1_tryLips_120 hC hK44 hw878 H locs ls hP hD hS (lv_sub hl [1, 2, 3, 4, 5, 0, 7, 8, 9] rfl)
  · have hw882 := hw877.2 c12
    refine lv_iconst (v := 1) hC.x hC.b dX1_tryLips_115 (by decide) ?_
    refine lv_goto (tgt := 120) hC.x hC.b dX1_tryLips_116 (by decide) ?_
    exact k1_tryLips_120 hC hK44 hw882 H locs ls hP hD hS (lv_sub hl [1, 2, 3, 4, 5, 0, 7, 8, 9] rfl)
def f1_tryLips_44 (tw : Option TD) (K18 : (CS × Int32) → Prop) (S : CS) (x1 : Int32) (x2 : Int32) (x3 : Int32) (x4 : Int32) (K44 : (Int64 × Int32 × Int32 × Int32) → Prop) (x5 : Int64) (x7 : Int32) (x8 : Int32) (x9 : Int32) : Prop :=
  (((S.1.1 50 9) ≤ x9 → (∀ S6, S6 = sL S 0 25 ((S.1.2 0 25) + x5) → ((x7 < x1 → (j1_tryLips_183 K18 S6 x4 x5 x8 (S6.1.2 0 26) 0)) ∧ (¬ x7 < x1 → (j1_tryLips_183 K18 S6 x4 x5 x8 (S6.1.2 0 26) x5))))) ∧ (¬ (S.1.1 50 9) ≤ x9 → ((¬ ((x4 >>> (x9 &&& 31)) &&& 1) = 1 → (j1_tryLips_95 tw K44 S x2 x3 x7 x8 x9 ((x4 >>> (x9 &&& 31)) &&& 1) x5 ((100 - (S.1.1 50 7)).toInt64))) ∧ (((x4 >>> (x9 &&& 31)) &&& 1) = 1 → (j1_tryLips_95 tw K44 S x2 x3 x7 x8 x9 ((x4 >>> (x9 &&& 31)) &&& 1) x5 ((S.1.1 50 7).toInt64))))))
set_option maxHeartbeats 4000000 in
theorem k1_tryLips_44 {post : CS → Prop} {S : CS} {x1 : Int32} {x2 : Int32} {x3 : Int32} {x4 : Int32} {K18 : (CS × Int32) → Prop} (hC : CX RX1 cX1_tryLips 11 none D gCl nwG Z Hb A p s m args meth c) (hK18 : ∀ z : (CS × Int32), K18 z → ∀ (H : Heap) (locs : List Loc) (ls : Array Slot), va_P D gCl (wC D ad sc (some τ) z.1) H → va_D A (wC D ad sc (some τ) z.1) → va_S A s.heap H locs → lv_has ls 11 [(0, .ref (ad 0)), (1, .int x1), (2, .int x2), (3, .int x3), (4, .int z.2)] → W p l e ({ frames := 123, cells := 0, slots := 0, locals := 6070 } : Room) s m args below meth c H locs 0 0 (MQ below (va_Qv post (BW D gCl A (fun u => (wC D ad sc (some τ) u))) A) args s 0 0 A) (F0 m 18 ls [])) : ∀ z : (Int64 × Int32 × Int32 × Int32), lp (fun (K : (Int64 × Int32 × Int32 × Int32) → Prop) (z : (Int64 × Int32 × Int32 × Int32)) => f1_tryLips_44 (some τ) K18 S x1 x2 x3 x4 K z.1 z.2.1 z.2.2.1 z.2.2.2) z → ∀ (H : Heap) (locs : List Loc) (ls : Array Slot), va_P D gCl (wC D ad sc (some τ) S) H → va_D A (wC D ad sc (some τ) S) → va_S A s.heap H locs → lv_has ls 11 [(0, .ref (ad 0)), (1, .int x1), (2, .int x2), (3, .int x3), (4, .int x4), (5, .long z.1), (7, .int z.2.1), (8, .int z.2.2.1), (9, .int z.2.2.2)] → W p l e ({ frames := 123, cells := 0, slots := 0, locals := 6070 } : Room) s m args below meth c H locs 0 0 (MQ below (va_Qv post (BW D gCl A (fun u => (wC D ad sc (some τ) u))) A) args s 0 0 A) (F0 m 44 ls []) := by
  refine lp_ind ?_
  rintro K44 ⟨x5, x7, x8, x9⟩ hK44 hw H locs ls hP hD hS hl
  have hw : f1_tryLips_44 (some τ) K18 S x1 x2 x3 x4 K44 x5 x7 x8 x9 := hw
  unfold f1_tryLips_44 at hw
  have hP : va_P D gCl (wC D ad sc (some τ) S) H := hP
  have hD : va_D A (wC D ad sc (some τ) S) := hD
  have hl : lv_has ls 11 [(0, .ref (ad 0)), (1, .int x1), (2, .int x2), (3, .int x3), (4, .int x4), (5, .long x5), (7, .int x7), (8, .int x8), (9, .int x9)] := hl
  refine lv_iload hC.x hC.b dX1_tryLips_44 (lv_at hl 8 rfl) ?_
  refine lv_aload_n hC.x hC.b dX1_tryLips_46 rfl (lv_at hl 0 rfl) ?_
  refine gO_3 hC hP dX1_tryLips_47 ?_
  refine gX1T_9 hC hP dX1_tryLips_50 ?_
  refine lv_icmp_ge (tgt := 155) hC.x hC.b dX1_tryLips_53 (by decide) (fun c5 => ?_) (fun c5 => ?_)
  · have hw869 := hw.1 c5
    refine lv_aload_n hC.x hC.b dX1_tryLips_155 rfl (lv_at hl 0 rfl) ?_
    refine lv_dup hC.x hC.b dX1_tryLips_156 rfl ?_
    refine gO_25 hC hP dX1_tryLips_157 ?_
    refine lv_lload hC.x hC.b dX1_tryLips_160 (lv_at hl 5 rfl) ?_
    refine lv_ladd hC.x hC.b dX1_tryLips_162 ?_
    refine pO_25 hC hP hD hS (v := ((S.1.2 0 25) + x5)) dX1_tryLips_163 (fun S6 eS6 H locs hP hD hS => ?_)
    have hw870 := hw869 S6 eS6
    refine lv_aload_n hC.x hC.b dX1_tryLips_166 rfl (lv_at hl 0 rfl) ?_
    refine lv_dup hC.x hC.b dX1_tryLips_167 rfl ?_
    refine gO_26 hC hP dX1_tryLips_168 ?_
    refine lv_iload hC.x hC.b dX1_tryLips_171 (lv_at hl 6 rfl) ?_
    refine lv_iload_n hC.x hC.b dX1_tryLips_173 rfl (lv_at hl 1 rfl) ?_
    refine lv_icmp_lt (tgt := 182) hC.x hC.b dX1_tryLips_174 (by decide) (fun c7 => ?_) (fun c7 => ?_)
    · have hw871 := hw870.1 c7
      refine lv_lconst (v := 0) hC.x hC.b dX1_tryLips_182 rfl ?_
      exact k1_tryLips_183 hC hK18 hw871 H locs ls hP hD hS (lv_sub hl [0, 1, 2, 3, 4, 5, 7] rfl)
    · have hw874 := hw870.2 c7
      refine lv_lload hC.x hC.b dX1_tryLips_177 (lv_at hl 5 rfl) ?_
      refine lv_goto (tgt := 183) hC.x hC.b dX1_tryLips_179 (by decide) ?_
      exact k1_tryLips_183 hC hK18 hw874 H locs ls hP hD hS (lv_sub hl [0, 1, 2, 3, 4, 5, 7] rfl)
  · have hw875 := hw.2 c5
    refine lv_iload hC.x hC.b dX1_tryLips_56 (lv_at hl 4 rfl) ?_
    refine lv_iload hC.x hC.b dX1_tryLips_58 (lv_at hl 8 rfl) ?_
    refine lv_ishr hC.x hC.b dX1_tryLips_60 ?_
    refine lv_iconst (v := 1) hC.x hC.b dX1_tryLips_61 (by decide) ?_
    refine lv_iand hC.x hC.b dX1_tryLips_62 ?_
    refine lv_istore (lv' := [(10, .int ((x4 >>> (x9 &&& 31)) &&& 1)), (0, .ref (ad 0)), (1, .int x1), (2, .int x2), (3, .int x3), (4, .int x4), (5, .long x5), (7, .int x7), (8, .int x8), (9, .int x9)]) hC.x hC.b dX1_tryLips_63 hl (by decide) rfl (fun ls hl => ?_)
    refine lv_lload hC.x hC.b dX1_tryLips_65 (lv_at hl 6 rfl) ?_
    refine lv_iload hC.x hC.b dX1_tryLips_67 (lv_at hl 0 rfl) ?_
    refine lv_iconst (v := 1) hC.x hC.b dX1_tryLips_69 (by decide) ?_
    refine lv_icmp_ne (tgt := 84) hC.x hC.b dX1_tryLips_70 (by decide) (fun c10 => ?_) (fun c10 => ?_)
    · have hw876 := hw875.1 c10
      refine lv_bipush (v := 100) hC.x hC.b dX1_tryLips_84 (by decide) ?_
      refine lv_aload_n hC.x hC.b dX1_tryLips_86 rfl (lv_at hl 1 rfl) ?_
      refine gO_3 hC hP dX1_tryLips_87 ?_
      refine gX1T_7 hC hP dX1_tryLips_90 ?_
      refine lv_isub hC.x hC.b dX1_tryLips_93 ?_
      refine lv_i2l (v := ((100 - (S.1.1 50 7)).toInt64)) hC.x hC.b dX1_tryLips_94 rfl ?_
      exact k1_tryLips_95 hC hK44 hw876 H locs ls hP hD hS (lv_sub hl [1, 2, 3, 4, 5, 7, 8, 9, 0] rfl)
    · have hw883 := hw875.2 c10
      refine lv_aload_n hC.x hC.b dX1_tryLips_73 rfl (lv_at hl 1 rfl) ?_
      refine gO_3 hC hP dX1_tryLips_74 ?_
      refine gX1T_7 hC hP dX1_tryLips_77 ?_
      refine lv_i2l (v := ((S.1.1 50 7).toInt64)) hC.x hC.b dX1_tryLips_80 rfl ?_
      refine lv_goto (tgt := 95) hC.x hC.b dX1_tryLips_81 (by decide) ?_
      exact k1_tryLips_95 hC hK44 hw883 H locs ls hP hD hS (lv_sub hl [1, 2, 3, 4, 5, 7, 8, 9, 0] rfl)
def f1_tryLips_18 (post : CS → Prop) (tw : Option TD) (x1 : Int32) (x2 : Int32) (x3 : Int32) (K18 : (CS × Int32) → Prop) (S : CS) (x4 : Int32) : Prop :=
  ((∃ τ, tw = some τ) ∧ ((((1 : Int32) <<< ((S.1.1 50 9) &&& 31)) ≤ x4 → (post S)) ∧ (¬ ((1 : Int32) <<< ((S.1.1 50 9) &&& 31)) ≤ x4 → (lp (fun (K : (Int64 × Int32 × Int32 × Int32) → Prop) (z : (Int64 × Int32 × Int32 × Int32)) => f1_tryLips_44 tw K18 S x1 x2 x3 x4 K z.1 z.2.1 z.2.2.1 z.2.2.2) (1, 0, 0, 0)))))
set_option maxHeartbeats 4000000 in
theorem k1_tryLips_18 {post : CS → Prop} {x1 : Int32} {x2 : Int32} {x3 : Int32} (hC : CX RX1 cX1_tryLips 11 none D gCl nwG Z Hb A p s m args meth c) : ∀ z : (CS × Int32), lp (fun (K : (CS × Int32) → Prop) (z : (CS × Int32)) => f1_tryLips_18 post tw x1 x2 x3 K z.1 z.2) z → ∀ (H : Heap) (locs : List Loc) (ls : Array Slot), va_P D gCl (wC D ad sc tw z.1) H → va_D A (wC D ad sc tw z.1) → va_S A s.heap H locs → lv_has ls 11 [(0, .ref (ad 0)), (1, .int x1), (2, .int x2), (3, .int x3), (4, .int z.2)] → W p l e ({ frames := 123, cells := 0, slots := 0, locals := 6070 } : Room) s m args below meth c H locs 0 0 (MQ below (va_Qv post (BW D gCl A (fun u => (wC D ad sc tw u))) A) args s 0 0 A) (F0 m 18 ls []) := by
  refine lp_ind ?_
  rintro K18 ⟨S, x4⟩ hK18 hw H locs ls hP hD hS hl
  have hw : f1_tryLips_18 post tw x1 x2 x3 K18 S x4 := hw
  unfold f1_tryLips_18 at hw
  have hP : va_P D gCl (wC D ad sc tw S) H := hP
  have hD : va_D A (wC D ad sc tw S) := hD
  have hl : lv_has ls 11 [(0, .ref (ad 0)), (1, .int x1), (2, .int x2), (3, .int x3), (4, .int x4)] := hl
  refine lv_iload hC.x hC.b dX1_tryLips_18 (lv_at hl 4 rfl) ?_
  refine lv_iconst (v := 1) hC.x hC.b dX1_tryLips_20 (by decide) ?_
  refine lv_aload_n hC.x hC.b dX1_tryLips_21 rfl (lv_at hl 0 rfl) ?_
  refine gO_3 hC hP dX1_tryLips_22 ?_
  obtain ⟨⟨τ, rfl⟩, hw866⟩ := hw
  refine gX1T_9 hC hP dX1_tryLips_25 ?_
  refine lv_ishl hC.x hC.b dX1_tryLips_28 ?_
  refine lv_icmp_ge (tgt := 208) hC.x hC.b dX1_tryLips_29 (by decide) (fun c4 => ?_) (fun c4 => ?_)
  · have hw867 := hw866.1 c4
    exact rt_v hC hw867 hP hD hS dX1_tryLips_208
  · have hw868 := hw866.2 c4
    refine lv_lconst (v := 1) hC.x hC.b dX1_tryLips_32 rfl ?_
    refine lv_lstore (lv' := [(5, .long 1), (0, .ref (ad 0)), (1, .int x1), (2, .int x2), (3, .int x3), (4, .int x4)]) hC.x hC.b dX1_tryLips_33 hl (by decide) rfl (fun ls hl => ?_)
    refine lv_iconst (v := 0) hC.x hC.b dX1_tryLips_35 (by decide) ?_
    refine lv_istore (lv' := [(7, .int 0), (5, .long 1), (0, .ref (ad 0)), (1, .int x1), (2, .int x2), (3, .int x3), (4, .int x4)]) hC.x hC.b dX1_tryLips_36 hl (by decide) rfl (fun ls hl => ?_)
    refine lv_iconst (v := 0) hC.x hC.b dX1_tryLips_38 (by decide) ?_
    refine lv_istore (lv' := [(8, .int 0), (7, .int 0), (5, .long 1), (0, .ref (ad 0)), (1, .int x1), (2, .int x2), (3, .int x3), (4, .int x4)]) hC.x hC.b dX1_tryLips_39 hl (by decide) rfl (fun ls hl => ?_)
    refine lv_iconst (v := 0) hC.x hC.b dX1_tryLips_41 (by decide) ?_
    refine lv_istore (lv' := [(9, .int 0), (8, .int 0), (7, .int 0), (5, .long 1), (0, .ref (ad 0)), (1, .int x1), (2, .int x2), (3, .int x3), (4, .int x4)]) hC.x hC.b dX1_tryLips_42 hl (by decide) rfl (fun ls hl => ?_)
    exact k1_tryLips_44 hC hK18 (1, 0, 0, 0) hw868 H locs ls hP hD hS (lv_sub hl [4, 5, 6, 7, 8, 3, 2, 1, 0] rfl)
def w1_tryLips (post : CS → Prop) (tw : Option TD) (S : CS) (x1 : Int32) (x2 : Int32) (x3 : Int32) : Prop :=
  (∀ S1, S1 = sL S 0 25 0 → (∀ S2, S2 = sL S1 0 26 0 → (∀ S3, S3 = sL S2 0 27 0 → (lp (fun (K : (CS × Int32) → Prop) (z : (CS × Int32)) => f1_tryLips_18 post tw x1 x2 x3 K z.1 z.2) (S3, 0)))))
set_option maxHeartbeats 4000000 in
theorem m1_tryLips (l : Launch) {post : CS → Prop} {S : CS} {x1 : Int32} {x2 : Int32} {x3 : Int32} (hw : w1_tryLips post tw S x1 x2 x3) : Met l yX1_tryLips (ws_ yX1_tryLips cX1_tryLips 11 none) ({ frames := 123, cells := 0, slots := 0, locals := 6070 } : Room) (va_Pc [.ref (ad 0), .int x1, .int x2, .int x3] (PcG D gCl nwG Z Hb A (wC D ad sc tw S))) (va_Qv post (BW D gCl A (fun u => (wC D ad sc tw u))) A) 0 0 A := by
  refine Met.ofG (by decide) (Nat.le_of_ble_eq_true rfl) ?_
  intro p e s m below meth c ls hC _ hP hD hS hl
  have hC : CX RX1 cX1_tryLips 11 none D gCl nwG Z Hb A p s m _ meth c := hC
  have hl : lv_has ls 11 [(0, .ref (ad 0)), (1, .int x1), (2, .int x2), (3, .int x3)] := hl
  unfold w1_tryLips at hw
  refine lv_aload_n hC.x hC.b dX1_tryLips_0 rfl (lv_at hl 0 rfl) ?_
  refine lv_lconst (v := 0) hC.x hC.b dX1_tryLips_1 rfl ?_
  refine pO_25 hC hP hD hS (v := 0) dX1_tryLips_2 (fun S1 eS1 H locs hP hD hS => ?_)
  have hw863 := hw S1 eS1
  refine lv_aload_n hC.x hC.b dX1_tryLips_5 rfl (lv_at hl 0 rfl) ?_
  refine lv_lconst (v := 0) hC.x hC.b dX1_tryLips_6 rfl ?_
  refine pO_26 hC hP hD hS (v := 0) dX1_tryLips_7 (fun S2 eS2 H locs hP hD hS => ?_)
  have hw864 := hw863 S2 eS2
  refine lv_aload_n hC.x hC.b dX1_tryLips_10 rfl (lv_at hl 0 rfl) ?_
  refine lv_lconst (v := 0) hC.x hC.b dX1_tryLips_11 rfl ?_
  refine pO_27 hC hP hD hS (v := 0) dX1_tryLips_12 (fun S3 eS3 H locs hP hD hS => ?_)
  have hw865 := hw864 S3 eS3
  refine lv_iconst (v := 0) hC.x hC.b dX1_tryLips_15 (by decide) ?_
  refine lv_istore (lv' := [(4, .int 0), (0, .ref (ad 0)), (1, .int x1), (2, .int x2), (3, .int x3)]) hC.x hC.b dX1_tryLips_16 hl (by decide) rfl (fun ls hl => ?_)
  exact k1_tryLips_18 hC (S3, 0) hw865 H locs ls hP hD hS (lv_sub hl [1, 2, 3, 4, 0] rfl)
theorem v1_1_tryLips : GoodIn lw_all (wsV RX1 347 RX1 yX1_tryLips (ws_ yX1_tryLips cX1_tryLips 11 none)) := lw_V q1279 q1281 qs43 q118 q1282
theorem h1_most : yX1_most.cls = RX1 ∧ yX1_most.cls ≠ "java/lang/invoke/MethodHandle" ∧ yX1_most.cls ≠ "java/lang/invoke/VarHandle" ∧ (parseMethodDescriptor yX1_most.desc).map (fun d => d.parameters.length) = some 3 := by decide +kernel
def j1_most_42 (post : Int64 → CS → Prop) (tw : Option TD) (S : CS) (x1 : Int32) (x2 : Int32) (x3 : Int32) (y1 : Int32) (y2 : Int32) : Prop :=
  (w1_numberWhy (fun r6 => ((r6 = 0 → (w1_tryLips (fun S9 => (w1_lowest (fun r10 => (post r10 S9)) (S9.1.2 0 26) (S9.1.2 0 25) x3)) tw S x1 (-1) x2)) ∧ (¬ r6 = 0 → (w1_no (fun r11 S12 => (post (r11.toInt64) S12)) S r6)))) S y1 y2)
set_option maxHeartbeats 4000000 in
theorem k1_most_42 {post : Int64 → CS → Prop} {S : CS} {x1 : Int32} {x2 : Int32} {x3 : Int32} {y1 : Int32} {y2 : Int32} (hC : CX RX1 cX1_most 5 (some .long) D gCl nwG Z Hb A p s m args meth c) (hw : j1_most_42 post tw S x1 x2 x3 y1 y2) : ∀ (H : Heap) (locs : List Loc) (ls : Array Slot), va_P D gCl (wC D ad sc tw S) H → va_D A (wC D ad sc tw S) → va_S A s.heap H locs → lv_has ls 5 [(0, .ref (ad 0)), (1, .int x1), (2, .int x2), (3, .int x3)] → W p l e ({ frames := 124, cells := 0, slots := 0, locals := 6100 } : Room) s m args below meth c H locs 0 0 (MQ below (va_Ql post (BW D gCl A (fun u => (wC D ad sc tw u))) A) args s 0 0 A) (F0 m 42 ls [.int y2, .int y1, .ref (ad 0)]) := by
  intro H locs ls hP hD hS hl
  unfold j1_most_42 at hw
  refine go_i (run_V (rest := []) hC (m1_numberWhy l hw) v1_1_numberWhy h1_numberWhy 0 0 gCl_X1 rfl rfl ⟨rfl, rfl, Nat.le_of_ble_eq_true rfl, Nat.le_of_ble_eq_true rfl⟩ ⟨Nat.le_refl _, Nat.le_refl _⟩ hP hD hS hl.1 (Nat.le_of_ble_eq_true rfl) dX1_most_42 rfl) hS (fun r6 u H locs hw888 hP hD hS => ?_)
  refine lv_istore (lv' := [(4, .int r6), (0, .ref (ad 0)), (1, .int x1), (2, .int x2), (3, .int x3)]) hC.x hC.b dX1_most_45 hl (by decide) rfl (fun ls hl => ?_)
  refine lv_iload hC.x hC.b dX1_most_47 (lv_at hl 0 rfl) ?_
  refine lv_if_eq (tgt := 60) hC.x hC.b dX1_most_49 (by decide) (fun c7 => ?_) (fun c7 => ?_)
  · have hw889 := hw888.1 c7
    refine lv_aload_n hC.x hC.b dX1_most_60 rfl (lv_at hl 1 rfl) ?_
    refine lv_iload_n hC.x hC.b dX1_most_61 rfl (lv_at hl 2 rfl) ?_
    refine lv_iconst (v := (-1)) hC.x hC.b dX1_most_62 (by decide) ?_
    refine lv_iload_n hC.x hC.b dX1_most_63 rfl (lv_at hl 3 rfl) ?_
    refine go_v (run_V (rest := []) hC (m1_tryLips l hw889) v1_1_tryLips h1_tryLips 0 0 gCl_X1 rfl rfl ⟨rfl, rfl, Nat.le_of_ble_eq_true rfl, Nat.le_of_ble_eq_true rfl⟩ ⟨Nat.le_refl _, Nat.le_refl _⟩ hP hD hS hl.1 (Nat.le_of_ble_eq_true rfl) dX1_most_64 rfl) hS (fun S9 H locs hw890 hP hD hS => ?_)
    refine lv_aload_n hC.x hC.b dX1_most_67 rfl (lv_at hl 1 rfl) ?_
    refine gO_26 hC hP dX1_most_68 ?_
    refine lv_aload_n hC.x hC.b dX1_most_71 rfl (lv_at hl 1 rfl) ?_
    refine gO_25 hC hP dX1_most_72 ?_
    refine lv_iload_n hC.x hC.b dX1_most_75 rfl (lv_at hl 4 rfl) ?_
    refine go_l (run_S (rest := []) hC (m1_lowest l hw890) v1_1_lowest h1_lowest ⟨rfl, rfl, Nat.le_of_ble_eq_true rfl, Nat.le_of_ble_eq_true rfl⟩ ⟨Nat.le_refl _, Nat.le_refl _⟩ hP hD hS hl.1 (Nat.le_of_ble_eq_true rfl) dX1_most_76 rfl) hS (fun r10 u H locs hw891 hP hD hS => ?_)
    exact rt_l hC hw891 hP hD hS dX1_most_79
  · have hw892 := hw888.2 c7
    refine lv_aload_n hC.x hC.b dX1_most_52 rfl (lv_at hl 1 rfl) ?_
    refine lv_iload hC.x hC.b dX1_most_53 (lv_at hl 0 rfl) ?_
    refine go_i (run_V (rest := []) hC (m1_no l hw892) v1_1_no h1_no 0 0 gCl_X1 rfl rfl ⟨rfl, rfl, Nat.le_of_ble_eq_true rfl, Nat.le_of_ble_eq_true rfl⟩ ⟨Nat.le_refl _, Nat.le_refl _⟩ hP hD hS hl.1 (Nat.le_of_ble_eq_true rfl) dX1_most_55 rfl) hS (fun r11 S12 H locs hw893 hP hD hS => ?_)
    refine lv_i2l (v := (r11.toInt64)) hC.x hC.b dX1_most_58 rfl ?_
    exact rt_l hC hw893 hP hD hS dX1_most_59
def j1_most_41 (post : Int64 → CS → Prop) (tw : Option TD) (S : CS) (x1 : Int32) (x2 : Int32) (x3 : Int32) (y1 : Int32) : Prop :=
  (j1_most_42 post tw S x1 x2 x3 y1 0)
set_option maxHeartbeats 4000000 in
theorem k1_most_41 {post : Int64 → CS → Prop} {S : CS} {x1 : Int32} {x2 : Int32} {x3 : Int32} {y1 : Int32} (hC : CX RX1 cX1_most 5 (some .long) D gCl nwG Z Hb A p s m args meth c) (hw : j1_most_41 post tw S x1 x2 x3 y1) : ∀ (H : Heap) (locs : List Loc) (ls : Array Slot), va_P D gCl (wC D ad sc tw S) H → va_D A (wC D ad sc tw S) → va_S A s.heap H locs → lv_has ls 5 [(0, .ref (ad 0)), (1, .int x1), (2, .int x2), (3, .int x3)] → W p l e ({ frames := 124, cells := 0, slots := 0, locals := 6100 } : Room) s m args below meth c H locs 0 0 (MQ below (va_Ql post (BW D gCl A (fun u => (wC D ad sc tw u))) A) args s 0 0 A) (F0 m 41 ls [.int y1, .ref (ad 0)]) := by
  intro H locs ls hP hD hS hl
  unfold j1_most_41 at hw
  refine lv_iconst (v := 0) hC.x hC.b dX1_most_41 (by decide) ?_
  exact k1_most_42 hC hw H locs ls hP hD hS (lv_sub hl [0, 1, 2, 3] rfl)
def j1_most_17 (post : Int64 → CS → Prop) (tw : Option TD) (S : CS) (x1 : Int32) (x2 : Int32) (x3 : Int32) (y1 : Int32) : Prop :=
  (w1_in (fun r4 => ((r4 = 0 → (j1_most_41 post tw S x1 x2 x3 y1)) ∧ (¬ r4 = 0 → (w1_in (fun r13 => ((r13 = 0 → (j1_most_41 post tw S x1 x2 x3 y1)) ∧ (¬ r13 = 0 → (j1_most_42 post tw S x1 x2 x3 y1 1)))) x2 0 99)))) x1 0 6)
set_option maxHeartbeats 4000000 in
theorem k1_most_17 {post : Int64 → CS → Prop} {S : CS} {x1 : Int32} {x2 : Int32} {x3 : Int32} {y1 : Int32} (hC : CX RX1 cX1_most 5 (some .long) D gCl nwG Z Hb A p s m args meth c) (hw : j1_most_17 post tw S x1 x2 x3 y1) : ∀ (H : Heap) (locs : List Loc) (ls : Array Slot), va_P D gCl (wC D ad sc tw S) H → va_D A (wC D ad sc tw S) → va_S A s.heap H locs → lv_has ls 5 [(0, .ref (ad 0)), (1, .int x1), (2, .int x2), (3, .int x3)] → W p l e ({ frames := 124, cells := 0, slots := 0, locals := 6100 } : Room) s m args below meth c H locs 0 0 (MQ below (va_Ql post (BW D gCl A (fun u => (wC D ad sc tw u))) A) args s 0 0 A) (F0 m 17 ls [.int y1, .ref (ad 0)]) := by
  intro H locs ls hP hD hS hl
  unfold j1_most_17 at hw
  refine lv_iload_n hC.x hC.b dX1_most_17 rfl (lv_at hl 1 rfl) ?_
  refine lv_iconst (v := 0) hC.x hC.b dX1_most_18 (by decide) ?_
  refine lv_bipush (v := 6) hC.x hC.b dX1_most_19 (by decide) ?_
  refine go_i (run_S (rest := [.int y1, .ref (ad 0)]) hC (m1_in l hw) v1_1_in h1_in ⟨rfl, rfl, Nat.le_of_ble_eq_true rfl, Nat.le_of_ble_eq_true rfl⟩ ⟨Nat.le_refl _, Nat.le_refl _⟩ hP hD hS hl.1 (Nat.le_of_ble_eq_true rfl) dX1_most_21 rfl) hS (fun r4 u H locs hw886 hP hD hS => ?_)
  refine lv_if_eq (tgt := 41) hC.x hC.b dX1_most_24 (by decide) (fun c5 => ?_) (fun c5 => ?_)
  · have hw887 := hw886.1 c5
    exact k1_most_41 hC hw887 H locs ls hP hD hS (lv_sub hl [0, 1, 2, 3] rfl)
  · have hw894 := hw886.2 c5
    refine lv_iload_n hC.x hC.b dX1_most_27 rfl (lv_at hl 2 rfl) ?_
    refine lv_iconst (v := 0) hC.x hC.b dX1_most_28 (by decide) ?_
    refine lv_bipush (v := 99) hC.x hC.b dX1_most_29 (by decide) ?_
    refine go_i (run_S (rest := [.int y1, .ref (ad 0)]) hC (m1_in l hw894) v1_1_in h1_in ⟨rfl, rfl, Nat.le_of_ble_eq_true rfl, Nat.le_of_ble_eq_true rfl⟩ ⟨Nat.le_refl _, Nat.le_refl _⟩ hP hD hS hl.1 (Nat.le_of_ble_eq_true rfl) dX1_most_31 rfl) hS (fun r13 u H locs hw895 hP hD hS => ?_)
    refine lv_if_eq (tgt := 41) hC.x hC.b dX1_most_34 (by decide) (fun c14 => ?_) (fun c14 => ?_)
    · have hw896 := hw895.1 c14
      exact k1_most_41 hC hw896 H locs ls hP hD hS (lv_sub hl [0, 1, 2, 3] rfl)
    · have hw897 := hw895.2 c14
      refine lv_iconst (v := 1) hC.x hC.b dX1_most_37 (by decide) ?_
      refine lv_goto (tgt := 42) hC.x hC.b dX1_most_38 (by decide) ?_
      exact k1_most_42 hC hw897 H locs ls hP hD hS (lv_sub hl [0, 1, 2, 3] rfl)
def w1_most (post : Int64 → CS → Prop) (tw : Option TD) (S : CS) (x1 : Int32) (x2 : Int32) (x3 : Int32) : Prop :=
  (w1_anew (fun S2 => ((tw = none → (j1_most_17 post tw S2 x1 x2 x3 0)) ∧ ((∃ τ, tw = some τ) → (j1_most_17 post tw S2 x1 x2 x3 1)))) S)
set_option maxHeartbeats 4000000 in
theorem m1_most (l : Launch) {post : Int64 → CS → Prop} {S : CS} {x1 : Int32} {x2 : Int32} {x3 : Int32} (hw : w1_most post tw S x1 x2 x3) : Met l yX1_most (ws_ yX1_most cX1_most 5 (some .long)) ({ frames := 124, cells := 0, slots := 0, locals := 6100 } : Room) (va_Pc [.ref (ad 0), .int x1, .int x2, .int x3] (PcG D gCl nwG Z Hb A (wC D ad sc tw S))) (va_Ql post (BW D gCl A (fun u => (wC D ad sc tw u))) A) 0 0 A := by
  refine Met.ofG (by decide) (Nat.le_of_ble_eq_true rfl) ?_
  intro p e s m below meth c ls hC _ hP hD hS hl
  have hC : CX RX1 cX1_most 5 (some .long) D gCl nwG Z Hb A p s m _ meth c := hC
  have hl : lv_has ls 5 [(0, .ref (ad 0)), (1, .int x1), (2, .int x2), (3, .int x3)] := hl
  unfold w1_most at hw
  refine lv_aload_n hC.x hC.b dX1_most_0 rfl (lv_at hl 0 rfl) ?_
  refine go_v (run_V (rest := []) hC (m1_anew l hw) v1_1_anew h1_anew 0 0 gCl_X1 rfl rfl ⟨rfl, rfl, Nat.le_of_ble_eq_true rfl, Nat.le_of_ble_eq_true rfl⟩ ⟨Nat.le_refl _, Nat.le_refl _⟩ hP hD hS hl.1 (Nat.le_of_ble_eq_true rfl) dX1_most_1 rfl) hS (fun S2 H locs hw884 hP hD hS => ?_)
  refine lv_aload_n hC.x hC.b dX1_most_4 rfl (lv_at hl 0 rfl) ?_
  refine lv_aload_n hC.x hC.b dX1_most_5 rfl (lv_at hl 0 rfl) ?_
  refine gO_3 hC hP dX1_most_6 ?_
  rcases va_o2 tw with c3 | ⟨τ, c3⟩
  · have hw885 := hw884.1 c3
    subst c3
    refine lv_ifnullN (tgt := 16) hC.x hC.b dX1_most_9 (by decide) ?_
    refine lv_iconst (v := 0) hC.x hC.b dX1_most_16 (by decide) ?_
    exact k1_most_17 hC hw885 H locs ls hP hD hS (lv_sub hl [0, 1, 2, 3] rfl)
  · have hw898 := hw884.2 ⟨τ, c3⟩
    subst c3
    refine lv_ifnull hC.x hC.b dX1_most_9 ?_
    refine lv_iconst (v := 1) hC.x hC.b dX1_most_12 (by decide) ?_
    refine lv_goto (tgt := 17) hC.x hC.b dX1_most_13 (by decide) ?_
    exact k1_most_17 hC hw898 H locs ls hP hD hS (lv_sub hl [0, 1, 2, 3] rfl)
theorem h1_mean : yX1_mean.cls = RX1 ∧ yX1_mean.cls ≠ "java/lang/invoke/MethodHandle" ∧ yX1_mean.cls ≠ "java/lang/invoke/VarHandle" ∧ (parseMethodDescriptor yX1_mean.desc).map (fun d => d.parameters.length) = some 3 := by decide +kernel
def w1_mean (post : Int64 → CS → Prop) (tw : Option TD) (S : CS) (x1 : Int32) (x2 : Int32) (x3 : Int32) : Prop :=
  (w1_anew (fun S2 => (w1_isPerson (fun r3 => (w1_nightWhy (fun r4 => ((r4 = 0 → (w1_tryLips (fun S7 => (w1_lowest (fun r8 => (post r8 S7)) (S7.1.2 0 27) (S7.1.2 0 25) x3)) tw S2 0 x1 x2)) ∧ (¬ r4 = 0 → (w1_no (fun r9 S10 => (post (r9.toInt64) S10)) S2 r4)))) S2 r3 x2)) tw S2 x1)) S)
set_option maxHeartbeats 4000000 in
theorem m1_mean (l : Launch) {post : Int64 → CS → Prop} {S : CS} {x1 : Int32} {x2 : Int32} {x3 : Int32} (hw : w1_mean post tw S x1 x2 x3) : Met l yX1_mean (ws_ yX1_mean cX1_mean 5 (some .long)) ({ frames := 124, cells := 0, slots := 0, locals := 6100 } : Room) (va_Pc [.ref (ad 0), .int x1, .int x2, .int x3] (PcG D gCl nwG Z Hb A (wC D ad sc tw S))) (va_Ql post (BW D gCl A (fun u => (wC D ad sc tw u))) A) 0 0 A := by
  refine Met.ofG (by decide) (Nat.le_of_ble_eq_true rfl) ?_
  intro p e s m below meth c ls hC _ hP hD hS hl
  have hC : CX RX1 cX1_mean 5 (some .long) D gCl nwG Z Hb A p s m _ meth c := hC
  have hl : lv_has ls 5 [(0, .ref (ad 0)), (1, .int x1), (2, .int x2), (3, .int x3)] := hl
  unfold w1_mean at hw
  refine lv_aload_n hC.x hC.b dX1_mean_0 rfl (lv_at hl 0 rfl) ?_
  refine go_v (run_V (rest := []) hC (m1_anew l hw) v1_1_anew h1_anew 0 0 gCl_X1 rfl rfl ⟨rfl, rfl, Nat.le_of_ble_eq_true rfl, Nat.le_of_ble_eq_true rfl⟩ ⟨Nat.le_refl _, Nat.le_refl _⟩ hP hD hS hl.1 (Nat.le_of_ble_eq_true rfl) dX1_mean_1 rfl) hS (fun S2 H locs hw899 hP hD hS => ?_)
  refine lv_aload_n hC.x hC.b dX1_mean_4 rfl (lv_at hl 0 rfl) ?_
  refine lv_aload_n hC.x hC.b dX1_mean_5 rfl (lv_at hl 0 rfl) ?_
  refine lv_iload_n hC.x hC.b dX1_mean_6 rfl (lv_at hl 1 rfl) ?_
  refine go_i (run_V (rest := [.ref (ad 0)]) hC (m1_isPerson l hw899) v1_1_isPerson h1_isPerson 0 0 gCl_X1 rfl rfl ⟨rfl, rfl, Nat.le_of_ble_eq_true rfl, Nat.le_of_ble_eq_true rfl⟩ ⟨Nat.le_refl _, Nat.le_refl _⟩ hP hD hS hl.1 (Nat.le_of_ble_eq_true rfl) dX1_mean_7 rfl) hS (fun r3 u H locs hw900 hP hD hS => ?_)
  refine lv_iload_n hC.x hC.b dX1_mean_10 rfl (lv_at hl 2 rfl) ?_
  refine go_i (run_V (rest := []) hC (m1_nightWhy l hw900) v1_1_nightWhy h1_nightWhy 0 0 gCl_X1 rfl rfl ⟨rfl, rfl, Nat.le_of_ble_eq_true rfl, Nat.le_of_ble_eq_true rfl⟩ ⟨Nat.le_refl _, Nat.le_refl _⟩ hP hD hS hl.1 (Nat.le_of_ble_eq_true rfl) dX1_mean_11 rfl) hS (fun r4 u H locs hw901 hP hD hS => ?_)
  refine lv_istore (lv' := [(4, .int r4), (0, .ref (ad 0)), (1, .int x1), (2, .int x2), (3, .int x3)]) hC.x hC.b dX1_mean_14 hl (by decide) rfl (fun ls hl => ?_)
  refine lv_iload hC.x hC.b dX1_mean_16 (lv_at hl 0 rfl) ?_
  refine lv_if_eq (tgt := 29) hC.x hC.b dX1_mean_18 (by decide) (fun c5 => ?_) (fun c5 => ?_)
  · have hw902 := hw901.1 c5
    refine lv_aload_n hC.x hC.b dX1_mean_29 rfl (lv_at hl 1 rfl) ?_
    refine lv_iconst (v := 0) hC.x hC.b dX1_mean_30 (by decide) ?_
    refine lv_iload_n hC.x hC.b dX1_mean_31 rfl (lv_at hl 2 rfl) ?_
    refine lv_iload_n hC.x hC.b dX1_mean_32 rfl (lv_at hl 3 rfl) ?_
    refine go_v (run_V (rest := []) hC (m1_tryLips l hw902) v1_1_tryLips h1_tryLips 0 0 gCl_X1 rfl rfl ⟨rfl, rfl, Nat.le_of_ble_eq_true rfl, Nat.le_of_ble_eq_true rfl⟩ ⟨Nat.le_refl _, Nat.le_refl _⟩ hP hD hS hl.1 (Nat.le_of_ble_eq_true rfl) dX1_mean_33 rfl) hS (fun S7 H locs hw903 hP hD hS => ?_)
    refine lv_aload_n hC.x hC.b dX1_mean_36 rfl (lv_at hl 1 rfl) ?_
    refine gO_27 hC hP dX1_mean_37 ?_
    refine lv_aload_n hC.x hC.b dX1_mean_40 rfl (lv_at hl 1 rfl) ?_
    refine gO_25 hC hP dX1_mean_41 ?_
    refine lv_iload_n hC.x hC.b dX1_mean_44 rfl (lv_at hl 4 rfl) ?_
    refine go_l (run_S (rest := []) hC (m1_lowest l hw903) v1_1_lowest h1_lowest ⟨rfl, rfl, Nat.le_of_ble_eq_true rfl, Nat.le_of_ble_eq_true rfl⟩ ⟨Nat.le_refl _, Nat.le_refl _⟩ hP hD hS hl.1 (Nat.le_of_ble_eq_true rfl) dX1_mean_45 rfl) hS (fun r8 u H locs hw904 hP hD hS => ?_)
    exact rt_l hC hw904 hP hD hS dX1_mean_48
  · have hw905 := hw901.2 c5
    refine lv_aload_n hC.x hC.b dX1_mean_21 rfl (lv_at hl 1 rfl) ?_
    refine lv_iload hC.x hC.b dX1_mean_22 (lv_at hl 0 rfl) ?_
    refine go_i (run_V (rest := []) hC (m1_no l hw905) v1_1_no h1_no 0 0 gCl_X1 rfl rfl ⟨rfl, rfl, Nat.le_of_ble_eq_true rfl, Nat.le_of_ble_eq_true rfl⟩ ⟨Nat.le_refl _, Nat.le_refl _⟩ hP hD hS hl.1 (Nat.le_of_ble_eq_true rfl) dX1_mean_24 rfl) hS (fun r9 S10 H locs hw906 hP hD hS => ?_)
    refine lv_i2l (v := (r9.toInt64)) hC.x hC.b dX1_mean_27 rfl ?_
    exact rt_l hC hw906 hP hD hS dX1_mean_28
theorem h1_drawWhy : yX1_drawWhy.cls = RX1 ∧ yX1_drawWhy.cls ≠ "java/lang/invoke/MethodHandle" ∧ yX1_drawWhy.cls ≠ "java/lang/invoke/VarHandle" ∧ (parseMethodDescriptor yX1_drawWhy.desc).map (fun d => d.parameters.length) = some 4 := by decide +kernel
def j1_drawWhy_146 (tw : Option TD) (K68 : (CS × Int32 × Int32) → Prop) (S : CS) (x4 : Int32) (x6 : Int32) (x7 : Int32) (x8 : Int32) (x9 : Int32) : Prop :=
  ((x4 ≤ x7 → (∀ S12, S12 = sI S 0 29 ((S.1.1 0 29) + 0) → (K68 (S12, x6, (x8 + 1))))) ∧ (¬ x4 ≤ x7 → (w4_isRight (fun r13 => ((r13 = 0 → (∀ S15, S15 = sI S 0 29 ((S.1.1 0 29) + 0) → (K68 (S15, x6, (x8 + 1))))) ∧ (¬ r13 = 0 → (∀ S16, S16 = sI S 0 29 ((S.1.1 0 29) + 1) → (K68 (S16, x6, (x8 + 1))))))) tw S 0 x8 x7 x9)))
set_option maxHeartbeats 4000000 in
theorem k1_drawWhy_146 {post : Int32 → CS → Prop} {S : CS} {x2 : Int32} {x4 : Int32} {x6 : Int32} {x7 : Int32} {x8 : Int32} {x9 : Int32} {K68 : (CS × Int32 × Int32) → Prop} (hC : CX RX1 cX1_drawWhy 10 (some .int) D gCl nwG Z Hb A p s m args meth c) (hK68 : ∀ z : (CS × Int32 × Int32), K68 z → ∀ (H : Heap) (locs : List Loc) (ls : Array Slot), va_P D gCl (wC D ad sc tw z.1) H → va_D A (wC D ad sc tw z.1) → va_S A s.heap H locs → lv_has ls 10 [(0, .ref (ad 0)), (2, .int x2), (4, .int x4), (6, .int z.2.1), (7, .int x7), (8, .int z.2.2)] → W p l e ({ frames := 123, cells := 0, slots := 0, locals := 6070 } : Room) s m args below meth c H locs 0 0 (MQ below (va_Qi post (BW D gCl A (fun u => (wC D ad sc tw u))) A) args s 0 0 A) (F0 m 68 ls [])) (hw : j1_drawWhy_146 tw K68 S x4 x6 x7 x8 x9) : ∀ (H : Heap) (locs : List Loc) (ls : Array Slot), va_P D gCl (wC D ad sc tw S) H → va_D A (wC D ad sc tw S) → va_S A s.heap H locs → lv_has ls 10 [(0, .ref (ad 0)), (2, .int x2), (4, .int x4), (6, .int x6), (7, .int x7), (8, .int x8), (9, .int x9)] → W p l e ({ frames := 123, cells := 0, slots := 0, locals := 6070 } : Room) s m args below meth c H locs 0 0 (MQ below (va_Qi post (BW D gCl A (fun u => (wC D ad sc tw u))) A) args s 0 0 A) (F0 m 146 ls []) := by
  intro H locs ls hP hD hS hl
  unfold j1_drawWhy_146 at hw
  refine lv_aload_n hC.x hC.b dX1_drawWhy_146 rfl (lv_at hl 0 rfl) ?_
  refine lv_dup hC.x hC.b dX1_drawWhy_147 rfl ?_
  refine gO_29 hC hP dX1_drawWhy_148 ?_
  refine lv_iload hC.x hC.b dX1_drawWhy_151 (lv_at hl 4 rfl) ?_
  refine lv_iload hC.x hC.b dX1_drawWhy_153 (lv_at hl 2 rfl) ?_
  refine lv_icmp_ge (tgt := 178) hC.x hC.b dX1_drawWhy_155 (by decide) (fun c11 => ?_) (fun c11 => ?_)
  · have hw920 := hw.1 c11
    refine lv_iconst (v := 0) hC.x hC.b dX1_drawWhy_178 (by decide) ?_
    refine lv_iadd hC.x hC.b dX1_drawWhy_179 ?_
    refine pO_29 hC hP hD hS (v := ((S.1.1 0 29) + 0)) dX1_drawWhy_180 (fun S12 eS12 H locs hP hD hS => ?_)
    have hw921 := hw920 S12 eS12
    refine lv_iinc (v := (x8 + 1)) (lv' := [(8, .int (x8 + 1)), (0, .ref (ad 0)), (2, .int x2), (4, .int x4), (6, .int x6), (7, .int x7), (9, .int x9)]) hC.x hC.b dX1_drawWhy_183 hl (k := 5) rfl rfl (by decide) rfl (fun ls hl => ?_)
    refine lv_goto (tgt := 68) hC.x hC.b dX1_drawWhy_186 (by decide) ?_
    exact hK68 (S12, x6, (x8 + 1)) hw921 H locs ls hP hD hS (lv_sub hl [1, 2, 3, 4, 5, 0] rfl)
  · have hw922 := hw.2 c11
    refine lv_aload_n hC.x hC.b dX1_drawWhy_158 rfl (lv_at hl 0 rfl) ?_
    refine gO_9 hC hP dX1_drawWhy_159 ?_
    refine lv_iload hC.x hC.b dX1_drawWhy_162 (lv_at hl 5 rfl) ?_
    refine lv_iload hC.x hC.b dX1_drawWhy_164 (lv_at hl 4 rfl) ?_
    refine lv_iload hC.x hC.b dX1_drawWhy_166 (lv_at hl 6 rfl) ?_
    refine go_i (run_V (rest := [.int (S.1.1 0 29), .ref (ad 0)]) hC (m4_isRight l (by decide) hw922) v1_4_isRight h4_isRight (17 + 4 * 0) 3 gCl_X4 (wC_so (by decide)) rfl ⟨rfl, rfl, Nat.le_of_ble_eq_true rfl, Nat.le_of_ble_eq_true rfl⟩ ⟨Nat.le_refl _, Nat.le_refl _⟩ hP hD hS hl.1 (Nat.le_of_ble_eq_true rfl) dX1_drawWhy_168 rfl) hS (fun r13 u H locs hw923 hP hD hS => ?_)
    refine lv_if_eq (tgt := 178) hC.x hC.b dX1_drawWhy_171 (by decide) (fun c14 => ?_) (fun c14 => ?_)
    · have hw924 := hw923.1 c14
      refine lv_iconst (v := 0) hC.x hC.b dX1_drawWhy_178 (by decide) ?_
      refine lv_iadd hC.x hC.b dX1_drawWhy_179 ?_
      refine pO_29 hC hP hD hS (v := ((S.1.1 0 29) + 0)) dX1_drawWhy_180 (fun S15 eS15 H locs hP hD hS => ?_)
      have hw925 := hw924 S15 eS15
      refine lv_iinc (v := (x8 + 1)) (lv' := [(8, .int (x8 + 1)), (0, .ref (ad 0)), (2, .int x2), (4, .int x4), (6, .int x6), (7, .int x7), (9, .int x9)]) hC.x hC.b dX1_drawWhy_183 hl (k := 5) rfl rfl (by decide) rfl (fun ls hl => ?_)
      refine lv_goto (tgt := 68) hC.x hC.b dX1_drawWhy_186 (by decide) ?_
      exact hK68 (S15, x6, (x8 + 1)) hw925 H locs ls hP hD hS (lv_sub hl [1, 2, 3, 4, 5, 0] rfl)
    · have hw926 := hw923.2 c14
      refine lv_iconst (v := 1) hC.x hC.b dX1_drawWhy_174 (by decide) ?_
      refine lv_goto (tgt := 179) hC.x hC.b dX1_drawWhy_175 (by decide) ?_
      refine lv_iadd hC.x hC.b dX1_drawWhy_179 ?_
      refine pO_29 hC hP hD hS (v := ((S.1.1 0 29) + 1)) dX1_drawWhy_180 (fun S16 eS16 H locs hP hD hS => ?_)
      have hw927 := hw926 S16 eS16
      refine lv_iinc (v := (x8 + 1)) (lv' := [(8, .int (x8 + 1)), (0, .ref (ad 0)), (2, .int x2), (4, .int x4), (6, .int x6), (7, .int x7), (9, .int x9)]) hC.x hC.b dX1_drawWhy_183 hl (k := 5) rfl rfl (by decide) rfl (fun ls hl => ?_)
      refine lv_goto (tgt := 68) hC.x hC.b dX1_drawWhy_186 (by decide) ?_
      exact hK68 (S16, x6, (x8 + 1)) hw927 H locs ls hP hD hS (lv_sub hl [1, 2, 3, 4, 5, 0] rfl)
def j1_drawWhy_114 (tw : Option TD) (K68 : (CS × Int32 × Int32) → Prop) (S : CS) (x2 : Int32) (x4 : Int32) (x6 : Int32) (x7 : Int32) (x8 : Int32) (y0 : Int32) : Prop :=
  ((¬ x7 = x4 → (j1_drawWhy_146 tw K68 S x4 x6 x7 x8 y0)) ∧ (x7 = x4 → ((¬ x8 = x2 → (j1_drawWhy_146 tw K68 S x4 x6 x7 x8 y0)) ∧ (x8 = x2 → (w4_ear (fun r18 => (∀ S19, S19 = sI S 0 28 r18 → (j1_drawWhy_146 tw K68 S19 x4 x6 x7 x8 y0))) tw S 0 x8 x7 y0)))))
set_option maxHeartbeats 4000000 in
theorem k1_drawWhy_114 {post : Int32 → CS → Prop} {S : CS} {x2 : Int32} {x4 : Int32} {x6 : Int32} {x7 : Int32} {x8 : Int32} {y0 : Int32} {K68 : (CS × Int32 × Int32) → Prop} (hC : CX RX1 cX1_drawWhy 10 (some .int) D gCl nwG Z Hb A p s m args meth c) (hK68 : ∀ z : (CS × Int32 × Int32), K68 z → ∀ (H : Heap) (locs : List Loc) (ls : Array Slot), va_P D gCl (wC D ad sc tw z.1) H → va_D A (wC D ad sc tw z.1) → va_S A s.heap H locs → lv_has ls 10 [(0, .ref (ad 0)), (2, .int x2), (4, .int x4), (6, .int z.2.1), (7, .int x7), (8, .int z.2.2)] → W p l e ({ frames := 123, cells := 0, slots := 0, locals := 6070 } : Room) s m args below meth c H locs 0 0 (MQ below (va_Qi post (BW D gCl A (fun u => (wC D ad sc tw u))) A) args s 0 0 A) (F0 m 68 ls [])) (hw : j1_drawWhy_114 tw K68 S x2 x4 x6 x7 x8 y0) : ∀ (H : Heap) (locs : List Loc) (ls : Array Slot), va_P D gCl (wC D ad sc tw S) H → va_D A (wC D ad sc tw S) → va_S A s.heap H locs → lv_has ls 10 [(0, .ref (ad 0)), (2, .int x2), (4, .int x4), (6, .int x6), (7, .int x7), (8, .int x8)] → W p l e ({ frames := 123, cells := 0, slots := 0, locals := 6070 } : Room) s m args below meth c H locs 0 0 (MQ below (va_Qi post (BW D gCl A (fun u => (wC D ad sc tw u))) A) args s 0 0 A) (F0 m 114 ls [.int y0]) := by
  intro H locs ls hP hD hS hl
  unfold j1_drawWhy_114 at hw
  refine lv_istore (lv' := [(9, .int y0), (0, .ref (ad 0)), (2, .int x2), (4, .int x4), (6, .int x6), (7, .int x7), (8, .int x8)]) hC.x hC.b dX1_drawWhy_114 hl (by decide) rfl (fun ls hl => ?_)
  refine lv_iload hC.x hC.b dX1_drawWhy_116 (lv_at hl 5 rfl) ?_
  refine lv_iload hC.x hC.b dX1_drawWhy_118 (lv_at hl 3 rfl) ?_
  refine lv_icmp_ne (tgt := 146) hC.x hC.b dX1_drawWhy_120 (by decide) (fun c10 => ?_) (fun c10 => ?_)
  · have hw919 := hw.1 c10
    exact k1_drawWhy_146 hC hK68 hw919 H locs ls hP hD hS (lv_sub hl [1, 2, 3, 4, 5, 6, 0] rfl)
  · have hw928 := hw.2 c10
    refine lv_iload hC.x hC.b dX1_drawWhy_123 (lv_at hl 6 rfl) ?_
    refine lv_iload_n hC.x hC.b dX1_drawWhy_125 rfl (lv_at hl 2 rfl) ?_
    refine lv_icmp_ne (tgt := 146) hC.x hC.b dX1_drawWhy_126 (by decide) (fun c17 => ?_) (fun c17 => ?_)
    · have hw929 := hw928.1 c17
      exact k1_drawWhy_146 hC hK68 hw929 H locs ls hP hD hS (lv_sub hl [1, 2, 3, 4, 5, 6, 0] rfl)
    · have hw930 := hw928.2 c17
      refine lv_aload_n hC.x hC.b dX1_drawWhy_129 rfl (lv_at hl 1 rfl) ?_
      refine lv_aload_n hC.x hC.b dX1_drawWhy_130 rfl (lv_at hl 1 rfl) ?_
      refine gO_9 hC hP dX1_drawWhy_131 ?_
      refine lv_iload hC.x hC.b dX1_drawWhy_134 (lv_at hl 6 rfl) ?_
      refine lv_iload hC.x hC.b dX1_drawWhy_136 (lv_at hl 5 rfl) ?_
      refine lv_iload hC.x hC.b dX1_drawWhy_138 (lv_at hl 0 rfl) ?_
      refine go_i (run_V (rest := [.ref (ad 0)]) hC (m4_ear l (by decide) hw930) v1_4_ear h4_ear (17 + 4 * 0) 3 gCl_X4 (wC_so (by decide)) rfl ⟨rfl, rfl, Nat.le_of_ble_eq_true rfl, Nat.le_of_ble_eq_true rfl⟩ ⟨Nat.le_refl _, Nat.le_refl _⟩ hP hD hS hl.1 (Nat.le_of_ble_eq_true rfl) dX1_drawWhy_140 rfl) hS (fun r18 u H locs hw931 hP hD hS => ?_)
      refine pO_28 hC hP hD hS (v := r18) dX1_drawWhy_143 (fun S19 eS19 H locs hP hD hS => ?_)
      have hw932 := hw931 S19 eS19
      exact k1_drawWhy_146 hC hK68 hw932 H locs ls hP hD hS (lv_sub hl [1, 2, 3, 4, 5, 6, 0] rfl)
def f1_drawWhy_68 (tw : Option TD) (K58 : (CS × Int32 × Int32) → Prop) (x2 : Int32) (x4 : Int32) (x7 : Int32) (K68 : (CS × Int32 × Int32) → Prop) (S : CS) (x6 : Int32) (x8 : Int32) : Prop :=
  ((∃ τ, tw = some τ) ∧ (((S.1.1 50 9) ≤ x8 → (K58 (S, x6, (x7 + 1)))) ∧ (¬ (S.1.1 50 9) ≤ x8 → (((S.1.1 50 7) ≤ ((((75 * x6) + 74) - ((75 * x6) + 74) / 65537 * 65537) - (((75 * x6) + 74) - ((75 * x6) + 74) / 65537 * 65537) / 100 * 100) → (j1_drawWhy_114 tw K68 S x2 x4 (((75 * x6) + 74) - ((75 * x6) + 74) / 65537 * 65537) x7 x8 0)) ∧ (¬ (S.1.1 50 7) ≤ ((((75 * x6) + 74) - ((75 * x6) + 74) / 65537 * 65537) - (((75 * x6) + 74) - ((75 * x6) + 74) / 65537 * 65537) / 100 * 100) → (j1_drawWhy_114 tw K68 S x2 x4 (((75 * x6) + 74) - ((75 * x6) + 74) / 65537 * 65537) x7 x8 1))))))
set_option maxHeartbeats 4000000 in
theorem k1_drawWhy_68 {post : Int32 → CS → Prop} {x2 : Int32} {x4 : Int32} {x7 : Int32} {K58 : (CS × Int32 × Int32) → Prop} (hC : CX RX1 cX1_drawWhy 10 (some .int) D gCl nwG Z Hb A p s m args meth c) (hK58 : ∀ z : (CS × Int32 × Int32), K58 z → ∀ (H : Heap) (locs : List Loc) (ls : Array Slot), va_P D gCl (wC D ad sc tw z.1) H → va_D A (wC D ad sc tw z.1) → va_S A s.heap H locs → lv_has ls 10 [(0, .ref (ad 0)), (2, .int x2), (4, .int x4), (6, .int z.2.1), (7, .int z.2.2)] → W p l e ({ frames := 123, cells := 0, slots := 0, locals := 6070 } : Room) s m args below meth c H locs 0 0 (MQ below (va_Qi post (BW D gCl A (fun u => (wC D ad sc tw u))) A) args s 0 0 A) (F0 m 58 ls [])) : ∀ z : (CS × Int32 × Int32), lp (fun (K : (CS × Int32 × Int32) → Prop) (z : (CS × Int32 × Int32)) => f1_drawWhy_68 tw K58 x2 x4 x7 K z.1 z.2.1 z.2.2) z → ∀ (H : Heap) (locs : List Loc) (ls : Array Slot), va_P D gCl (wC D ad sc tw z.1) H → va_D A (wC D ad sc tw z.1) → va_S A s.heap H locs → lv_has ls 10 [(0, .ref (ad 0)), (2, .int x2), (4, .int x4), (6, .int z.2.1), (7, .int x7), (8, .int z.2.2)] → W p l e ({ frames := 123, cells := 0, slots := 0, locals := 6070 } : Room) s m args below meth c H locs 0 0 (MQ below (va_Qi post (BW D gCl A (fun u => (wC D ad sc tw u))) A) args s 0 0 A) (F0 m 68 ls []) := by
  refine lp_ind ?_
  rintro K68 ⟨S, x6, x8⟩ hK68 hw H locs ls hP hD hS hl
  have hw : f1_drawWhy_68 tw K58 x2 x4 x7 K68 S x6 x8 := hw
  unfold f1_drawWhy_68 at hw
  have hP : va_P D gCl (wC D ad sc tw S) H := hP
  have hD : va_D A (wC D ad sc tw S) := hD
  have hl : lv_has ls 10 [(0, .ref (ad 0)), (2, .int x2), (4, .int x4), (6, .int x6), (7, .int x7), (8, .int x8)] := hl
  refine lv_iload hC.x hC.b dX1_drawWhy_68 (lv_at hl 5 rfl) ?_
  refine lv_aload_n hC.x hC.b dX1_drawWhy_70 rfl (lv_at hl 0 rfl) ?_
  refine gO_3 hC hP dX1_drawWhy_71 ?_
  obtain ⟨⟨τ, rfl⟩, hw915⟩ := hw
  refine gX1T_9 hC hP dX1_drawWhy_74 ?_
  refine lv_icmp_ge (tgt := 189) hC.x hC.b dX1_drawWhy_77 (by decide) (fun c8 => ?_) (fun c8 => ?_)
  · have hw916 := hw915.1 c8
    refine lv_iinc (v := (x7 + 1)) (lv' := [(7, .int (x7 + 1)), (0, .ref (ad 0)), (2, .int x2), (4, .int x4), (6, .int x6), (8, .int x8)]) hC.x hC.b dX1_drawWhy_189 hl (k := 4) rfl rfl (by decide) rfl (fun ls hl => ?_)
    refine lv_goto (tgt := 58) hC.x hC.b dX1_drawWhy_192 (by decide) ?_
    exact hK58 (S, x6, (x7 + 1)) hw916 H locs ls hP hD hS (lv_sub hl [1, 2, 3, 4, 0] rfl)
  · have hw917 := hw915.2 c8
    refine lv_bipush (v := 75) hC.x hC.b dX1_drawWhy_80 (by decide) ?_
    refine lv_iload hC.x hC.b dX1_drawWhy_82 (lv_at hl 3 rfl) ?_
    refine lv_imul hC.x hC.b dX1_drawWhy_84 ?_
    refine lv_bipush (v := 74) hC.x hC.b dX1_drawWhy_85 (by decide) ?_
    refine lv_iadd hC.x hC.b dX1_drawWhy_87 ?_
    refine lv_ldcw (v := 65537) hC.x hC.b hC.ow (hC.ts _ q1296) dX1_drawWhy_88 ?_
    refine lv_irem hC.x hC.b dX1_drawWhy_91 (by decide) ?_
    refine lv_istore (lv' := [(6, .int (((75 * x6) + 74) - ((75 * x6) + 74) / 65537 * 65537)), (0, .ref (ad 0)), (2, .int x2), (4, .int x4), (7, .int x7), (8, .int x8)]) hC.x hC.b dX1_drawWhy_92 hl (by decide) rfl (fun ls hl => ?_)
    refine lv_iload hC.x hC.b dX1_drawWhy_94 (lv_at hl 0 rfl) ?_
    refine lv_bipush (v := 100) hC.x hC.b dX1_drawWhy_96 (by decide) ?_
    refine lv_irem hC.x hC.b dX1_drawWhy_98 (by decide) ?_
    refine lv_aload_n hC.x hC.b dX1_drawWhy_99 rfl (lv_at hl 1 rfl) ?_
    refine gO_3 hC hP dX1_drawWhy_100 ?_
    refine gX1T_7 hC hP dX1_drawWhy_103 ?_
    refine lv_icmp_ge (tgt := 113) hC.x hC.b dX1_drawWhy_106 (by decide) (fun c9 => ?_) (fun c9 => ?_)
    · have hw918 := hw917.1 c9
      refine lv_iconst (v := 0) hC.x hC.b dX1_drawWhy_113 (by decide) ?_
      exact k1_drawWhy_114 hC hK68 hw918 H locs ls hP hD hS (lv_sub hl [1, 2, 3, 0, 4, 5] rfl)
    · have hw933 := hw917.2 c9
      refine lv_iconst (v := 1) hC.x hC.b dX1_drawWhy_109 (by decide) ?_
      refine lv_goto (tgt := 114) hC.x hC.b dX1_drawWhy_110 (by decide) ?_
      exact k1_drawWhy_114 hC hK68 hw933 H locs ls hP hD hS (lv_sub hl [1, 2, 3, 0, 4, 5] rfl)
def f1_drawWhy_58 (post : Int32 → CS → Prop) (tw : Option TD) (x2 : Int32) (x4 : Int32) (K58 : (CS × Int32 × Int32) → Prop) (S : CS) (x6 : Int32) (x7 : Int32) : Prop :=
  ((x4 < x7 → (post 0 S)) ∧ (¬ x4 < x7 → (lp (fun (K : (CS × Int32 × Int32) → Prop) (z : (CS × Int32 × Int32)) => f1_drawWhy_68 tw K58 x2 x4 x7 K z.1 z.2.1 z.2.2) (S, x6, 0))))
set_option maxHeartbeats 4000000 in
theorem k1_drawWhy_58 {post : Int32 → CS → Prop} {x2 : Int32} {x4 : Int32} (hC : CX RX1 cX1_drawWhy 10 (some .int) D gCl nwG Z Hb A p s m args meth c) : ∀ z : (CS × Int32 × Int32), lp (fun (K : (CS × Int32 × Int32) → Prop) (z : (CS × Int32 × Int32)) => f1_drawWhy_58 post tw x2 x4 K z.1 z.2.1 z.2.2) z → ∀ (H : Heap) (locs : List Loc) (ls : Array Slot), va_P D gCl (wC D ad sc tw z.1) H → va_D A (wC D ad sc tw z.1) → va_S A s.heap H locs → lv_has ls 10 [(0, .ref (ad 0)), (2, .int x2), (4, .int x4), (6, .int z.2.1), (7, .int z.2.2)] → W p l e ({ frames := 123, cells := 0, slots := 0, locals := 6070 } : Room) s m args below meth c H locs 0 0 (MQ below (va_Qi post (BW D gCl A (fun u => (wC D ad sc tw u))) A) args s 0 0 A) (F0 m 58 ls []) := by
  refine lp_ind ?_
  rintro K58 ⟨S, x6, x7⟩ hK58 hw H locs ls hP hD hS hl
  have hw : f1_drawWhy_58 post tw x2 x4 K58 S x6 x7 := hw
  unfold f1_drawWhy_58 at hw
  have hP : va_P D gCl (wC D ad sc tw S) H := hP
  have hD : va_D A (wC D ad sc tw S) := hD
  have hl : lv_has ls 10 [(0, .ref (ad 0)), (2, .int x2), (4, .int x4), (6, .int x6), (7, .int x7)] := hl
  refine lv_iload hC.x hC.b dX1_drawWhy_58 (lv_at hl 4 rfl) ?_
  refine lv_iload hC.x hC.b dX1_drawWhy_60 (lv_at hl 2 rfl) ?_
  refine lv_icmp_gt (tgt := 195) hC.x hC.b dX1_drawWhy_62 (by decide) (fun c7 => ?_) (fun c7 => ?_)
  · have hw913 := hw.1 c7
    refine lv_iconst (v := 0) hC.x hC.b dX1_drawWhy_195 (by decide) ?_
    exact rt_i hC hw913 hP hD hS dX1_drawWhy_196
  · have hw914 := hw.2 c7
    refine lv_iconst (v := 0) hC.x hC.b dX1_drawWhy_65 (by decide) ?_
    refine lv_istore (lv' := [(8, .int 0), (0, .ref (ad 0)), (2, .int x2), (4, .int x4), (6, .int x6), (7, .int x7)]) hC.x hC.b dX1_drawWhy_66 hl (by decide) rfl (fun ls hl => ?_)
    exact k1_drawWhy_68 hC hK58 (S, x6, 0) hw914 H locs ls hP hD hS (lv_sub hl [1, 2, 3, 4, 5, 0] rfl)
def j1_drawWhy_29 (post : Int32 → CS → Prop) (tw : Option TD) (S : CS) (x2 : Int32) (x3 : Int32) (x4 : Int32) (y1 : Int32) (y2 : Int32) : Prop :=
  (w1_numberWhy (fun r3 => ((r3 = 0 → (∀ S5, S5 = sI S 0 29 0 → (∀ S6, S6 = sI S5 0 28 (-1) → (lp (fun (K : (CS × Int32 × Int32) → Prop) (z : (CS × Int32 × Int32)) => f1_drawWhy_58 post tw x2 x4 K z.1 z.2.1 z.2.2) (S6, x3, 0))))) ∧ (¬ r3 = 0 → (post r3 S)))) S y1 y2)
set_option maxHeartbeats 4000000 in
theorem k1_drawWhy_29 {post : Int32 → CS → Prop} {S : CS} {x2 : Int32} {x3 : Int32} {x4 : Int32} {y1 : Int32} {y2 : Int32} (hC : CX RX1 cX1_drawWhy 10 (some .int) D gCl nwG Z Hb A p s m args meth c) (hw : j1_drawWhy_29 post tw S x2 x3 x4 y1 y2) : ∀ (H : Heap) (locs : List Loc) (ls : Array Slot), va_P D gCl (wC D ad sc tw S) H → va_D A (wC D ad sc tw S) → va_S A s.heap H locs → lv_has ls 10 [(0, .ref (ad 0)), (2, .int x2), (3, .int x3), (4, .int x4)] → W p l e ({ frames := 123, cells := 0, slots := 0, locals := 6070 } : Room) s m args below meth c H locs 0 0 (MQ below (va_Qi post (BW D gCl A (fun u => (wC D ad sc tw u))) A) args s 0 0 A) (F0 m 29 ls [.int y2, .int y1, .ref (ad 0)]) := by
  intro H locs ls hP hD hS hl
  unfold j1_drawWhy_29 at hw
  refine go_i (run_V (rest := []) hC (m1_numberWhy l hw) v1_1_numberWhy h1_numberWhy 0 0 gCl_X1 rfl rfl ⟨rfl, rfl, Nat.le_of_ble_eq_true rfl, Nat.le_of_ble_eq_true rfl⟩ ⟨Nat.le_refl _, Nat.le_refl _⟩ hP hD hS hl.1 (Nat.le_of_ble_eq_true rfl) dX1_drawWhy_29 rfl) hS (fun r3 u H locs hw909 hP hD hS => ?_)
  refine lv_istore (lv' := [(5, .int r3), (0, .ref (ad 0)), (2, .int x2), (3, .int x3), (4, .int x4)]) hC.x hC.b dX1_drawWhy_32 hl (by decide) rfl (fun ls hl => ?_)
  refine lv_iload hC.x hC.b dX1_drawWhy_34 (lv_at hl 0 rfl) ?_
  refine lv_if_eq (tgt := 42) hC.x hC.b dX1_drawWhy_36 (by decide) (fun c4 => ?_) (fun c4 => ?_)
  · have hw910 := hw909.1 c4
    refine lv_iload_n hC.x hC.b dX1_drawWhy_42 rfl (lv_at hl 3 rfl) ?_
    refine lv_istore (lv' := [(6, .int x3), (5, .int r3), (0, .ref (ad 0)), (2, .int x2), (3, .int x3), (4, .int x4)]) hC.x hC.b dX1_drawWhy_43 hl (by decide) rfl (fun ls hl => ?_)
    refine lv_aload_n hC.x hC.b dX1_drawWhy_45 rfl (lv_at hl 2 rfl) ?_
    refine lv_iconst (v := 0) hC.x hC.b dX1_drawWhy_46 (by decide) ?_
    refine pO_29 hC hP hD hS (v := 0) dX1_drawWhy_47 (fun S5 eS5 H locs hP hD hS => ?_)
    have hw911 := hw910 S5 eS5
    refine lv_aload_n hC.x hC.b dX1_drawWhy_50 rfl (lv_at hl 2 rfl) ?_
    refine lv_iconst (v := (-1)) hC.x hC.b dX1_drawWhy_51 (by decide) ?_
    refine pO_28 hC hP hD hS (v := (-1)) dX1_drawWhy_52 (fun S6 eS6 H locs hP hD hS => ?_)
    have hw912 := hw911 S6 eS6
    refine lv_iconst (v := 0) hC.x hC.b dX1_drawWhy_55 (by decide) ?_
    refine lv_istore (lv' := [(7, .int 0), (6, .int x3), (5, .int r3), (0, .ref (ad 0)), (2, .int x2), (3, .int x3), (4, .int x4)]) hC.x hC.b dX1_drawWhy_56 hl (by decide) rfl (fun ls hl => ?_)
    exact k1_drawWhy_58 hC (S6, x3, 0) hw912 H locs ls hP hD hS (lv_sub hl [3, 4, 6, 1, 0] rfl)
  · have hw934 := hw909.2 c4
    refine lv_iload hC.x hC.b dX1_drawWhy_39 (lv_at hl 0 rfl) ?_
    exact rt_i hC hw934 hP hD hS dX1_drawWhy_41
def j1_drawWhy_28 (post : Int32 → CS → Prop) (tw : Option TD) (S : CS) (x2 : Int32) (x3 : Int32) (x4 : Int32) (y1 : Int32) : Prop :=
  (j1_drawWhy_29 post tw S x2 x3 x4 y1 0)
set_option maxHeartbeats 4000000 in
theorem k1_drawWhy_28 {post : Int32 → CS → Prop} {S : CS} {x2 : Int32} {x3 : Int32} {x4 : Int32} {y1 : Int32} (hC : CX RX1 cX1_drawWhy 10 (some .int) D gCl nwG Z Hb A p s m args meth c) (hw : j1_drawWhy_28 post tw S x2 x3 x4 y1) : ∀ (H : Heap) (locs : List Loc) (ls : Array Slot), va_P D gCl (wC D ad sc tw S) H → va_D A (wC D ad sc tw S) → va_S A s.heap H locs → lv_has ls 10 [(0, .ref (ad 0)), (2, .int x2), (3, .int x3), (4, .int x4)] → W p l e ({ frames := 123, cells := 0, slots := 0, locals := 6070 } : Room) s m args below meth c H locs 0 0 (MQ below (va_Qi post (BW D gCl A (fun u => (wC D ad sc tw u))) A) args s 0 0 A) (F0 m 28 ls [.int y1, .ref (ad 0)]) := by
  intro H locs ls hP hD hS hl
  unfold j1_drawWhy_28 at hw
  refine lv_iconst (v := 0) hC.x hC.b dX1_drawWhy_28 (by decide) ?_
  exact k1_drawWhy_29 hC hw H locs ls hP hD hS (lv_sub hl [0, 1, 2, 3] rfl)
def w1_drawWhy (post : Int32 → CS → Prop) (tw : Option TD) (S : CS) (x1 : Int32) (x2 : Int32) (x3 : Int32) (x4 : Int32) : Prop :=
  (w1_in (fun r1 => ((r1 = 0 → (j1_drawWhy_28 post tw S x2 x3 x4 x1)) ∧ (¬ r1 = 0 → (w1_in (fun r20 => ((r20 = 0 → (j1_drawWhy_28 post tw S x2 x3 x4 x1)) ∧ (¬ r20 = 0 → (j1_drawWhy_29 post tw S x2 x3 x4 x1 1)))) x4 0 99)))) x3 0 65536)
set_option maxHeartbeats 4000000 in
theorem m1_drawWhy (l : Launch) {post : Int32 → CS → Prop} {S : CS} {x1 : Int32} {x2 : Int32} {x3 : Int32} {x4 : Int32} (hw : w1_drawWhy post tw S x1 x2 x3 x4) : Met l yX1_drawWhy (ws_ yX1_drawWhy cX1_drawWhy 10 (some .int)) ({ frames := 123, cells := 0, slots := 0, locals := 6070 } : Room) (va_Pc [.ref (ad 0), .int x1, .int x2, .int x3, .int x4] (PcG D gCl nwG Z Hb A (wC D ad sc tw S))) (va_Qi post (BW D gCl A (fun u => (wC D ad sc tw u))) A) 0 0 A := by
  refine Met.ofG (by decide) (Nat.le_of_ble_eq_true rfl) ?_
  intro p e s m below meth c ls hC _ hP hD hS hl
  have hC : CX RX1 cX1_drawWhy 10 (some .int) D gCl nwG Z Hb A p s m _ meth c := hC
  have hl : lv_has ls 10 [(0, .ref (ad 0)), (1, .int x1), (2, .int x2), (3, .int x3), (4, .int x4)] := hl
  unfold w1_drawWhy at hw
  refine lv_aload_n hC.x hC.b dX1_drawWhy_0 rfl (lv_at hl 0 rfl) ?_
  refine lv_iload_n hC.x hC.b dX1_drawWhy_1 rfl (lv_at hl 1 rfl) ?_
  refine lv_iload_n hC.x hC.b dX1_drawWhy_2 rfl (lv_at hl 3 rfl) ?_
  refine lv_iconst (v := 0) hC.x hC.b dX1_drawWhy_3 (by decide) ?_
  refine lv_ldcw (v := 65536) hC.x hC.b hC.ow (hC.ts _ q1295) dX1_drawWhy_4 ?_
  refine go_i (run_S (rest := [.int x1, .ref (ad 0)]) hC (m1_in l hw) v1_1_in h1_in ⟨rfl, rfl, Nat.le_of_ble_eq_true rfl, Nat.le_of_ble_eq_true rfl⟩ ⟨Nat.le_refl _, Nat.le_refl _⟩ hP hD hS hl.1 (Nat.le_of_ble_eq_true rfl) dX1_drawWhy_7 rfl) hS (fun r1 u H locs hw907 hP hD hS => ?_)
  refine lv_if_eq (tgt := 28) hC.x hC.b dX1_drawWhy_10 (by decide) (fun c2 => ?_) (fun c2 => ?_)
  · have hw908 := hw907.1 c2
    exact k1_drawWhy_28 hC hw908 H locs ls hP hD hS (lv_sub hl [0, 2, 3, 4] rfl)
  · have hw935 := hw907.2 c2
    refine lv_iload hC.x hC.b dX1_drawWhy_13 (lv_at hl 4 rfl) ?_
    refine lv_iconst (v := 0) hC.x hC.b dX1_drawWhy_15 (by decide) ?_
    refine lv_bipush (v := 99) hC.x hC.b dX1_drawWhy_16 (by decide) ?_
    refine go_i (run_S (rest := [.int x1, .ref (ad 0)]) hC (m1_in l hw935) v1_1_in h1_in ⟨rfl, rfl, Nat.le_of_ble_eq_true rfl, Nat.le_of_ble_eq_true rfl⟩ ⟨Nat.le_refl _, Nat.le_refl _⟩ hP hD hS hl.1 (Nat.le_of_ble_eq_true rfl) dX1_drawWhy_18 rfl) hS (fun r20 u H locs hw936 hP hD hS => ?_)
    refine lv_if_eq (tgt := 28) hC.x hC.b dX1_drawWhy_21 (by decide) (fun c21 => ?_) (fun c21 => ?_)
    · have hw937 := hw936.1 c21
      exact k1_drawWhy_28 hC hw937 H locs ls hP hD hS (lv_sub hl [0, 2, 3, 4] rfl)
    · have hw938 := hw936.2 c21
      refine lv_iconst (v := 1) hC.x hC.b dX1_drawWhy_24 (by decide) ?_
      refine lv_goto (tgt := 29) hC.x hC.b dX1_drawWhy_25 (by decide) ?_
      exact k1_drawWhy_29 hC hw938 H locs ls hP hD hS (lv_sub hl [0, 2, 3, 4] rfl)
theorem v1_1_drawWhy : GoodIn lw_all (wsV RX1 358 RX1 yX1_drawWhy (ws_ yX1_drawWhy cX1_drawWhy 10 (some .int))) := lw_V q1291 q1293 qs44 q118 q1294
theorem h1_heardBy : yX1_heardBy.cls = RX1 ∧ yX1_heardBy.cls ≠ "java/lang/invoke/MethodHandle" ∧ yX1_heardBy.cls ≠ "java/lang/invoke/VarHandle" ∧ (parseMethodDescriptor yX1_heardBy.desc).map (fun d => d.parameters.length) = some 3 := by decide +kernel
def w1_heardBy (post : Int32 → CS → Prop) (tw : Option TD) (S : CS) (x1 : Int32) (x2 : Int32) (x3 : Int32) : Prop :=
  (w1_anew (fun S2 => (w1_isDead (fun r3 => (w1_drawWhy (fun r4 S5 => ((r4 = 0 → (post (S5.1.1 0 28) S5)) ∧ (¬ r4 = 0 → (w1_no (fun r7 S8 => (post r7 S8)) S5 r4)))) tw S2 r3 x1 x2 x3)) tw S2 x1)) S)
set_option maxHeartbeats 4000000 in
theorem m1_heardBy (l : Launch) {post : Int32 → CS → Prop} {S : CS} {x1 : Int32} {x2 : Int32} {x3 : Int32} (hw : w1_heardBy post tw S x1 x2 x3) : Met l yX1_heardBy (ws_ yX1_heardBy cX1_heardBy 5 (some .int)) ({ frames := 124, cells := 0, slots := 0, locals := 6099 } : Room) (va_Pc [.ref (ad 0), .int x1, .int x2, .int x3] (PcG D gCl nwG Z Hb A (wC D ad sc tw S))) (va_Qi post (BW D gCl A (fun u => (wC D ad sc tw u))) A) 0 0 A := by
  refine Met.ofG (by decide) (Nat.le_of_ble_eq_true rfl) ?_
  intro p e s m below meth c ls hC _ hP hD hS hl
  have hC : CX RX1 cX1_heardBy 5 (some .int) D gCl nwG Z Hb A p s m _ meth c := hC
  have hl : lv_has ls 5 [(0, .ref (ad 0)), (1, .int x1), (2, .int x2), (3, .int x3)] := hl
  unfold w1_heardBy at hw
  refine lv_aload_n hC.x hC.b dX1_heardBy_0 rfl (lv_at hl 0 rfl) ?_
  refine go_v (run_V (rest := []) hC (m1_anew l hw) v1_1_anew h1_anew 0 0 gCl_X1 rfl rfl ⟨rfl, rfl, Nat.le_of_ble_eq_true rfl, Nat.le_of_ble_eq_true rfl⟩ ⟨Nat.le_refl _, Nat.le_refl _⟩ hP hD hS hl.1 (Nat.le_of_ble_eq_true rfl) dX1_heardBy_1 rfl) hS (fun S2 H locs hw939 hP hD hS => ?_)
  refine lv_aload_n hC.x hC.b dX1_heardBy_4 rfl (lv_at hl 0 rfl) ?_
  refine lv_aload_n hC.x hC.b dX1_heardBy_5 rfl (lv_at hl 0 rfl) ?_
  refine lv_iload_n hC.x hC.b dX1_heardBy_6 rfl (lv_at hl 1 rfl) ?_
  refine go_i (run_V (rest := [.ref (ad 0)]) hC (m1_isDead l hw939) v1_1_isDead h1_isDead 0 0 gCl_X1 rfl rfl ⟨rfl, rfl, Nat.le_of_ble_eq_true rfl, Nat.le_of_ble_eq_true rfl⟩ ⟨Nat.le_refl _, Nat.le_refl _⟩ hP hD hS hl.1 (Nat.le_of_ble_eq_true rfl) dX1_heardBy_7 rfl) hS (fun r3 u H locs hw940 hP hD hS => ?_)
  refine lv_iload_n hC.x hC.b dX1_heardBy_10 rfl (lv_at hl 1 rfl) ?_
  refine lv_iload_n hC.x hC.b dX1_heardBy_11 rfl (lv_at hl 2 rfl) ?_
  refine lv_iload_n hC.x hC.b dX1_heardBy_12 rfl (lv_at hl 3 rfl) ?_
  refine go_i (run_V (rest := []) hC (m1_drawWhy l hw940) v1_1_drawWhy h1_drawWhy 0 0 gCl_X1 rfl rfl ⟨rfl, rfl, Nat.le_of_ble_eq_true rfl, Nat.le_of_ble_eq_true rfl⟩ ⟨Nat.le_refl _, Nat.le_refl _⟩ hP hD hS hl.1 (Nat.le_of_ble_eq_true rfl) dX1_heardBy_13 rfl) hS (fun r4 S5 H locs hw941 hP hD hS => ?_)
  refine lv_istore (lv' := [(4, .int r4), (0, .ref (ad 0)), (1, .int x1), (2, .int x2), (3, .int x3)]) hC.x hC.b dX1_heardBy_16 hl (by decide) rfl (fun ls hl => ?_)
  refine lv_iload hC.x hC.b dX1_heardBy_18 (lv_at hl 0 rfl) ?_
  refine lv_if_eq (tgt := 32) hC.x hC.b dX1_heardBy_20 (by decide) (fun c6 => ?_) (fun c6 => ?_)
  · have hw942 := hw941.1 c6
    refine lv_aload_n hC.x hC.b dX1_heardBy_32 rfl (lv_at hl 1 rfl) ?_
    refine gO_28 hC hP dX1_heardBy_33 ?_
    exact rt_i hC hw942 hP hD hS dX1_heardBy_36
  · have hw943 := hw941.2 c6
    refine lv_aload_n hC.x hC.b dX1_heardBy_23 rfl (lv_at hl 1 rfl) ?_
    refine lv_iload hC.x hC.b dX1_heardBy_24 (lv_at hl 0 rfl) ?_
    refine go_i (run_V (rest := []) hC (m1_no l hw943) v1_1_no h1_no 0 0 gCl_X1 rfl rfl ⟨rfl, rfl, Nat.le_of_ble_eq_true rfl, Nat.le_of_ble_eq_true rfl⟩ ⟨Nat.le_refl _, Nat.le_refl _⟩ hP hD hS hl.1 (Nat.le_of_ble_eq_true rfl) dX1_heardBy_26 rfl) hS (fun r7 S8 H locs hw944 hP hD hS => ?_)
    refine lv_goto (tgt := 36) hC.x hC.b dX1_heardBy_29 (by decide) ?_
    exact rt_i hC hw944 hP hD hS dX1_heardBy_36
theorem h1_rights : yX1_rights.cls = RX1 ∧ yX1_rights.cls ≠ "java/lang/invoke/MethodHandle" ∧ yX1_rights.cls ≠ "java/lang/invoke/VarHandle" ∧ (parseMethodDescriptor yX1_rights.desc).map (fun d => d.parameters.length) = some 2 := by decide +kernel
def j1_rights_17 (post : Int32 → CS → Prop) (tw : Option TD) (S : CS) (x1 : Int32) (x2 : Int32) (y1 : Int32) : Prop :=
  (w1_drawWhy (fun r4 S5 => ((r4 = 0 → (post (S5.1.1 0 29) S5)) ∧ (¬ r4 = 0 → (w1_no (fun r7 S8 => (post r7 S8)) S5 r4)))) tw S y1 (-1) x1 x2)
set_option maxHeartbeats 4000000 in
theorem k1_rights_17 {post : Int32 → CS → Prop} {S : CS} {x1 : Int32} {x2 : Int32} {y1 : Int32} (hC : CX RX1 cX1_rights 4 (some .int) D gCl nwG Z Hb A p s m args meth c) (hw : j1_rights_17 post tw S x1 x2 y1) : ∀ (H : Heap) (locs : List Loc) (ls : Array Slot), va_P D gCl (wC D ad sc tw S) H → va_D A (wC D ad sc tw S) → va_S A s.heap H locs → lv_has ls 4 [(0, .ref (ad 0)), (1, .int x1), (2, .int x2)] → W p l e ({ frames := 124, cells := 0, slots := 0, locals := 6099 } : Room) s m args below meth c H locs 0 0 (MQ below (va_Qi post (BW D gCl A (fun u => (wC D ad sc tw u))) A) args s 0 0 A) (F0 m 17 ls [.int y1, .ref (ad 0)]) := by
  intro H locs ls hP hD hS hl
  unfold j1_rights_17 at hw
  refine lv_iconst (v := (-1)) hC.x hC.b dX1_rights_17 (by decide) ?_
  refine lv_iload_n hC.x hC.b dX1_rights_18 rfl (lv_at hl 1 rfl) ?_
  refine lv_iload_n hC.x hC.b dX1_rights_19 rfl (lv_at hl 2 rfl) ?_
  refine go_i (run_V (rest := []) hC (m1_drawWhy l hw) v1_1_drawWhy h1_drawWhy 0 0 gCl_X1 rfl rfl ⟨rfl, rfl, Nat.le_of_ble_eq_true rfl, Nat.le_of_ble_eq_true rfl⟩ ⟨Nat.le_refl _, Nat.le_refl _⟩ hP hD hS hl.1 (Nat.le_of_ble_eq_true rfl) dX1_rights_20 rfl) hS (fun r4 S5 H locs hw947 hP hD hS => ?_)
  refine lv_istore_n (lv' := [(3, .int r4), (0, .ref (ad 0)), (1, .int x1), (2, .int x2)]) hC.x hC.b dX1_rights_23 rfl hl (by decide) rfl (fun ls hl => ?_)
  refine lv_iload_n hC.x hC.b dX1_rights_24 rfl (lv_at hl 0 rfl) ?_
  refine lv_if_eq (tgt := 36) hC.x hC.b dX1_rights_25 (by decide) (fun c6 => ?_) (fun c6 => ?_)
  · have hw948 := hw947.1 c6
    refine lv_aload_n hC.x hC.b dX1_rights_36 rfl (lv_at hl 1 rfl) ?_
    refine gO_29 hC hP dX1_rights_37 ?_
    exact rt_i hC hw948 hP hD hS dX1_rights_40
  · have hw949 := hw947.2 c6
    refine lv_aload_n hC.x hC.b dX1_rights_28 rfl (lv_at hl 1 rfl) ?_
    refine lv_iload_n hC.x hC.b dX1_rights_29 rfl (lv_at hl 0 rfl) ?_
    refine go_i (run_V (rest := []) hC (m1_no l hw949) v1_1_no h1_no 0 0 gCl_X1 rfl rfl ⟨rfl, rfl, Nat.le_of_ble_eq_true rfl, Nat.le_of_ble_eq_true rfl⟩ ⟨Nat.le_refl _, Nat.le_refl _⟩ hP hD hS hl.1 (Nat.le_of_ble_eq_true rfl) dX1_rights_30 rfl) hS (fun r7 S8 H locs hw950 hP hD hS => ?_)
    refine lv_goto (tgt := 40) hC.x hC.b dX1_rights_33 (by decide) ?_
    exact rt_i hC hw950 hP hD hS dX1_rights_40
def w1_rights (post : Int32 → CS → Prop) (tw : Option TD) (S : CS) (x1 : Int32) (x2 : Int32) : Prop :=
  (w1_anew (fun S2 => ((tw = none → (j1_rights_17 post tw S2 x1 x2 0)) ∧ ((∃ τ, tw = some τ) → (j1_rights_17 post tw S2 x1 x2 1)))) S)
set_option maxHeartbeats 4000000 in
theorem m1_rights (l : Launch) {post : Int32 → CS → Prop} {S : CS} {x1 : Int32} {x2 : Int32} (hw : w1_rights post tw S x1 x2) : Met l yX1_rights (ws_ yX1_rights cX1_rights 4 (some .int)) ({ frames := 124, cells := 0, slots := 0, locals := 6099 } : Room) (va_Pc [.ref (ad 0), .int x1, .int x2] (PcG D gCl nwG Z Hb A (wC D ad sc tw S))) (va_Qi post (BW D gCl A (fun u => (wC D ad sc tw u))) A) 0 0 A := by
  refine Met.ofG (by decide) (Nat.le_of_ble_eq_true rfl) ?_
  intro p e s m below meth c ls hC _ hP hD hS hl
  have hC : CX RX1 cX1_rights 4 (some .int) D gCl nwG Z Hb A p s m _ meth c := hC
  have hl : lv_has ls 4 [(0, .ref (ad 0)), (1, .int x1), (2, .int x2)] := hl
  unfold w1_rights at hw
  refine lv_aload_n hC.x hC.b dX1_rights_0 rfl (lv_at hl 0 rfl) ?_
  refine go_v (run_V (rest := []) hC (m1_anew l hw) v1_1_anew h1_anew 0 0 gCl_X1 rfl rfl ⟨rfl, rfl, Nat.le_of_ble_eq_true rfl, Nat.le_of_ble_eq_true rfl⟩ ⟨Nat.le_refl _, Nat.le_refl _⟩ hP hD hS hl.1 (Nat.le_of_ble_eq_true rfl) dX1_rights_1 rfl) hS (fun S2 H locs hw945 hP hD hS => ?_)
  refine lv_aload_n hC.x hC.b dX1_rights_4 rfl (lv_at hl 0 rfl) ?_
  refine lv_aload_n hC.x hC.b dX1_rights_5 rfl (lv_at hl 0 rfl) ?_
  refine gO_3 hC hP dX1_rights_6 ?_
  rcases va_o2 tw with c3 | ⟨τ, c3⟩
  · have hw946 := hw945.1 c3
    subst c3
    refine lv_ifnullN (tgt := 16) hC.x hC.b dX1_rights_9 (by decide) ?_
    refine lv_iconst (v := 0) hC.x hC.b dX1_rights_16 (by decide) ?_
    exact k1_rights_17 hC hw946 H locs ls hP hD hS (lv_sub hl [0, 1, 2] rfl)
  · have hw951 := hw945.2 ⟨τ, c3⟩
    subst c3
    refine lv_ifnull hC.x hC.b dX1_rights_9 ?_
    refine lv_iconst (v := 1) hC.x hC.b dX1_rights_12 (by decide) ?_
    refine lv_goto (tgt := 17) hC.x hC.b dX1_rights_13 (by decide) ?_
    exact k1_rights_17 hC hw951 H locs ls hP hD hS (lv_sub hl [0, 1, 2] rfl)
theorem h1_note : yX1_note.cls = RX1 ∧ yX1_note.cls ≠ "java/lang/invoke/MethodHandle" ∧ yX1_note.cls ≠ "java/lang/invoke/VarHandle" ∧ (parseMethodDescriptor yX1_note.desc).map (fun d => d.parameters.length) = some 0 := by decide +kernel
def w1_note (post : CS → Prop) (S : CS) : Prop :=
  (w4_become (fun S2 => (post S2)) S 1 0)
set_option maxHeartbeats 4000000 in
theorem m1_note (l : Launch) {post : CS → Prop} {S : CS} (hw : w1_note post S) : Met l yX1_note (ws_ yX1_note cX1_note 1 none) ({ frames := 2, cells := 0, slots := 0, locals := 121 } : Room) (va_Pc [.ref (ad 0)] (PcG D gCl nwG Z Hb A (wC D ad sc tw S))) (va_Qv post (BW D gCl A (fun u => (wC D ad sc tw u))) A) 0 0 A := by
  refine Met.ofG (by decide) (Nat.le_of_ble_eq_true rfl) ?_
  intro p e s m below meth c ls hC _ hP hD hS hl
  have hC : CX RX1 cX1_note 1 none D gCl nwG Z Hb A p s m _ meth c := hC
  have hl : lv_has ls 1 [(0, .ref (ad 0))] := hl
  unfold w1_note at hw
  refine lv_aload_n hC.x hC.b dX1_note_0 rfl (lv_at hl 0 rfl) ?_
  refine gO_10 hC hP dX1_note_1 ?_
  refine lv_aload_n hC.x hC.b dX1_note_4 rfl (lv_at hl 0 rfl) ?_
  refine gO_9 hC hP dX1_note_5 ?_
  refine go_r (run_V (rest := []) hC (m4_become l (by decide) (by decide) hw) v1_4_become h4_become (17 + 4 * 1) 3 gCl_X4 (wC_so (by decide)) rfl ⟨rfl, rfl, Nat.le_of_ble_eq_true rfl, Nat.le_of_ble_eq_true rfl⟩ ⟨Nat.le_refl _, Nat.le_refl _⟩ hP hD hS hl.1 (Nat.le_of_ble_eq_true rfl) dX1_note_8 rfl) hS (fun S2 H locs hw952 hP hD hS => ?_)
  refine lv_pop hC.x hC.b dX1_note_11 rfl ?_
  exact rt_v hC hw952 hP hD hS dX1_note_12
theorem h1_done : yX1_done.cls = RX1 ∧ yX1_done.cls ≠ "java/lang/invoke/MethodHandle" ∧ yX1_done.cls ≠ "java/lang/invoke/VarHandle" ∧ (parseMethodDescriptor yX1_done.desc).map (fun d => d.parameters.length) = some 0 := by decide +kernel
def j1_done_62 (post : Int32 → CS → Prop) (S : CS) : Prop :=
  (vp_in (S.1.1 0 8) 16 ∧ ((S.2.2 (S.1.1 0 8).toNatClampNeg) < 22 ∧ (w4_become (fun S5 => (∀ S6, S6 = sI S5 0 8 ((S5.1.1 0 8) + 1) → (post 1 S6))) S (S.2.2 (S.1.1 0 8).toNatClampNeg) 1)))
set_option maxHeartbeats 4000000 in
theorem k1_done_62 {post : Int32 → CS → Prop} {S : CS} (hC : CX RX1 cX1_done 3 (some .boolean) D gCl nwG Z Hb A p s m args meth c) (hw : j1_done_62 post S) : ∀ (H : Heap) (locs : List Loc) (ls : Array Slot), va_P D gCl (wC D ad sc tw S) H → va_D A (wC D ad sc tw S) → va_S A s.heap H locs → lv_has ls 3 [(0, .ref (ad 0))] → W p l e ({ frames := 2, cells := 0, slots := 0, locals := 121 } : Room) s m args below meth c H locs 0 0 (MQ below (va_Qi post (BW D gCl A (fun u => (wC D ad sc tw u))) A) args s 0 0 A) (F0 m 62 ls []) := by
  intro H locs ls hP hD hS hl
  unfold j1_done_62 at hw
  refine lv_aload_n hC.x hC.b dX1_done_62 rfl (lv_at hl 0 rfl) ?_
  refine gO_13 hC hP dX1_done_63 ?_
  refine lv_aload_n hC.x hC.b dX1_done_66 rfl (lv_at hl 0 rfl) ?_
  refine gO_8 hC hP dX1_done_67 ?_
  obtain ⟨hin2, hw954⟩ := hw
  obtain ⟨hg3, hw955⟩ := hw954
  refine lUn hC hP hin2 rfl dX1_done_70 ?_
  refine lv_aload_n hC.x hC.b dX1_done_71 rfl (lv_at hl 0 rfl) ?_
  refine gO_10 hC hP dX1_done_72 ?_
  refine go_r (run_V (rest := []) hC (m4_become l hg3 (by decide) hw955) v1_4_become h4_become (17 + 4 * (S.2.2 (S.1.1 0 8).toNatClampNeg)) 3 gCl_X4 (wC_so hg3) rfl ⟨rfl, rfl, Nat.le_of_ble_eq_true rfl, Nat.le_of_ble_eq_true rfl⟩ ⟨Nat.le_refl _, Nat.le_refl _⟩ hP hD hS hl.1 (Nat.le_of_ble_eq_true rfl) dX1_done_75 rfl) hS (fun S5 H locs hw956 hP hD hS => ?_)
  refine lv_pop hC.x hC.b dX1_done_78 rfl ?_
  refine lv_aload_n hC.x hC.b dX1_done_79 rfl (lv_at hl 0 rfl) ?_
  refine lv_dup hC.x hC.b dX1_done_80 rfl ?_
  refine gO_8 hC hP dX1_done_81 ?_
  refine lv_iconst (v := 1) hC.x hC.b dX1_done_84 (by decide) ?_
  refine lv_iadd hC.x hC.b dX1_done_85 ?_
  refine pO_8 hC hP hD hS (v := ((S5.1.1 0 8) + 1)) dX1_done_86 (fun S6 eS6 H locs hP hD hS => ?_)
  have hw957 := hw956 S6 eS6
  refine lv_iconst (v := 1) hC.x hC.b dX1_done_89 (by decide) ?_
  exact rt_z hC (Or.inr rfl) hw957 hP hD hS dX1_done_90
def f1_done_18 (post : Int32 → CS → Prop) (x1 : Nat) (K18 : (CS × Int32) → Prop) (S : CS) (x2 : Int32) : Prop :=
  ((16 ≤ x2 → (∀ S9, S9 = sU S 15 x1 → (∀ S10, S10 = sI S9 0 8 ((S9.1.1 0 8) - 1) → (j1_done_62 post S10)))) ∧ (¬ 16 ≤ x2 → (vp_in x2 16 ∧ ((S.2.2 x2.toNatClampNeg) < 22 ∧ (vp_in (x2 - 1) 16 ∧ (∀ S14, S14 = sU S (x2 - 1).toNatClampNeg (S.2.2 x2.toNatClampNeg) → (K18 (S14, (x2 + 1)))))))))
set_option maxHeartbeats 4000000 in
theorem k1_done_18 {post : Int32 → CS → Prop} {x1 : Nat} (hC : CX RX1 cX1_done 3 (some .boolean) D gCl nwG Z Hb A p s m args meth c) (h_x1 : x1 < 22) : ∀ z : (CS × Int32), lp (fun (K : (CS × Int32) → Prop) (z : (CS × Int32)) => f1_done_18 post x1 K z.1 z.2) z → ∀ (H : Heap) (locs : List Loc) (ls : Array Slot), va_P D gCl (wC D ad sc tw z.1) H → va_D A (wC D ad sc tw z.1) → va_S A s.heap H locs → lv_has ls 3 [(0, .ref (ad 0)), (1, .ref (ad (20 + 4 * x1))), (2, .int z.2)] → W p l e ({ frames := 2, cells := 0, slots := 0, locals := 121 } : Room) s m args below meth c H locs 0 0 (MQ below (va_Qi post (BW D gCl A (fun u => (wC D ad sc tw u))) A) args s 0 0 A) (F0 m 18 ls []) := by
  refine lp_ind ?_
  rintro K18 ⟨S, x2⟩ hK18 hw H locs ls hP hD hS hl
  have hw : f1_done_18 post x1 K18 S x2 := hw
  unfold f1_done_18 at hw
  have hP : va_P D gCl (wC D ad sc tw S) H := hP
  have hD : va_D A (wC D ad sc tw S) := hD
  have hl : lv_has ls 3 [(0, .ref (ad 0)), (1, .ref (ad (20 + 4 * x1))), (2, .int x2)] := hl
  refine lv_iload_n hC.x hC.b dX1_done_18 rfl (lv_at hl 2 rfl) ?_
  refine lv_bipush (v := 16) hC.x hC.b dX1_done_19 (by decide) ?_
  refine lv_icmp_ge (tgt := 44) hC.x hC.b dX1_done_21 (by decide) (fun c8 => ?_) (fun c8 => ?_)
  · have hw960 := hw.1 c8
    refine lv_aload_n hC.x hC.b dX1_done_44 rfl (lv_at hl 0 rfl) ?_
    refine gO_13 hC hP dX1_done_45 ?_
    refine lv_bipush (v := 15) hC.x hC.b dX1_done_48 (by decide) ?_
    refine lv_aload_n hC.x hC.b dX1_done_50 rfl (lv_at hl 1 rfl) ?_
    refine sUn (r := x1) h_x1 hC hP hD hS (vp_lit rfl) (k := 15) rfl dX1_done_51 (fun S9 eS9 H locs hP hD hS => ?_)
    have hw961 := hw960 S9 eS9
    refine lv_aload_n hC.x hC.b dX1_done_52 rfl (lv_at hl 0 rfl) ?_
    refine lv_dup hC.x hC.b dX1_done_53 rfl ?_
    refine gO_8 hC hP dX1_done_54 ?_
    refine lv_iconst (v := 1) hC.x hC.b dX1_done_57 (by decide) ?_
    refine lv_isub hC.x hC.b dX1_done_58 ?_
    refine pO_8 hC hP hD hS (v := ((S9.1.1 0 8) - 1)) dX1_done_59 (fun S10 eS10 H locs hP hD hS => ?_)
    have hw962 := hw961 S10 eS10
    exact k1_done_62 hC hw962 H locs ls hP hD hS (lv_sub hl [0] rfl)
  · have hw963 := hw.2 c8
    refine lv_aload_n hC.x hC.b dX1_done_24 rfl (lv_at hl 0 rfl) ?_
    refine gO_13 hC hP dX1_done_25 ?_
    refine lv_iload_n hC.x hC.b dX1_done_28 rfl (lv_at hl 2 rfl) ?_
    refine lv_iconst (v := 1) hC.x hC.b dX1_done_29 (by decide) ?_
    refine lv_isub hC.x hC.b dX1_done_30 ?_
    refine lv_aload_n hC.x hC.b dX1_done_31 rfl (lv_at hl 0 rfl) ?_
    refine gO_13 hC hP dX1_done_32 ?_
    refine lv_iload_n hC.x hC.b dX1_done_35 rfl (lv_at hl 2 rfl) ?_
    obtain ⟨hin11, hw964⟩ := hw963
    obtain ⟨hg12, hw965⟩ := hw964
    refine lUn hC hP hin11 rfl dX1_done_36 ?_
    obtain ⟨hin13, hw966⟩ := hw965
    refine sUn (r := (S.2.2 x2.toNatClampNeg)) hg12 hC hP hD hS hin13 rfl dX1_done_37 (fun S14 eS14 H locs hP hD hS => ?_)
    have hw967 := hw966 S14 eS14
    refine lv_iinc (v := (x2 + 1)) (lv' := [(2, .int (x2 + 1)), (0, .ref (ad 0)), (1, .ref (ad (20 + 4 * x1)))]) hC.x hC.b dX1_done_38 hl (k := 2) rfl rfl (by decide) rfl (fun ls hl => ?_)
    refine lv_goto (tgt := 18) hC.x hC.b dX1_done_41 (by decide) ?_
    exact hK18 (S14, (x2 + 1)) hw967 H locs ls hP hD hS (lv_sub hl [1, 2, 0] rfl)
def w1_done (post : Int32 → CS → Prop) (S : CS) : Prop :=
  ((¬ (S.1.1 0 8) = 16 → (j1_done_62 post S)) ∧ ((S.1.1 0 8) = 16 → ((S.2.2 0) < 22 ∧ (lp (fun (K : (CS × Int32) → Prop) (z : (CS × Int32)) => f1_done_18 post (S.2.2 0) K z.1 z.2) (S, 1)))))
set_option maxHeartbeats 4000000 in
theorem m1_done (l : Launch) {post : Int32 → CS → Prop} {S : CS} (hw : w1_done post S) : Met l yX1_done (ws_ yX1_done cX1_done 3 (some .boolean)) ({ frames := 2, cells := 0, slots := 0, locals := 121 } : Room) (va_Pc [.ref (ad 0)] (PcG D gCl nwG Z Hb A (wC D ad sc tw S))) (va_Qi post (BW D gCl A (fun u => (wC D ad sc tw u))) A) 0 0 A := by
  refine Met.ofG (by decide) (Nat.le_of_ble_eq_true rfl) ?_
  intro p e s m below meth c ls hC _ hP hD hS hl
  have hC : CX RX1 cX1_done 3 (some .boolean) D gCl nwG Z Hb A p s m _ meth c := hC
  have hl : lv_has ls 3 [(0, .ref (ad 0))] := hl
  unfold w1_done at hw
  refine lv_aload_n hC.x hC.b dX1_done_0 rfl (lv_at hl 0 rfl) ?_
  refine gO_8 hC hP dX1_done_1 ?_
  refine lv_bipush (v := 16) hC.x hC.b dX1_done_4 (by decide) ?_
  refine lv_icmp_ne (tgt := 62) hC.x hC.b dX1_done_6 (by decide) (fun c1 => ?_) (fun c1 => ?_)
  · have hw953 := hw.1 c1
    exact k1_done_62 hC hw953 s.heap [] ls hP hD hS (lv_sub hl [0] rfl)
  · have hw958 := hw.2 c1
    refine lv_aload_n hC.x hC.b dX1_done_9 rfl (lv_at hl 0 rfl) ?_
    refine gO_13 hC hP dX1_done_10 ?_
    refine lv_iconst (v := 0) hC.x hC.b dX1_done_13 (by decide) ?_
    obtain ⟨hg7, hw959⟩ := hw958
    refine lUn hC hP (vp_lit rfl) (k := 0) rfl dX1_done_14 ?_
    refine lv_astore_n (lv' := [(1, .ref (ad (20 + 4 * (S.2.2 0)))), (0, .ref (ad 0))]) hC.x hC.b dX1_done_15 rfl hl (by decide) rfl (fun ls hl => ?_)
    refine lv_iconst (v := 1) hC.x hC.b dX1_done_16 (by decide) ?_
    refine lv_istore_n (lv' := [(2, .int 1), (1, .ref (ad (20 + 4 * (S.2.2 0)))), (0, .ref (ad 0))]) hC.x hC.b dX1_done_17 rfl hl (by decide) rfl (fun ls hl => ?_)
    exact k1_done_18 hC hg7 (S, 1) hw959 s.heap [] ls hP hD hS (lv_sub hl [2, 1, 0] rfl)
theorem v1_1_note : GoodIn lw_all (wsV RX1 362 RX1 yX1_note (ws_ yX1_note cX1_note 1 none)) := lw_V q1305 q1307 qs45 q118 q1308
theorem v1_1_done : GoodIn lw_all (wsV RX1 365 RX1 yX1_done (ws_ yX1_done cX1_done 3 (some .boolean))) := lw_V q1309 q1311 qs46 q118 q1312
theorem h1_night : yX1_night.cls = RX1 ∧ yX1_night.cls ≠ "java/lang/invoke/MethodHandle" ∧ yX1_night.cls ≠ "java/lang/invoke/VarHandle" ∧ (parseMethodDescriptor yX1_night.desc).map (fun d => d.parameters.length) = some 0 := by decide +kernel
def w1_night (post : Int32 → CS → Prop) (tw : Option TD) (S : CS) : Prop :=
  (w1_anew (fun S2 => ((tw = none → (w1_no (fun r4 S5 => (post r4 S5)) S2 1)) ∧ ((∃ τ, tw = some τ) → ((¬ (S2.1.1 (300 + 4 * 0) 4) = 99 → (w1_note (fun S8 => (∀ S9, S9 = sI S8 (300 + 4 * 0) 4 ((S8.1.1 (300 + 4 * 0) 4) + 1) → (w1_done (fun r10 S11 => (w4_rightOnes (fun r12 => (post r12 S11)) tw S11 0 (S11.1.1 (300 + 4 * 0) 4))) S9))) S2)) ∧ ((S2.1.1 (300 + 4 * 0) 4) = 99 → (w1_no (fun r13 S14 => (post r13 S14)) S2 3)))))) S)
set_option maxHeartbeats 4000000 in
theorem m1_night (l : Launch) {post : Int32 → CS → Prop} {S : CS} (hw : w1_night post tw S) : Met l yX1_night (ws_ yX1_night cX1_night 1 (some .int)) ({ frames := 124, cells := 0, slots := 0, locals := 6093 } : Room) (va_Pc [.ref (ad 0)] (PcG D gCl nwG Z Hb A (wC D ad sc tw S))) (va_Qi post (BW D gCl A (fun u => (wC D ad sc tw u))) A) 0 0 A := by
  refine Met.ofG (by decide) (Nat.le_of_ble_eq_true rfl) ?_
  intro p e s m below meth c ls hC _ hP hD hS hl
  have hC : CX RX1 cX1_night 1 (some .int) D gCl nwG Z Hb A p s m _ meth c := hC
  have hl : lv_has ls 1 [(0, .ref (ad 0))] := hl
  unfold w1_night at hw
  refine lv_aload_n hC.x hC.b dX1_night_0 rfl (lv_at hl 0 rfl) ?_
  refine go_v (run_V (rest := []) hC (m1_anew l hw) v1_1_anew h1_anew 0 0 gCl_X1 rfl rfl ⟨rfl, rfl, Nat.le_of_ble_eq_true rfl, Nat.le_of_ble_eq_true rfl⟩ ⟨Nat.le_refl _, Nat.le_refl _⟩ hP hD hS hl.1 (Nat.le_of_ble_eq_true rfl) dX1_night_1 rfl) hS (fun S2 H locs hw968 hP hD hS => ?_)
  refine lv_aload_n hC.x hC.b dX1_night_4 rfl (lv_at hl 0 rfl) ?_
  refine gO_3 hC hP dX1_night_5 ?_
  rcases va_o2 tw with c3 | ⟨τ, c3⟩
  · have hw969 := hw968.1 c3
    subst c3
    refine lv_ifnonnullN hC.x hC.b dX1_night_8 ?_
    refine lv_aload_n hC.x hC.b dX1_night_11 rfl (lv_at hl 0 rfl) ?_
    refine lv_iconst (v := 1) hC.x hC.b dX1_night_12 (by decide) ?_
    refine go_i (run_V (rest := []) hC (m1_no l hw969) v1_1_no h1_no 0 0 gCl_X1 rfl rfl ⟨rfl, rfl, Nat.le_of_ble_eq_true rfl, Nat.le_of_ble_eq_true rfl⟩ ⟨Nat.le_refl _, Nat.le_refl _⟩ hP hD hS hl.1 (Nat.le_of_ble_eq_true rfl) dX1_night_13 rfl) hS (fun r4 S5 H locs hw970 hP hD hS => ?_)
    exact rt_i hC hw970 hP hD hS dX1_night_16
  · have hw971 := hw968.2 ⟨τ, c3⟩
    subst c3
    refine lv_ifnonnull (tgt := 17) hC.x hC.b dX1_night_8 (by decide) ?_
    refine lv_aload_n hC.x hC.b dX1_night_17 rfl (lv_at hl 0 rfl) ?_
    refine gO_9 hC hP dX1_night_18 ?_
    refine gX1S_4 (r := 0) (by decide) hC hP dX1_night_21 ?_
    refine lv_bipush (v := 99) hC.x hC.b dX1_night_24 (by decide) ?_
    refine lv_icmp_ne (tgt := 35) hC.x hC.b dX1_night_26 (by decide) (fun c6 => ?_) (fun c6 => ?_)
    · have hw972 := hw971.1 c6
      refine lv_aload_n hC.x hC.b dX1_night_35 rfl (lv_at hl 0 rfl) ?_
      refine go_v (run_V (rest := []) hC (m1_note l hw972) v1_1_note h1_note 0 0 gCl_X1 rfl rfl ⟨rfl, rfl, Nat.le_of_ble_eq_true rfl, Nat.le_of_ble_eq_true rfl⟩ ⟨Nat.le_refl _, Nat.le_refl _⟩ hP hD hS hl.1 (Nat.le_of_ble_eq_true rfl) dX1_night_36 rfl) hS (fun S8 H locs hw973 hP hD hS => ?_)
      refine lv_aload_n hC.x hC.b dX1_night_39 rfl (lv_at hl 0 rfl) ?_
      refine gO_9 hC hP dX1_night_40 ?_
      refine lv_dup hC.x hC.b dX1_night_43 rfl ?_
      refine gX1S_4 (r := 0) (by decide) hC hP dX1_night_44 ?_
      refine lv_iconst (v := 1) hC.x hC.b dX1_night_47 (by decide) ?_
      refine lv_iadd hC.x hC.b dX1_night_48 ?_
      refine pX1S_4 (r := 0) (by decide) hC hP hD hS (v := ((S8.1.1 (300 + 4 * 0) 4) + 1)) dX1_night_49 (fun S9 eS9 H locs hP hD hS => ?_)
      have hw974 := hw973 S9 eS9
      refine lv_aload_n hC.x hC.b dX1_night_52 rfl (lv_at hl 0 rfl) ?_
      refine go_i (run_V (rest := []) hC (m1_done l hw974) v1_1_done h1_done 0 0 gCl_X1 rfl rfl ⟨rfl, rfl, Nat.le_of_ble_eq_true rfl, Nat.le_of_ble_eq_true rfl⟩ ⟨Nat.le_refl _, Nat.le_refl _⟩ hP hD hS hl.1 (Nat.le_of_ble_eq_true rfl) dX1_night_53 rfl) hS (fun r10 S11 H locs hw975 hP hD hS => ?_)
      refine lv_pop hC.x hC.b dX1_night_56 rfl ?_
      refine lv_aload_n hC.x hC.b dX1_night_57 rfl (lv_at hl 0 rfl) ?_
      refine gO_9 hC hP dX1_night_58 ?_
      refine lv_aload_n hC.x hC.b dX1_night_61 rfl (lv_at hl 0 rfl) ?_
      refine gO_9 hC hP dX1_night_62 ?_
      refine gX1S_4 (r := 0) (by decide) hC hP dX1_night_65 ?_
      refine go_i (run_V (rest := []) hC (m4_rightOnes l (by decide) hw975) v1_4_rightOnes h4_rightOnes (17 + 4 * 0) 3 gCl_X4 (wC_so (by decide)) rfl ⟨rfl, rfl, Nat.le_of_ble_eq_true rfl, Nat.le_of_ble_eq_true rfl⟩ ⟨Nat.le_refl _, Nat.le_refl _⟩ hP hD hS hl.1 (Nat.le_of_ble_eq_true rfl) dX1_night_68 rfl) hS (fun r12 u H locs hw976 hP hD hS => ?_)
      exact rt_i hC hw976 hP hD hS dX1_night_71
    · have hw977 := hw971.2 c6
      refine lv_aload_n hC.x hC.b dX1_night_29 rfl (lv_at hl 0 rfl) ?_
      refine lv_iconst (v := 3) hC.x hC.b dX1_night_30 (by decide) ?_
      refine go_i (run_V (rest := []) hC (m1_no l hw977) v1_1_no h1_no 0 0 gCl_X1 rfl rfl ⟨rfl, rfl, Nat.le_of_ble_eq_true rfl, Nat.le_of_ble_eq_true rfl⟩ ⟨Nat.le_refl _, Nat.le_refl _⟩ hP hD hS hl.1 (Nat.le_of_ble_eq_true rfl) dX1_night_31 rfl) hS (fun r13 S14 H locs hw978 hP hD hS => ?_)
      exact rt_i hC hw978 hP hD hS dX1_night_34
theorem h1_move : yX1_move.cls = RX1 ∧ yX1_move.cls ≠ "java/lang/invoke/MethodHandle" ∧ yX1_move.cls ≠ "java/lang/invoke/VarHandle" ∧ (parseMethodDescriptor yX1_move.desc).map (fun d => d.parameters.length) = some 2 := by decide +kernel
def w1_move (post : Int32 → CS → Prop) (tw : Option TD) (S : CS) (x1 : Int32) (x2 : Int32) : Prop :=
  (w1_anew (fun S2 => (w1_isPerson (fun r3 => ((r3 = 0 → (w1_no (fun r5 S6 => (post r5 S6)) S2 1)) ∧ (¬ r3 = 0 → (w1_isHouse (fun r7 => ((¬ r7 = 0 → (w4_who (fun r9 => ((r9 = (-2) → (w1_note (fun S12 => (vp_in x1 6 ∧ (∀ S14, S14 = sI S12 (300 + 4 * 0 + 1) x1.toNatClampNeg x2 → (w1_done (fun r15 S16 => (vp_in x1 6 ∧ (post (S16.1.1 (300 + 4 * 1 + 1) x1.toNatClampNeg) S16))) S14)))) S2)) ∧ (¬ r9 = (-2) → (w1_no (fun r18 S19 => (post r18 S19)) S2 5)))) tw S2 0 x2)) ∧ (r7 = 0 → (w1_no (fun r20 S21 => (post r20 S21)) S2 1)))) tw S2 x2)))) tw S2 x1)) S)
set_option maxHeartbeats 4000000 in
theorem m1_move (l : Launch) {post : Int32 → CS → Prop} {S : CS} {x1 : Int32} {x2 : Int32} (hw : w1_move post tw S x1 x2) : Met l yX1_move (ws_ yX1_move cX1_move 3 (some .int)) ({ frames := 3, cells := 0, slots := 0, locals := 143 } : Room) (va_Pc [.ref (ad 0), .int x1, .int x2] (PcG D gCl nwG Z Hb A (wC D ad sc tw S))) (va_Qi post (BW D gCl A (fun u => (wC D ad sc tw u))) A) 0 0 A := by
  refine Met.ofG (by decide) (Nat.le_of_ble_eq_true rfl) ?_
  intro p e s m below meth c ls hC _ hP hD hS hl
  have hC : CX RX1 cX1_move 3 (some .int) D gCl nwG Z Hb A p s m _ meth c := hC
  have hl : lv_has ls 3 [(0, .ref (ad 0)), (1, .int x1), (2, .int x2)] := hl
  unfold w1_move at hw
  refine lv_aload_n hC.x hC.b dX1_move_0 rfl (lv_at hl 0 rfl) ?_
  refine go_v (run_V (rest := []) hC (m1_anew l hw) v1_1_anew h1_anew 0 0 gCl_X1 rfl rfl ⟨rfl, rfl, Nat.le_of_ble_eq_true rfl, Nat.le_of_ble_eq_true rfl⟩ ⟨Nat.le_refl _, Nat.le_refl _⟩ hP hD hS hl.1 (Nat.le_of_ble_eq_true rfl) dX1_move_1 rfl) hS (fun S2 H locs hw979 hP hD hS => ?_)
  refine lv_aload_n hC.x hC.b dX1_move_4 rfl (lv_at hl 0 rfl) ?_
  refine lv_iload_n hC.x hC.b dX1_move_5 rfl (lv_at hl 1 rfl) ?_
  refine go_i (run_V (rest := []) hC (m1_isPerson l hw979) v1_1_isPerson h1_isPerson 0 0 gCl_X1 rfl rfl ⟨rfl, rfl, Nat.le_of_ble_eq_true rfl, Nat.le_of_ble_eq_true rfl⟩ ⟨Nat.le_refl _, Nat.le_refl _⟩ hP hD hS hl.1 (Nat.le_of_ble_eq_true rfl) dX1_move_6 rfl) hS (fun r3 u H locs hw980 hP hD hS => ?_)
  refine lv_if_eq (tgt := 20) hC.x hC.b dX1_move_9 (by decide) (fun c4 => ?_) (fun c4 => ?_)
  · have hw981 := hw980.1 c4
    refine lv_aload_n hC.x hC.b dX1_move_20 rfl (lv_at hl 0 rfl) ?_
    refine lv_iconst (v := 1) hC.x hC.b dX1_move_21 (by decide) ?_
    refine go_i (run_V (rest := []) hC (m1_no l hw981) v1_1_no h1_no 0 0 gCl_X1 rfl rfl ⟨rfl, rfl, Nat.le_of_ble_eq_true rfl, Nat.le_of_ble_eq_true rfl⟩ ⟨Nat.le_refl _, Nat.le_refl _⟩ hP hD hS hl.1 (Nat.le_of_ble_eq_true rfl) dX1_move_22 rfl) hS (fun r5 S6 H locs hw982 hP hD hS => ?_)
    exact rt_i hC hw982 hP hD hS dX1_move_25
  · have hw983 := hw980.2 c4
    refine lv_aload_n hC.x hC.b dX1_move_12 rfl (lv_at hl 0 rfl) ?_
    refine lv_iload_n hC.x hC.b dX1_move_13 rfl (lv_at hl 2 rfl) ?_
    refine go_i (run_V (rest := []) hC (m1_isHouse l hw983) v1_1_isHouse h1_isHouse 0 0 gCl_X1 rfl rfl ⟨rfl, rfl, Nat.le_of_ble_eq_true rfl, Nat.le_of_ble_eq_true rfl⟩ ⟨Nat.le_refl _, Nat.le_refl _⟩ hP hD hS hl.1 (Nat.le_of_ble_eq_true rfl) dX1_move_14 rfl) hS (fun r7 u H locs hw984 hP hD hS => ?_)
    refine lv_if_ne (tgt := 26) hC.x hC.b dX1_move_17 (by decide) (fun c8 => ?_) (fun c8 => ?_)
    · have hw985 := hw984.1 c8
      refine lv_aload_n hC.x hC.b dX1_move_26 rfl (lv_at hl 0 rfl) ?_
      refine gO_9 hC hP dX1_move_27 ?_
      refine lv_iload_n hC.x hC.b dX1_move_30 rfl (lv_at hl 2 rfl) ?_
      refine go_i (run_V (rest := []) hC (m4_who l (by decide) hw985) v1_4_who h4_who (17 + 4 * 0) 3 gCl_X4 (wC_so (by decide)) rfl ⟨rfl, rfl, Nat.le_of_ble_eq_true rfl, Nat.le_of_ble_eq_true rfl⟩ ⟨Nat.le_refl _, Nat.le_refl _⟩ hP hD hS hl.1 (Nat.le_of_ble_eq_true rfl) dX1_move_31 rfl) hS (fun r9 u H locs hw986 hP hD hS => ?_)
      refine lv_bipush (v := (-2)) hC.x hC.b dX1_move_34 (by decide) ?_
      refine lv_icmp_eq (tgt := 45) hC.x hC.b dX1_move_36 (by decide) (fun c10 => ?_) (fun c10 => ?_)
      · have hw987 := hw986.1 c10
        refine lv_aload_n hC.x hC.b dX1_move_45 rfl (lv_at hl 0 rfl) ?_
        refine go_v (run_V (rest := []) hC (m1_note l hw987) v1_1_note h1_note 0 0 gCl_X1 rfl rfl ⟨rfl, rfl, Nat.le_of_ble_eq_true rfl, Nat.le_of_ble_eq_true rfl⟩ ⟨Nat.le_refl _, Nat.le_refl _⟩ hP hD hS hl.1 (Nat.le_of_ble_eq_true rfl) dX1_move_46 rfl) hS (fun S12 H locs hw988 hP hD hS => ?_)
        refine lv_aload_n hC.x hC.b dX1_move_49 rfl (lv_at hl 0 rfl) ?_
        refine gO_9 hC hP dX1_move_50 ?_
        refine gX1S_0 (r := 0) (by decide) hC hP dX1_move_53 ?_
        refine lv_iload_n hC.x hC.b dX1_move_56 rfl (lv_at hl 1 rfl) ?_
        refine lv_iload_n hC.x hC.b dX1_move_57 rfl (lv_at hl 2 rfl) ?_
        obtain ⟨hin13, hw989⟩ := hw988
        refine sS_1 (r := 0) (by decide) hC hP hD hS (v := x2) hin13 rfl dX1_move_58 (fun S14 eS14 H locs hP hD hS => ?_)
        have hw990 := hw989 S14 eS14
        refine lv_aload_n hC.x hC.b dX1_move_59 rfl (lv_at hl 0 rfl) ?_
        refine go_i (run_V (rest := []) hC (m1_done l hw990) v1_1_done h1_done 0 0 gCl_X1 rfl rfl ⟨rfl, rfl, Nat.le_of_ble_eq_true rfl, Nat.le_of_ble_eq_true rfl⟩ ⟨Nat.le_refl _, Nat.le_refl _⟩ hP hD hS hl.1 (Nat.le_of_ble_eq_true rfl) dX1_move_60 rfl) hS (fun r15 S16 H locs hw991 hP hD hS => ?_)
        refine lv_pop hC.x hC.b dX1_move_63 rfl ?_
        refine lv_aload_n hC.x hC.b dX1_move_64 rfl (lv_at hl 0 rfl) ?_
        refine gO_10 hC hP dX1_move_65 ?_
        refine gX1S_0 (r := 1) (by decide) hC hP dX1_move_68 ?_
        refine lv_iload_n hC.x hC.b dX1_move_71 rfl (lv_at hl 1 rfl) ?_
        obtain ⟨hin17, hw992⟩ := hw991
        refine lS_1 (r := 1) (by decide) hC hP hin17 rfl dX1_move_72 ?_
        exact rt_i hC hw992 hP hD hS dX1_move_73
      · have hw993 := hw986.2 c10
        refine lv_aload_n hC.x hC.b dX1_move_39 rfl (lv_at hl 0 rfl) ?_
        refine lv_iconst (v := 5) hC.x hC.b dX1_move_40 (by decide) ?_
        refine go_i (run_V (rest := []) hC (m1_no l hw993) v1_1_no h1_no 0 0 gCl_X1 rfl rfl ⟨rfl, rfl, Nat.le_of_ble_eq_true rfl, Nat.le_of_ble_eq_true rfl⟩ ⟨Nat.le_refl _, Nat.le_refl _⟩ hP hD hS hl.1 (Nat.le_of_ble_eq_true rfl) dX1_move_41 rfl) hS (fun r18 S19 H locs hw994 hP hD hS => ?_)
        exact rt_i hC hw994 hP hD hS dX1_move_44
    · have hw995 := hw984.2 c8
      refine lv_aload_n hC.x hC.b dX1_move_20 rfl (lv_at hl 0 rfl) ?_
      refine lv_iconst (v := 1) hC.x hC.b dX1_move_21 (by decide) ?_
      refine go_i (run_V (rest := []) hC (m1_no l hw995) v1_1_no h1_no 0 0 gCl_X1 rfl rfl ⟨rfl, rfl, Nat.le_of_ble_eq_true rfl, Nat.le_of_ble_eq_true rfl⟩ ⟨Nat.le_refl _, Nat.le_refl _⟩ hP hD hS hl.1 (Nat.le_of_ble_eq_true rfl) dX1_move_22 rfl) hS (fun r20 S21 H locs hw996 hP hD hS => ?_)
      exact rt_i hC hw996 hP hD hS dX1_move_25
theorem h1_yes : yX1_yes.cls = RX1 ∧ yX1_yes.cls ≠ "java/lang/invoke/MethodHandle" ∧ yX1_yes.cls ≠ "java/lang/invoke/VarHandle" ∧ (parseMethodDescriptor yX1_yes.desc).map (fun d => d.parameters.length) = some 1 := by decide +kernel
def w1_yes (post : Int32 → CS → Prop) (S : CS) (x1 : Int32) : Prop :=
  (w1_anew (fun S2 => (∀ S3, S3 = sI S2 0 4 x1 → ((¬ x1 = 0 → (post 0 S3)) ∧ (x1 = 0 → (post 1 S3))))) S)
set_option maxHeartbeats 4000000 in
theorem m1_yes (l : Launch) {post : Int32 → CS → Prop} {S : CS} {x1 : Int32} (hw : w1_yes post S x1) : Met l yX1_yes (ws_ yX1_yes cX1_yes 2 (some .boolean)) ({ frames := 1, cells := 0, slots := 0, locals := 20 } : Room) (va_Pc [.ref (ad 0), .int x1] (PcG D gCl nwG Z Hb A (wC D ad sc tw S))) (va_Qi post (BW D gCl A (fun u => (wC D ad sc tw u))) A) 0 0 A := by
  refine Met.ofG (by decide) (Nat.le_of_ble_eq_true rfl) ?_
  intro p e s m below meth c ls hC _ hP hD hS hl
  have hC : CX RX1 cX1_yes 2 (some .boolean) D gCl nwG Z Hb A p s m _ meth c := hC
  have hl : lv_has ls 2 [(0, .ref (ad 0)), (1, .int x1)] := hl
  unfold w1_yes at hw
  refine lv_aload_n hC.x hC.b dX1_yes_0 rfl (lv_at hl 0 rfl) ?_
  refine go_v (run_V (rest := []) hC (m1_anew l hw) v1_1_anew h1_anew 0 0 gCl_X1 rfl rfl ⟨rfl, rfl, Nat.le_of_ble_eq_true rfl, Nat.le_of_ble_eq_true rfl⟩ ⟨Nat.le_refl _, Nat.le_refl _⟩ hP hD hS hl.1 (Nat.le_of_ble_eq_true rfl) dX1_yes_1 rfl) hS (fun S2 H locs hw997 hP hD hS => ?_)
  refine lv_aload_n hC.x hC.b dX1_yes_4 rfl (lv_at hl 0 rfl) ?_
  refine lv_iload_n hC.x hC.b dX1_yes_5 rfl (lv_at hl 1 rfl) ?_
  refine pO_4 hC hP hD hS (v := x1) dX1_yes_6 (fun S3 eS3 H locs hP hD hS => ?_)
  have hw998 := hw997 S3 eS3
  refine lv_iload_n hC.x hC.b dX1_yes_9 rfl (lv_at hl 1 rfl) ?_
  refine lv_if_ne (tgt := 17) hC.x hC.b dX1_yes_10 (by decide) (fun c4 => ?_) (fun c4 => ?_)
  · have hw999 := hw998.1 c4
    refine lv_iconst (v := 0) hC.x hC.b dX1_yes_17 (by decide) ?_
    exact rt_z hC (Or.inl rfl) hw999 hP hD hS dX1_yes_18
  · have hw1000 := hw998.2 c4
    refine lv_iconst (v := 1) hC.x hC.b dX1_yes_13 (by decide) ?_
    refine lv_goto (tgt := 18) hC.x hC.b dX1_yes_14 (by decide) ?_
    exact rt_z hC (Or.inr rfl) hw1000 hP hD hS dX1_yes_18
theorem h1_hangs : yX1_hangs.cls = RX1 ∧ yX1_hangs.cls ≠ "java/lang/invoke/MethodHandle" ∧ yX1_hangs.cls ≠ "java/lang/invoke/VarHandle" ∧ (parseMethodDescriptor yX1_hangs.desc).map (fun d => d.parameters.length) = some 2 := by decide +kernel
def w1_hangs (post : Int32 → CS → Prop) (S : CS) (x1 : Int32) (x2 : Int32) : Prop :=
  (w1_note (fun S2 => (vp_in x1 6 ∧ (∀ S4, S4 = sI S2 (300 + 4 * 0 + 2) x1.toNatClampNeg x2 → (w1_done (fun r5 S6 => ((r5 = 0 ∨ r5 = 1) ∧ post r5 S6)) S4)))) S)
set_option maxHeartbeats 4000000 in
theorem m1_hangs (l : Launch) {post : Int32 → CS → Prop} {S : CS} {x1 : Int32} {x2 : Int32} (hw : w1_hangs post S x1 x2) : Met l yX1_hangs (ws_ yX1_hangs cX1_hangs 3 (some .boolean)) ({ frames := 3, cells := 0, slots := 0, locals := 143 } : Room) (va_Pc [.ref (ad 0), .int x1, .int x2] (PcG D gCl nwG Z Hb A (wC D ad sc tw S))) (va_Qi post (BW D gCl A (fun u => (wC D ad sc tw u))) A) 0 0 A := by
  refine Met.ofG (by decide) (Nat.le_of_ble_eq_true rfl) ?_
  intro p e s m below meth c ls hC _ hP hD hS hl
  have hC : CX RX1 cX1_hangs 3 (some .boolean) D gCl nwG Z Hb A p s m _ meth c := hC
  have hl : lv_has ls 3 [(0, .ref (ad 0)), (1, .int x1), (2, .int x2)] := hl
  unfold w1_hangs at hw
  refine lv_aload_n hC.x hC.b dX1_hangs_0 rfl (lv_at hl 0 rfl) ?_
  refine go_v (run_V (rest := []) hC (m1_note l hw) v1_1_note h1_note 0 0 gCl_X1 rfl rfl ⟨rfl, rfl, Nat.le_of_ble_eq_true rfl, Nat.le_of_ble_eq_true rfl⟩ ⟨Nat.le_refl _, Nat.le_refl _⟩ hP hD hS hl.1 (Nat.le_of_ble_eq_true rfl) dX1_hangs_1 rfl) hS (fun S2 H locs hw1001 hP hD hS => ?_)
  refine lv_aload_n hC.x hC.b dX1_hangs_4 rfl (lv_at hl 0 rfl) ?_
  refine gO_9 hC hP dX1_hangs_5 ?_
  refine gX1S_1 (r := 0) (by decide) hC hP dX1_hangs_8 ?_
  refine lv_iload_n hC.x hC.b dX1_hangs_11 rfl (lv_at hl 1 rfl) ?_
  refine lv_iload_n hC.x hC.b dX1_hangs_12 rfl (lv_at hl 2 rfl) ?_
  obtain ⟨hin3, hw1002⟩ := hw1001
  refine sS_2 (r := 0) (by decide) hC hP hD hS (v := x2) hin3 rfl dX1_hangs_13 (fun S4 eS4 H locs hP hD hS => ?_)
  have hw1003 := hw1002 S4 eS4
  refine lv_aload_n hC.x hC.b dX1_hangs_14 rfl (lv_at hl 0 rfl) ?_
  refine go_i (run_V (rest := []) hC (m1_done l hw1003) v1_1_done h1_done 0 0 gCl_X1 rfl rfl ⟨rfl, rfl, Nat.le_of_ble_eq_true rfl, Nat.le_of_ble_eq_true rfl⟩ ⟨Nat.le_refl _, Nat.le_refl _⟩ hP hD hS hl.1 (Nat.le_of_ble_eq_true rfl) dX1_hangs_15 rfl) hS (fun r5 S6 H locs hw1004 hP hD hS => ?_)
  exact rt_z hC hw1004.1 hw1004.2 hP hD hS dX1_hangs_18
theorem v1_1_yes : GoodIn lw_all (wsV RX1 369 RX1 yX1_yes (ws_ yX1_yes cX1_yes 2 (some .boolean))) := lw_V q1321 q1323 qs47 q118 q1324
theorem v1_1_hangs : GoodIn lw_all (wsV RX1 372 RX1 yX1_hangs (ws_ yX1_hangs cX1_hangs 3 (some .boolean))) := lw_V q1325 q1327 qs48 q118 q1328
theorem h1_hang : yX1_hang.cls = RX1 ∧ yX1_hang.cls ≠ "java/lang/invoke/MethodHandle" ∧ yX1_hang.cls ≠ "java/lang/invoke/VarHandle" ∧ (parseMethodDescriptor yX1_hang.desc).map (fun d => d.parameters.length) = some 2 := by decide +kernel
def j1_hang_39 (post : Int32 → CS → Prop) (S : CS) (x1 : Int32) (x2 : Int32) (y1 : Int32) : Prop :=
  (w1_yes (fun r3 S4 => ((r3 = 0 → (post 0 S4)) ∧ (¬ r3 = 0 → (w1_hangs (fun r6 S7 => ((r6 = 0 → (post 0 S7)) ∧ (¬ r6 = 0 → (post 1 S7)))) S4 x1 x2)))) S y1)
set_option maxHeartbeats 4000000 in
theorem k1_hang_39 {post : Int32 → CS → Prop} {S : CS} {x1 : Int32} {x2 : Int32} {y1 : Int32} (hC : CX RX1 cX1_hang 3 (some .boolean) D gCl nwG Z Hb A p s m args meth c) (hw : j1_hang_39 post S x1 x2 y1) : ∀ (H : Heap) (locs : List Loc) (ls : Array Slot), va_P D gCl (wC D ad sc tw S) H → va_D A (wC D ad sc tw S) → va_S A s.heap H locs → lv_has ls 3 [(0, .ref (ad 0)), (1, .int x1), (2, .int x2)] → W p l e ({ frames := 4, cells := 0, slots := 0, locals := 165 } : Room) s m args below meth c H locs 0 0 (MQ below (va_Qi post (BW D gCl A (fun u => (wC D ad sc tw u))) A) args s 0 0 A) (F0 m 39 ls [.int y1, .ref (ad 0)]) := by
  intro H locs ls hP hD hS hl
  unfold j1_hang_39 at hw
  refine go_i (run_V (rest := []) hC (m1_yes l hw) v1_1_yes h1_yes 0 0 gCl_X1 rfl rfl ⟨rfl, rfl, Nat.le_of_ble_eq_true rfl, Nat.le_of_ble_eq_true rfl⟩ ⟨Nat.le_refl _, Nat.le_refl _⟩ hP hD hS hl.1 (Nat.le_of_ble_eq_true rfl) dX1_hang_39 rfl) hS (fun r3 S4 H locs hw1007 hP hD hS => ?_)
  refine lv_if_eq (tgt := 58) hC.x hC.b dX1_hang_42 (by decide) (fun c5 => ?_) (fun c5 => ?_)
  · have hw1008 := hw1007.1 c5
    refine lv_iconst (v := 0) hC.x hC.b dX1_hang_58 (by decide) ?_
    exact rt_z hC (Or.inl rfl) hw1008 hP hD hS dX1_hang_59
  · have hw1009 := hw1007.2 c5
    refine lv_aload_n hC.x hC.b dX1_hang_45 rfl (lv_at hl 0 rfl) ?_
    refine lv_iload_n hC.x hC.b dX1_hang_46 rfl (lv_at hl 1 rfl) ?_
    refine lv_iload_n hC.x hC.b dX1_hang_47 rfl (lv_at hl 2 rfl) ?_
    refine go_i (run_V (rest := []) hC (m1_hangs l hw1009) v1_1_hangs h1_hangs 0 0 gCl_X1 rfl rfl ⟨rfl, rfl, Nat.le_of_ble_eq_true rfl, Nat.le_of_ble_eq_true rfl⟩ ⟨Nat.le_refl _, Nat.le_refl _⟩ hP hD hS hl.1 (Nat.le_of_ble_eq_true rfl) dX1_hang_48 rfl) hS (fun r6 S7 H locs hw1010 hP hD hS => ?_)
    refine lv_if_eq (tgt := 58) hC.x hC.b dX1_hang_51 (by decide) (fun c8 => ?_) (fun c8 => ?_)
    · have hw1011 := hw1010.1 c8
      refine lv_iconst (v := 0) hC.x hC.b dX1_hang_58 (by decide) ?_
      exact rt_z hC (Or.inl rfl) hw1011 hP hD hS dX1_hang_59
    · have hw1012 := hw1010.2 c8
      refine lv_iconst (v := 1) hC.x hC.b dX1_hang_54 (by decide) ?_
      refine lv_goto (tgt := 59) hC.x hC.b dX1_hang_55 (by decide) ?_
      exact rt_z hC (Or.inr rfl) hw1012 hP hD hS dX1_hang_59
def j1_hang_17 (post : Int32 → CS → Prop) (S : CS) (x1 : Int32) (x2 : Int32) : Prop :=
  (j1_hang_39 post S x1 x2 1)
set_option maxHeartbeats 4000000 in
theorem k1_hang_17 {post : Int32 → CS → Prop} {S : CS} {x1 : Int32} {x2 : Int32} (hC : CX RX1 cX1_hang 3 (some .boolean) D gCl nwG Z Hb A p s m args meth c) (hw : j1_hang_17 post S x1 x2) : ∀ (H : Heap) (locs : List Loc) (ls : Array Slot), va_P D gCl (wC D ad sc tw S) H → va_D A (wC D ad sc tw S) → va_S A s.heap H locs → lv_has ls 3 [(0, .ref (ad 0)), (1, .int x1), (2, .int x2)] → W p l e ({ frames := 4, cells := 0, slots := 0, locals := 165 } : Room) s m args below meth c H locs 0 0 (MQ below (va_Qi post (BW D gCl A (fun u => (wC D ad sc tw u))) A) args s 0 0 A) (F0 m 17 ls [.ref (ad 0)]) := by
  intro H locs ls hP hD hS hl
  unfold j1_hang_17 at hw
  refine lv_iconst (v := 1) hC.x hC.b dX1_hang_17 (by decide) ?_
  refine lv_goto (tgt := 39) hC.x hC.b dX1_hang_18 (by decide) ?_
  exact k1_hang_39 hC hw H locs ls hP hD hS (lv_sub hl [0, 1, 2] rfl)
def w1_hang (post : Int32 → CS → Prop) (tw : Option TD) (S : CS) (x1 : Int32) (x2 : Int32) : Prop :=
  (w1_isDead (fun r1 => ((r1 = 0 → (j1_hang_17 post S x1 x2)) ∧ (¬ r1 = 0 → (w1_isHouse (fun r9 => ((¬ r9 = 0 → (vp_in x1 6 ∧ ((¬ (S.1.1 (300 + 4 * 0 + 2) x1.toNatClampNeg) = x2 → (j1_hang_39 post S x1 x2 0)) ∧ ((S.1.1 (300 + 4 * 0 + 2) x1.toNatClampNeg) = x2 → (j1_hang_39 post S x1 x2 5))))) ∧ (r9 = 0 → (j1_hang_17 post S x1 x2)))) tw S x2)))) tw S x1)
set_option maxHeartbeats 4000000 in
theorem m1_hang (l : Launch) {post : Int32 → CS → Prop} {S : CS} {x1 : Int32} {x2 : Int32} (hw : w1_hang post tw S x1 x2) : Met l yX1_hang (ws_ yX1_hang cX1_hang 3 (some .boolean)) ({ frames := 4, cells := 0, slots := 0, locals := 165 } : Room) (va_Pc [.ref (ad 0), .int x1, .int x2] (PcG D gCl nwG Z Hb A (wC D ad sc tw S))) (va_Qi post (BW D gCl A (fun u => (wC D ad sc tw u))) A) 0 0 A := by
  refine Met.ofG (by decide) (Nat.le_of_ble_eq_true rfl) ?_
  intro p e s m below meth c ls hC _ hP hD hS hl
  have hC : CX RX1 cX1_hang 3 (some .boolean) D gCl nwG Z Hb A p s m _ meth c := hC
  have hl : lv_has ls 3 [(0, .ref (ad 0)), (1, .int x1), (2, .int x2)] := hl
  unfold w1_hang at hw
  refine lv_aload_n hC.x hC.b dX1_hang_0 rfl (lv_at hl 0 rfl) ?_
  refine lv_aload_n hC.x hC.b dX1_hang_1 rfl (lv_at hl 0 rfl) ?_
  refine lv_iload_n hC.x hC.b dX1_hang_2 rfl (lv_at hl 1 rfl) ?_
  refine go_i (run_V (rest := [.ref (ad 0)]) hC (m1_isDead l hw) v1_1_isDead h1_isDead 0 0 gCl_X1 rfl rfl ⟨rfl, rfl, Nat.le_of_ble_eq_true rfl, Nat.le_of_ble_eq_true rfl⟩ ⟨Nat.le_refl _, Nat.le_refl _⟩ hP hD hS hl.1 (Nat.le_of_ble_eq_true rfl) dX1_hang_3 rfl) hS (fun r1 u H locs hw1005 hP hD hS => ?_)
  refine lv_if_eq (tgt := 17) hC.x hC.b dX1_hang_6 (by decide) (fun c2 => ?_) (fun c2 => ?_)
  · have hw1006 := hw1005.1 c2
    exact k1_hang_17 hC hw1006 H locs ls hP hD hS (lv_sub hl [0, 1, 2] rfl)
  · have hw1013 := hw1005.2 c2
    refine lv_aload_n hC.x hC.b dX1_hang_9 rfl (lv_at hl 0 rfl) ?_
    refine lv_iload_n hC.x hC.b dX1_hang_10 rfl (lv_at hl 2 rfl) ?_
    refine go_i (run_V (rest := [.ref (ad 0)]) hC (m1_isHouse l hw1013) v1_1_isHouse h1_isHouse 0 0 gCl_X1 rfl rfl ⟨rfl, rfl, Nat.le_of_ble_eq_true rfl, Nat.le_of_ble_eq_true rfl⟩ ⟨Nat.le_refl _, Nat.le_refl _⟩ hP hD hS hl.1 (Nat.le_of_ble_eq_true rfl) dX1_hang_11 rfl) hS (fun r9 u H locs hw1014 hP hD hS => ?_)
    refine lv_if_ne (tgt := 21) hC.x hC.b dX1_hang_14 (by decide) (fun c10 => ?_) (fun c10 => ?_)
    · have hw1015 := hw1014.1 c10
      refine lv_aload_n hC.x hC.b dX1_hang_21 rfl (lv_at hl 0 rfl) ?_
      refine gO_9 hC hP dX1_hang_22 ?_
      refine gX1S_1 (r := 0) (by decide) hC hP dX1_hang_25 ?_
      refine lv_iload_n hC.x hC.b dX1_hang_28 rfl (lv_at hl 1 rfl) ?_
      obtain ⟨hin11, hw1016⟩ := hw1015
      refine lS_2 (r := 0) (by decide) hC hP hin11 rfl dX1_hang_29 ?_
      refine lv_iload_n hC.x hC.b dX1_hang_30 rfl (lv_at hl 2 rfl) ?_
      refine lv_icmp_ne (tgt := 38) hC.x hC.b dX1_hang_31 (by decide) (fun c12 => ?_) (fun c12 => ?_)
      · have hw1017 := hw1016.1 c12
        refine lv_iconst (v := 0) hC.x hC.b dX1_hang_38 (by decide) ?_
        exact k1_hang_39 hC hw1017 H locs ls hP hD hS (lv_sub hl [0, 1, 2] rfl)
      · have hw1018 := hw1016.2 c12
        refine lv_iconst (v := 5) hC.x hC.b dX1_hang_34 (by decide) ?_
        refine lv_goto (tgt := 39) hC.x hC.b dX1_hang_35 (by decide) ?_
        exact k1_hang_39 hC hw1018 H locs ls hP hD hS (lv_sub hl [0, 1, 2] rfl)
    · have hw1019 := hw1014.2 c10
      exact k1_hang_17 hC hw1019 H locs ls hP hD hS (lv_sub hl [0, 1, 2] rfl)
theorem h1_take : yX1_take.cls = RX1 ∧ yX1_take.cls ≠ "java/lang/invoke/MethodHandle" ∧ yX1_take.cls ≠ "java/lang/invoke/VarHandle" ∧ (parseMethodDescriptor yX1_take.desc).map (fun d => d.parameters.length) = some 1 := by decide +kernel
def j1_take_32 (post : Int32 → CS → Prop) (S : CS) (x1 : Int32) (y1 : Int32) : Prop :=
  (w1_yes (fun r5 S6 => ((r5 = 0 → (post 0 S6)) ∧ (¬ r5 = 0 → (w1_hangs (fun r8 S9 => ((r8 = 0 → (post 0 S9)) ∧ (¬ r8 = 0 → (post 1 S9)))) S6 x1 (-2))))) S y1)
set_option maxHeartbeats 4000000 in
theorem k1_take_32 {post : Int32 → CS → Prop} {S : CS} {x1 : Int32} {y1 : Int32} (hC : CX RX1 cX1_take 2 (some .boolean) D gCl nwG Z Hb A p s m args meth c) (hw : j1_take_32 post S x1 y1) : ∀ (H : Heap) (locs : List Loc) (ls : Array Slot), va_P D gCl (wC D ad sc tw S) H → va_D A (wC D ad sc tw S) → va_S A s.heap H locs → lv_has ls 2 [(0, .ref (ad 0)), (1, .int x1)] → W p l e ({ frames := 4, cells := 0, slots := 0, locals := 165 } : Room) s m args below meth c H locs 0 0 (MQ below (va_Qi post (BW D gCl A (fun u => (wC D ad sc tw u))) A) args s 0 0 A) (F0 m 32 ls [.int y1, .ref (ad 0)]) := by
  intro H locs ls hP hD hS hl
  unfold j1_take_32 at hw
  refine go_i (run_V (rest := []) hC (m1_yes l hw) v1_1_yes h1_yes 0 0 gCl_X1 rfl rfl ⟨rfl, rfl, Nat.le_of_ble_eq_true rfl, Nat.le_of_ble_eq_true rfl⟩ ⟨Nat.le_refl _, Nat.le_refl _⟩ hP hD hS hl.1 (Nat.le_of_ble_eq_true rfl) dX1_take_32 rfl) hS (fun r5 S6 H locs hw1024 hP hD hS => ?_)
  refine lv_if_eq (tgt := 52) hC.x hC.b dX1_take_35 (by decide) (fun c7 => ?_) (fun c7 => ?_)
  · have hw1025 := hw1024.1 c7
    refine lv_iconst (v := 0) hC.x hC.b dX1_take_52 (by decide) ?_
    exact rt_z hC (Or.inl rfl) hw1025 hP hD hS dX1_take_53
  · have hw1026 := hw1024.2 c7
    refine lv_aload_n hC.x hC.b dX1_take_38 rfl (lv_at hl 0 rfl) ?_
    refine lv_iload_n hC.x hC.b dX1_take_39 rfl (lv_at hl 1 rfl) ?_
    refine lv_bipush (v := (-2)) hC.x hC.b dX1_take_40 (by decide) ?_
    refine go_i (run_V (rest := []) hC (m1_hangs l hw1026) v1_1_hangs h1_hangs 0 0 gCl_X1 rfl rfl ⟨rfl, rfl, Nat.le_of_ble_eq_true rfl, Nat.le_of_ble_eq_true rfl⟩ ⟨Nat.le_refl _, Nat.le_refl _⟩ hP hD hS hl.1 (Nat.le_of_ble_eq_true rfl) dX1_take_42 rfl) hS (fun r8 S9 H locs hw1027 hP hD hS => ?_)
    refine lv_if_eq (tgt := 52) hC.x hC.b dX1_take_45 (by decide) (fun c10 => ?_) (fun c10 => ?_)
    · have hw1028 := hw1027.1 c10
      refine lv_iconst (v := 0) hC.x hC.b dX1_take_52 (by decide) ?_
      exact rt_z hC (Or.inl rfl) hw1028 hP hD hS dX1_take_53
    · have hw1029 := hw1027.2 c10
      refine lv_iconst (v := 1) hC.x hC.b dX1_take_48 (by decide) ?_
      refine lv_goto (tgt := 53) hC.x hC.b dX1_take_49 (by decide) ?_
      exact rt_z hC (Or.inr rfl) hw1029 hP hD hS dX1_take_53
def w1_take (post : Int32 → CS → Prop) (tw : Option TD) (S : CS) (x1 : Int32) : Prop :=
  (w1_isDead (fun r1 => ((¬ r1 = 0 → (vp_in x1 6 ∧ ((¬ (S.1.1 (300 + 4 * 0 + 2) x1.toNatClampNeg) = (-2) → (j1_take_32 post S x1 0)) ∧ ((S.1.1 (300 + 4 * 0 + 2) x1.toNatClampNeg) = (-2) → (j1_take_32 post S x1 5))))) ∧ (r1 = 0 → (j1_take_32 post S x1 1)))) tw S x1)
set_option maxHeartbeats 4000000 in
theorem m1_take (l : Launch) {post : Int32 → CS → Prop} {S : CS} {x1 : Int32} (hw : w1_take post tw S x1) : Met l yX1_take (ws_ yX1_take cX1_take 2 (some .boolean)) ({ frames := 4, cells := 0, slots := 0, locals := 165 } : Room) (va_Pc [.ref (ad 0), .int x1] (PcG D gCl nwG Z Hb A (wC D ad sc tw S))) (va_Qi post (BW D gCl A (fun u => (wC D ad sc tw u))) A) 0 0 A := by
  refine Met.ofG (by decide) (Nat.le_of_ble_eq_true rfl) ?_
  intro p e s m below meth c ls hC _ hP hD hS hl
  have hC : CX RX1 cX1_take 2 (some .boolean) D gCl nwG Z Hb A p s m _ meth c := hC
  have hl : lv_has ls 2 [(0, .ref (ad 0)), (1, .int x1)] := hl
  unfold w1_take at hw
  refine lv_aload_n hC.x hC.b dX1_take_0 rfl (lv_at hl 0 rfl) ?_
  refine lv_aload_n hC.x hC.b dX1_take_1 rfl (lv_at hl 0 rfl) ?_
  refine lv_iload_n hC.x hC.b dX1_take_2 rfl (lv_at hl 1 rfl) ?_
  refine go_i (run_V (rest := [.ref (ad 0)]) hC (m1_isDead l hw) v1_1_isDead h1_isDead 0 0 gCl_X1 rfl rfl ⟨rfl, rfl, Nat.le_of_ble_eq_true rfl, Nat.le_of_ble_eq_true rfl⟩ ⟨Nat.le_refl _, Nat.le_refl _⟩ hP hD hS hl.1 (Nat.le_of_ble_eq_true rfl) dX1_take_3 rfl) hS (fun r1 u H locs hw1020 hP hD hS => ?_)
  refine lv_if_ne (tgt := 13) hC.x hC.b dX1_take_6 (by decide) (fun c2 => ?_) (fun c2 => ?_)
  · have hw1021 := hw1020.1 c2
    refine lv_aload_n hC.x hC.b dX1_take_13 rfl (lv_at hl 0 rfl) ?_
    refine gO_9 hC hP dX1_take_14 ?_
    refine gX1S_1 (r := 0) (by decide) hC hP dX1_take_17 ?_
    refine lv_iload_n hC.x hC.b dX1_take_20 rfl (lv_at hl 1 rfl) ?_
    obtain ⟨hin3, hw1022⟩ := hw1021
    refine lS_2 (r := 0) (by decide) hC hP hin3 rfl dX1_take_21 ?_
    refine lv_bipush (v := (-2)) hC.x hC.b dX1_take_22 (by decide) ?_
    refine lv_icmp_ne (tgt := 31) hC.x hC.b dX1_take_24 (by decide) (fun c4 => ?_) (fun c4 => ?_)
    · have hw1023 := hw1022.1 c4
      refine lv_iconst (v := 0) hC.x hC.b dX1_take_31 (by decide) ?_
      exact k1_take_32 hC hw1023 H locs ls hP hD hS (lv_sub hl [0, 1] rfl)
    · have hw1030 := hw1022.2 c4
      refine lv_iconst (v := 5) hC.x hC.b dX1_take_27 (by decide) ?_
      refine lv_goto (tgt := 32) hC.x hC.b dX1_take_28 (by decide) ?_
      exact k1_take_32 hC hw1030 H locs ls hP hD hS (lv_sub hl [0, 1] rfl)
  · have hw1031 := hw1020.2 c2
    refine lv_iconst (v := 1) hC.x hC.b dX1_take_9 (by decide) ?_
    refine lv_goto (tgt := 32) hC.x hC.b dX1_take_10 (by decide) ?_
    exact k1_take_32 hC hw1031 H locs ls hP hD hS (lv_sub hl [0, 1] rfl)
theorem h1_teach : yX1_teach.cls = RX1 ∧ yX1_teach.cls ≠ "java/lang/invoke/MethodHandle" ∧ yX1_teach.cls ≠ "java/lang/invoke/VarHandle" ∧ (parseMethodDescriptor yX1_teach.desc).map (fun d => d.parameters.length) = some 2 := by decide +kernel
def j1_teach_45 (post : Int32 → CS → Prop) (S : CS) (x1 : Int32) (x2 : Int32) (y1 : Int32) : Prop :=
  (w1_yes (fun r7 S8 => ((¬ r7 = 0 → (w1_note (fun S11 => (vp_in x1 6 ∧ (∀ S13, S13 = sI S11 (300 + 4 * 0 + 3) x1.toNatClampNeg x2 → (w1_done (fun r14 S15 => ((r14 = 0 ∨ r14 = 1) ∧ post r14 S15)) S13)))) S8)) ∧ (r7 = 0 → (post 0 S8)))) S y1)
set_option maxHeartbeats 4000000 in
theorem k1_teach_45 {post : Int32 → CS → Prop} {S : CS} {x1 : Int32} {x2 : Int32} {y1 : Int32} (hC : CX RX1 cX1_teach 3 (some .boolean) D gCl nwG Z Hb A p s m args meth c) (hw : j1_teach_45 post S x1 x2 y1) : ∀ (H : Heap) (locs : List Loc) (ls : Array Slot), va_P D gCl (wC D ad sc tw S) H → va_D A (wC D ad sc tw S) → va_S A s.heap H locs → lv_has ls 3 [(0, .ref (ad 0)), (1, .int x1), (2, .int x2)] → W p l e ({ frames := 3, cells := 0, slots := 0, locals := 143 } : Room) s m args below meth c H locs 0 0 (MQ below (va_Qi post (BW D gCl A (fun u => (wC D ad sc tw u))) A) args s 0 0 A) (F0 m 45 ls [.int y1, .ref (ad 0)]) := by
  intro H locs ls hP hD hS hl
  unfold j1_teach_45 at hw
  refine go_i (run_V (rest := []) hC (m1_yes l hw) v1_1_yes h1_yes 0 0 gCl_X1 rfl rfl ⟨rfl, rfl, Nat.le_of_ble_eq_true rfl, Nat.le_of_ble_eq_true rfl⟩ ⟨Nat.le_refl _, Nat.le_refl _⟩ hP hD hS hl.1 (Nat.le_of_ble_eq_true rfl) dX1_teach_45 rfl) hS (fun r7 S8 H locs hw1038 hP hD hS => ?_)
  refine lv_if_ne (tgt := 53) hC.x hC.b dX1_teach_48 (by decide) (fun c9 => ?_) (fun c9 => ?_)
  · have hw1039 := hw1038.1 c9
    refine lv_aload_n hC.x hC.b dX1_teach_53 rfl (lv_at hl 0 rfl) ?_
    refine go_v (run_V (rest := []) hC (m1_note l hw1039) v1_1_note h1_note 0 0 gCl_X1 rfl rfl ⟨rfl, rfl, Nat.le_of_ble_eq_true rfl, Nat.le_of_ble_eq_true rfl⟩ ⟨Nat.le_refl _, Nat.le_refl _⟩ hP hD hS hl.1 (Nat.le_of_ble_eq_true rfl) dX1_teach_54 rfl) hS (fun S11 H locs hw1040 hP hD hS => ?_)
    refine lv_aload_n hC.x hC.b dX1_teach_57 rfl (lv_at hl 0 rfl) ?_
    refine gO_9 hC hP dX1_teach_58 ?_
    refine gX1S_2 (r := 0) (by decide) hC hP dX1_teach_61 ?_
    refine lv_iload_n hC.x hC.b dX1_teach_64 rfl (lv_at hl 1 rfl) ?_
    refine lv_iload_n hC.x hC.b dX1_teach_65 rfl (lv_at hl 2 rfl) ?_
    obtain ⟨hin12, hw1041⟩ := hw1040
    refine sS_3 (r := 0) (by decide) hC hP hD hS (v := x2) hin12 rfl dX1_teach_66 (fun S13 eS13 H locs hP hD hS => ?_)
    have hw1042 := hw1041 S13 eS13
    refine lv_aload_n hC.x hC.b dX1_teach_67 rfl (lv_at hl 0 rfl) ?_
    refine go_i (run_V (rest := []) hC (m1_done l hw1042) v1_1_done h1_done 0 0 gCl_X1 rfl rfl ⟨rfl, rfl, Nat.le_of_ble_eq_true rfl, Nat.le_of_ble_eq_true rfl⟩ ⟨Nat.le_refl _, Nat.le_refl _⟩ hP hD hS hl.1 (Nat.le_of_ble_eq_true rfl) dX1_teach_68 rfl) hS (fun r14 S15 H locs hw1043 hP hD hS => ?_)
    exact rt_z hC hw1043.1 hw1043.2 hP hD hS dX1_teach_71
  · have hw1044 := hw1038.2 c9
    refine lv_iconst (v := 0) hC.x hC.b dX1_teach_51 (by decide) ?_
    exact rt_z hC (Or.inl rfl) hw1044 hP hD hS dX1_teach_52
def w1_teach (post : Int32 → CS → Prop) (tw : Option TD) (S : CS) (x1 : Int32) (x2 : Int32) : Prop :=
  (w1_isDead (fun r1 => ((¬ r1 = 0 → (w1_in (fun r3 => ((¬ r3 = 0 → (vp_in x1 6 ∧ ((¬ (S.1.1 (300 + 4 * 0 + 3) x1.toNatClampNeg) = x2 → (j1_teach_45 post S x1 x2 0)) ∧ ((S.1.1 (300 + 4 * 0 + 3) x1.toNatClampNeg) = x2 → (j1_teach_45 post S x1 x2 5))))) ∧ (r3 = 0 → (j1_teach_45 post S x1 x2 2)))) x2 0 39)) ∧ (r1 = 0 → (j1_teach_45 post S x1 x2 1)))) tw S x1)
set_option maxHeartbeats 4000000 in
theorem m1_teach (l : Launch) {post : Int32 → CS → Prop} {S : CS} {x1 : Int32} {x2 : Int32} (hw : w1_teach post tw S x1 x2) : Met l yX1_teach (ws_ yX1_teach cX1_teach 3 (some .boolean)) ({ frames := 3, cells := 0, slots := 0, locals := 143 } : Room) (va_Pc [.ref (ad 0), .int x1, .int x2] (PcG D gCl nwG Z Hb A (wC D ad sc tw S))) (va_Qi post (BW D gCl A (fun u => (wC D ad sc tw u))) A) 0 0 A := by
  refine Met.ofG (by decide) (Nat.le_of_ble_eq_true rfl) ?_
  intro p e s m below meth c ls hC _ hP hD hS hl
  have hC : CX RX1 cX1_teach 3 (some .boolean) D gCl nwG Z Hb A p s m _ meth c := hC
  have hl : lv_has ls 3 [(0, .ref (ad 0)), (1, .int x1), (2, .int x2)] := hl
  unfold w1_teach at hw
  refine lv_aload_n hC.x hC.b dX1_teach_0 rfl (lv_at hl 0 rfl) ?_
  refine lv_aload_n hC.x hC.b dX1_teach_1 rfl (lv_at hl 0 rfl) ?_
  refine lv_iload_n hC.x hC.b dX1_teach_2 rfl (lv_at hl 1 rfl) ?_
  refine go_i (run_V (rest := [.ref (ad 0)]) hC (m1_isDead l hw) v1_1_isDead h1_isDead 0 0 gCl_X1 rfl rfl ⟨rfl, rfl, Nat.le_of_ble_eq_true rfl, Nat.le_of_ble_eq_true rfl⟩ ⟨Nat.le_refl _, Nat.le_refl _⟩ hP hD hS hl.1 (Nat.le_of_ble_eq_true rfl) dX1_teach_3 rfl) hS (fun r1 u H locs hw1032 hP hD hS => ?_)
  refine lv_if_ne (tgt := 13) hC.x hC.b dX1_teach_6 (by decide) (fun c2 => ?_) (fun c2 => ?_)
  · have hw1033 := hw1032.1 c2
    refine lv_iload_n hC.x hC.b dX1_teach_13 rfl (lv_at hl 2 rfl) ?_
    refine lv_iconst (v := 0) hC.x hC.b dX1_teach_14 (by decide) ?_
    refine lv_bipush (v := 39) hC.x hC.b dX1_teach_15 (by decide) ?_
    refine go_i (run_S (rest := [.ref (ad 0)]) hC (m1_in l hw1033) v1_1_in h1_in ⟨rfl, rfl, Nat.le_of_ble_eq_true rfl, Nat.le_of_ble_eq_true rfl⟩ ⟨Nat.le_refl _, Nat.le_refl _⟩ hP hD hS hl.1 (Nat.le_of_ble_eq_true rfl) dX1_teach_17 rfl) hS (fun r3 u H locs hw1034 hP hD hS => ?_)
    refine lv_if_ne (tgt := 27) hC.x hC.b dX1_teach_20 (by decide) (fun c4 => ?_) (fun c4 => ?_)
    · have hw1035 := hw1034.1 c4
      refine lv_aload_n hC.x hC.b dX1_teach_27 rfl (lv_at hl 0 rfl) ?_
      refine gO_9 hC hP dX1_teach_28 ?_
      refine gX1S_2 (r := 0) (by decide) hC hP dX1_teach_31 ?_
      refine lv_iload_n hC.x hC.b dX1_teach_34 rfl (lv_at hl 1 rfl) ?_
      obtain ⟨hin5, hw1036⟩ := hw1035
      refine lS_3 (r := 0) (by decide) hC hP hin5 rfl dX1_teach_35 ?_
      refine lv_iload_n hC.x hC.b dX1_teach_36 rfl (lv_at hl 2 rfl) ?_
      refine lv_icmp_ne (tgt := 44) hC.x hC.b dX1_teach_37 (by decide) (fun c6 => ?_) (fun c6 => ?_)
      · have hw1037 := hw1036.1 c6
        refine lv_iconst (v := 0) hC.x hC.b dX1_teach_44 (by decide) ?_
        exact k1_teach_45 hC hw1037 H locs ls hP hD hS (lv_sub hl [0, 1, 2] rfl)
      · have hw1045 := hw1036.2 c6
        refine lv_iconst (v := 5) hC.x hC.b dX1_teach_40 (by decide) ?_
        refine lv_goto (tgt := 45) hC.x hC.b dX1_teach_41 (by decide) ?_
        exact k1_teach_45 hC hw1045 H locs ls hP hD hS (lv_sub hl [0, 1, 2] rfl)
    · have hw1046 := hw1034.2 c4
      refine lv_iconst (v := 2) hC.x hC.b dX1_teach_23 (by decide) ?_
      refine lv_goto (tgt := 45) hC.x hC.b dX1_teach_24 (by decide) ?_
      exact k1_teach_45 hC hw1046 H locs ls hP hD hS (lv_sub hl [0, 1, 2] rfl)
  · have hw1047 := hw1032.2 c2
    refine lv_iconst (v := 1) hC.x hC.b dX1_teach_9 (by decide) ?_
    refine lv_goto (tgt := 45) hC.x hC.b dX1_teach_10 (by decide) ?_
    exact k1_teach_45 hC hw1047 H locs ls hP hD hS (lv_sub hl [0, 1, 2] rfl)
theorem h1_undo : yX1_undo.cls = RX1 ∧ yX1_undo.cls ≠ "java/lang/invoke/MethodHandle" ∧ yX1_undo.cls ≠ "java/lang/invoke/VarHandle" ∧ (parseMethodDescriptor yX1_undo.desc).map (fun d => d.parameters.length) = some 0 := by decide +kernel
def j1_undo_14 (post : Int32 → CS → Prop) (S : CS) (y1 : Int32) : Prop :=
  (w1_yes (fun r2 S3 => ((¬ r2 = 0 → (∀ S5, S5 = sI S3 0 8 ((S3.1.1 0 8) - 1) → (vp_in (S5.1.1 0 8) 16 ∧ ((S5.2.2 (S5.1.1 0 8).toNatClampNeg) < 22 ∧ (w4_become (fun S9 => (post 1 S9)) S5 0 (S5.2.2 (S5.1.1 0 8).toNatClampNeg)))))) ∧ (r2 = 0 → (post 0 S3)))) S y1)
set_option maxHeartbeats 4000000 in
theorem k1_undo_14 {post : Int32 → CS → Prop} {S : CS} {y1 : Int32} (hC : CX RX1 cX1_undo 1 (some .boolean) D gCl nwG Z Hb A p s m args meth c) (hw : j1_undo_14 post S y1) : ∀ (H : Heap) (locs : List Loc) (ls : Array Slot), va_P D gCl (wC D ad sc tw S) H → va_D A (wC D ad sc tw S) → va_S A s.heap H locs → lv_has ls 1 [(0, .ref (ad 0))] → W p l e ({ frames := 2, cells := 0, slots := 0, locals := 121 } : Room) s m args below meth c H locs 0 0 (MQ below (va_Qi post (BW D gCl A (fun u => (wC D ad sc tw u))) A) args s 0 0 A) (F0 m 14 ls [.int y1, .ref (ad 0)]) := by
  intro H locs ls hP hD hS hl
  unfold j1_undo_14 at hw
  refine go_i (run_V (rest := []) hC (m1_yes l hw) v1_1_yes h1_yes 0 0 gCl_X1 rfl rfl ⟨rfl, rfl, Nat.le_of_ble_eq_true rfl, Nat.le_of_ble_eq_true rfl⟩ ⟨Nat.le_refl _, Nat.le_refl _⟩ hP hD hS hl.1 (Nat.le_of_ble_eq_true rfl) dX1_undo_14 rfl) hS (fun r2 S3 H locs hw1049 hP hD hS => ?_)
  refine lv_if_ne (tgt := 22) hC.x hC.b dX1_undo_17 (by decide) (fun c4 => ?_) (fun c4 => ?_)
  · have hw1050 := hw1049.1 c4
    refine lv_aload_n hC.x hC.b dX1_undo_22 rfl (lv_at hl 0 rfl) ?_
    refine lv_dup hC.x hC.b dX1_undo_23 rfl ?_
    refine gO_8 hC hP dX1_undo_24 ?_
    refine lv_iconst (v := 1) hC.x hC.b dX1_undo_27 (by decide) ?_
    refine lv_isub hC.x hC.b dX1_undo_28 ?_
    refine pO_8 hC hP hD hS (v := ((S3.1.1 0 8) - 1)) dX1_undo_29 (fun S5 eS5 H locs hP hD hS => ?_)
    have hw1051 := hw1050 S5 eS5
    refine lv_aload_n hC.x hC.b dX1_undo_32 rfl (lv_at hl 0 rfl) ?_
    refine gO_9 hC hP dX1_undo_33 ?_
    refine lv_aload_n hC.x hC.b dX1_undo_36 rfl (lv_at hl 0 rfl) ?_
    refine gO_13 hC hP dX1_undo_37 ?_
    refine lv_aload_n hC.x hC.b dX1_undo_40 rfl (lv_at hl 0 rfl) ?_
    refine gO_8 hC hP dX1_undo_41 ?_
    obtain ⟨hin6, hw1052⟩ := hw1051
    obtain ⟨hg7, hw1053⟩ := hw1052
    refine lUn hC hP hin6 rfl dX1_undo_44 ?_
    refine go_r (run_V (rest := []) hC (m4_become l (by decide) hg7 hw1053) v1_4_become h4_become (17 + 4 * 0) 3 gCl_X4 (wC_so (by decide)) rfl ⟨rfl, rfl, Nat.le_of_ble_eq_true rfl, Nat.le_of_ble_eq_true rfl⟩ ⟨Nat.le_refl _, Nat.le_refl _⟩ hP hD hS hl.1 (Nat.le_of_ble_eq_true rfl) dX1_undo_45 rfl) hS (fun S9 H locs hw1054 hP hD hS => ?_)
    refine lv_pop hC.x hC.b dX1_undo_48 rfl ?_
    refine lv_iconst (v := 1) hC.x hC.b dX1_undo_49 (by decide) ?_
    exact rt_z hC (Or.inr rfl) hw1054 hP hD hS dX1_undo_50
  · have hw1055 := hw1049.2 c4
    refine lv_iconst (v := 0) hC.x hC.b dX1_undo_20 (by decide) ?_
    exact rt_z hC (Or.inl rfl) hw1055 hP hD hS dX1_undo_21
def w1_undo (post : Int32 → CS → Prop) (S : CS) : Prop :=
  ((¬ (S.1.1 0 8) = 0 → (j1_undo_14 post S 0)) ∧ ((S.1.1 0 8) = 0 → (j1_undo_14 post S 6)))
set_option maxHeartbeats 4000000 in
theorem m1_undo (l : Launch) {post : Int32 → CS → Prop} {S : CS} (hw : w1_undo post S) : Met l yX1_undo (ws_ yX1_undo cX1_undo 1 (some .boolean)) ({ frames := 2, cells := 0, slots := 0, locals := 121 } : Room) (va_Pc [.ref (ad 0)] (PcG D gCl nwG Z Hb A (wC D ad sc tw S))) (va_Qi post (BW D gCl A (fun u => (wC D ad sc tw u))) A) 0 0 A := by
  refine Met.ofG (by decide) (Nat.le_of_ble_eq_true rfl) ?_
  intro p e s m below meth c ls hC _ hP hD hS hl
  have hC : CX RX1 cX1_undo 1 (some .boolean) D gCl nwG Z Hb A p s m _ meth c := hC
  have hl : lv_has ls 1 [(0, .ref (ad 0))] := hl
  unfold w1_undo at hw
  refine lv_aload_n hC.x hC.b dX1_undo_0 rfl (lv_at hl 0 rfl) ?_
  refine lv_aload_n hC.x hC.b dX1_undo_1 rfl (lv_at hl 0 rfl) ?_
  refine gO_8 hC hP dX1_undo_2 ?_
  refine lv_if_ne (tgt := 13) hC.x hC.b dX1_undo_5 (by decide) (fun c1 => ?_) (fun c1 => ?_)
  · have hw1048 := hw.1 c1
    refine lv_iconst (v := 0) hC.x hC.b dX1_undo_13 (by decide) ?_
    exact k1_undo_14 hC hw1048 s.heap [] ls hP hD hS (lv_sub hl [0] rfl)
  · have hw1056 := hw.2 c1
    refine lv_bipush (v := 6) hC.x hC.b dX1_undo_8 (by decide) ?_
    refine lv_goto (tgt := 14) hC.x hC.b dX1_undo_10 (by decide) ?_
    exact k1_undo_14 hC hw1056 s.heap [] ls hP hD hS (lv_sub hl [0] rfl)
theorem h1_image : yX1_image.cls = RX1 ∧ yX1_image.cls ≠ "java/lang/invoke/MethodHandle" ∧ yX1_image.cls ≠ "java/lang/invoke/VarHandle" ∧ (parseMethodDescriptor yX1_image.desc).map (fun d => d.parameters.length) = some 0 := by decide +kernel
def w1_image (post : Int32 → CS → Prop) (tw : Option TD) (S : CS) : Prop :=
  (w1_anew (fun S2 => ((tw = none → (w1_no (fun r4 S5 => (post r4 S5)) S2 1)) ∧ ((∃ τ, tw = some τ) → ((¬ (S2.1.1 0 7) = 3 → (vp_in (S2.1.1 0 7) 3 ∧ ((19 + (S2.1.1 0 7).toNatClampNeg) < 22 ∧ (w4_become (fun S10 => (∀ S11, S11 = sI S10 0 7 ((S10.1.1 0 7) + 1) → (post ((S11.1.1 0 7) - 1) S11))) S2 (19 + (S2.1.1 0 7).toNatClampNeg) 0)))) ∧ ((S2.1.1 0 7) = 3 → (w1_no (fun r12 S13 => (post r12 S13)) S2 3)))))) S)
set_option maxHeartbeats 4000000 in
theorem m1_image (l : Launch) {post : Int32 → CS → Prop} {S : CS} (hw : w1_image post tw S) : Met l yX1_image (ws_ yX1_image cX1_image 1 (some .int)) ({ frames := 2, cells := 0, slots := 0, locals := 121 } : Room) (va_Pc [.ref (ad 0)] (PcG D gCl nwG Z Hb A (wC D ad sc tw S))) (va_Qi post (BW D gCl A (fun u => (wC D ad sc tw u))) A) 0 0 A := by
  refine Met.ofG (by decide) (Nat.le_of_ble_eq_true rfl) ?_
  intro p e s m below meth c ls hC _ hP hD hS hl
  have hC : CX RX1 cX1_image 1 (some .int) D gCl nwG Z Hb A p s m _ meth c := hC
  have hl : lv_has ls 1 [(0, .ref (ad 0))] := hl
  unfold w1_image at hw
  refine lv_aload_n hC.x hC.b dX1_image_0 rfl (lv_at hl 0 rfl) ?_
  refine go_v (run_V (rest := []) hC (m1_anew l hw) v1_1_anew h1_anew 0 0 gCl_X1 rfl rfl ⟨rfl, rfl, Nat.le_of_ble_eq_true rfl, Nat.le_of_ble_eq_true rfl⟩ ⟨Nat.le_refl _, Nat.le_refl _⟩ hP hD hS hl.1 (Nat.le_of_ble_eq_true rfl) dX1_image_1 rfl) hS (fun S2 H locs hw1057 hP hD hS => ?_)
  refine lv_aload_n hC.x hC.b dX1_image_4 rfl (lv_at hl 0 rfl) ?_
  refine gO_3 hC hP dX1_image_5 ?_
  rcases va_o2 tw with c3 | ⟨τ, c3⟩
  · have hw1058 := hw1057.1 c3
    subst c3
    refine lv_ifnonnullN hC.x hC.b dX1_image_8 ?_
    refine lv_aload_n hC.x hC.b dX1_image_11 rfl (lv_at hl 0 rfl) ?_
    refine lv_iconst (v := 1) hC.x hC.b dX1_image_12 (by decide) ?_
    refine go_i (run_V (rest := []) hC (m1_no l hw1058) v1_1_no h1_no 0 0 gCl_X1 rfl rfl ⟨rfl, rfl, Nat.le_of_ble_eq_true rfl, Nat.le_of_ble_eq_true rfl⟩ ⟨Nat.le_refl _, Nat.le_refl _⟩ hP hD hS hl.1 (Nat.le_of_ble_eq_true rfl) dX1_image_13 rfl) hS (fun r4 S5 H locs hw1059 hP hD hS => ?_)
    exact rt_i hC hw1059 hP hD hS dX1_image_16
  · have hw1060 := hw1057.2 ⟨τ, c3⟩
    subst c3
    refine lv_ifnonnull (tgt := 17) hC.x hC.b dX1_image_8 (by decide) ?_
    refine lv_aload_n hC.x hC.b dX1_image_17 rfl (lv_at hl 0 rfl) ?_
    refine gO_7 hC hP dX1_image_18 ?_
    refine lv_iconst (v := 3) hC.x hC.b dX1_image_21 (by decide) ?_
    refine lv_icmp_ne (tgt := 31) hC.x hC.b dX1_image_22 (by decide) (fun c6 => ?_) (fun c6 => ?_)
    · have hw1061 := hw1060.1 c6
      refine lv_aload_n hC.x hC.b dX1_image_31 rfl (lv_at hl 0 rfl) ?_
      refine gO_14 hC hP dX1_image_32 ?_
      refine lv_aload_n hC.x hC.b dX1_image_35 rfl (lv_at hl 0 rfl) ?_
      refine gO_7 hC hP dX1_image_36 ?_
      obtain ⟨hin7, hw1062⟩ := hw1061
      obtain ⟨hg8, hw1063⟩ := hw1062
      refine lIm hC hP hin7 rfl dX1_image_39 ?_
      refine lv_aload_n hC.x hC.b dX1_image_40 rfl (lv_at hl 0 rfl) ?_
      refine gO_9 hC hP dX1_image_41 ?_
      refine go_r (run_V (rest := []) hC (m4_become l hg8 (by decide) hw1063) v1_4_become h4_become (17 + 4 * (19 + (S2.1.1 0 7).toNatClampNeg)) 3 gCl_X4 (wC_so hg8) rfl ⟨rfl, rfl, Nat.le_of_ble_eq_true rfl, Nat.le_of_ble_eq_true rfl⟩ ⟨Nat.le_refl _, Nat.le_refl _⟩ hP hD hS hl.1 (Nat.le_of_ble_eq_true rfl) dX1_image_44 rfl) hS (fun S10 H locs hw1064 hP hD hS => ?_)
      refine lv_pop hC.x hC.b dX1_image_47 rfl ?_
      refine lv_aload_n hC.x hC.b dX1_image_48 rfl (lv_at hl 0 rfl) ?_
      refine lv_dup hC.x hC.b dX1_image_49 rfl ?_
      refine gO_7 hC hP dX1_image_50 ?_
      refine lv_iconst (v := 1) hC.x hC.b dX1_image_53 (by decide) ?_
      refine lv_iadd hC.x hC.b dX1_image_54 ?_
      refine pO_7 hC hP hD hS (v := ((S10.1.1 0 7) + 1)) dX1_image_55 (fun S11 eS11 H locs hP hD hS => ?_)
      have hw1065 := hw1064 S11 eS11
      refine lv_aload_n hC.x hC.b dX1_image_58 rfl (lv_at hl 0 rfl) ?_
      refine gO_7 hC hP dX1_image_59 ?_
      refine lv_iconst (v := 1) hC.x hC.b dX1_image_62 (by decide) ?_
      refine lv_isub hC.x hC.b dX1_image_63 ?_
      exact rt_i hC hw1065 hP hD hS dX1_image_64
    · have hw1066 := hw1060.2 c6
      refine lv_aload_n hC.x hC.b dX1_image_25 rfl (lv_at hl 0 rfl) ?_
      refine lv_iconst (v := 3) hC.x hC.b dX1_image_26 (by decide) ?_
      refine go_i (run_V (rest := []) hC (m1_no l hw1066) v1_1_no h1_no 0 0 gCl_X1 rfl rfl ⟨rfl, rfl, Nat.le_of_ble_eq_true rfl, Nat.le_of_ble_eq_true rfl⟩ ⟨Nat.le_refl _, Nat.le_refl _⟩ hP hD hS hl.1 (Nat.le_of_ble_eq_true rfl) dX1_image_27 rfl) hS (fun r12 S13 H locs hw1067 hP hD hS => ?_)
      exact rt_i hC hw1067 hP hD hS dX1_image_30
theorem h1_back : yX1_back.cls = RX1 ∧ yX1_back.cls ≠ "java/lang/invoke/MethodHandle" ∧ yX1_back.cls ≠ "java/lang/invoke/VarHandle" ∧ (parseMethodDescriptor yX1_back.desc).map (fun d => d.parameters.length) = some 1 := by decide +kernel
def j1_back_20 (post : Int32 → CS → Prop) (S : CS) (x1 : Int32) (y1 : Int32) : Prop :=
  (w1_yes (fun r3 S4 => ((¬ r3 = 0 → (vp_in x1 3 ∧ ((19 + x1.toNatClampNeg) < 22 ∧ (w4_become (fun S9 => (∀ S10, S10 = sI S9 0 8 0 → (post 1 S10))) S4 0 (19 + x1.toNatClampNeg))))) ∧ (r3 = 0 → (post 0 S4)))) S y1)
set_option maxHeartbeats 4000000 in
theorem k1_back_20 {post : Int32 → CS → Prop} {S : CS} {x1 : Int32} {y1 : Int32} (hC : CX RX1 cX1_back 2 (some .boolean) D gCl nwG Z Hb A p s m args meth c) (hw : j1_back_20 post S x1 y1) : ∀ (H : Heap) (locs : List Loc) (ls : Array Slot), va_P D gCl (wC D ad sc tw S) H → va_D A (wC D ad sc tw S) → va_S A s.heap H locs → lv_has ls 2 [(0, .ref (ad 0)), (1, .int x1)] → W p l e ({ frames := 2, cells := 0, slots := 0, locals := 121 } : Room) s m args below meth c H locs 0 0 (MQ below (va_Qi post (BW D gCl A (fun u => (wC D ad sc tw u))) A) args s 0 0 A) (F0 m 20 ls [.int y1, .ref (ad 0)]) := by
  intro H locs ls hP hD hS hl
  unfold j1_back_20 at hw
  refine go_i (run_V (rest := []) hC (m1_yes l hw) v1_1_yes h1_yes 0 0 gCl_X1 rfl rfl ⟨rfl, rfl, Nat.le_of_ble_eq_true rfl, Nat.le_of_ble_eq_true rfl⟩ ⟨Nat.le_refl _, Nat.le_refl _⟩ hP hD hS hl.1 (Nat.le_of_ble_eq_true rfl) dX1_back_20 rfl) hS (fun r3 S4 H locs hw1070 hP hD hS => ?_)
  refine lv_if_ne (tgt := 28) hC.x hC.b dX1_back_23 (by decide) (fun c5 => ?_) (fun c5 => ?_)
  · have hw1071 := hw1070.1 c5
    refine lv_aload_n hC.x hC.b dX1_back_28 rfl (lv_at hl 0 rfl) ?_
    refine gO_9 hC hP dX1_back_29 ?_
    refine lv_aload_n hC.x hC.b dX1_back_32 rfl (lv_at hl 0 rfl) ?_
    refine gO_14 hC hP dX1_back_33 ?_
    refine lv_iload_n hC.x hC.b dX1_back_36 rfl (lv_at hl 1 rfl) ?_
    obtain ⟨hin6, hw1072⟩ := hw1071
    obtain ⟨hg7, hw1073⟩ := hw1072
    refine lIm hC hP hin6 rfl dX1_back_37 ?_
    refine go_r (run_V (rest := []) hC (m4_become l (by decide) hg7 hw1073) v1_4_become h4_become (17 + 4 * 0) 3 gCl_X4 (wC_so (by decide)) rfl ⟨rfl, rfl, Nat.le_of_ble_eq_true rfl, Nat.le_of_ble_eq_true rfl⟩ ⟨Nat.le_refl _, Nat.le_refl _⟩ hP hD hS hl.1 (Nat.le_of_ble_eq_true rfl) dX1_back_38 rfl) hS (fun S9 H locs hw1074 hP hD hS => ?_)
    refine lv_pop hC.x hC.b dX1_back_41 rfl ?_
    refine lv_aload_n hC.x hC.b dX1_back_42 rfl (lv_at hl 0 rfl) ?_
    refine lv_iconst (v := 0) hC.x hC.b dX1_back_43 (by decide) ?_
    refine pO_8 hC hP hD hS (v := 0) dX1_back_44 (fun S10 eS10 H locs hP hD hS => ?_)
    have hw1075 := hw1074 S10 eS10
    refine lv_iconst (v := 1) hC.x hC.b dX1_back_47 (by decide) ?_
    exact rt_z hC (Or.inr rfl) hw1075 hP hD hS dX1_back_48
  · have hw1076 := hw1070.2 c5
    refine lv_iconst (v := 0) hC.x hC.b dX1_back_26 (by decide) ?_
    exact rt_z hC (Or.inl rfl) hw1076 hP hD hS dX1_back_27
def w1_back (post : Int32 → CS → Prop) (S : CS) (x1 : Int32) : Prop :=
  (w1_in (fun r1 => ((r1 = 0 → (j1_back_20 post S x1 1)) ∧ (¬ r1 = 0 → (j1_back_20 post S x1 0)))) x1 0 ((S.1.1 0 7) - 1))
set_option maxHeartbeats 4000000 in
theorem m1_back (l : Launch) {post : Int32 → CS → Prop} {S : CS} {x1 : Int32} (hw : w1_back post S x1) : Met l yX1_back (ws_ yX1_back cX1_back 2 (some .boolean)) ({ frames := 2, cells := 0, slots := 0, locals := 121 } : Room) (va_Pc [.ref (ad 0), .int x1] (PcG D gCl nwG Z Hb A (wC D ad sc tw S))) (va_Qi post (BW D gCl A (fun u => (wC D ad sc tw u))) A) 0 0 A := by
  refine Met.ofG (by decide) (Nat.le_of_ble_eq_true rfl) ?_
  intro p e s m below meth c ls hC _ hP hD hS hl
  have hC : CX RX1 cX1_back 2 (some .boolean) D gCl nwG Z Hb A p s m _ meth c := hC
  have hl : lv_has ls 2 [(0, .ref (ad 0)), (1, .int x1)] := hl
  unfold w1_back at hw
  refine lv_aload_n hC.x hC.b dX1_back_0 rfl (lv_at hl 0 rfl) ?_
  refine lv_iload_n hC.x hC.b dX1_back_1 rfl (lv_at hl 1 rfl) ?_
  refine lv_iconst (v := 0) hC.x hC.b dX1_back_2 (by decide) ?_
  refine lv_aload_n hC.x hC.b dX1_back_3 rfl (lv_at hl 0 rfl) ?_
  refine gO_7 hC hP dX1_back_4 ?_
  refine lv_iconst (v := 1) hC.x hC.b dX1_back_7 (by decide) ?_
  refine lv_isub hC.x hC.b dX1_back_8 ?_
  refine go_i (run_S (rest := [.ref (ad 0)]) hC (m1_in l hw) v1_1_in h1_in ⟨rfl, rfl, Nat.le_of_ble_eq_true rfl, Nat.le_of_ble_eq_true rfl⟩ ⟨Nat.le_refl _, Nat.le_refl _⟩ hP hD hS hl.1 (Nat.le_of_ble_eq_true rfl) dX1_back_9 rfl) hS (fun r1 u H locs hw1068 hP hD hS => ?_)
  refine lv_if_eq (tgt := 19) hC.x hC.b dX1_back_12 (by decide) (fun c2 => ?_) (fun c2 => ?_)
  · have hw1069 := hw1068.1 c2
    refine lv_iconst (v := 1) hC.x hC.b dX1_back_19 (by decide) ?_
    exact k1_back_20 hC hw1069 H locs ls hP hD hS (lv_sub hl [0, 1] rfl)
  · have hw1077 := hw1068.2 c2
    refine lv_iconst (v := 0) hC.x hC.b dX1_back_15 (by decide) ?_
    refine lv_goto (tgt := 20) hC.x hC.b dX1_back_16 (by decide) ?_
    exact k1_back_20 hC hw1077 H locs ls hP hD hS (lv_sub hl [0, 1] rfl)
theorem h4_hung : yX4_hung.cls = RX4 ∧ yX4_hung.cls ≠ "java/lang/invoke/MethodHandle" ∧ yX4_hung.cls ≠ "java/lang/invoke/VarHandle" ∧ (parseMethodDescriptor yX4_hung.desc).map (fun d => d.parameters.length) = some 0 := by decide +kernel
def f4_hung_4 (post : Int32 → Prop) (tw : Option TD) (S : CS) (x0 : Nat) (K4 : (Int32 × Int32) → Prop) (x1 : Int32) (x2 : Int32) : Prop :=
  ((stT tw S x0) ∧ (((S.1.1 50 9) ≤ x2 → (post x1)) ∧ (¬ (S.1.1 50 9) ≤ x2 → (vp_in x2 6 ∧ ((¬ (S.1.1 (300 + 4 * x0 + 2) x2.toNatClampNeg) = (-2) → (K4 ((x1 + 1), (x2 + 1)))) ∧ ((S.1.1 (300 + 4 * x0 + 2) x2.toNatClampNeg) = (-2) → (K4 ((x1 + 0), (x2 + 1)))))))))
set_option maxHeartbeats 4000000 in
theorem k4_hung_4 {post : Int32 → Prop} {S : CS} {x0 : Nat} (hC : CX RX4 cX4_hung 3 (some .int) D gCl nwG Z Hb A p s m args meth c) (h_x0 : x0 < 22) : ∀ z : (Int32 × Int32), lp (fun (K : (Int32 × Int32) → Prop) (z : (Int32 × Int32)) => f4_hung_4 post tw S x0 K z.1 z.2) z → ∀ (H : Heap) (locs : List Loc) (ls : Array Slot), va_P D gCl (wC D ad sc tw S) H → va_D A (wC D ad sc tw S) → va_S A s.heap H locs → lv_has ls 3 [(0, .ref (ad (20 + 4 * x0))), (1, .int z.1), (2, .int z.2)] → W p l e ({ frames := 0, cells := 0, slots := 0, locals := 0 } : Room) s m args below meth c H locs 0 0 (MQ below (va_Qi (fun r (_ : Unit) => post r) (BW D gCl A (fun _ => (wC D ad sc tw S))) A) args s 0 0 A) (F0 m 4 ls []) := by
  refine lp_ind ?_
  rintro K4 ⟨x1, x2⟩ hK4 hw H locs ls hP hD hS hl
  have hw : f4_hung_4 post tw S x0 K4 x1 x2 := hw
  unfold f4_hung_4 at hw
  have hP : va_P D gCl (wC D ad sc tw S) H := hP
  have hD : va_D A (wC D ad sc tw S) := hD
  have hl : lv_has ls 3 [(0, .ref (ad (20 + 4 * x0))), (1, .int x1), (2, .int x2)] := hl
  refine lv_iload_n hC.x hC.b dX4_hung_4 rfl (lv_at hl 2 rfl) ?_
  refine lv_aload_n hC.x hC.b dX4_hung_5 rfl (lv_at hl 0 rfl) ?_
  refine gX4S_3 (r := x0) h_x0 hC hP dX4_hung_6 ?_
  obtain ⟨⟨τ, et1, hth2⟩, hw1078⟩ := hw
  subst et1
  refine st_ref hth2 ?_
  refine gX4T_9 hC hP dX4_hung_9 ?_
  refine lv_icmp_ge (tgt := 40) hC.x hC.b dX4_hung_12 (by decide) (fun c3 => ?_) (fun c3 => ?_)
  · have hw1079 := hw1078.1 c3
    refine lv_iload_n hC.x hC.b dX4_hung_40 rfl (lv_at hl 1 rfl) ?_
    exact rt_i (u := ()) hC hw1079 hP hD hS dX4_hung_41
  · have hw1080 := hw1078.2 c3
    refine lv_iload_n hC.x hC.b dX4_hung_15 rfl (lv_at hl 1 rfl) ?_
    refine lv_aload_n hC.x hC.b dX4_hung_16 rfl (lv_at hl 0 rfl) ?_
    refine gX4S_1 (r := x0) h_x0 hC hP dX4_hung_17 ?_
    refine lv_iload_n hC.x hC.b dX4_hung_20 rfl (lv_at hl 2 rfl) ?_
    obtain ⟨hin4, hw1081⟩ := hw1080
    refine lS_2 (r := x0) h_x0 hC hP hin4 rfl dX4_hung_21 ?_
    refine lv_bipush (v := (-2)) hC.x hC.b dX4_hung_22 (by decide) ?_
    refine lv_icmp_ne (tgt := 31) hC.x hC.b dX4_hung_24 (by decide) (fun c5 => ?_) (fun c5 => ?_)
    · have hw1082 := hw1081.1 c5
      refine lv_iconst (v := 1) hC.x hC.b dX4_hung_31 (by decide) ?_
      refine lv_iadd hC.x hC.b dX4_hung_32 ?_
      refine lv_istore_n (lv' := [(1, .int (x1 + 1)), (0, .ref (ad (20 + 4 * x0))), (2, .int x2)]) hC.x hC.b dX4_hung_33 rfl hl (by decide) rfl (fun ls hl => ?_)
      refine lv_iinc (v := (x2 + 1)) (lv' := [(2, .int (x2 + 1)), (1, .int (x1 + 1)), (0, .ref (ad (20 + 4 * x0)))]) hC.x hC.b dX4_hung_34 hl (k := 2) rfl rfl (by decide) rfl (fun ls hl => ?_)
      refine lv_goto (tgt := 4) hC.x hC.b dX4_hung_37 (by decide) ?_
      exact hK4 ((x1 + 1), (x2 + 1)) hw1082 H locs ls hP hD hS (lv_sub hl [2, 1, 0] rfl)
    · have hw1083 := hw1081.2 c5
      refine lv_iconst (v := 0) hC.x hC.b dX4_hung_27 (by decide) ?_
      refine lv_goto (tgt := 32) hC.x hC.b dX4_hung_28 (by decide) ?_
      refine lv_iadd hC.x hC.b dX4_hung_32 ?_
      refine lv_istore_n (lv' := [(1, .int (x1 + 0)), (0, .ref (ad (20 + 4 * x0))), (2, .int x2)]) hC.x hC.b dX4_hung_33 rfl hl (by decide) rfl (fun ls hl => ?_)
      refine lv_iinc (v := (x2 + 1)) (lv' := [(2, .int (x2 + 1)), (1, .int (x1 + 0)), (0, .ref (ad (20 + 4 * x0)))]) hC.x hC.b dX4_hung_34 hl (k := 2) rfl rfl (by decide) rfl (fun ls hl => ?_)
      refine lv_goto (tgt := 4) hC.x hC.b dX4_hung_37 (by decide) ?_
      exact hK4 ((x1 + 0), (x2 + 1)) hw1083 H locs ls hP hD hS (lv_sub hl [2, 1, 0] rfl)
def w4_hung (post : Int32 → Prop) (tw : Option TD) (S : CS) (x0 : Nat) : Prop :=
  (lp (fun (K : (Int32 × Int32) → Prop) (z : (Int32 × Int32)) => f4_hung_4 post tw S x0 K z.1 z.2) (0, 0))
set_option maxHeartbeats 4000000 in
theorem m4_hung (l : Launch) {post : Int32 → Prop} {S : CS} {x0 : Nat} (h_x0 : x0 < 22) (hw : w4_hung post tw S x0) : Met l yX4_hung (ws_ yX4_hung cX4_hung 3 (some .int)) ({ frames := 0, cells := 0, slots := 0, locals := 0 } : Room) (va_Pc [.ref (ad (20 + 4 * x0))] (PcG D gCl nwG Z Hb A (wC D ad sc tw S))) (va_Qi (fun r (_ : Unit) => post r) (BW D gCl A (fun _ => (wC D ad sc tw S))) A) 0 0 A := by
  refine Met.ofG (by decide) (Nat.le_of_ble_eq_true rfl) ?_
  intro p e s m below meth c ls hC _ hP hD hS hl
  have hC : CX RX4 cX4_hung 3 (some .int) D gCl nwG Z Hb A p s m _ meth c := hC
  have hl : lv_has ls 3 [(0, .ref (ad (20 + 4 * x0)))] := hl
  unfold w4_hung at hw
  refine lv_iconst (v := 0) hC.x hC.b dX4_hung_0 (by decide) ?_
  refine lv_istore_n (lv' := [(1, .int 0), (0, .ref (ad (20 + 4 * x0)))]) hC.x hC.b dX4_hung_1 rfl hl (by decide) rfl (fun ls hl => ?_)
  refine lv_iconst (v := 0) hC.x hC.b dX4_hung_2 (by decide) ?_
  refine lv_istore_n (lv' := [(2, .int 0), (1, .int 0), (0, .ref (ad (20 + 4 * x0)))]) hC.x hC.b dX4_hung_3 rfl hl (by decide) rfl (fun ls hl => ?_)
  exact k4_hung_4 hC h_x0 (0, 0) hw s.heap [] ls hP hD hS (lv_sub hl [2, 1, 0] rfl)
theorem v1_4_hung : GoodIn lw_all (wsV RX1 378 RX4 yX4_hung (ws_ yX4_hung cX4_hung 3 (some .int))) := lw_V q1353 q1354 q1355 q124 q1356
theorem h1_size : yX1_size.cls = RX1 ∧ yX1_size.cls ≠ "java/lang/invoke/MethodHandle" ∧ yX1_size.cls ≠ "java/lang/invoke/VarHandle" ∧ (parseMethodDescriptor yX1_size.desc).map (fun d => d.parameters.length) = some 1 := by decide +kernel
def w1_size (post : Int32 → Prop) (tw : Option TD) (S : CS) (x1 : Int32) : Prop :=
  ((¬ x1 = 10 → ((tw = none → (w1_in (fun r3 => ((r3 = 0 → (post (-1))) ∧ (¬ r3 = 0 → (post 0)))) x1 0 9)) ∧ ((∃ τ, tw = some τ) → ((x1 = 0 → (post (S.1.1 50 6))) ∧ (¬ x1 = 0 → ((x1 = 1 → (post (S.1.1 50 7))) ∧ (¬ x1 = 1 → ((x1 = 2 → (post (S.1.1 50 8))) ∧ (¬ x1 = 2 → ((x1 = 3 → (post (S.1.1 50 9))) ∧ (¬ x1 = 3 → ((x1 = 4 → (w4_hung (fun r10 => (post r10)) tw S 0)) ∧ (¬ x1 = 4 → ((x1 = 5 → (post (S.1.1 50 10))) ∧ (¬ x1 = 5 → ((x1 = 6 → (post (S.1.1 50 11))) ∧ (¬ x1 = 6 → ((x1 = 7 → (post (S.1.1 (300 + 4 * 0) 4))) ∧ (¬ x1 = 7 → ((x1 = 8 → (post (S.1.1 0 8))) ∧ (¬ x1 = 8 → ((x1 = 9 → (post (S.1.1 0 7))) ∧ (¬ x1 = 9 → (post (-1))))))))))))))))))))))))) ∧ (x1 = 10 → (post (S.1.1 0 1))))
set_option maxHeartbeats 4000000 in
theorem m1_size (l : Launch) {post : Int32 → Prop} {S : CS} {x1 : Int32} (hw : w1_size post tw S x1) : Met l yX1_size (ws_ yX1_size cX1_size 2 (some .int)) ({ frames := 1, cells := 0, slots := 0, locals := 22 } : Room) (va_Pc [.ref (ad 0), .int x1] (PcG D gCl nwG Z Hb A (wC D ad sc tw S))) (va_Qi (fun r (_ : Unit) => post r) (BW D gCl A (fun _ => (wC D ad sc tw S))) A) 0 0 A := by
  refine Met.ofG (by decide) (Nat.le_of_ble_eq_true rfl) ?_
  intro p e s m below meth c ls hC _ hP hD hS hl
  have hC : CX RX1 cX1_size 2 (some .int) D gCl nwG Z Hb A p s m _ meth c := hC
  have hl : lv_has ls 2 [(0, .ref (ad 0)), (1, .int x1)] := hl
  unfold w1_size at hw
  refine lv_iload_n hC.x hC.b dX1_size_0 rfl (lv_at hl 1 rfl) ?_
  refine lv_bipush (v := 10) hC.x hC.b dX1_size_1 (by decide) ?_
  refine lv_icmp_ne (tgt := 11) hC.x hC.b dX1_size_3 (by decide) (fun c1 => ?_) (fun c1 => ?_)
  · have hw1084 := hw.1 c1
    refine lv_aload_n hC.x hC.b dX1_size_11 rfl (lv_at hl 0 rfl) ?_
    refine gO_3 hC hP dX1_size_12 ?_
    rcases va_o2 tw with c2 | ⟨τ, c2⟩
    · have hw1085 := hw1084.1 c2
      subst c2
      refine lv_ifnonnullN hC.x hC.b dX1_size_15 ?_
      refine lv_iload_n hC.x hC.b dX1_size_18 rfl (lv_at hl 1 rfl) ?_
      refine lv_iconst (v := 0) hC.x hC.b dX1_size_19 (by decide) ?_
      refine lv_bipush (v := 9) hC.x hC.b dX1_size_20 (by decide) ?_
      refine go_i (run_S (rest := []) hC (m1_in l hw1085) v1_1_in h1_in ⟨rfl, rfl, Nat.le_of_ble_eq_true rfl, Nat.le_of_ble_eq_true rfl⟩ ⟨Nat.le_refl _, Nat.le_refl _⟩ hP hD hS hl.1 (Nat.le_of_ble_eq_true rfl) dX1_size_22 rfl) hS (fun r3 u H locs hw1086 hP hD hS => ?_)
      refine lv_if_eq (tgt := 32) hC.x hC.b dX1_size_25 (by decide) (fun c4 => ?_) (fun c4 => ?_)
      · have hw1087 := hw1086.1 c4
        refine lv_iconst (v := (-1)) hC.x hC.b dX1_size_32 (by decide) ?_
        exact rt_i (u := ()) hC hw1087 hP hD hS dX1_size_33
      · have hw1088 := hw1086.2 c4
        refine lv_iconst (v := 0) hC.x hC.b dX1_size_28 (by decide) ?_
        refine lv_goto (tgt := 33) hC.x hC.b dX1_size_29 (by decide) ?_
        exact rt_i (u := ()) hC hw1088 hP hD hS dX1_size_33
    · have hw1089 := hw1084.2 ⟨τ, c2⟩
      subst c2
      refine lv_ifnonnull (tgt := 34) hC.x hC.b dX1_size_15 (by decide) ?_
      refine lv_iload_n hC.x hC.b dX1_size_34 rfl (lv_at hl 1 rfl) ?_
      by_cases c5 : x1 = 0
      · have hw1090 := hw1089.1 c5
        refine lv_tableIn (off := 53) (tgt := 88) hC.x hC.b dX1_size_35 (by rw [c5]; decide) (by rw [c5]; decide) (by rw [c5]; rfl) (by decide) ?_
        refine lv_aload_n hC.x hC.b dX1_size_88 rfl (lv_at hl 0 rfl) ?_
        refine gO_3 hC hP dX1_size_89 ?_
        refine gX1T_6 hC hP dX1_size_92 ?_
        exact rt_i (u := ()) hC hw1090 hP hD hS dX1_size_95
      · have hw1091 := hw1089.2 c5
        by_cases c6 : x1 = 1
        · have hw1092 := hw1091.1 c6
          refine lv_tableIn (off := 61) (tgt := 96) hC.x hC.b dX1_size_35 (by rw [c6]; decide) (by rw [c6]; decide) (by rw [c6]; rfl) (by decide) ?_
          refine lv_aload_n hC.x hC.b dX1_size_96 rfl (lv_at hl 0 rfl) ?_
          refine gO_3 hC hP dX1_size_97 ?_
          refine gX1T_7 hC hP dX1_size_100 ?_
          exact rt_i (u := ()) hC hw1092 hP hD hS dX1_size_103
        · have hw1093 := hw1091.2 c6
          by_cases c7 : x1 = 2
          · have hw1094 := hw1093.1 c7
            refine lv_tableIn (off := 69) (tgt := 104) hC.x hC.b dX1_size_35 (by rw [c7]; decide) (by rw [c7]; decide) (by rw [c7]; rfl) (by decide) ?_
            refine lv_aload_n hC.x hC.b dX1_size_104 rfl (lv_at hl 0 rfl) ?_
            refine gO_3 hC hP dX1_size_105 ?_
            refine gX1T_8 hC hP dX1_size_108 ?_
            exact rt_i (u := ()) hC hw1094 hP hD hS dX1_size_111
          · have hw1095 := hw1093.2 c7
            by_cases c8 : x1 = 3
            · have hw1096 := hw1095.1 c8
              refine lv_tableIn (off := 77) (tgt := 112) hC.x hC.b dX1_size_35 (by rw [c8]; decide) (by rw [c8]; decide) (by rw [c8]; rfl) (by decide) ?_
              refine lv_aload_n hC.x hC.b dX1_size_112 rfl (lv_at hl 0 rfl) ?_
              refine gO_3 hC hP dX1_size_113 ?_
              refine gX1T_9 hC hP dX1_size_116 ?_
              exact rt_i (u := ()) hC hw1096 hP hD hS dX1_size_119
            · have hw1097 := hw1095.2 c8
              by_cases c9 : x1 = 4
              · have hw1098 := hw1097.1 c9
                refine lv_tableIn (off := 85) (tgt := 120) hC.x hC.b dX1_size_35 (by rw [c9]; decide) (by rw [c9]; decide) (by rw [c9]; rfl) (by decide) ?_
                refine lv_aload_n hC.x hC.b dX1_size_120 rfl (lv_at hl 0 rfl) ?_
                refine gO_9 hC hP dX1_size_121 ?_
                refine go_i (run_V (rest := []) hC (m4_hung l (by decide) hw1098) v1_4_hung h4_hung (17 + 4 * 0) 3 gCl_X4 (wC_so (by decide)) rfl ⟨rfl, rfl, Nat.le_of_ble_eq_true rfl, Nat.le_of_ble_eq_true rfl⟩ ⟨Nat.le_refl _, Nat.le_refl _⟩ hP hD hS hl.1 (Nat.le_of_ble_eq_true rfl) dX1_size_124 rfl) hS (fun r10 u H locs hw1099 hP hD hS => ?_)
                exact rt_i (u := ()) hC hw1099 hP hD hS dX1_size_127
              · have hw1100 := hw1097.2 c9
                by_cases c11 : x1 = 5
                · have hw1101 := hw1100.1 c11
                  refine lv_tableIn (off := 93) (tgt := 128) hC.x hC.b dX1_size_35 (by rw [c11]; decide) (by rw [c11]; decide) (by rw [c11]; rfl) (by decide) ?_
                  refine lv_aload_n hC.x hC.b dX1_size_128 rfl (lv_at hl 0 rfl) ?_
                  refine gO_3 hC hP dX1_size_129 ?_
                  refine gX1T_10 hC hP dX1_size_132 ?_
                  exact rt_i (u := ()) hC hw1101 hP hD hS dX1_size_135
                · have hw1102 := hw1100.2 c11
                  by_cases c12 : x1 = 6
                  · have hw1103 := hw1102.1 c12
                    refine lv_tableIn (off := 101) (tgt := 136) hC.x hC.b dX1_size_35 (by rw [c12]; decide) (by rw [c12]; decide) (by rw [c12]; rfl) (by decide) ?_
                    refine lv_aload_n hC.x hC.b dX1_size_136 rfl (lv_at hl 0 rfl) ?_
                    refine gO_3 hC hP dX1_size_137 ?_
                    refine gX1T_11 hC hP dX1_size_140 ?_
                    exact rt_i (u := ()) hC hw1103 hP hD hS dX1_size_143
                  · have hw1104 := hw1102.2 c12
                    by_cases c13 : x1 = 7
                    · have hw1105 := hw1104.1 c13
                      refine lv_tableIn (off := 109) (tgt := 144) hC.x hC.b dX1_size_35 (by rw [c13]; decide) (by rw [c13]; decide) (by rw [c13]; rfl) (by decide) ?_
                      refine lv_aload_n hC.x hC.b dX1_size_144 rfl (lv_at hl 0 rfl) ?_
                      refine gO_9 hC hP dX1_size_145 ?_
                      refine gX1S_4 (r := 0) (by decide) hC hP dX1_size_148 ?_
                      exact rt_i (u := ()) hC hw1105 hP hD hS dX1_size_151
                    · have hw1106 := hw1104.2 c13
                      by_cases c14 : x1 = 8
                      · have hw1107 := hw1106.1 c14
                        refine lv_tableIn (off := 117) (tgt := 152) hC.x hC.b dX1_size_35 (by rw [c14]; decide) (by rw [c14]; decide) (by rw [c14]; rfl) (by decide) ?_
                        refine lv_aload_n hC.x hC.b dX1_size_152 rfl (lv_at hl 0 rfl) ?_
                        refine gO_8 hC hP dX1_size_153 ?_
                        exact rt_i (u := ()) hC hw1107 hP hD hS dX1_size_156
                      · have hw1108 := hw1106.2 c14
                        by_cases c15 : x1 = 9
                        · have hw1109 := hw1108.1 c15
                          refine lv_tableIn (off := 122) (tgt := 157) hC.x hC.b dX1_size_35 (by rw [c15]; decide) (by rw [c15]; decide) (by rw [c15]; rfl) (by decide) ?_
                          refine lv_aload_n hC.x hC.b dX1_size_157 rfl (lv_at hl 0 rfl) ?_
                          refine gO_7 hC hP dX1_size_158 ?_
                          exact rt_i (u := ()) hC hw1109 hP hD hS dX1_size_161
                        · have hw1110 := hw1108.2 c15
                          refine lv_tableOut (tgt := 162) hC.x hC.b dX1_size_35 (by have q0 := lv_neT c5 (a := 0) rfl; have q1 := lv_neT c6 (a := 1) rfl; have q2 := lv_neT c7 (a := 2) rfl; have q3 := lv_neT c8 (a := 3) rfl; have q4 := lv_neT c9 (a := 4) rfl; have q5 := lv_neT c11 (a := 5) rfl; have q6 := lv_neT c12 (a := 6) rfl; have q7 := lv_neT c13 (a := 7) rfl; have q8 := lv_neT c14 (a := 8) rfl; have q9 := lv_neT c15 (a := 9) rfl;  omega) (by decide) ?_
                          refine lv_iconst (v := (-1)) hC.x hC.b dX1_size_162 (by decide) ?_
                          exact rt_i (u := ()) hC hw1110 hP hD hS dX1_size_163
  · have hw1111 := hw.2 c1
    refine lv_aload_n hC.x hC.b dX1_size_6 rfl (lv_at hl 0 rfl) ?_
    refine gO_1 hC hP dX1_size_7 ?_
    exact rt_i (u := ()) hC hw1111 hP hD hS dX1_size_10
theorem h1_trouble : yX1_trouble.cls = RX1 ∧ yX1_trouble.cls ≠ "java/lang/invoke/MethodHandle" ∧ yX1_trouble.cls ≠ "java/lang/invoke/VarHandle" ∧ (parseMethodDescriptor yX1_trouble.desc).map (fun d => d.parameters.length) = some 0 := by decide +kernel
def w1_trouble (post : Int32 → Prop) (S : CS) : Prop :=
  (post (S.1.1 0 4))
set_option maxHeartbeats 4000000 in
theorem m1_trouble (l : Launch) {post : Int32 → Prop} {S : CS} (hw : w1_trouble post S) : Met l yX1_trouble (ws_ yX1_trouble cX1_trouble 1 (some .int)) ({ frames := 0, cells := 0, slots := 0, locals := 0 } : Room) (va_Pc [.ref (ad 0)] (PcG D gCl nwG Z Hb A (wC D ad sc tw S))) (va_Qi (fun r (_ : Unit) => post r) (BW D gCl A (fun _ => (wC D ad sc tw S))) A) 0 0 A := by
  refine Met.ofG (by decide) (Nat.le_of_ble_eq_true rfl) ?_
  intro p e s m below meth c ls hC _ hP hD hS hl
  have hC : CX RX1 cX1_trouble 1 (some .int) D gCl nwG Z Hb A p s m _ meth c := hC
  have hl : lv_has ls 1 [(0, .ref (ad 0))] := hl
  unfold w1_trouble at hw
  refine lv_aload_n hC.x hC.b dX1_trouble_0 rfl (lv_at hl 0 rfl) ?_
  refine gO_4 hC hP dX1_trouble_1 ?_
  exact rt_i (u := ()) hC hw hP hD hS dX1_trouble_4
end CWc4
