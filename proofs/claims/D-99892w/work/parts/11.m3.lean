set_option maxRecDepth 100000
section MWm2
variable {p : Program} {l : Launch} {w0 : va_W} {e : Env} {s : State} {m : MethodId} {args : Array Value} {below : List Frame} {meth : Method} {c : Code} {D : va_G} {Z : State → Prop} {Hb : Heap} {A : Nat → Prop} {ad : Nat → Nat} {rd tw : Option (Nat → Nat)} {rdv : Option Nat} {t rt : Nat → Nat}
theorem h6_restless : yX6_restless.cls = RX6 ∧ yX6_restless.cls ≠ "java/lang/invoke/MethodHandle" ∧ yX6_restless.cls ≠ "java/lang/invoke/VarHandle" ∧ (parseMethodDescriptor yX6_restless.desc).map (fun d => d.parameters.length) = some 1 := by decide +kernel
def f6_restless_53 (tw : Option (Nat → Nat)) (K38 : (MS × Int32 × Int32) → Prop) (x1 : Int32) (x4 : Int32) (K53 : (MS × Int32 × Int32) → Prop) (S : MS) (x3 : Int32) (x5 : Int32) : Prop :=
  ((x4 ≤ x5 → (K38 (S, x3, (x4 + 1)))) ∧ (¬ x4 ≤ x5 → (w6_isLiked (fun r9 S10 => ((r9 = 0 → (K53 (S10, (x3 + 0), (x5 + 1)))) ∧ (¬ r9 = 0 → (K53 (S10, (x3 + 1), (x5 + 1)))))) tw S x4 x5 x1)))
set_option maxHeartbeats 4000000 in
theorem k6_restless_53 {post : Int32 → MS → Prop} {x1 : Int32} {x4 : Int32} {K38 : (MS × Int32 × Int32) → Prop} (hC : CX RX6 cX6_restless 6 (some .int) D gCl nwG Z Hb A p s m args meth c) (hK38 : ∀ z : (MS × Int32 × Int32), K38 z → ∀ (H : Heap) (locs : List Loc) (ls : Array Slot), va_P D gCl (wM D ad none rdv (some t) z.1) H → va_D A (wM D ad none rdv (some t) z.1) → va_S A s.heap H locs → lv_has ls 6 [(0, .ref (ad 0)), (1, .int x1), (3, .int z.2.1), (4, .int z.2.2)] → W p l e ({ frames := 6, cells := 0, slots := 0, locals := 143 } : Room) s m args below meth c H locs 0 0 (MQ below (va_Qi post (BW D gCl A (fun u => (wM D ad none rdv (some t) u))) A) args s 0 0 A) (F0 m 38 ls [])) : ∀ z : (MS × Int32 × Int32), lp (fun (K : (MS × Int32 × Int32) → Prop) (z : (MS × Int32 × Int32)) => f6_restless_53 (some t) K38 x1 x4 K z.1 z.2.1 z.2.2) z → ∀ (H : Heap) (locs : List Loc) (ls : Array Slot), va_P D gCl (wM D ad none rdv (some t) z.1) H → va_D A (wM D ad none rdv (some t) z.1) → va_S A s.heap H locs → lv_has ls 6 [(0, .ref (ad 0)), (1, .int x1), (3, .int z.2.1), (4, .int x4), (5, .int z.2.2)] → W p l e ({ frames := 6, cells := 0, slots := 0, locals := 143 } : Room) s m args below meth c H locs 0 0 (MQ below (va_Qi post (BW D gCl A (fun u => (wM D ad none rdv (some t) u))) A) args s 0 0 A) (F0 m 53 ls []) := by
  refine lp_ind ?_
  rintro K53 ⟨S, x3, x5⟩ hK53 hw H locs ls hP hD hS hl
  have hw : f6_restless_53 (some t) K38 x1 x4 K53 S x3 x5 := hw
  unfold f6_restless_53 at hw
  have hP : va_P D gCl (wM D ad none rdv (some t) S) H := hP
  have hD : va_D A (wM D ad none rdv (some t) S) := hD
  have hl : lv_has ls 6 [(0, .ref (ad 0)), (1, .int x1), (3, .int x3), (4, .int x4), (5, .int x5)] := hl
  refine lv_iload hC.x hC.b dX6_restless_53 (lv_at hl 4 rfl) ?_
  refine lv_iload hC.x hC.b dX6_restless_55 (lv_at hl 3 rfl) ?_
  refine lv_icmp_ge (tgt := 86) hC.x hC.b dX6_restless_57 (by decide) (fun c8 => ?_) (fun c8 => ?_)
  · have hw705 := hw.1 c8
    refine lv_iinc (v := (x4 + 1)) (lv' := [(4, .int (x4 + 1)), (0, .ref (ad 0)), (1, .int x1), (3, .int x3), (5, .int x5)]) hC.x hC.b dX6_restless_86 hl (k := 3) rfl rfl (by decide) rfl (fun ls hl => ?_)
    refine lv_goto (tgt := 38) hC.x hC.b dX6_restless_89 (by decide) ?_
    exact hK38 (S, x3, (x4 + 1)) hw705 H locs ls hP hD hS (lv_sub hl [1, 2, 3, 0] rfl)
  · have hw706 := hw.2 c8
    refine lv_iload_n hC.x hC.b dX6_restless_60 rfl (lv_at hl 2 rfl) ?_
    refine lv_aload_n hC.x hC.b dX6_restless_61 rfl (lv_at hl 0 rfl) ?_
    refine lv_iload hC.x hC.b dX6_restless_62 (lv_at hl 3 rfl) ?_
    refine lv_iload hC.x hC.b dX6_restless_64 (lv_at hl 4 rfl) ?_
    refine lv_iload_n hC.x hC.b dX6_restless_66 rfl (lv_at hl 1 rfl) ?_
    refine go_i (run_V (rest := [.int x3]) hC (m6_isLiked l hw706) v6_6_isLiked h6_isLiked 0 5 gCl_X6 rfl rfl ⟨rfl, rfl, Nat.le_of_ble_eq_true rfl, Nat.le_of_ble_eq_true rfl⟩ ⟨Nat.le_refl _, Nat.le_refl _⟩ hP hD hS hl.1 (Nat.le_of_ble_eq_true rfl) dX6_restless_67 rfl) hS (fun r9 S10 H locs hw707 hP hD hS => ?_)
    refine lv_if_eq (tgt := 77) hC.x hC.b dX6_restless_70 (by decide) (fun c11 => ?_) (fun c11 => ?_)
    · have hw708 := hw707.1 c11
      refine lv_iconst (v := 0) hC.x hC.b dX6_restless_77 (by decide) ?_
      refine lv_iadd hC.x hC.b dX6_restless_78 ?_
      refine lv_istore_n (lv' := [(3, .int (x3 + 0)), (0, .ref (ad 0)), (1, .int x1), (4, .int x4), (5, .int x5)]) hC.x hC.b dX6_restless_79 rfl hl (by decide) rfl (fun ls hl => ?_)
      refine lv_iinc (v := (x5 + 1)) (lv' := [(5, .int (x5 + 1)), (3, .int (x3 + 0)), (0, .ref (ad 0)), (1, .int x1), (4, .int x4)]) hC.x hC.b dX6_restless_80 hl (k := 4) rfl rfl (by decide) rfl (fun ls hl => ?_)
      refine lv_goto (tgt := 53) hC.x hC.b dX6_restless_83 (by decide) ?_
      exact hK53 (S10, (x3 + 0), (x5 + 1)) hw708 H locs ls hP hD hS (lv_sub hl [2, 3, 1, 4, 0] rfl)
    · have hw709 := hw707.2 c11
      refine lv_iconst (v := 1) hC.x hC.b dX6_restless_73 (by decide) ?_
      refine lv_goto (tgt := 78) hC.x hC.b dX6_restless_74 (by decide) ?_
      refine lv_iadd hC.x hC.b dX6_restless_78 ?_
      refine lv_istore_n (lv' := [(3, .int (x3 + 1)), (0, .ref (ad 0)), (1, .int x1), (4, .int x4), (5, .int x5)]) hC.x hC.b dX6_restless_79 rfl hl (by decide) rfl (fun ls hl => ?_)
      refine lv_iinc (v := (x5 + 1)) (lv' := [(5, .int (x5 + 1)), (3, .int (x3 + 1)), (0, .ref (ad 0)), (1, .int x1), (4, .int x4)]) hC.x hC.b dX6_restless_80 hl (k := 4) rfl rfl (by decide) rfl (fun ls hl => ?_)
      refine lv_goto (tgt := 53) hC.x hC.b dX6_restless_83 (by decide) ?_
      exact hK53 (S10, (x3 + 1), (x5 + 1)) hw709 H locs ls hP hD hS (lv_sub hl [2, 3, 1, 4, 0] rfl)
def f6_restless_38 (post : Int32 → MS → Prop) (tw : Option (Nat → Nat)) (x1 : Int32) (K38 : (MS × Int32 × Int32) → Prop) (S : MS) (x3 : Int32) (x4 : Int32) : Prop :=
  ((∃ t, tw = some t) ∧ (((S.1 20 2) ≤ x4 → (w6_good (fun r6 S7 => (post r6 S7)) S x3)) ∧ (¬ (S.1 20 2) ≤ x4 → (lp (fun (K : (MS × Int32 × Int32) → Prop) (z : (MS × Int32 × Int32)) => f6_restless_53 tw K38 x1 x4 K z.1 z.2.1 z.2.2) (S, x3, 0)))))
set_option maxHeartbeats 4000000 in
theorem k6_restless_38 {post : Int32 → MS → Prop} {x1 : Int32} (hC : CX RX6 cX6_restless 6 (some .int) D gCl nwG Z Hb A p s m args meth c) : ∀ z : (MS × Int32 × Int32), lp (fun (K : (MS × Int32 × Int32) → Prop) (z : (MS × Int32 × Int32)) => f6_restless_38 post tw x1 K z.1 z.2.1 z.2.2) z → ∀ (H : Heap) (locs : List Loc) (ls : Array Slot), va_P D gCl (wM D ad none rdv tw z.1) H → va_D A (wM D ad none rdv tw z.1) → va_S A s.heap H locs → lv_has ls 6 [(0, .ref (ad 0)), (1, .int x1), (3, .int z.2.1), (4, .int z.2.2)] → W p l e ({ frames := 6, cells := 0, slots := 0, locals := 143 } : Room) s m args below meth c H locs 0 0 (MQ below (va_Qi post (BW D gCl A (fun u => (wM D ad none rdv tw u))) A) args s 0 0 A) (F0 m 38 ls []) := by
  refine lp_ind ?_
  rintro K38 ⟨S, x3, x4⟩ hK38 hw H locs ls hP hD hS hl
  have hw : f6_restless_38 post tw x1 K38 S x3 x4 := hw
  unfold f6_restless_38 at hw
  have hP : va_P D gCl (wM D ad none rdv tw S) H := hP
  have hD : va_D A (wM D ad none rdv tw S) := hD
  have hl : lv_has ls 6 [(0, .ref (ad 0)), (1, .int x1), (3, .int x3), (4, .int x4)] := hl
  refine lv_iload hC.x hC.b dX6_restless_38 (lv_at hl 3 rfl) ?_
  refine lv_aload_n hC.x hC.b dX6_restless_40 rfl (lv_at hl 0 rfl) ?_
  refine gM_3 hC hP dX6_restless_41 ?_
  obtain ⟨⟨t, rfl⟩, hw701⟩ := hw
  refine gT_2 hC hP dX6_restless_44 ?_
  refine lv_icmp_ge (tgt := 92) hC.x hC.b dX6_restless_47 (by decide) (fun c5 => ?_) (fun c5 => ?_)
  · have hw702 := hw701.1 c5
    refine lv_aload_n hC.x hC.b dX6_restless_92 rfl (lv_at hl 0 rfl) ?_
    refine lv_iload_n hC.x hC.b dX6_restless_93 rfl (lv_at hl 2 rfl) ?_
    refine go_i (run_V (rest := []) hC (m6_good l hw702) v6_6_good h6_good 0 5 gCl_X6 rfl rfl ⟨rfl, rfl, Nat.le_of_ble_eq_true rfl, Nat.le_of_ble_eq_true rfl⟩ ⟨Nat.le_refl _, Nat.le_refl _⟩ hP hD hS hl.1 (Nat.le_of_ble_eq_true rfl) dX6_restless_94 rfl) hS (fun r6 S7 H locs hw703 hP hD hS => ?_)
    exact rt_i hC hw703 hP hD hS dX6_restless_97
  · have hw704 := hw701.2 c5
    refine lv_iconst (v := 0) hC.x hC.b dX6_restless_50 (by decide) ?_
    refine lv_istore (lv' := [(5, .int 0), (0, .ref (ad 0)), (1, .int x1), (3, .int x3), (4, .int x4)]) hC.x hC.b dX6_restless_51 hl (by decide) rfl (fun ls hl => ?_)
    exact k6_restless_53 hC hK38 (S, x3, 0) hw704 H locs ls hP hD hS (lv_sub hl [1, 2, 3, 4, 0] rfl)
def j6_restless_18 (post : Int32 → MS → Prop) (tw : Option (Nat → Nat)) (S : MS) (x1 : Int32) (y1 : Int32) : Prop :=
  (w6_refusesNight (fun r3 => ((r3 ≤ 0 → (lp (fun (K : (MS × Int32 × Int32) → Prop) (z : (MS × Int32 × Int32)) => f6_restless_38 post tw x1 K z.1 z.2.1 z.2.2) (S, 0, 0))) ∧ (¬ r3 ≤ 0 → (w6_refused (fun r12 S13 => (post r12 S13)) S r3)))) S y1 x1)
set_option maxHeartbeats 4000000 in
theorem k6_restless_18 {post : Int32 → MS → Prop} {S : MS} {x1 : Int32} {y1 : Int32} (hC : CX RX6 cX6_restless 6 (some .int) D gCl nwG Z Hb A p s m args meth c) (hw : j6_restless_18 post tw S x1 y1) : ∀ (H : Heap) (locs : List Loc) (ls : Array Slot), va_P D gCl (wM D ad none rdv tw S) H → va_D A (wM D ad none rdv tw S) → va_S A s.heap H locs → lv_has ls 6 [(0, .ref (ad 0)), (1, .int x1)] → W p l e ({ frames := 6, cells := 0, slots := 0, locals := 143 } : Room) s m args below meth c H locs 0 0 (MQ below (va_Qi post (BW D gCl A (fun u => (wM D ad none rdv tw u))) A) args s 0 0 A) (F0 m 18 ls [.int y1, .ref (ad 0)]) := by
  intro H locs ls hP hD hS hl
  unfold j6_restless_18 at hw
  refine lv_iload_n hC.x hC.b dX6_restless_18 rfl (lv_at hl 1 rfl) ?_
  refine go_i (run_V (rest := []) hC (m6_refusesNight l hw) v6_6_refusesNight h6_refusesNight 0 5 gCl_X6 rfl rfl ⟨rfl, rfl, Nat.le_of_ble_eq_true rfl, Nat.le_of_ble_eq_true rfl⟩ ⟨Nat.le_refl _, Nat.le_refl _⟩ hP hD hS hl.1 (Nat.le_of_ble_eq_true rfl) dX6_restless_19 rfl) hS (fun r3 u H locs hw699 hP hD hS => ?_)
  refine lv_istore_n (lv' := [(2, .int r3), (0, .ref (ad 0)), (1, .int x1)]) hC.x hC.b dX6_restless_22 rfl hl (by decide) rfl (fun ls hl => ?_)
  refine lv_iload_n hC.x hC.b dX6_restless_23 rfl (lv_at hl 0 rfl) ?_
  refine lv_if_le (tgt := 33) hC.x hC.b dX6_restless_24 (by decide) (fun c4 => ?_) (fun c4 => ?_)
  · have hw700 := hw699.1 c4
    refine lv_iconst (v := 0) hC.x hC.b dX6_restless_33 (by decide) ?_
    refine lv_istore_n (lv' := [(3, .int 0), (2, .int r3), (0, .ref (ad 0)), (1, .int x1)]) hC.x hC.b dX6_restless_34 rfl hl (by decide) rfl (fun ls hl => ?_)
    refine lv_iconst (v := 0) hC.x hC.b dX6_restless_35 (by decide) ?_
    refine lv_istore (lv' := [(4, .int 0), (3, .int 0), (2, .int r3), (0, .ref (ad 0)), (1, .int x1)]) hC.x hC.b dX6_restless_36 hl (by decide) rfl (fun ls hl => ?_)
    exact k6_restless_38 hC (S, 0, 0) hw700 H locs ls hP hD hS (lv_sub hl [3, 4, 1, 0] rfl)
  · have hw710 := hw699.2 c4
    refine lv_aload_n hC.x hC.b dX6_restless_27 rfl (lv_at hl 1 rfl) ?_
    refine lv_iload_n hC.x hC.b dX6_restless_28 rfl (lv_at hl 0 rfl) ?_
    refine go_i (run_V (rest := []) hC (m6_refused l hw710) v6_6_refused h6_refused 0 5 gCl_X6 rfl rfl ⟨rfl, rfl, Nat.le_of_ble_eq_true rfl, Nat.le_of_ble_eq_true rfl⟩ ⟨Nat.le_refl _, Nat.le_refl _⟩ hP hD hS hl.1 (Nat.le_of_ble_eq_true rfl) dX6_restless_29 rfl) hS (fun r12 S13 H locs hw711 hP hD hS => ?_)
    exact rt_i hC hw711 hP hD hS dX6_restless_32
def w6_restless (post : Int32 → MS → Prop) (tw : Option (Nat → Nat)) (S : MS) (x1 : Int32) : Prop :=
  (∀ S1, S1 = uI S 0 0 0 → ((tw = none → (j6_restless_18 post tw S1 x1 0)) ∧ ((∃ t, tw = some t) → (j6_restless_18 post tw S1 x1 1))))
set_option maxHeartbeats 4000000 in
theorem m6_restless (l : Launch) {post : Int32 → MS → Prop} {S : MS} {x1 : Int32} (hw : w6_restless post tw S x1) : Met l yX6_restless (ws_ yX6_restless cX6_restless 6 (some .int)) ({ frames := 6, cells := 0, slots := 0, locals := 143 } : Room) (va_Pc [.ref (ad 0), .int x1] (PcG D gCl nwG Z Hb A (wM D ad none rdv tw S))) (va_Qi post (BW D gCl A (fun u => (wM D ad none rdv tw u))) A) 0 0 A := by
  refine Met.ofG (by decide) (Nat.le_of_ble_eq_true rfl) ?_
  intro p e s m below meth c ls hC _ hP hD hS hl
  have hC : CX RX6 cX6_restless 6 (some .int) D gCl nwG Z Hb A p s m _ meth c := hC
  have hl : lv_has ls 6 [(0, .ref (ad 0)), (1, .int x1)] := hl
  unfold w6_restless at hw
  refine lv_aload_n hC.x hC.b dX6_restless_0 rfl (lv_at hl 0 rfl) ?_
  refine lv_iconst (v := 0) hC.x hC.b dX6_restless_1 (by decide) ?_
  refine pM_0 hC hP hD hS (v := 0) dX6_restless_2 (fun S1 eS1 H locs hP hD hS => ?_)
  have hw697 := hw S1 eS1
  refine lv_aload_n hC.x hC.b dX6_restless_5 rfl (lv_at hl 0 rfl) ?_
  refine lv_aload_n hC.x hC.b dX6_restless_6 rfl (lv_at hl 0 rfl) ?_
  refine gM_3 hC hP dX6_restless_7 ?_
  rcases va_o2 tw with c2 | ⟨t, c2⟩
  · have hw698 := hw697.1 c2
    subst c2
    refine lv_ifnullN (tgt := 17) hC.x hC.b dX6_restless_10 (by decide) ?_
    refine lv_iconst (v := 0) hC.x hC.b dX6_restless_17 (by decide) ?_
    exact k6_restless_18 hC hw698 H locs ls hP hD hS (lv_sub hl [0, 1] rfl)
  · have hw712 := hw697.2 ⟨t, c2⟩
    subst c2
    refine lv_ifnull hC.x hC.b dX6_restless_10 ?_
    refine lv_iconst (v := 1) hC.x hC.b dX6_restless_13 (by decide) ?_
    refine lv_goto (tgt := 18) hC.x hC.b dX6_restless_14 (by decide) ?_
    exact k6_restless_18 hC hw712 H locs ls hP hD hS (lv_sub hl [0, 1] rfl)
theorem h6_moveFor : yX6_moveFor.cls = RX6 ∧ yX6_moveFor.cls ≠ "java/lang/invoke/MethodHandle" ∧ yX6_moveFor.cls ≠ "java/lang/invoke/VarHandle" ∧ (parseMethodDescriptor yX6_moveFor.desc).map (fun d => d.parameters.length) = some 2 := by decide +kernel
def f6_moveFor_47 (post : Int32 → MS → Prop) (tw : Option (Nat → Nat)) (x1 : Int32) (x2 : Int32) (K47 : (MS × Int32 × Int32 × Int32) → Prop) (S : MS) (x4 : Int32) (x5 : Int32) (x6 : Int32) : Prop :=
  ((∃ t, tw = some t) ∧ (((S.1 20 0) ≤ x6 → (w6_good (fun r10 S11 => (post r10 S11)) S x4)) ∧ (¬ (S.1 20 0) ≤ x6 → (w6_works (fun S13 => (w6_whoIn (fun r14 => ((r14 = (-2) → (vp_in x1 19 ∧ (∀ S16, S16 = uI S13 3 x1.toNatClampNeg x6 → (w6_rightOn (fun r17 => (w6_bits (fun r18 => ((x5 < r18 → (K47 (S16, x6, r18, (x6 + 1)))) ∧ (¬ x5 < r18 → (K47 (S16, x4, x5, (x6 + 1)))))) r17)) tw S16 x2)))) ∧ (¬ r14 = (-2) → (K47 (S13, x4, x5, (x6 + 1)))))) tw S13 x6)) S))))
set_option maxHeartbeats 4000000 in
theorem k6_moveFor_47 {post : Int32 → MS → Prop} {x1 : Int32} {x2 : Int32} (hC : CX RX6 cX6_moveFor 8 (some .int) D gCl nwG Z Hb A p s m args meth c) : ∀ z : (MS × Int32 × Int32 × Int32), lp (fun (K : (MS × Int32 × Int32 × Int32) → Prop) (z : (MS × Int32 × Int32 × Int32)) => f6_moveFor_47 post tw x1 x2 K z.1 z.2.1 z.2.2.1 z.2.2.2) z → ∀ (H : Heap) (locs : List Loc) (ls : Array Slot), va_P D gCl (wM D ad none rdv tw z.1) H → va_D A (wM D ad none rdv tw z.1) → va_S A s.heap H locs → lv_has ls 8 [(0, .ref (ad 0)), (1, .int x1), (2, .int x2), (4, .int z.2.1), (5, .int z.2.2.1), (6, .int z.2.2.2)] → W p l e ({ frames := 5, cells := 0, slots := 0, locals := 117 } : Room) s m args below meth c H locs 0 0 (MQ below (va_Qi post (BW D gCl A (fun u => (wM D ad none rdv tw u))) A) args s 0 0 A) (F0 m 47 ls []) := by
  refine lp_ind ?_
  rintro K47 ⟨S, x4, x5, x6⟩ hK47 hw H locs ls hP hD hS hl
  have hw : f6_moveFor_47 post tw x1 x2 K47 S x4 x5 x6 := hw
  unfold f6_moveFor_47 at hw
  have hP : va_P D gCl (wM D ad none rdv tw S) H := hP
  have hD : va_D A (wM D ad none rdv tw S) := hD
  have hl : lv_has ls 8 [(0, .ref (ad 0)), (1, .int x1), (2, .int x2), (4, .int x4), (5, .int x5), (6, .int x6)] := hl
  refine lv_iload hC.x hC.b dX6_moveFor_47 (lv_at hl 5 rfl) ?_
  refine lv_aload_n hC.x hC.b dX6_moveFor_49 rfl (lv_at hl 0 rfl) ?_
  refine gM_3 hC hP dX6_moveFor_50 ?_
  obtain ⟨⟨t, rfl⟩, hw720⟩ := hw
  refine gT_0 hC hP dX6_moveFor_53 ?_
  refine lv_icmp_ge (tgt := 119) hC.x hC.b dX6_moveFor_56 (by decide) (fun c9 => ?_) (fun c9 => ?_)
  · have hw721 := hw720.1 c9
    refine lv_aload_n hC.x hC.b dX6_moveFor_119 rfl (lv_at hl 0 rfl) ?_
    refine lv_iload hC.x hC.b dX6_moveFor_120 (lv_at hl 3 rfl) ?_
    refine go_i (run_V (rest := []) hC (m6_good l hw721) v6_6_good h6_good 0 5 gCl_X6 rfl rfl ⟨rfl, rfl, Nat.le_of_ble_eq_true rfl, Nat.le_of_ble_eq_true rfl⟩ ⟨Nat.le_refl _, Nat.le_refl _⟩ hP hD hS hl.1 (Nat.le_of_ble_eq_true rfl) dX6_moveFor_122 rfl) hS (fun r10 S11 H locs hw722 hP hD hS => ?_)
    exact rt_i hC hw722 hP hD hS dX6_moveFor_125
  · have hw723 := hw720.2 c9
    refine lv_aload_n hC.x hC.b dX6_moveFor_59 rfl (lv_at hl 0 rfl) ?_
    refine go_v (run_V (rest := []) hC (m6_works l hw723) v6_6_works h6_works 0 5 gCl_X6 rfl rfl ⟨rfl, rfl, Nat.le_of_ble_eq_true rfl, Nat.le_of_ble_eq_true rfl⟩ ⟨Nat.le_refl _, Nat.le_refl _⟩ hP hD hS hl.1 (Nat.le_of_ble_eq_true rfl) dX6_moveFor_60 rfl) hS (fun S13 H locs hw724 hP hD hS => ?_)
    refine lv_aload_n hC.x hC.b dX6_moveFor_63 rfl (lv_at hl 0 rfl) ?_
    refine lv_iload hC.x hC.b dX6_moveFor_64 (lv_at hl 5 rfl) ?_
    refine go_i (run_V (rest := []) hC (m6_whoIn l hw724) v6_6_whoIn h6_whoIn 0 5 gCl_X6 rfl rfl ⟨rfl, rfl, Nat.le_of_ble_eq_true rfl, Nat.le_of_ble_eq_true rfl⟩ ⟨Nat.le_refl _, Nat.le_refl _⟩ hP hD hS hl.1 (Nat.le_of_ble_eq_true rfl) dX6_moveFor_66 rfl) hS (fun r14 u H locs hw725 hP hD hS => ?_)
    refine lv_bipush (v := (-2)) hC.x hC.b dX6_moveFor_69 (by decide) ?_
    refine lv_icmp_eq (tgt := 77) hC.x hC.b dX6_moveFor_71 (by decide) (fun c15 => ?_) (fun c15 => ?_)
    · have hw726 := hw725.1 c15
      refine lv_aload_n hC.x hC.b dX6_moveFor_77 rfl (lv_at hl 0 rfl) ?_
      refine gM_16 hC hP dX6_moveFor_78 ?_
      refine lv_iload_n hC.x hC.b dX6_moveFor_81 rfl (lv_at hl 1 rfl) ?_
      refine lv_iload hC.x hC.b dX6_moveFor_82 (lv_at hl 5 rfl) ?_
      obtain ⟨hin, hw727⟩ := hw726
      refine sM_3 hC hP hD hS (v := x6) hin rfl dX6_moveFor_84 (fun S16 eS16 H locs hP hD hS => ?_)
      have hw728 := hw727 S16 eS16
      refine lv_aload_n hC.x hC.b dX6_moveFor_85 rfl (lv_at hl 0 rfl) ?_
      refine lv_iload_n hC.x hC.b dX6_moveFor_86 rfl (lv_at hl 2 rfl) ?_
      refine go_i (run_V (rest := []) hC (m6_rightOn l hw728) v6_6_rightOn h6_rightOn 0 5 gCl_X6 rfl rfl ⟨rfl, rfl, Nat.le_of_ble_eq_true rfl, Nat.le_of_ble_eq_true rfl⟩ ⟨Nat.le_refl _, Nat.le_refl _⟩ hP hD hS hl.1 (Nat.le_of_ble_eq_true rfl) dX6_moveFor_87 rfl) hS (fun r17 u H locs hw729 hP hD hS => ?_)
      refine go_i (run_S (rest := []) hC (m6_bits l hw729) v6_6_bits h6_bits ⟨rfl, rfl, Nat.le_of_ble_eq_true rfl, Nat.le_of_ble_eq_true rfl⟩ ⟨Nat.le_refl _, Nat.le_refl _⟩ hP hD hS hl.1 (Nat.le_of_ble_eq_true rfl) dX6_moveFor_90 rfl) hS (fun r18 u H locs hw730 hP hD hS => ?_)
      refine lv_istore (lv' := [(7, .int r18), (0, .ref (ad 0)), (1, .int x1), (2, .int x2), (4, .int x4), (5, .int x5), (6, .int x6)]) hC.x hC.b dX6_moveFor_93 hl (by decide) rfl (fun ls hl => ?_)
      refine lv_iload hC.x hC.b dX6_moveFor_95 (lv_at hl 0 rfl) ?_
      refine lv_iload hC.x hC.b dX6_moveFor_97 (lv_at hl 5 rfl) ?_
      refine lv_icmp_gt (tgt := 105) hC.x hC.b dX6_moveFor_99 (by decide) (fun c19 => ?_) (fun c19 => ?_)
      · have hw731 := hw730.1 c19
        refine lv_iload hC.x hC.b dX6_moveFor_105 (lv_at hl 0 rfl) ?_
        refine lv_istore (lv' := [(5, .int r18), (7, .int r18), (0, .ref (ad 0)), (1, .int x1), (2, .int x2), (4, .int x4), (6, .int x6)]) hC.x hC.b dX6_moveFor_107 hl (by decide) rfl (fun ls hl => ?_)
        refine lv_iload hC.x hC.b dX6_moveFor_109 (lv_at hl 6 rfl) ?_
        refine lv_istore (lv' := [(4, .int x6), (5, .int r18), (7, .int r18), (0, .ref (ad 0)), (1, .int x1), (2, .int x2), (6, .int x6)]) hC.x hC.b dX6_moveFor_111 hl (by decide) rfl (fun ls hl => ?_)
        refine lv_iinc (v := (x6 + 1)) (lv' := [(6, .int (x6 + 1)), (4, .int x6), (5, .int r18), (7, .int r18), (0, .ref (ad 0)), (1, .int x1), (2, .int x2)]) hC.x hC.b dX6_moveFor_113 hl (k := 6) rfl rfl (by decide) rfl (fun ls hl => ?_)
        refine lv_goto (tgt := 47) hC.x hC.b dX6_moveFor_116 (by decide) ?_
        exact hK47 (S16, x6, r18, (x6 + 1)) hw731 H locs ls hP hD hS (lv_sub hl [4, 5, 6, 1, 2, 0] rfl)
      · have hw732 := hw730.2 c19
        refine lv_goto (tgt := 113) hC.x hC.b dX6_moveFor_102 (by decide) ?_
        refine lv_iinc (v := (x6 + 1)) (lv' := [(6, .int (x6 + 1)), (7, .int r18), (0, .ref (ad 0)), (1, .int x1), (2, .int x2), (4, .int x4), (5, .int x5)]) hC.x hC.b dX6_moveFor_113 hl (k := 6) rfl rfl (by decide) rfl (fun ls hl => ?_)
        refine lv_goto (tgt := 47) hC.x hC.b dX6_moveFor_116 (by decide) ?_
        exact hK47 (S16, x4, x5, (x6 + 1)) hw732 H locs ls hP hD hS (lv_sub hl [2, 3, 4, 5, 6, 0] rfl)
    · have hw733 := hw725.2 c15
      refine lv_goto (tgt := 113) hC.x hC.b dX6_moveFor_74 (by decide) ?_
      refine lv_iinc (v := (x6 + 1)) (lv' := [(6, .int (x6 + 1)), (0, .ref (ad 0)), (1, .int x1), (2, .int x2), (4, .int x4), (5, .int x5)]) hC.x hC.b dX6_moveFor_113 hl (k := 5) rfl rfl (by decide) rfl (fun ls hl => ?_)
      refine lv_goto (tgt := 47) hC.x hC.b dX6_moveFor_116 (by decide) ?_
      exact hK47 (S13, x4, x5, (x6 + 1)) hw733 H locs ls hP hD hS (lv_sub hl [1, 2, 3, 4, 5, 0] rfl)
def w6_moveFor (post : Int32 → MS → Prop) (tw : Option (Nat → Nat)) (S : MS) (x1 : Int32) (x2 : Int32) : Prop :=
  (∀ S1, S1 = uI S 0 0 0 → (w6_isPerson (fun r2 => (w6_refusesNight (fun r3 => ((r3 ≤ 0 → (w6_works (fun S6 => (w6_rightOn (fun r7 => (w6_bits (fun r8 => (lp (fun (K : (MS × Int32 × Int32 × Int32) → Prop) (z : (MS × Int32 × Int32 × Int32)) => f6_moveFor_47 post tw x1 x2 K z.1 z.2.1 z.2.2.1 z.2.2.2) (S6, (-2), r8, 0))) r7)) tw S6 x2)) S1)) ∧ (¬ r3 ≤ 0 → (w6_refused (fun r20 S21 => (post r20 S21)) S1 r3)))) S1 r2 x2)) tw S1 x1))
set_option maxHeartbeats 4000000 in
theorem m6_moveFor (l : Launch) {post : Int32 → MS → Prop} {S : MS} {x1 : Int32} {x2 : Int32} (hw : w6_moveFor post tw S x1 x2) : Met l yX6_moveFor (ws_ yX6_moveFor cX6_moveFor 8 (some .int)) ({ frames := 5, cells := 0, slots := 0, locals := 117 } : Room) (va_Pc [.ref (ad 0), .int x1, .int x2] (PcG D gCl nwG Z Hb A (wM D ad none rdv tw S))) (va_Qi post (BW D gCl A (fun u => (wM D ad none rdv tw u))) A) 0 0 A := by
  refine Met.ofG (by decide) (Nat.le_of_ble_eq_true rfl) ?_
  intro p e s m below meth c ls hC _ hP hD hS hl
  have hC : CX RX6 cX6_moveFor 8 (some .int) D gCl nwG Z Hb A p s m _ meth c := hC
  have hl : lv_has ls 8 [(0, .ref (ad 0)), (1, .int x1), (2, .int x2)] := hl
  unfold w6_moveFor at hw
  refine lv_aload_n hC.x hC.b dX6_moveFor_0 rfl (lv_at hl 0 rfl) ?_
  refine lv_iconst (v := 0) hC.x hC.b dX6_moveFor_1 (by decide) ?_
  refine pM_0 hC hP hD hS (v := 0) dX6_moveFor_2 (fun S1 eS1 H locs hP hD hS => ?_)
  have hw713 := hw S1 eS1
  refine lv_aload_n hC.x hC.b dX6_moveFor_5 rfl (lv_at hl 0 rfl) ?_
  refine lv_aload_n hC.x hC.b dX6_moveFor_6 rfl (lv_at hl 0 rfl) ?_
  refine lv_iload_n hC.x hC.b dX6_moveFor_7 rfl (lv_at hl 1 rfl) ?_
  refine go_i (run_V (rest := [.ref (ad 0)]) hC (m6_isPerson l hw713) v6_6_isPerson h6_isPerson 0 5 gCl_X6 rfl rfl ⟨rfl, rfl, Nat.le_of_ble_eq_true rfl, Nat.le_of_ble_eq_true rfl⟩ ⟨Nat.le_refl _, Nat.le_refl _⟩ hP hD hS hl.1 (Nat.le_of_ble_eq_true rfl) dX6_moveFor_8 rfl) hS (fun r2 u H locs hw714 hP hD hS => ?_)
  refine lv_iload_n hC.x hC.b dX6_moveFor_11 rfl (lv_at hl 2 rfl) ?_
  refine go_i (run_V (rest := []) hC (m6_refusesNight l hw714) v6_6_refusesNight h6_refusesNight 0 5 gCl_X6 rfl rfl ⟨rfl, rfl, Nat.le_of_ble_eq_true rfl, Nat.le_of_ble_eq_true rfl⟩ ⟨Nat.le_refl _, Nat.le_refl _⟩ hP hD hS hl.1 (Nat.le_of_ble_eq_true rfl) dX6_moveFor_12 rfl) hS (fun r3 u H locs hw715 hP hD hS => ?_)
  refine lv_istore_n (lv' := [(3, .int r3), (0, .ref (ad 0)), (1, .int x1), (2, .int x2)]) hC.x hC.b dX6_moveFor_15 rfl hl (by decide) rfl (fun ls hl => ?_)
  refine lv_iload_n hC.x hC.b dX6_moveFor_16 rfl (lv_at hl 0 rfl) ?_
  refine lv_if_le (tgt := 26) hC.x hC.b dX6_moveFor_17 (by decide) (fun c4 => ?_) (fun c4 => ?_)
  · have hw716 := hw715.1 c4
    refine lv_aload_n hC.x hC.b dX6_moveFor_26 rfl (lv_at hl 1 rfl) ?_
    refine go_v (run_V (rest := []) hC (m6_works l hw716) v6_6_works h6_works 0 5 gCl_X6 rfl rfl ⟨rfl, rfl, Nat.le_of_ble_eq_true rfl, Nat.le_of_ble_eq_true rfl⟩ ⟨Nat.le_refl _, Nat.le_refl _⟩ hP hD hS hl.1 (Nat.le_of_ble_eq_true rfl) dX6_moveFor_27 rfl) hS (fun S6 H locs hw717 hP hD hS => ?_)
    refine lv_bipush (v := (-2)) hC.x hC.b dX6_moveFor_30 (by decide) ?_
    refine lv_istore (lv' := [(4, .int (-2)), (3, .int r3), (0, .ref (ad 0)), (1, .int x1), (2, .int x2)]) hC.x hC.b dX6_moveFor_32 hl (by decide) rfl (fun ls hl => ?_)
    refine lv_aload_n hC.x hC.b dX6_moveFor_34 rfl (lv_at hl 2 rfl) ?_
    refine lv_iload_n hC.x hC.b dX6_moveFor_35 rfl (lv_at hl 4 rfl) ?_
    refine go_i (run_V (rest := []) hC (m6_rightOn l hw717) v6_6_rightOn h6_rightOn 0 5 gCl_X6 rfl rfl ⟨rfl, rfl, Nat.le_of_ble_eq_true rfl, Nat.le_of_ble_eq_true rfl⟩ ⟨Nat.le_refl _, Nat.le_refl _⟩ hP hD hS hl.1 (Nat.le_of_ble_eq_true rfl) dX6_moveFor_36 rfl) hS (fun r7 u H locs hw718 hP hD hS => ?_)
    refine go_i (run_S (rest := []) hC (m6_bits l hw718) v6_6_bits h6_bits ⟨rfl, rfl, Nat.le_of_ble_eq_true rfl, Nat.le_of_ble_eq_true rfl⟩ ⟨Nat.le_refl _, Nat.le_refl _⟩ hP hD hS hl.1 (Nat.le_of_ble_eq_true rfl) dX6_moveFor_39 rfl) hS (fun r8 u H locs hw719 hP hD hS => ?_)
    refine lv_istore (lv' := [(5, .int r8), (4, .int (-2)), (3, .int r3), (0, .ref (ad 0)), (1, .int x1), (2, .int x2)]) hC.x hC.b dX6_moveFor_42 hl (by decide) rfl (fun ls hl => ?_)
    refine lv_iconst (v := 0) hC.x hC.b dX6_moveFor_44 (by decide) ?_
    refine lv_istore (lv' := [(6, .int 0), (5, .int r8), (4, .int (-2)), (3, .int r3), (0, .ref (ad 0)), (1, .int x1), (2, .int x2)]) hC.x hC.b dX6_moveFor_45 hl (by decide) rfl (fun ls hl => ?_)
    exact k6_moveFor_47 hC (S6, (-2), r8, 0) hw719 H locs ls hP hD hS (lv_sub hl [4, 5, 6, 2, 1, 0] rfl)
  · have hw734 := hw715.2 c4
    refine lv_aload_n hC.x hC.b dX6_moveFor_20 rfl (lv_at hl 1 rfl) ?_
    refine lv_iload_n hC.x hC.b dX6_moveFor_21 rfl (lv_at hl 0 rfl) ?_
    refine go_i (run_V (rest := []) hC (m6_refused l hw734) v6_6_refused h6_refused 0 5 gCl_X6 rfl rfl ⟨rfl, rfl, Nat.le_of_ble_eq_true rfl, Nat.le_of_ble_eq_true rfl⟩ ⟨Nat.le_refl _, Nat.le_refl _⟩ hP hD hS hl.1 (Nat.le_of_ble_eq_true rfl) dX6_moveFor_22 rfl) hS (fun r20 S21 H locs hw735 hP hD hS => ?_)
    exact rt_i hC hw735 hP hD hS dX6_moveFor_25
theorem h6_behind : yX6_behind.cls = RX6 ∧ yX6_behind.cls ≠ "java/lang/invoke/MethodHandle" ∧ yX6_behind.cls ≠ "java/lang/invoke/VarHandle" ∧ (parseMethodDescriptor yX6_behind.desc).map (fun d => d.parameters.length) = some 2 := by decide +kernel
def j6_behind_44 (tw : Option (Nat → Nat)) (K8 : (Int32 × Int32 × Int32) → Prop) (S : MS) (x2 : Int32) (x3 : Int32) (x4 : Int32) (x5 : Int32) (x6 : Int32) : Prop :=
  ((¬ x6 = 1 → (K8 (x3, (x4 * 3), (x5 + 1)))) ∧ (x6 = 1 → ((∃ t, tw = some t) ∧ (vp_in x5 6 ∧ ((¬ (S.1 24 x5.toNatClampNeg) = x2 → (K8 (x3, (x4 * 3), (x5 + 1)))) ∧ ((S.1 24 x5.toNatClampNeg) = x2 → (K8 ((x3 + x4), (x4 * 3), (x5 + 1)))))))))
set_option maxHeartbeats 4000000 in
theorem k6_behind_44 {post : Int32 → Prop} {S : MS} {x1 : Int32} {x2 : Int32} {x3 : Int32} {x4 : Int32} {x5 : Int32} {x6 : Int32} {K8 : (Int32 × Int32 × Int32) → Prop} (hC : CX RX6 cX6_behind 7 (some .int) D gCl nwG Z Hb A p s m args meth c) (hK8 : ∀ z : (Int32 × Int32 × Int32), K8 z → ∀ (H : Heap) (locs : List Loc) (ls : Array Slot), va_P D gCl (wM D ad none rdv tw S) H → va_D A (wM D ad none rdv tw S) → va_S A s.heap H locs → lv_has ls 7 [(0, .ref (ad 0)), (1, .int x1), (2, .int x2), (3, .int z.1), (4, .int z.2.1), (5, .int z.2.2)] → W p l e ({ frames := 0, cells := 0, slots := 0, locals := 0 } : Room) s m args below meth c H locs 0 0 (MQ below (va_Qi (fun r (_ : Unit) => post r) (BW D gCl A (fun _ => (wM D ad none rdv tw S))) A) args s 0 0 A) (F0 m 8 ls [])) (hw : j6_behind_44 tw K8 S x2 x3 x4 x5 x6) : ∀ (H : Heap) (locs : List Loc) (ls : Array Slot), va_P D gCl (wM D ad none rdv tw S) H → va_D A (wM D ad none rdv tw S) → va_S A s.heap H locs → lv_has ls 7 [(0, .ref (ad 0)), (1, .int x1), (2, .int x2), (3, .int x3), (4, .int x4), (5, .int x5), (6, .int x6)] → W p l e ({ frames := 0, cells := 0, slots := 0, locals := 0 } : Room) s m args below meth c H locs 0 0 (MQ below (va_Qi (fun r (_ : Unit) => post r) (BW D gCl A (fun _ => (wM D ad none rdv tw S))) A) args s 0 0 A) (F0 m 44 ls []) := by
  intro H locs ls hP hD hS hl
  unfold j6_behind_44 at hw
  refine lv_iload hC.x hC.b dX6_behind_44 (lv_at hl 6 rfl) ?_
  refine lv_iconst (v := 1) hC.x hC.b dX6_behind_46 (by decide) ?_
  refine lv_icmp_ne (tgt := 69) hC.x hC.b dX6_behind_47 (by decide) (fun c3 => ?_) (fun c3 => ?_)
  · have hw741 := hw.1 c3
    refine lv_iload hC.x hC.b dX6_behind_69 (lv_at hl 4 rfl) ?_
    refine lv_iconst (v := 3) hC.x hC.b dX6_behind_71 (by decide) ?_
    refine lv_imul hC.x hC.b dX6_behind_72 ?_
    refine lv_istore (lv' := [(4, .int (x4 * 3)), (0, .ref (ad 0)), (1, .int x1), (2, .int x2), (3, .int x3), (5, .int x5), (6, .int x6)]) hC.x hC.b dX6_behind_73 hl (by decide) rfl (fun ls hl => ?_)
    refine lv_iinc (v := (x5 + 1)) (lv' := [(5, .int (x5 + 1)), (4, .int (x4 * 3)), (0, .ref (ad 0)), (1, .int x1), (2, .int x2), (3, .int x3), (6, .int x6)]) hC.x hC.b dX6_behind_75 hl (k := 5) rfl rfl (by decide) rfl (fun ls hl => ?_)
    refine lv_goto (tgt := 8) hC.x hC.b dX6_behind_78 (by decide) ?_
    exact hK8 (x3, (x4 * 3), (x5 + 1)) hw741 H locs ls hP hD hS (lv_sub hl [2, 3, 4, 5, 1, 0] rfl)
  · have hw742 := hw.2 c3
    refine lv_aload_n hC.x hC.b dX6_behind_50 rfl (lv_at hl 0 rfl) ?_
    refine gM_3 hC hP dX6_behind_51 ?_
    obtain ⟨⟨t, rfl⟩, hw743⟩ := hw742
    refine gT_11 hC hP dX6_behind_54 ?_
    refine lv_iload hC.x hC.b dX6_behind_57 (lv_at hl 5 rfl) ?_
    obtain ⟨hin, hw744⟩ := hw743
    refine lT_4 hC hP hin rfl dX6_behind_59 ?_
    refine lv_iload_n hC.x hC.b dX6_behind_60 rfl (lv_at hl 2 rfl) ?_
    refine lv_icmp_ne (tgt := 69) hC.x hC.b dX6_behind_61 (by decide) (fun c4 => ?_) (fun c4 => ?_)
    · have hw745 := hw744.1 c4
      refine lv_iload hC.x hC.b dX6_behind_69 (lv_at hl 4 rfl) ?_
      refine lv_iconst (v := 3) hC.x hC.b dX6_behind_71 (by decide) ?_
      refine lv_imul hC.x hC.b dX6_behind_72 ?_
      refine lv_istore (lv' := [(4, .int (x4 * 3)), (0, .ref (ad 0)), (1, .int x1), (2, .int x2), (3, .int x3), (5, .int x5), (6, .int x6)]) hC.x hC.b dX6_behind_73 hl (by decide) rfl (fun ls hl => ?_)
      refine lv_iinc (v := (x5 + 1)) (lv' := [(5, .int (x5 + 1)), (4, .int (x4 * 3)), (0, .ref (ad 0)), (1, .int x1), (2, .int x2), (3, .int x3), (6, .int x6)]) hC.x hC.b dX6_behind_75 hl (k := 5) rfl rfl (by decide) rfl (fun ls hl => ?_)
      refine lv_goto (tgt := 8) hC.x hC.b dX6_behind_78 (by decide) ?_
      exact hK8 (x3, (x4 * 3), (x5 + 1)) hw745 H locs ls hP hD hS (lv_sub hl [2, 3, 4, 5, 1, 0] rfl)
    · have hw746 := hw744.2 c4
      refine lv_iload_n hC.x hC.b dX6_behind_64 rfl (lv_at hl 3 rfl) ?_
      refine lv_iload hC.x hC.b dX6_behind_65 (lv_at hl 4 rfl) ?_
      refine lv_iadd hC.x hC.b dX6_behind_67 ?_
      refine lv_istore_n (lv' := [(3, .int (x3 + x4)), (0, .ref (ad 0)), (1, .int x1), (2, .int x2), (4, .int x4), (5, .int x5), (6, .int x6)]) hC.x hC.b dX6_behind_68 rfl hl (by decide) rfl (fun ls hl => ?_)
      refine lv_iload hC.x hC.b dX6_behind_69 (lv_at hl 4 rfl) ?_
      refine lv_iconst (v := 3) hC.x hC.b dX6_behind_71 (by decide) ?_
      refine lv_imul hC.x hC.b dX6_behind_72 ?_
      refine lv_istore (lv' := [(4, .int (x4 * 3)), (3, .int (x3 + x4)), (0, .ref (ad 0)), (1, .int x1), (2, .int x2), (5, .int x5), (6, .int x6)]) hC.x hC.b dX6_behind_73 hl (by decide) rfl (fun ls hl => ?_)
      refine lv_iinc (v := (x5 + 1)) (lv' := [(5, .int (x5 + 1)), (4, .int (x4 * 3)), (3, .int (x3 + x4)), (0, .ref (ad 0)), (1, .int x1), (2, .int x2), (6, .int x6)]) hC.x hC.b dX6_behind_75 hl (k := 5) rfl rfl (by decide) rfl (fun ls hl => ?_)
      refine lv_goto (tgt := 8) hC.x hC.b dX6_behind_78 (by decide) ?_
      exact hK8 ((x3 + x4), (x4 * 3), (x5 + 1)) hw746 H locs ls hP hD hS (lv_sub hl [3, 4, 5, 2, 1, 0] rfl)
def f6_behind_8 (post : Int32 → Prop) (tw : Option (Nat → Nat)) (S : MS) (x1 : Int32) (x2 : Int32) (K8 : (Int32 × Int32 × Int32) → Prop) (x3 : Int32) (x4 : Int32) (x5 : Int32) : Prop :=
  ((∃ t, tw = some t) ∧ (((S.1 20 3) ≤ x5 → (post x3)) ∧ (¬ (S.1 20 3) ≤ x5 → ((¬ x4 = 0) ∧ ((¬ ((x1 / x4) - (x1 / x4) / 3 * 3) = 0 → (j6_behind_44 tw K8 S x2 x3 x4 x5 ((x1 / x4) - (x1 / x4) / 3 * 3))) ∧ (((x1 / x4) - (x1 / x4) / 3 * 3) = 0 → (vp_in x5 6 ∧ (((S.1 9 x5.toNatClampNeg) = x2 → (K8 ((x3 + x4), (x4 * 3), (x5 + 1)))) ∧ (¬ (S.1 9 x5.toNatClampNeg) = x2 → (j6_behind_44 tw K8 S x2 x3 x4 x5 ((x1 / x4) - (x1 / x4) / 3 * 3)))))))))))
set_option maxHeartbeats 4000000 in
theorem k6_behind_8 {post : Int32 → Prop} {S : MS} {x1 : Int32} {x2 : Int32} (hC : CX RX6 cX6_behind 7 (some .int) D gCl nwG Z Hb A p s m args meth c) : ∀ z : (Int32 × Int32 × Int32), lp (fun (K : (Int32 × Int32 × Int32) → Prop) (z : (Int32 × Int32 × Int32)) => f6_behind_8 post tw S x1 x2 K z.1 z.2.1 z.2.2) z → ∀ (H : Heap) (locs : List Loc) (ls : Array Slot), va_P D gCl (wM D ad none rdv tw S) H → va_D A (wM D ad none rdv tw S) → va_S A s.heap H locs → lv_has ls 7 [(0, .ref (ad 0)), (1, .int x1), (2, .int x2), (3, .int z.1), (4, .int z.2.1), (5, .int z.2.2)] → W p l e ({ frames := 0, cells := 0, slots := 0, locals := 0 } : Room) s m args below meth c H locs 0 0 (MQ below (va_Qi (fun r (_ : Unit) => post r) (BW D gCl A (fun _ => (wM D ad none rdv tw S))) A) args s 0 0 A) (F0 m 8 ls []) := by
  refine lp_ind ?_
  rintro K8 ⟨x3, x4, x5⟩ hK8 hw H locs ls hP hD hS hl
  have hw : f6_behind_8 post tw S x1 x2 K8 x3 x4 x5 := hw
  unfold f6_behind_8 at hw
  have hP : va_P D gCl (wM D ad none rdv tw S) H := hP
  have hD : va_D A (wM D ad none rdv tw S) := hD
  have hl : lv_has ls 7 [(0, .ref (ad 0)), (1, .int x1), (2, .int x2), (3, .int x3), (4, .int x4), (5, .int x5)] := hl
  refine lv_iload hC.x hC.b dX6_behind_8 (lv_at hl 5 rfl) ?_
  refine lv_aload_n hC.x hC.b dX6_behind_10 rfl (lv_at hl 0 rfl) ?_
  refine gM_3 hC hP dX6_behind_11 ?_
  obtain ⟨⟨t, rfl⟩, hw736⟩ := hw
  refine gT_3 hC hP dX6_behind_14 ?_
  refine lv_icmp_ge (tgt := 81) hC.x hC.b dX6_behind_17 (by decide) (fun c1 => ?_) (fun c1 => ?_)
  · have hw737 := hw736.1 c1
    refine lv_iload_n hC.x hC.b dX6_behind_81 rfl (lv_at hl 3 rfl) ?_
    exact rt_i (u := ()) hC hw737 hP hD hS dX6_behind_82
  · have hw738 := hw736.2 c1
    refine lv_iload_n hC.x hC.b dX6_behind_20 rfl (lv_at hl 1 rfl) ?_
    refine lv_iload hC.x hC.b dX6_behind_21 (lv_at hl 4 rfl) ?_
    obtain ⟨hne, hw739⟩ := hw738
    refine lv_idiv hC.x hC.b dX6_behind_23 hne ?_
    refine lv_iconst (v := 3) hC.x hC.b dX6_behind_24 (by decide) ?_
    refine lv_irem hC.x hC.b dX6_behind_25 (by decide) ?_
    refine lv_istore (lv' := [(6, .int ((x1 / x4) - (x1 / x4) / 3 * 3)), (0, .ref (ad 0)), (1, .int x1), (2, .int x2), (3, .int x3), (4, .int x4), (5, .int x5)]) hC.x hC.b dX6_behind_26 hl (by decide) rfl (fun ls hl => ?_)
    refine lv_iload hC.x hC.b dX6_behind_28 (lv_at hl 0 rfl) ?_
    refine lv_if_ne (tgt := 44) hC.x hC.b dX6_behind_30 (by decide) (fun c2 => ?_) (fun c2 => ?_)
    · have hw740 := hw739.1 c2
      exact k6_behind_44 hC hK8 hw740 H locs ls hP hD hS (lv_sub hl [1, 2, 3, 4, 5, 6, 0] rfl)
    · have hw747 := hw739.2 c2
      refine lv_aload_n hC.x hC.b dX6_behind_33 rfl (lv_at hl 1 rfl) ?_
      refine gM_25 hC hP dX6_behind_34 ?_
      refine lv_iload hC.x hC.b dX6_behind_37 (lv_at hl 6 rfl) ?_
      obtain ⟨hin, hw748⟩ := hw747
      refine lM_9 hC hP hin rfl dX6_behind_39 ?_
      refine lv_iload_n hC.x hC.b dX6_behind_40 rfl (lv_at hl 3 rfl) ?_
      refine lv_icmp_eq (tgt := 64) hC.x hC.b dX6_behind_41 (by decide) (fun c5 => ?_) (fun c5 => ?_)
      · have hw749 := hw748.1 c5
        refine lv_iload_n hC.x hC.b dX6_behind_64 rfl (lv_at hl 4 rfl) ?_
        refine lv_iload hC.x hC.b dX6_behind_65 (lv_at hl 5 rfl) ?_
        refine lv_iadd hC.x hC.b dX6_behind_67 ?_
        refine lv_istore_n (lv' := [(3, .int (x3 + x4)), (6, .int ((x1 / x4) - (x1 / x4) / 3 * 3)), (0, .ref (ad 0)), (1, .int x1), (2, .int x2), (4, .int x4), (5, .int x5)]) hC.x hC.b dX6_behind_68 rfl hl (by decide) rfl (fun ls hl => ?_)
        refine lv_iload hC.x hC.b dX6_behind_69 (lv_at hl 5 rfl) ?_
        refine lv_iconst (v := 3) hC.x hC.b dX6_behind_71 (by decide) ?_
        refine lv_imul hC.x hC.b dX6_behind_72 ?_
        refine lv_istore (lv' := [(4, .int (x4 * 3)), (3, .int (x3 + x4)), (6, .int ((x1 / x4) - (x1 / x4) / 3 * 3)), (0, .ref (ad 0)), (1, .int x1), (2, .int x2), (5, .int x5)]) hC.x hC.b dX6_behind_73 hl (by decide) rfl (fun ls hl => ?_)
        refine lv_iinc (v := (x5 + 1)) (lv' := [(5, .int (x5 + 1)), (4, .int (x4 * 3)), (3, .int (x3 + x4)), (6, .int ((x1 / x4) - (x1 / x4) / 3 * 3)), (0, .ref (ad 0)), (1, .int x1), (2, .int x2)]) hC.x hC.b dX6_behind_75 hl (k := 6) rfl rfl (by decide) rfl (fun ls hl => ?_)
        refine lv_goto (tgt := 8) hC.x hC.b dX6_behind_78 (by decide) ?_
        exact hK8 ((x3 + x4), (x4 * 3), (x5 + 1)) hw749 H locs ls hP hD hS (lv_sub hl [4, 5, 6, 2, 1, 0] rfl)
      · have hw750 := hw748.2 c5
        exact k6_behind_44 hC hK8 hw750 H locs ls hP hD hS (lv_sub hl [1, 2, 3, 4, 5, 6, 0] rfl)
def w6_behind (post : Int32 → Prop) (tw : Option (Nat → Nat)) (S : MS) (x1 : Int32) (x2 : Int32) : Prop :=
  (lp (fun (K : (Int32 × Int32 × Int32) → Prop) (z : (Int32 × Int32 × Int32)) => f6_behind_8 post tw S x1 x2 K z.1 z.2.1 z.2.2) (x1, 1, 0))
set_option maxHeartbeats 4000000 in
theorem m6_behind (l : Launch) {post : Int32 → Prop} {S : MS} {x1 : Int32} {x2 : Int32} (hw : w6_behind post tw S x1 x2) : Met l yX6_behind (ws_ yX6_behind cX6_behind 7 (some .int)) ({ frames := 0, cells := 0, slots := 0, locals := 0 } : Room) (va_Pc [.ref (ad 0), .int x1, .int x2] (PcG D gCl nwG Z Hb A (wM D ad none rdv tw S))) (va_Qi (fun r (_ : Unit) => post r) (BW D gCl A (fun _ => (wM D ad none rdv tw S))) A) 0 0 A := by
  refine Met.ofG (by decide) (Nat.le_of_ble_eq_true rfl) ?_
  intro p e s m below meth c ls hC _ hP hD hS hl
  have hC : CX RX6 cX6_behind 7 (some .int) D gCl nwG Z Hb A p s m _ meth c := hC
  have hl : lv_has ls 7 [(0, .ref (ad 0)), (1, .int x1), (2, .int x2)] := hl
  unfold w6_behind at hw
  refine lv_iload_n hC.x hC.b dX6_behind_0 rfl (lv_at hl 1 rfl) ?_
  refine lv_istore_n (lv' := [(3, .int x1), (0, .ref (ad 0)), (1, .int x1), (2, .int x2)]) hC.x hC.b dX6_behind_1 rfl hl (by decide) rfl (fun ls hl => ?_)
  refine lv_iconst (v := 1) hC.x hC.b dX6_behind_2 (by decide) ?_
  refine lv_istore (lv' := [(4, .int 1), (3, .int x1), (0, .ref (ad 0)), (1, .int x1), (2, .int x2)]) hC.x hC.b dX6_behind_3 hl (by decide) rfl (fun ls hl => ?_)
  refine lv_iconst (v := 0) hC.x hC.b dX6_behind_5 (by decide) ?_
  refine lv_istore (lv' := [(5, .int 0), (4, .int 1), (3, .int x1), (0, .ref (ad 0)), (1, .int x1), (2, .int x2)]) hC.x hC.b dX6_behind_6 hl (by decide) rfl (fun ls hl => ?_)
  exact k6_behind_8 hC (x1, 1, 0) hw s.heap [] ls hP hD hS (lv_sub hl [3, 4, 5, 2, 1, 0] rfl)
theorem h6_apart : yX6_apart.cls = RX6 ∧ yX6_apart.cls ≠ "java/lang/invoke/MethodHandle" ∧ yX6_apart.cls ≠ "java/lang/invoke/VarHandle" ∧ (parseMethodDescriptor yX6_apart.desc).map (fun d => d.parameters.length) = some 2 := by decide +kernel
def w6_apart (post : Int32 → Prop) (tw : Option (Nat → Nat)) (S : MS) (x1 : Int32) (x2 : Int32) : Prop :=
  (w6_around (fun r1 => ((∃ t, tw = some t) ∧ ((((S.1 20 0) - r1) ≤ r1 → (post ((S.1 20 0) - r1))) ∧ (¬ ((S.1 20 0) - r1) ≤ r1 → (post r1))))) tw S ((x2 - x1).toInt64))
set_option maxHeartbeats 4000000 in
theorem m6_apart (l : Launch) {post : Int32 → Prop} {S : MS} {x1 : Int32} {x2 : Int32} (hw : w6_apart post tw S x1 x2) : Met l yX6_apart (ws_ yX6_apart cX6_apart 4 (some .int)) ({ frames := 1, cells := 0, slots := 0, locals := 22 } : Room) (va_Pc [.ref (ad 0), .int x1, .int x2] (PcG D gCl nwG Z Hb A (wM D ad none rdv tw S))) (va_Qi (fun r (_ : Unit) => post r) (BW D gCl A (fun _ => (wM D ad none rdv tw S))) A) 0 0 A := by
  refine Met.ofG (by decide) (Nat.le_of_ble_eq_true rfl) ?_
  intro p e s m below meth c ls hC _ hP hD hS hl
  have hC : CX RX6 cX6_apart 4 (some .int) D gCl nwG Z Hb A p s m _ meth c := hC
  have hl : lv_has ls 4 [(0, .ref (ad 0)), (1, .int x1), (2, .int x2)] := hl
  unfold w6_apart at hw
  refine lv_aload_n hC.x hC.b dX6_apart_0 rfl (lv_at hl 0 rfl) ?_
  refine lv_iload_n hC.x hC.b dX6_apart_1 rfl (lv_at hl 2 rfl) ?_
  refine lv_iload_n hC.x hC.b dX6_apart_2 rfl (lv_at hl 1 rfl) ?_
  refine lv_isub hC.x hC.b dX6_apart_3 ?_
  refine lv_i2l (v := ((x2 - x1).toInt64)) hC.x hC.b dX6_apart_4 rfl ?_
  refine go_i (run_V (rest := []) hC (m6_around l hw) v6_6_around h6_around 0 5 gCl_X6 rfl rfl ⟨rfl, rfl, Nat.le_of_ble_eq_true rfl, Nat.le_of_ble_eq_true rfl⟩ ⟨Nat.le_refl _, Nat.le_refl _⟩ hP hD hS hl.1 (Nat.le_of_ble_eq_true rfl) dX6_apart_5 rfl) hS (fun r1 u H locs hw751 hP hD hS => ?_)
  refine lv_istore_n (lv' := [(3, .int r1), (0, .ref (ad 0)), (1, .int x1), (2, .int x2)]) hC.x hC.b dX6_apart_8 rfl hl (by decide) rfl (fun ls hl => ?_)
  refine lv_iload_n hC.x hC.b dX6_apart_9 rfl (lv_at hl 0 rfl) ?_
  refine lv_aload_n hC.x hC.b dX6_apart_10 rfl (lv_at hl 1 rfl) ?_
  refine gM_3 hC hP dX6_apart_11 ?_
  obtain ⟨⟨t, rfl⟩, hw752⟩ := hw751
  refine gT_0 hC hP dX6_apart_14 ?_
  refine lv_iload_n hC.x hC.b dX6_apart_17 rfl (lv_at hl 0 rfl) ?_
  refine lv_isub hC.x hC.b dX6_apart_18 ?_
  refine lv_icmp_ge (tgt := 26) hC.x hC.b dX6_apart_19 (by decide) (fun c2 => ?_) (fun c2 => ?_)
  · have hw753 := hw752.1 c2
    refine lv_aload_n hC.x hC.b dX6_apart_26 rfl (lv_at hl 1 rfl) ?_
    refine gM_3 hC hP dX6_apart_27 ?_
    refine gT_0 hC hP dX6_apart_30 ?_
    refine lv_iload_n hC.x hC.b dX6_apart_33 rfl (lv_at hl 0 rfl) ?_
    refine lv_isub hC.x hC.b dX6_apart_34 ?_
    exact rt_i (u := ()) hC hw753 hP hD hS dX6_apart_35
  · have hw754 := hw752.2 c2
    refine lv_iload_n hC.x hC.b dX6_apart_22 rfl (lv_at hl 0 rfl) ?_
    refine lv_goto (tgt := 35) hC.x hC.b dX6_apart_23 (by decide) ?_
    exact rt_i (u := ()) hC hw754 hP hD hS dX6_apart_35
theorem v6_6_behind : GoodIn lw_all (wsV RX6 392 RX6 yX6_behind (ws_ yX6_behind cX6_behind 7 (some .int))) := lw_V q1986 q1988 qs98 q126 q1989
theorem v6_6_apart : GoodIn lw_all (wsV RX6 395 RX6 yX6_apart (ws_ yX6_apart cX6_apart 4 (some .int))) := lw_V q1990 q1992 qs99 q126 q1993
theorem h6_spreads : yX6_spreads.cls = RX6 ∧ yX6_spreads.cls ≠ "java/lang/invoke/MethodHandle" ∧ yX6_spreads.cls ≠ "java/lang/invoke/VarHandle" ∧ (parseMethodDescriptor yX6_spreads.desc).map (fun d => d.parameters.length) = some 3 := by decide +kernel
def f6_spreads_3 (post : MS → Prop) (tw : Option (Nat → Nat)) (x1 : Int32) (x2 : Int32) (x3 : Int32) (K3 : (MS × Int32) → Prop) (S : MS) (x4 : Int32) : Prop :=
  ((∃ t, tw = some t) ∧ (((S.1 20 2) ≤ x4 → (post S)) ∧ (¬ (S.1 20 2) ≤ x4 → (w6_behind (fun r2 => ((r2 = x1 → (K3 (S, (x4 + 1)))) ∧ (¬ r2 = x1 → (vp_in x4 19 ∧ (w6_apart (fun r4 => (vp_in ((r2 * 7) + x4) 5103 ∧ (((S.1 8 ((r2 * 7) + x4).toNatClampNeg) ≤ (x2 + r4) → (K3 (S, (x4 + 1)))) ∧ (¬ (S.1 8 ((r2 * 7) + x4).toNatClampNeg) ≤ (x2 + r4) → (vp_in x4 19 ∧ (w6_apart (fun r6 => (vp_in ((r2 * 7) + x4) 5103 ∧ (∀ S7, S7 = uI S 8 ((r2 * 7) + x4).toNatClampNeg (x2 + r6) → (K3 (S7, (x4 + 1)))))) tw S x3 (S.1 3 x4.toNatClampNeg))))))) tw S x3 (S.1 3 x4.toNatClampNeg)))))) tw S x1 x4))))
set_option maxHeartbeats 4000000 in
theorem k6_spreads_3 {post : MS → Prop} {x1 : Int32} {x2 : Int32} {x3 : Int32} (hC : CX RX6 cX6_spreads 7 none D gCl nwG Z Hb A p s m args meth c) : ∀ z : (MS × Int32), lp (fun (K : (MS × Int32) → Prop) (z : (MS × Int32)) => f6_spreads_3 post tw x1 x2 x3 K z.1 z.2) z → ∀ (H : Heap) (locs : List Loc) (ls : Array Slot), va_P D gCl (wM D ad none rdv tw z.1) H → va_D A (wM D ad none rdv tw z.1) → va_S A s.heap H locs → lv_has ls 7 [(0, .ref (ad 0)), (1, .int x1), (2, .int x2), (3, .int x3), (4, .int z.2)] → W p l e ({ frames := 2, cells := 0, slots := 0, locals := 45 } : Room) s m args below meth c H locs 0 0 (MQ below (va_Qv post (BW D gCl A (fun u => (wM D ad none rdv tw u))) A) args s 0 0 A) (F0 m 3 ls []) := by
  refine lp_ind ?_
  rintro K3 ⟨S, x4⟩ hK3 hw H locs ls hP hD hS hl
  have hw : f6_spreads_3 post tw x1 x2 x3 K3 S x4 := hw
  unfold f6_spreads_3 at hw
  have hP : va_P D gCl (wM D ad none rdv tw S) H := hP
  have hD : va_D A (wM D ad none rdv tw S) := hD
  have hl : lv_has ls 7 [(0, .ref (ad 0)), (1, .int x1), (2, .int x2), (3, .int x3), (4, .int x4)] := hl
  refine lv_iload hC.x hC.b dX6_spreads_3 (lv_at hl 4 rfl) ?_
  refine lv_aload_n hC.x hC.b dX6_spreads_5 rfl (lv_at hl 0 rfl) ?_
  refine gM_3 hC hP dX6_spreads_6 ?_
  obtain ⟨⟨t, rfl⟩, hw755⟩ := hw
  refine gT_2 hC hP dX6_spreads_9 ?_
  refine lv_icmp_ge (tgt := 91) hC.x hC.b dX6_spreads_12 (by decide) (fun c1 => ?_) (fun c1 => ?_)
  · have hw756 := hw755.1 c1
    exact rt_v hC hw756 hP hD hS dX6_spreads_91
  · have hw757 := hw755.2 c1
    refine lv_aload_n hC.x hC.b dX6_spreads_15 rfl (lv_at hl 0 rfl) ?_
    refine lv_iload_n hC.x hC.b dX6_spreads_16 rfl (lv_at hl 1 rfl) ?_
    refine lv_iload hC.x hC.b dX6_spreads_17 (lv_at hl 4 rfl) ?_
    refine go_i (run_V (rest := []) hC (m6_behind l hw757) v6_6_behind h6_behind 0 5 gCl_X6 rfl rfl ⟨rfl, rfl, Nat.le_of_ble_eq_true rfl, Nat.le_of_ble_eq_true rfl⟩ ⟨Nat.le_refl _, Nat.le_refl _⟩ hP hD hS hl.1 (Nat.le_of_ble_eq_true rfl) dX6_spreads_19 rfl) hS (fun r2 u H locs hw758 hP hD hS => ?_)
    refine lv_istore (lv' := [(5, .int r2), (0, .ref (ad 0)), (1, .int x1), (2, .int x2), (3, .int x3), (4, .int x4)]) hC.x hC.b dX6_spreads_22 hl (by decide) rfl (fun ls hl => ?_)
    refine lv_iload hC.x hC.b dX6_spreads_24 (lv_at hl 0 rfl) ?_
    refine lv_bipush (v := 7) hC.x hC.b dX6_spreads_26 (by decide) ?_
    refine lv_imul hC.x hC.b dX6_spreads_28 ?_
    refine lv_iload hC.x hC.b dX6_spreads_29 (lv_at hl 5 rfl) ?_
    refine lv_iadd hC.x hC.b dX6_spreads_31 ?_
    refine lv_istore (lv' := [(6, .int ((r2 * 7) + x4)), (5, .int r2), (0, .ref (ad 0)), (1, .int x1), (2, .int x2), (3, .int x3), (4, .int x4)]) hC.x hC.b dX6_spreads_32 hl (by decide) rfl (fun ls hl => ?_)
    refine lv_iload hC.x hC.b dX6_spreads_34 (lv_at hl 1 rfl) ?_
    refine lv_iload_n hC.x hC.b dX6_spreads_36 rfl (lv_at hl 3 rfl) ?_
    refine lv_icmp_eq (tgt := 85) hC.x hC.b dX6_spreads_37 (by decide) (fun c3 => ?_) (fun c3 => ?_)
    · have hw759 := hw758.1 c3
      refine lv_iinc (v := (x4 + 1)) (lv' := [(4, .int (x4 + 1)), (6, .int ((r2 * 7) + x4)), (5, .int r2), (0, .ref (ad 0)), (1, .int x1), (2, .int x2), (3, .int x3)]) hC.x hC.b dX6_spreads_85 hl (k := 6) rfl rfl (by decide) rfl (fun ls hl => ?_)
      refine lv_goto (tgt := 3) hC.x hC.b dX6_spreads_88 (by decide) ?_
      exact hK3 (S, (x4 + 1)) hw759 H locs ls hP hD hS (lv_sub hl [3, 4, 5, 6, 0] rfl)
    · have hw760 := hw758.2 c3
      refine lv_iload_n hC.x hC.b dX6_spreads_40 rfl (lv_at hl 4 rfl) ?_
      refine lv_aload_n hC.x hC.b dX6_spreads_41 rfl (lv_at hl 2 rfl) ?_
      refine lv_iload_n hC.x hC.b dX6_spreads_42 rfl (lv_at hl 5 rfl) ?_
      refine lv_aload_n hC.x hC.b dX6_spreads_43 rfl (lv_at hl 2 rfl) ?_
      refine gM_16 hC hP dX6_spreads_44 ?_
      refine lv_iload hC.x hC.b dX6_spreads_47 (lv_at hl 6 rfl) ?_
      obtain ⟨hin, hw761⟩ := hw760
      refine lM_3 hC hP hin rfl dX6_spreads_49 ?_
      refine go_i (run_V (rest := [.int x2]) hC (m6_apart l hw761) v6_6_apart h6_apart 0 5 gCl_X6 rfl rfl ⟨rfl, rfl, Nat.le_of_ble_eq_true rfl, Nat.le_of_ble_eq_true rfl⟩ ⟨Nat.le_refl _, Nat.le_refl _⟩ hP hD hS hl.1 (Nat.le_of_ble_eq_true rfl) dX6_spreads_50 rfl) hS (fun r4 u H locs hw762 hP hD hS => ?_)
      refine lv_iadd hC.x hC.b dX6_spreads_53 ?_
      refine lv_aload_n hC.x hC.b dX6_spreads_54 rfl (lv_at hl 2 rfl) ?_
      refine gM_24 hC hP dX6_spreads_55 ?_
      refine lv_iload hC.x hC.b dX6_spreads_58 (lv_at hl 0 rfl) ?_
      obtain ⟨hin, hw763⟩ := hw762
      refine lM_8 hC hP hin rfl dX6_spreads_60 ?_
      refine lv_icmp_ge (tgt := 85) hC.x hC.b dX6_spreads_61 (by decide) (fun c5 => ?_) (fun c5 => ?_)
      · have hw764 := hw763.1 c5
        refine lv_iinc (v := (x4 + 1)) (lv' := [(4, .int (x4 + 1)), (6, .int ((r2 * 7) + x4)), (5, .int r2), (0, .ref (ad 0)), (1, .int x1), (2, .int x2), (3, .int x3)]) hC.x hC.b dX6_spreads_85 hl (k := 6) rfl rfl (by decide) rfl (fun ls hl => ?_)
        refine lv_goto (tgt := 3) hC.x hC.b dX6_spreads_88 (by decide) ?_
        exact hK3 (S, (x4 + 1)) hw764 H locs ls hP hD hS (lv_sub hl [3, 4, 5, 6, 0] rfl)
      · have hw765 := hw763.2 c5
        refine lv_aload_n hC.x hC.b dX6_spreads_64 rfl (lv_at hl 2 rfl) ?_
        refine gM_24 hC hP dX6_spreads_65 ?_
        refine lv_iload hC.x hC.b dX6_spreads_68 (lv_at hl 0 rfl) ?_
        refine lv_iload_n hC.x hC.b dX6_spreads_70 rfl (lv_at hl 4 rfl) ?_
        refine lv_aload_n hC.x hC.b dX6_spreads_71 rfl (lv_at hl 2 rfl) ?_
        refine lv_iload_n hC.x hC.b dX6_spreads_72 rfl (lv_at hl 5 rfl) ?_
        refine lv_aload_n hC.x hC.b dX6_spreads_73 rfl (lv_at hl 2 rfl) ?_
        refine gM_16 hC hP dX6_spreads_74 ?_
        refine lv_iload hC.x hC.b dX6_spreads_77 (lv_at hl 6 rfl) ?_
        obtain ⟨hin, hw766⟩ := hw765
        refine lM_3 hC hP hin rfl dX6_spreads_79 ?_
        refine go_i (run_V (rest := [.int x2, .int ((r2 * 7) + x4), .ref (ad 8)]) hC (m6_apart l hw766) v6_6_apart h6_apart 0 5 gCl_X6 rfl rfl ⟨rfl, rfl, Nat.le_of_ble_eq_true rfl, Nat.le_of_ble_eq_true rfl⟩ ⟨Nat.le_refl _, Nat.le_refl _⟩ hP hD hS hl.1 (Nat.le_of_ble_eq_true rfl) dX6_spreads_80 rfl) hS (fun r6 u H locs hw767 hP hD hS => ?_)
        refine lv_iadd hC.x hC.b dX6_spreads_83 ?_
        obtain ⟨hin, hw768⟩ := hw767
        refine sM_8 hC hP hD hS (v := (x2 + r6)) hin rfl dX6_spreads_84 (fun S7 eS7 H locs hP hD hS => ?_)
        have hw769 := hw768 S7 eS7
        refine lv_iinc (v := (x4 + 1)) (lv' := [(4, .int (x4 + 1)), (6, .int ((r2 * 7) + x4)), (5, .int r2), (0, .ref (ad 0)), (1, .int x1), (2, .int x2), (3, .int x3)]) hC.x hC.b dX6_spreads_85 hl (k := 6) rfl rfl (by decide) rfl (fun ls hl => ?_)
        refine lv_goto (tgt := 3) hC.x hC.b dX6_spreads_88 (by decide) ?_
        exact hK3 (S7, (x4 + 1)) hw769 H locs ls hP hD hS (lv_sub hl [3, 4, 5, 6, 0] rfl)
def w6_spreads (post : MS → Prop) (tw : Option (Nat → Nat)) (S : MS) (x1 : Int32) (x2 : Int32) (x3 : Int32) : Prop :=
  (lp (fun (K : (MS × Int32) → Prop) (z : (MS × Int32)) => f6_spreads_3 post tw x1 x2 x3 K z.1 z.2) (S, 0))
set_option maxHeartbeats 4000000 in
theorem m6_spreads (l : Launch) {post : MS → Prop} {S : MS} {x1 : Int32} {x2 : Int32} {x3 : Int32} (hw : w6_spreads post tw S x1 x2 x3) : Met l yX6_spreads (ws_ yX6_spreads cX6_spreads 7 none) ({ frames := 2, cells := 0, slots := 0, locals := 45 } : Room) (va_Pc [.ref (ad 0), .int x1, .int x2, .int x3] (PcG D gCl nwG Z Hb A (wM D ad none rdv tw S))) (va_Qv post (BW D gCl A (fun u => (wM D ad none rdv tw u))) A) 0 0 A := by
  refine Met.ofG (by decide) (Nat.le_of_ble_eq_true rfl) ?_
  intro p e s m below meth c ls hC _ hP hD hS hl
  have hC : CX RX6 cX6_spreads 7 none D gCl nwG Z Hb A p s m _ meth c := hC
  have hl : lv_has ls 7 [(0, .ref (ad 0)), (1, .int x1), (2, .int x2), (3, .int x3)] := hl
  unfold w6_spreads at hw
  refine lv_iconst (v := 0) hC.x hC.b dX6_spreads_0 (by decide) ?_
  refine lv_istore (lv' := [(4, .int 0), (0, .ref (ad 0)), (1, .int x1), (2, .int x2), (3, .int x3)]) hC.x hC.b dX6_spreads_1 hl (by decide) rfl (fun ls hl => ?_)
  exact k6_spreads_3 hC (S, 0) hw s.heap [] ls hP hD hS (lv_sub hl [1, 2, 3, 4, 0] rfl)
theorem v6_6_spreads : GoodIn lw_all (wsV RX6 388 RX6 yX6_spreads (ws_ yX6_spreads cX6_spreads 7 none)) := lw_V q1982 q1984 qs97 q126 q1985
theorem h6_brings : yX6_brings.cls = RX6 ∧ yX6_brings.cls ≠ "java/lang/invoke/MethodHandle" ∧ yX6_brings.cls ≠ "java/lang/invoke/VarHandle" ∧ (parseMethodDescriptor yX6_brings.desc).map (fun d => d.parameters.length) = some 2 := by decide +kernel
def j6_brings_188 (tw : Option (Nat → Nat)) (K136 : (MS × Int32 × Int32) → Prop) (S : MS) (x1 : Int32) (x5 : Int32) (x6 : Int32) (x7 : Int32) (x8 : Int32) : Prop :=
  ((¬ x7 = 6 → (vp_in x7 19 ∧ (w6_spreads (fun S10 => (K136 (S10, x5, (x7 + 1)))) tw S x6 x8 (S.1 3 x7.toNatClampNeg)))) ∧ (x7 = 6 → (w6_spreads (fun S12 => (K136 (S12, x5, (x7 + 1)))) tw S x6 x8 x1)))
set_option maxHeartbeats 4000000 in
theorem k6_brings_188 {post : Int32 → MS → Prop} {S : MS} {x1 : Int32} {x3 : Int32} {x5 : Int32} {x6 : Int32} {x7 : Int32} {x8 : Int32} {K136 : (MS × Int32 × Int32) → Prop} (hC : CX RX6 cX6_brings 9 (some .int) D gCl nwG Z Hb A p s m args meth c) (hK136 : ∀ z : (MS × Int32 × Int32), K136 z → ∀ (H : Heap) (locs : List Loc) (ls : Array Slot), va_P D gCl (wM D ad none rdv (some t) z.1) H → va_D A (wM D ad none rdv (some t) z.1) → va_S A s.heap H locs → lv_has ls 9 [(0, .ref (ad 0)), (1, .int x1), (3, .int x3), (5, .int z.2.1), (6, .int x6), (7, .int z.2.2)] → W p l e ({ frames := 3, cells := 0, slots := 0, locals := 72 } : Room) s m args below meth c H locs 0 0 (MQ below (va_Qi post (BW D gCl A (fun u => (wM D ad none rdv (some t) u))) A) args s 0 0 A) (F0 m 136 ls [])) (hw : j6_brings_188 (some t) K136 S x1 x5 x6 x7 x8) : ∀ (H : Heap) (locs : List Loc) (ls : Array Slot), va_P D gCl (wM D ad none rdv (some t) S) H → va_D A (wM D ad none rdv (some t) S) → va_S A s.heap H locs → lv_has ls 9 [(0, .ref (ad 0)), (1, .int x1), (3, .int x3), (5, .int x5), (6, .int x6), (7, .int x7), (8, .int x8)] → W p l e ({ frames := 3, cells := 0, slots := 0, locals := 72 } : Room) s m args below meth c H locs 0 0 (MQ below (va_Qi post (BW D gCl A (fun u => (wM D ad none rdv (some t) u))) A) args s 0 0 A) (F0 m 188 ls []) := by
  intro H locs ls hP hD hS hl
  unfold j6_brings_188 at hw
  refine lv_aload_n hC.x hC.b dX6_brings_188 rfl (lv_at hl 0 rfl) ?_
  refine lv_iload hC.x hC.b dX6_brings_189 (lv_at hl 4 rfl) ?_
  refine lv_iload hC.x hC.b dX6_brings_191 (lv_at hl 6 rfl) ?_
  refine lv_iload hC.x hC.b dX6_brings_193 (lv_at hl 5 rfl) ?_
  refine lv_bipush (v := 6) hC.x hC.b dX6_brings_195 (by decide) ?_
  refine lv_icmp_ne (tgt := 204) hC.x hC.b dX6_brings_197 (by decide) (fun c8 => ?_) (fun c8 => ?_)
  · have hw782 := hw.1 c8
    refine lv_aload_n hC.x hC.b dX6_brings_204 rfl (lv_at hl 0 rfl) ?_
    refine gM_16 hC hP dX6_brings_205 ?_
    refine lv_iload hC.x hC.b dX6_brings_208 (lv_at hl 5 rfl) ?_
    obtain ⟨hin, hw783⟩ := hw782
    refine lM_3 hC hP hin rfl dX6_brings_210 ?_
    refine go_v (run_V (rest := []) hC (m6_spreads l hw783) v6_6_spreads h6_spreads 0 5 gCl_X6 rfl rfl ⟨rfl, rfl, Nat.le_of_ble_eq_true rfl, Nat.le_of_ble_eq_true rfl⟩ ⟨Nat.le_refl _, Nat.le_refl _⟩ hP hD hS hl.1 (Nat.le_of_ble_eq_true rfl) dX6_brings_211 rfl) hS (fun S10 H locs hw784 hP hD hS => ?_)
    refine lv_iinc (v := (x7 + 1)) (lv' := [(7, .int (x7 + 1)), (0, .ref (ad 0)), (1, .int x1), (3, .int x3), (5, .int x5), (6, .int x6), (8, .int x8)]) hC.x hC.b dX6_brings_214 hl (k := 5) rfl rfl (by decide) rfl (fun ls hl => ?_)
    refine lv_goto (tgt := 136) hC.x hC.b dX6_brings_217 (by decide) ?_
    exact hK136 (S10, x5, (x7 + 1)) hw784 H locs ls hP hD hS (lv_sub hl [1, 2, 3, 4, 5, 0] rfl)
  · have hw785 := hw.2 c8
    refine lv_iload_n hC.x hC.b dX6_brings_200 rfl (lv_at hl 1 rfl) ?_
    refine lv_goto (tgt := 211) hC.x hC.b dX6_brings_201 (by decide) ?_
    refine go_v (run_V (rest := []) hC (m6_spreads l hw785) v6_6_spreads h6_spreads 0 5 gCl_X6 rfl rfl ⟨rfl, rfl, Nat.le_of_ble_eq_true rfl, Nat.le_of_ble_eq_true rfl⟩ ⟨Nat.le_refl _, Nat.le_refl _⟩ hP hD hS hl.1 (Nat.le_of_ble_eq_true rfl) dX6_brings_211 rfl) hS (fun S12 H locs hw786 hP hD hS => ?_)
    refine lv_iinc (v := (x7 + 1)) (lv' := [(7, .int (x7 + 1)), (0, .ref (ad 0)), (1, .int x1), (3, .int x3), (5, .int x5), (6, .int x6), (8, .int x8)]) hC.x hC.b dX6_brings_214 hl (k := 5) rfl rfl (by decide) rfl (fun ls hl => ?_)
    refine lv_goto (tgt := 136) hC.x hC.b dX6_brings_217 (by decide) ?_
    exact hK136 (S12, x5, (x7 + 1)) hw786 H locs ls hP hD hS (lv_sub hl [1, 2, 3, 4, 5, 0] rfl)
def f6_brings_136 (tw : Option (Nat → Nat)) (K127 : (MS × Int32 × Int32) → Prop) (x1 : Int32) (x3 : Int32) (x6 : Int32) (K136 : (MS × Int32 × Int32) → Prop) (S : MS) (x5 : Int32) (x7 : Int32) : Prop :=
  ((6 < x7 → (K127 (S, x5, (x6 + 1)))) ∧ (¬ 6 < x7 → (vp_in ((x6 * 7) + x7) 5103 ∧ ((¬ (S.1 8 ((x6 * 7) + x7).toNatClampNeg) = 9999 → ((¬ x6 = (x3 - 1) → (j6_brings_188 tw K136 S x1 x5 x6 x7 (S.1 8 ((x6 * 7) + x7).toNatClampNeg))) ∧ (x6 = (x3 - 1) → ((x5 ≤ (S.1 8 ((x6 * 7) + x7).toNatClampNeg) → (j6_brings_188 tw K136 S x1 x5 x6 x7 (S.1 8 ((x6 * 7) + x7).toNatClampNeg))) ∧ (¬ x5 ≤ (S.1 8 ((x6 * 7) + x7).toNatClampNeg) → (j6_brings_188 tw K136 S x1 (S.1 8 ((x6 * 7) + x7).toNatClampNeg) x6 x7 (S.1 8 ((x6 * 7) + x7).toNatClampNeg))))))) ∧ ((S.1 8 ((x6 * 7) + x7).toNatClampNeg) = 9999 → (K136 (S, x5, (x7 + 1))))))))
set_option maxHeartbeats 4000000 in
theorem k6_brings_136 {post : Int32 → MS → Prop} {x1 : Int32} {x3 : Int32} {x6 : Int32} {K127 : (MS × Int32 × Int32) → Prop} (hC : CX RX6 cX6_brings 9 (some .int) D gCl nwG Z Hb A p s m args meth c) (hK127 : ∀ z : (MS × Int32 × Int32), K127 z → ∀ (H : Heap) (locs : List Loc) (ls : Array Slot), va_P D gCl (wM D ad none rdv (some t) z.1) H → va_D A (wM D ad none rdv (some t) z.1) → va_S A s.heap H locs → lv_has ls 9 [(0, .ref (ad 0)), (1, .int x1), (3, .int x3), (5, .int z.2.1), (6, .int z.2.2)] → W p l e ({ frames := 3, cells := 0, slots := 0, locals := 72 } : Room) s m args below meth c H locs 0 0 (MQ below (va_Qi post (BW D gCl A (fun u => (wM D ad none rdv (some t) u))) A) args s 0 0 A) (F0 m 127 ls [])) : ∀ z : (MS × Int32 × Int32), lp (fun (K : (MS × Int32 × Int32) → Prop) (z : (MS × Int32 × Int32)) => f6_brings_136 (some t) K127 x1 x3 x6 K z.1 z.2.1 z.2.2) z → ∀ (H : Heap) (locs : List Loc) (ls : Array Slot), va_P D gCl (wM D ad none rdv (some t) z.1) H → va_D A (wM D ad none rdv (some t) z.1) → va_S A s.heap H locs → lv_has ls 9 [(0, .ref (ad 0)), (1, .int x1), (3, .int x3), (5, .int z.2.1), (6, .int x6), (7, .int z.2.2)] → W p l e ({ frames := 3, cells := 0, slots := 0, locals := 72 } : Room) s m args below meth c H locs 0 0 (MQ below (va_Qi post (BW D gCl A (fun u => (wM D ad none rdv (some t) u))) A) args s 0 0 A) (F0 m 136 ls []) := by
  refine lp_ind ?_
  rintro K136 ⟨S, x5, x7⟩ hK136 hw H locs ls hP hD hS hl
  have hw : f6_brings_136 (some t) K127 x1 x3 x6 K136 S x5 x7 := hw
  unfold f6_brings_136 at hw
  have hP : va_P D gCl (wM D ad none rdv (some t) S) H := hP
  have hD : va_D A (wM D ad none rdv (some t) S) := hD
  have hl : lv_has ls 9 [(0, .ref (ad 0)), (1, .int x1), (3, .int x3), (5, .int x5), (6, .int x6), (7, .int x7)] := hl
  refine lv_iload hC.x hC.b dX6_brings_136 (lv_at hl 5 rfl) ?_
  refine lv_bipush (v := 6) hC.x hC.b dX6_brings_138 (by decide) ?_
  refine lv_icmp_gt (tgt := 220) hC.x hC.b dX6_brings_140 (by decide) (fun c5 => ?_) (fun c5 => ?_)
  · have hw777 := hw.1 c5
    refine lv_iinc (v := (x6 + 1)) (lv' := [(6, .int (x6 + 1)), (0, .ref (ad 0)), (1, .int x1), (3, .int x3), (5, .int x5), (7, .int x7)]) hC.x hC.b dX6_brings_220 hl (k := 4) rfl rfl (by decide) rfl (fun ls hl => ?_)
    refine lv_goto (tgt := 127) hC.x hC.b dX6_brings_223 (by decide) ?_
    exact hK127 (S, x5, (x6 + 1)) hw777 H locs ls hP hD hS (lv_sub hl [1, 2, 3, 4, 0] rfl)
  · have hw778 := hw.2 c5
    refine lv_aload_n hC.x hC.b dX6_brings_143 rfl (lv_at hl 0 rfl) ?_
    refine gM_24 hC hP dX6_brings_144 ?_
    refine lv_iload hC.x hC.b dX6_brings_147 (lv_at hl 4 rfl) ?_
    refine lv_bipush (v := 7) hC.x hC.b dX6_brings_149 (by decide) ?_
    refine lv_imul hC.x hC.b dX6_brings_151 ?_
    refine lv_iload hC.x hC.b dX6_brings_152 (lv_at hl 5 rfl) ?_
    refine lv_iadd hC.x hC.b dX6_brings_154 ?_
    obtain ⟨hin, hw779⟩ := hw778
    refine lM_8 hC hP hin rfl dX6_brings_155 ?_
    refine lv_istore (lv' := [(8, .int (S.1 8 ((x6 * 7) + x7).toNatClampNeg)), (0, .ref (ad 0)), (1, .int x1), (3, .int x3), (5, .int x5), (6, .int x6), (7, .int x7)]) hC.x hC.b dX6_brings_156 hl (by decide) rfl (fun ls hl => ?_)
    refine lv_iload hC.x hC.b dX6_brings_158 (lv_at hl 0 rfl) ?_
    refine lv_sipush (v := 9999) hC.x hC.b dX6_brings_160 (by decide) ?_
    refine lv_icmp_ne (tgt := 169) hC.x hC.b dX6_brings_163 (by decide) (fun c6 => ?_) (fun c6 => ?_)
    · have hw780 := hw779.1 c6
      refine lv_iload hC.x hC.b dX6_brings_169 (lv_at hl 5 rfl) ?_
      refine lv_iload_n hC.x hC.b dX6_brings_171 rfl (lv_at hl 3 rfl) ?_
      refine lv_iconst (v := 1) hC.x hC.b dX6_brings_172 (by decide) ?_
      refine lv_isub hC.x hC.b dX6_brings_173 ?_
      refine lv_icmp_ne (tgt := 188) hC.x hC.b dX6_brings_174 (by decide) (fun c7 => ?_) (fun c7 => ?_)
      · have hw781 := hw780.1 c7
        exact k6_brings_188 hC hK136 hw781 H locs ls hP hD hS (lv_sub hl [1, 2, 3, 4, 5, 6, 0] rfl)
      · have hw787 := hw780.2 c7
        refine lv_iload hC.x hC.b dX6_brings_177 (lv_at hl 0 rfl) ?_
        refine lv_iload hC.x hC.b dX6_brings_179 (lv_at hl 4 rfl) ?_
        refine lv_icmp_ge (tgt := 188) hC.x hC.b dX6_brings_181 (by decide) (fun c13 => ?_) (fun c13 => ?_)
        · have hw788 := hw787.1 c13
          exact k6_brings_188 hC hK136 hw788 H locs ls hP hD hS (lv_sub hl [1, 2, 3, 4, 5, 6, 0] rfl)
        · have hw789 := hw787.2 c13
          refine lv_iload hC.x hC.b dX6_brings_184 (lv_at hl 0 rfl) ?_
          refine lv_istore (lv' := [(5, .int (S.1 8 ((x6 * 7) + x7).toNatClampNeg)), (8, .int (S.1 8 ((x6 * 7) + x7).toNatClampNeg)), (0, .ref (ad 0)), (1, .int x1), (3, .int x3), (6, .int x6), (7, .int x7)]) hC.x hC.b dX6_brings_186 hl (by decide) rfl (fun ls hl => ?_)
          exact k6_brings_188 hC hK136 hw789 H locs ls hP hD hS (lv_sub hl [2, 3, 4, 0, 5, 6, 1] rfl)
    · have hw790 := hw779.2 c6
      refine lv_goto (tgt := 214) hC.x hC.b dX6_brings_166 (by decide) ?_
      refine lv_iinc (v := (x7 + 1)) (lv' := [(7, .int (x7 + 1)), (8, .int (S.1 8 ((x6 * 7) + x7).toNatClampNeg)), (0, .ref (ad 0)), (1, .int x1), (3, .int x3), (5, .int x5), (6, .int x6)]) hC.x hC.b dX6_brings_214 hl (k := 6) rfl rfl (by decide) rfl (fun ls hl => ?_)
      refine lv_goto (tgt := 136) hC.x hC.b dX6_brings_217 (by decide) ?_
      exact hK136 (S, x5, (x7 + 1)) hw790 H locs ls hP hD hS (lv_sub hl [2, 3, 4, 5, 6, 0] rfl)
def f6_brings_127 (post : Int32 → MS → Prop) (tw : Option (Nat → Nat)) (x1 : Int32) (x3 : Int32) (K127 : (MS × Int32 × Int32) → Prop) (S : MS) (x5 : Int32) (x6 : Int32) : Prop :=
  ((x3 ≤ x6 → (post x5 S)) ∧ (¬ x3 ≤ x6 → (lp (fun (K : (MS × Int32 × Int32) → Prop) (z : (MS × Int32 × Int32)) => f6_brings_136 tw K127 x1 x3 x6 K z.1 z.2.1 z.2.2) (S, x5, 0))))
set_option maxHeartbeats 4000000 in
theorem k6_brings_127 {post : Int32 → MS → Prop} {x1 : Int32} {x3 : Int32} (hC : CX RX6 cX6_brings 9 (some .int) D gCl nwG Z Hb A p s m args meth c) : ∀ z : (MS × Int32 × Int32), lp (fun (K : (MS × Int32 × Int32) → Prop) (z : (MS × Int32 × Int32)) => f6_brings_127 post (some t) x1 x3 K z.1 z.2.1 z.2.2) z → ∀ (H : Heap) (locs : List Loc) (ls : Array Slot), va_P D gCl (wM D ad none rdv (some t) z.1) H → va_D A (wM D ad none rdv (some t) z.1) → va_S A s.heap H locs → lv_has ls 9 [(0, .ref (ad 0)), (1, .int x1), (3, .int x3), (5, .int z.2.1), (6, .int z.2.2)] → W p l e ({ frames := 3, cells := 0, slots := 0, locals := 72 } : Room) s m args below meth c H locs 0 0 (MQ below (va_Qi post (BW D gCl A (fun u => (wM D ad none rdv (some t) u))) A) args s 0 0 A) (F0 m 127 ls []) := by
  refine lp_ind ?_
  rintro K127 ⟨S, x5, x6⟩ hK127 hw H locs ls hP hD hS hl
  have hw : f6_brings_127 post (some t) x1 x3 K127 S x5 x6 := hw
  unfold f6_brings_127 at hw
  have hP : va_P D gCl (wM D ad none rdv (some t) S) H := hP
  have hD : va_D A (wM D ad none rdv (some t) S) := hD
  have hl : lv_has ls 9 [(0, .ref (ad 0)), (1, .int x1), (3, .int x3), (5, .int x5), (6, .int x6)] := hl
  refine lv_iload hC.x hC.b dX6_brings_127 (lv_at hl 4 rfl) ?_
  refine lv_iload_n hC.x hC.b dX6_brings_129 rfl (lv_at hl 2 rfl) ?_
  refine lv_icmp_ge (tgt := 226) hC.x hC.b dX6_brings_130 (by decide) (fun c4 => ?_) (fun c4 => ?_)
  · have hw775 := hw.1 c4
    refine lv_iload hC.x hC.b dX6_brings_226 (lv_at hl 3 rfl) ?_
    exact rt_i hC hw775 hP hD hS dX6_brings_228
  · have hw776 := hw.2 c4
    refine lv_iconst (v := 0) hC.x hC.b dX6_brings_133 (by decide) ?_
    refine lv_istore (lv' := [(7, .int 0), (0, .ref (ad 0)), (1, .int x1), (3, .int x3), (5, .int x5), (6, .int x6)]) hC.x hC.b dX6_brings_134 hl (by decide) rfl (fun ls hl => ?_)
    exact k6_brings_136 hC hK127 (S, x5, 0) hw776 H locs ls hP hD hS (lv_sub hl [1, 2, 3, 4, 5, 0] rfl)
def f6_brings_79 (post : Int32 → MS → Prop) (tw : Option (Nat → Nat)) (x1 : Int32) (x3 : Int32) (x4 : Int32) (K79 : (MS × Int32) → Prop) (S : MS) (x5 : Int32) : Prop :=
  (((x3 * 7) ≤ x5 → (vp_in ((x4 * 7) + 6) 5103 ∧ (∀ S3, S3 = uI S 8 ((x4 * 7) + 6).toNatClampNeg 0 → (lp (fun (K : (MS × Int32 × Int32) → Prop) (z : (MS × Int32 × Int32)) => f6_brings_127 post tw x1 x3 K z.1 z.2.1 z.2.2) (S3, 9999, x4))))) ∧ (¬ (x3 * 7) ≤ x5 → (vp_in x5 5103 ∧ (∀ S14, S14 = uI S 8 x5.toNatClampNeg 9999 → (K79 (S14, (x5 + 1)))))))
set_option maxHeartbeats 4000000 in
theorem k6_brings_79 {post : Int32 → MS → Prop} {x1 : Int32} {x3 : Int32} {x4 : Int32} (hC : CX RX6 cX6_brings 9 (some .int) D gCl nwG Z Hb A p s m args meth c) : ∀ z : (MS × Int32), lp (fun (K : (MS × Int32) → Prop) (z : (MS × Int32)) => f6_brings_79 post (some t) x1 x3 x4 K z.1 z.2) z → ∀ (H : Heap) (locs : List Loc) (ls : Array Slot), va_P D gCl (wM D ad none rdv (some t) z.1) H → va_D A (wM D ad none rdv (some t) z.1) → va_S A s.heap H locs → lv_has ls 9 [(0, .ref (ad 0)), (1, .int x1), (3, .int x3), (4, .int x4), (5, .int z.2)] → W p l e ({ frames := 3, cells := 0, slots := 0, locals := 72 } : Room) s m args below meth c H locs 0 0 (MQ below (va_Qi post (BW D gCl A (fun u => (wM D ad none rdv (some t) u))) A) args s 0 0 A) (F0 m 79 ls []) := by
  refine lp_ind ?_
  rintro K79 ⟨S, x5⟩ hK79 hw H locs ls hP hD hS hl
  have hw : f6_brings_79 post (some t) x1 x3 x4 K79 S x5 := hw
  unfold f6_brings_79 at hw
  have hP : va_P D gCl (wM D ad none rdv (some t) S) H := hP
  have hD : va_D A (wM D ad none rdv (some t) S) := hD
  have hl : lv_has ls 9 [(0, .ref (ad 0)), (1, .int x1), (3, .int x3), (4, .int x4), (5, .int x5)] := hl
  refine lv_iload hC.x hC.b dX6_brings_79 (lv_at hl 4 rfl) ?_
  refine lv_iload_n hC.x hC.b dX6_brings_81 rfl (lv_at hl 2 rfl) ?_
  refine lv_bipush (v := 7) hC.x hC.b dX6_brings_82 (by decide) ?_
  refine lv_imul hC.x hC.b dX6_brings_84 ?_
  refine lv_icmp_ge (tgt := 104) hC.x hC.b dX6_brings_85 (by decide) (fun c2 => ?_) (fun c2 => ?_)
  · have hw772 := hw.1 c2
    refine lv_aload_n hC.x hC.b dX6_brings_104 rfl (lv_at hl 0 rfl) ?_
    refine gM_24 hC hP dX6_brings_105 ?_
    refine lv_iload hC.x hC.b dX6_brings_108 (lv_at hl 3 rfl) ?_
    refine lv_bipush (v := 7) hC.x hC.b dX6_brings_110 (by decide) ?_
    refine lv_imul hC.x hC.b dX6_brings_112 ?_
    refine lv_bipush (v := 6) hC.x hC.b dX6_brings_113 (by decide) ?_
    refine lv_iadd hC.x hC.b dX6_brings_115 ?_
    refine lv_iconst (v := 0) hC.x hC.b dX6_brings_116 (by decide) ?_
    obtain ⟨hin, hw773⟩ := hw772
    refine sM_8 hC hP hD hS (v := 0) hin rfl dX6_brings_117 (fun S3 eS3 H locs hP hD hS => ?_)
    have hw774 := hw773 S3 eS3
    refine lv_sipush (v := 9999) hC.x hC.b dX6_brings_118 (by decide) ?_
    refine lv_istore (lv' := [(5, .int 9999), (0, .ref (ad 0)), (1, .int x1), (3, .int x3), (4, .int x4)]) hC.x hC.b dX6_brings_121 hl (by decide) rfl (fun ls hl => ?_)
    refine lv_iload hC.x hC.b dX6_brings_123 (lv_at hl 4 rfl) ?_
    refine lv_istore (lv' := [(6, .int x4), (5, .int 9999), (0, .ref (ad 0)), (1, .int x1), (3, .int x3), (4, .int x4)]) hC.x hC.b dX6_brings_125 hl (by decide) rfl (fun ls hl => ?_)
    exact k6_brings_127 hC (S3, 9999, x4) hw774 H locs ls hP hD hS (lv_sub hl [2, 3, 4, 1, 0] rfl)
  · have hw791 := hw.2 c2
    refine lv_aload_n hC.x hC.b dX6_brings_88 rfl (lv_at hl 0 rfl) ?_
    refine gM_24 hC hP dX6_brings_89 ?_
    refine lv_iload hC.x hC.b dX6_brings_92 (lv_at hl 4 rfl) ?_
    refine lv_sipush (v := 9999) hC.x hC.b dX6_brings_94 (by decide) ?_
    obtain ⟨hin, hw792⟩ := hw791
    refine sM_8 hC hP hD hS (v := 9999) hin rfl dX6_brings_97 (fun S14 eS14 H locs hP hD hS => ?_)
    have hw793 := hw792 S14 eS14
    refine lv_iinc (v := (x5 + 1)) (lv' := [(5, .int (x5 + 1)), (0, .ref (ad 0)), (1, .int x1), (3, .int x3), (4, .int x4)]) hC.x hC.b dX6_brings_98 hl (k := 4) rfl rfl (by decide) rfl (fun ls hl => ?_)
    refine lv_goto (tgt := 79) hC.x hC.b dX6_brings_101 (by decide) ?_
    exact hK79 (S14, (x5 + 1)) hw793 H locs ls hP hD hS (lv_sub hl [1, 2, 3, 4, 0] rfl)
def f6_brings_8 (post : Int32 → MS → Prop) (tw : Option (Nat → Nat)) (x1 : Int32) (x2 : Int32) (K8 : (MS × Int32 × Int32 × Int32) → Prop) (S : MS) (x3 : Int32) (x4 : Int32) (x5 : Int32) : Prop :=
  ((∃ t, tw = some t) ∧ (((S.1 20 3) ≤ x5 → (lp (fun (K : (MS × Int32) → Prop) (z : (MS × Int32)) => f6_brings_79 post tw x1 x3 x4 K z.1 z.2) (S, 0))) ∧ (¬ (S.1 20 3) ≤ x5 → (w6_whoHears (fun r15 => (vp_in x5 6 ∧ (∀ S16, S16 = uI S 9 x5.toNatClampNeg r15 → (vp_in x5 6 ∧ (vp_in x5 6 ∧ ((¬ (S16.1 9 x5.toNatClampNeg) = (S16.1 24 x5.toNatClampNeg) → (K8 (S16, (x3 * 3), (x4 + 0), (x5 + 1)))) ∧ ((S16.1 9 x5.toNatClampNeg) = (S16.1 24 x5.toNatClampNeg) → (K8 (S16, (x3 * 3), (x4 + (2 * x3)), (x5 + 1)))))))))) tw S x5 x2))))
set_option maxHeartbeats 4000000 in
theorem k6_brings_8 {post : Int32 → MS → Prop} {x1 : Int32} {x2 : Int32} (hC : CX RX6 cX6_brings 9 (some .int) D gCl nwG Z Hb A p s m args meth c) : ∀ z : (MS × Int32 × Int32 × Int32), lp (fun (K : (MS × Int32 × Int32 × Int32) → Prop) (z : (MS × Int32 × Int32 × Int32)) => f6_brings_8 post tw x1 x2 K z.1 z.2.1 z.2.2.1 z.2.2.2) z → ∀ (H : Heap) (locs : List Loc) (ls : Array Slot), va_P D gCl (wM D ad none rdv tw z.1) H → va_D A (wM D ad none rdv tw z.1) → va_S A s.heap H locs → lv_has ls 9 [(0, .ref (ad 0)), (1, .int x1), (2, .int x2), (3, .int z.2.1), (4, .int z.2.2.1), (5, .int z.2.2.2)] → W p l e ({ frames := 3, cells := 0, slots := 0, locals := 72 } : Room) s m args below meth c H locs 0 0 (MQ below (va_Qi post (BW D gCl A (fun u => (wM D ad none rdv tw u))) A) args s 0 0 A) (F0 m 8 ls []) := by
  refine lp_ind ?_
  rintro K8 ⟨S, x3, x4, x5⟩ hK8 hw H locs ls hP hD hS hl
  have hw : f6_brings_8 post tw x1 x2 K8 S x3 x4 x5 := hw
  unfold f6_brings_8 at hw
  have hP : va_P D gCl (wM D ad none rdv tw S) H := hP
  have hD : va_D A (wM D ad none rdv tw S) := hD
  have hl : lv_has ls 9 [(0, .ref (ad 0)), (1, .int x1), (2, .int x2), (3, .int x3), (4, .int x4), (5, .int x5)] := hl
  refine lv_iload hC.x hC.b dX6_brings_8 (lv_at hl 5 rfl) ?_
  refine lv_aload_n hC.x hC.b dX6_brings_10 rfl (lv_at hl 0 rfl) ?_
  refine gM_3 hC hP dX6_brings_11 ?_
  obtain ⟨⟨t, rfl⟩, hw770⟩ := hw
  refine gT_3 hC hP dX6_brings_14 ?_
  refine lv_icmp_ge (tgt := 76) hC.x hC.b dX6_brings_17 (by decide) (fun c1 => ?_) (fun c1 => ?_)
  · have hw771 := hw770.1 c1
    refine lv_iconst (v := 0) hC.x hC.b dX6_brings_76 (by decide) ?_
    refine lv_istore (lv' := [(5, .int 0), (0, .ref (ad 0)), (1, .int x1), (2, .int x2), (3, .int x3), (4, .int x4)]) hC.x hC.b dX6_brings_77 hl (by decide) rfl (fun ls hl => ?_)
    exact k6_brings_79 hC (S, 0) hw771 H locs ls hP hD hS (lv_sub hl [1, 2, 4, 5, 0] rfl)
  · have hw794 := hw770.2 c1
    refine lv_aload_n hC.x hC.b dX6_brings_20 rfl (lv_at hl 0 rfl) ?_
    refine gM_25 hC hP dX6_brings_21 ?_
    refine lv_iload hC.x hC.b dX6_brings_24 (lv_at hl 5 rfl) ?_
    refine lv_aload_n hC.x hC.b dX6_brings_26 rfl (lv_at hl 0 rfl) ?_
    refine lv_iload hC.x hC.b dX6_brings_27 (lv_at hl 5 rfl) ?_
    refine lv_iload_n hC.x hC.b dX6_brings_29 rfl (lv_at hl 2 rfl) ?_
    refine go_i (run_V (rest := [.int x5, .ref (ad 9)]) hC (m6_whoHears l hw794) v6_6_whoHears h6_whoHears 0 5 gCl_X6 rfl rfl ⟨rfl, rfl, Nat.le_of_ble_eq_true rfl, Nat.le_of_ble_eq_true rfl⟩ ⟨Nat.le_refl _, Nat.le_refl _⟩ hP hD hS hl.1 (Nat.le_of_ble_eq_true rfl) dX6_brings_30 rfl) hS (fun r15 u H locs hw795 hP hD hS => ?_)
    obtain ⟨hin, hw796⟩ := hw795
    refine sM_9 hC hP hD hS (v := r15) hin rfl dX6_brings_33 (fun S16 eS16 H locs hP hD hS => ?_)
    have hw797 := hw796 S16 eS16
    refine lv_iload hC.x hC.b dX6_brings_34 (lv_at hl 4 rfl) ?_
    refine lv_aload_n hC.x hC.b dX6_brings_36 rfl (lv_at hl 0 rfl) ?_
    refine gM_25 hC hP dX6_brings_37 ?_
    refine lv_iload hC.x hC.b dX6_brings_40 (lv_at hl 5 rfl) ?_
    obtain ⟨hin, hw798⟩ := hw797
    refine lM_9 hC hP hin rfl dX6_brings_42 ?_
    refine lv_aload_n hC.x hC.b dX6_brings_43 rfl (lv_at hl 0 rfl) ?_
    refine gM_3 hC hP dX6_brings_44 ?_
    refine gT_11 hC hP dX6_brings_47 ?_
    refine lv_iload hC.x hC.b dX6_brings_50 (lv_at hl 5 rfl) ?_
    obtain ⟨hin, hw799⟩ := hw798
    refine lT_4 hC hP hin rfl dX6_brings_52 ?_
    refine lv_icmp_ne (tgt := 62) hC.x hC.b dX6_brings_53 (by decide) (fun c17 => ?_) (fun c17 => ?_)
    · have hw800 := hw799.1 c17
      refine lv_iconst (v := 0) hC.x hC.b dX6_brings_62 (by decide) ?_
      refine lv_iadd hC.x hC.b dX6_brings_63 ?_
      refine lv_istore (lv' := [(4, .int (x4 + 0)), (0, .ref (ad 0)), (1, .int x1), (2, .int x2), (3, .int x3), (5, .int x5)]) hC.x hC.b dX6_brings_64 hl (by decide) rfl (fun ls hl => ?_)
      refine lv_iload_n hC.x hC.b dX6_brings_66 rfl (lv_at hl 4 rfl) ?_
      refine lv_iconst (v := 3) hC.x hC.b dX6_brings_67 (by decide) ?_
      refine lv_imul hC.x hC.b dX6_brings_68 ?_
      refine lv_istore_n (lv' := [(3, .int (x3 * 3)), (4, .int (x4 + 0)), (0, .ref (ad 0)), (1, .int x1), (2, .int x2), (5, .int x5)]) hC.x hC.b dX6_brings_69 rfl hl (by decide) rfl (fun ls hl => ?_)
      refine lv_iinc (v := (x5 + 1)) (lv' := [(5, .int (x5 + 1)), (3, .int (x3 * 3)), (4, .int (x4 + 0)), (0, .ref (ad 0)), (1, .int x1), (2, .int x2)]) hC.x hC.b dX6_brings_70 hl (k := 5) rfl rfl (by decide) rfl (fun ls hl => ?_)
      refine lv_goto (tgt := 8) hC.x hC.b dX6_brings_73 (by decide) ?_
      exact hK8 (S16, (x3 * 3), (x4 + 0), (x5 + 1)) hw800 H locs ls hP hD hS (lv_sub hl [3, 4, 5, 1, 2, 0] rfl)
    · have hw801 := hw799.2 c17
      refine lv_iconst (v := 2) hC.x hC.b dX6_brings_56 (by decide) ?_
      refine lv_iload_n hC.x hC.b dX6_brings_57 rfl (lv_at hl 3 rfl) ?_
      refine lv_imul hC.x hC.b dX6_brings_58 ?_
      refine lv_goto (tgt := 63) hC.x hC.b dX6_brings_59 (by decide) ?_
      refine lv_iadd hC.x hC.b dX6_brings_63 ?_
      refine lv_istore (lv' := [(4, .int (x4 + (2 * x3))), (0, .ref (ad 0)), (1, .int x1), (2, .int x2), (3, .int x3), (5, .int x5)]) hC.x hC.b dX6_brings_64 hl (by decide) rfl (fun ls hl => ?_)
      refine lv_iload_n hC.x hC.b dX6_brings_66 rfl (lv_at hl 4 rfl) ?_
      refine lv_iconst (v := 3) hC.x hC.b dX6_brings_67 (by decide) ?_
      refine lv_imul hC.x hC.b dX6_brings_68 ?_
      refine lv_istore_n (lv' := [(3, .int (x3 * 3)), (4, .int (x4 + (2 * x3))), (0, .ref (ad 0)), (1, .int x1), (2, .int x2), (5, .int x5)]) hC.x hC.b dX6_brings_69 rfl hl (by decide) rfl (fun ls hl => ?_)
      refine lv_iinc (v := (x5 + 1)) (lv' := [(5, .int (x5 + 1)), (3, .int (x3 * 3)), (4, .int (x4 + (2 * x3))), (0, .ref (ad 0)), (1, .int x1), (2, .int x2)]) hC.x hC.b dX6_brings_70 hl (k := 5) rfl rfl (by decide) rfl (fun ls hl => ?_)
      refine lv_goto (tgt := 8) hC.x hC.b dX6_brings_73 (by decide) ?_
      exact hK8 (S16, (x3 * 3), (x4 + (2 * x3)), (x5 + 1)) hw801 H locs ls hP hD hS (lv_sub hl [3, 4, 5, 1, 2, 0] rfl)
def w6_brings (post : Int32 → MS → Prop) (tw : Option (Nat → Nat)) (S : MS) (x1 : Int32) (x2 : Int32) : Prop :=
  (lp (fun (K : (MS × Int32 × Int32 × Int32) → Prop) (z : (MS × Int32 × Int32 × Int32)) => f6_brings_8 post tw x1 x2 K z.1 z.2.1 z.2.2.1 z.2.2.2) (S, 1, 0, 0))
set_option maxHeartbeats 4000000 in
theorem m6_brings (l : Launch) {post : Int32 → MS → Prop} {S : MS} {x1 : Int32} {x2 : Int32} (hw : w6_brings post tw S x1 x2) : Met l yX6_brings (ws_ yX6_brings cX6_brings 9 (some .int)) ({ frames := 3, cells := 0, slots := 0, locals := 72 } : Room) (va_Pc [.ref (ad 0), .int x1, .int x2] (PcG D gCl nwG Z Hb A (wM D ad none rdv tw S))) (va_Qi post (BW D gCl A (fun u => (wM D ad none rdv tw u))) A) 0 0 A := by
  refine Met.ofG (by decide) (Nat.le_of_ble_eq_true rfl) ?_
  intro p e s m below meth c ls hC _ hP hD hS hl
  have hC : CX RX6 cX6_brings 9 (some .int) D gCl nwG Z Hb A p s m _ meth c := hC
  have hl : lv_has ls 9 [(0, .ref (ad 0)), (1, .int x1), (2, .int x2)] := hl
  unfold w6_brings at hw
  refine lv_iconst (v := 1) hC.x hC.b dX6_brings_0 (by decide) ?_
  refine lv_istore_n (lv' := [(3, .int 1), (0, .ref (ad 0)), (1, .int x1), (2, .int x2)]) hC.x hC.b dX6_brings_1 rfl hl (by decide) rfl (fun ls hl => ?_)
  refine lv_iconst (v := 0) hC.x hC.b dX6_brings_2 (by decide) ?_
  refine lv_istore (lv' := [(4, .int 0), (3, .int 1), (0, .ref (ad 0)), (1, .int x1), (2, .int x2)]) hC.x hC.b dX6_brings_3 hl (by decide) rfl (fun ls hl => ?_)
  refine lv_iconst (v := 0) hC.x hC.b dX6_brings_5 (by decide) ?_
  refine lv_istore (lv' := [(5, .int 0), (4, .int 0), (3, .int 1), (0, .ref (ad 0)), (1, .int x1), (2, .int x2)]) hC.x hC.b dX6_brings_6 hl (by decide) rfl (fun ls hl => ?_)
  exact k6_brings_8 hC (S, 1, 0, 0) hw s.heap [] ls hP hD hS (lv_sub hl [3, 4, 5, 2, 1, 0] rfl)
theorem v6_6_brings : GoodIn lw_all (wsV RX6 398 RX6 yX6_brings (ws_ yX6_brings cX6_brings 9 (some .int))) := lw_V q1978 q1980 qs96 q126 q1981
theorem h6_bring : yX6_bring.cls = RX6 ∧ yX6_bring.cls ≠ "java/lang/invoke/MethodHandle" ∧ yX6_bring.cls ≠ "java/lang/invoke/VarHandle" ∧ (parseMethodDescriptor yX6_bring.desc).map (fun d => d.parameters.length) = some 2 := by decide +kernel
def w6_bring (post : Int32 → MS → Prop) (tw : Option (Nat → Nat)) (S : MS) (x1 : Int32) (x2 : Int32) : Prop :=
  (∀ S1, S1 = uI S 0 0 0 → (w6_isHouse (fun r2 => (w6_refusesNight (fun r3 => ((r3 ≤ 0 → (w6_works (fun S6 => (w6_brings (fun r7 S8 => (w6_good (fun r9 S10 => (post r9 S10)) S8 r7)) tw S6 x1 x2)) S1)) ∧ (¬ r3 ≤ 0 → (w6_refused (fun r11 S12 => (post r11 S12)) S1 r3)))) S1 r2 x2)) tw S1 x1))
set_option maxHeartbeats 4000000 in
theorem m6_bring (l : Launch) {post : Int32 → MS → Prop} {S : MS} {x1 : Int32} {x2 : Int32} (hw : w6_bring post tw S x1 x2) : Met l yX6_bring (ws_ yX6_bring cX6_bring 4 (some .int)) ({ frames := 4, cells := 0, slots := 0, locals := 100 } : Room) (va_Pc [.ref (ad 0), .int x1, .int x2] (PcG D gCl nwG Z Hb A (wM D ad none rdv tw S))) (va_Qi post (BW D gCl A (fun u => (wM D ad none rdv tw u))) A) 0 0 A := by
  refine Met.ofG (by decide) (Nat.le_of_ble_eq_true rfl) ?_
  intro p e s m below meth c ls hC _ hP hD hS hl
  have hC : CX RX6 cX6_bring 4 (some .int) D gCl nwG Z Hb A p s m _ meth c := hC
  have hl : lv_has ls 4 [(0, .ref (ad 0)), (1, .int x1), (2, .int x2)] := hl
  unfold w6_bring at hw
  refine lv_aload_n hC.x hC.b dX6_bring_0 rfl (lv_at hl 0 rfl) ?_
  refine lv_iconst (v := 0) hC.x hC.b dX6_bring_1 (by decide) ?_
  refine pM_0 hC hP hD hS (v := 0) dX6_bring_2 (fun S1 eS1 H locs hP hD hS => ?_)
  have hw802 := hw S1 eS1
  refine lv_aload_n hC.x hC.b dX6_bring_5 rfl (lv_at hl 0 rfl) ?_
  refine lv_aload_n hC.x hC.b dX6_bring_6 rfl (lv_at hl 0 rfl) ?_
  refine lv_iload_n hC.x hC.b dX6_bring_7 rfl (lv_at hl 1 rfl) ?_
  refine go_i (run_V (rest := [.ref (ad 0)]) hC (m6_isHouse l hw802) v6_6_isHouse h6_isHouse 0 5 gCl_X6 rfl rfl ⟨rfl, rfl, Nat.le_of_ble_eq_true rfl, Nat.le_of_ble_eq_true rfl⟩ ⟨Nat.le_refl _, Nat.le_refl _⟩ hP hD hS hl.1 (Nat.le_of_ble_eq_true rfl) dX6_bring_8 rfl) hS (fun r2 u H locs hw803 hP hD hS => ?_)
  refine lv_iload_n hC.x hC.b dX6_bring_11 rfl (lv_at hl 2 rfl) ?_
  refine go_i (run_V (rest := []) hC (m6_refusesNight l hw803) v6_6_refusesNight h6_refusesNight 0 5 gCl_X6 rfl rfl ⟨rfl, rfl, Nat.le_of_ble_eq_true rfl, Nat.le_of_ble_eq_true rfl⟩ ⟨Nat.le_refl _, Nat.le_refl _⟩ hP hD hS hl.1 (Nat.le_of_ble_eq_true rfl) dX6_bring_12 rfl) hS (fun r3 u H locs hw804 hP hD hS => ?_)
  refine lv_istore_n (lv' := [(3, .int r3), (0, .ref (ad 0)), (1, .int x1), (2, .int x2)]) hC.x hC.b dX6_bring_15 rfl hl (by decide) rfl (fun ls hl => ?_)
  refine lv_iload_n hC.x hC.b dX6_bring_16 rfl (lv_at hl 0 rfl) ?_
  refine lv_if_le (tgt := 26) hC.x hC.b dX6_bring_17 (by decide) (fun c4 => ?_) (fun c4 => ?_)
  · have hw805 := hw804.1 c4
    refine lv_aload_n hC.x hC.b dX6_bring_26 rfl (lv_at hl 1 rfl) ?_
    refine go_v (run_V (rest := []) hC (m6_works l hw805) v6_6_works h6_works 0 5 gCl_X6 rfl rfl ⟨rfl, rfl, Nat.le_of_ble_eq_true rfl, Nat.le_of_ble_eq_true rfl⟩ ⟨Nat.le_refl _, Nat.le_refl _⟩ hP hD hS hl.1 (Nat.le_of_ble_eq_true rfl) dX6_bring_27 rfl) hS (fun S6 H locs hw806 hP hD hS => ?_)
    refine lv_aload_n hC.x hC.b dX6_bring_30 rfl (lv_at hl 1 rfl) ?_
    refine lv_aload_n hC.x hC.b dX6_bring_31 rfl (lv_at hl 1 rfl) ?_
    refine lv_iload_n hC.x hC.b dX6_bring_32 rfl (lv_at hl 2 rfl) ?_
    refine lv_iload_n hC.x hC.b dX6_bring_33 rfl (lv_at hl 3 rfl) ?_
    refine go_i (run_V (rest := [.ref (ad 0)]) hC (m6_brings l hw806) v6_6_brings h6_brings 0 5 gCl_X6 rfl rfl ⟨rfl, rfl, Nat.le_of_ble_eq_true rfl, Nat.le_of_ble_eq_true rfl⟩ ⟨Nat.le_refl _, Nat.le_refl _⟩ hP hD hS hl.1 (Nat.le_of_ble_eq_true rfl) dX6_bring_34 rfl) hS (fun r7 S8 H locs hw807 hP hD hS => ?_)
    refine go_i (run_V (rest := []) hC (m6_good l hw807) v6_6_good h6_good 0 5 gCl_X6 rfl rfl ⟨rfl, rfl, Nat.le_of_ble_eq_true rfl, Nat.le_of_ble_eq_true rfl⟩ ⟨Nat.le_refl _, Nat.le_refl _⟩ hP hD hS hl.1 (Nat.le_of_ble_eq_true rfl) dX6_bring_37 rfl) hS (fun r9 S10 H locs hw808 hP hD hS => ?_)
    exact rt_i hC hw808 hP hD hS dX6_bring_40
  · have hw809 := hw804.2 c4
    refine lv_aload_n hC.x hC.b dX6_bring_20 rfl (lv_at hl 1 rfl) ?_
    refine lv_iload_n hC.x hC.b dX6_bring_21 rfl (lv_at hl 0 rfl) ?_
    refine go_i (run_V (rest := []) hC (m6_refused l hw809) v6_6_refused h6_refused 0 5 gCl_X6 rfl rfl ⟨rfl, rfl, Nat.le_of_ble_eq_true rfl, Nat.le_of_ble_eq_true rfl⟩ ⟨Nat.le_refl _, Nat.le_refl _⟩ hP hD hS hl.1 (Nat.le_of_ble_eq_true rfl) dX6_bring_22 rfl) hS (fun r11 S12 H locs hw810 hP hD hS => ?_)
    exact rt_i hC hw810 hP hD hS dX6_bring_25
theorem h6_bringFrom : yX6_bringFrom.cls = RX6 ∧ yX6_bringFrom.cls ≠ "java/lang/invoke/MethodHandle" ∧ yX6_bringFrom.cls ≠ "java/lang/invoke/VarHandle" ∧ (parseMethodDescriptor yX6_bringFrom.desc).map (fun d => d.parameters.length) = some 1 := by decide +kernel
def f6_bringFrom_47 (post : Int32 → MS → Prop) (tw : Option (Nat → Nat)) (x1 : Int32) (K47 : (MS × Int32 × Int32 × Int32) → Prop) (S : MS) (x3 : Int32) (x4 : Int32) (x5 : Int32) : Prop :=
  ((∃ t, tw = some t) ∧ (((S.1 20 0) ≤ x5 → (w6_good (fun r8 S9 => (post r8 S9)) S x3)) ∧ (¬ (S.1 20 0) ≤ x5 → (w6_brings (fun r10 S11 => ((r10 < x4 → (K47 (S11, x5, r10, (x5 + 1)))) ∧ (¬ r10 < x4 → (K47 (S11, x3, x4, (x5 + 1)))))) tw S x5 x1))))
set_option maxHeartbeats 4000000 in
theorem k6_bringFrom_47 {post : Int32 → MS → Prop} {x1 : Int32} (hC : CX RX6 cX6_bringFrom 7 (some .int) D gCl nwG Z Hb A p s m args meth c) : ∀ z : (MS × Int32 × Int32 × Int32), lp (fun (K : (MS × Int32 × Int32 × Int32) → Prop) (z : (MS × Int32 × Int32 × Int32)) => f6_bringFrom_47 post tw x1 K z.1 z.2.1 z.2.2.1 z.2.2.2) z → ∀ (H : Heap) (locs : List Loc) (ls : Array Slot), va_P D gCl (wM D ad none rdv tw z.1) H → va_D A (wM D ad none rdv tw z.1) → va_S A s.heap H locs → lv_has ls 7 [(0, .ref (ad 0)), (1, .int x1), (3, .int z.2.1), (4, .int z.2.2.1), (5, .int z.2.2.2)] → W p l e ({ frames := 4, cells := 0, slots := 0, locals := 100 } : Room) s m args below meth c H locs 0 0 (MQ below (va_Qi post (BW D gCl A (fun u => (wM D ad none rdv tw u))) A) args s 0 0 A) (F0 m 47 ls []) := by
  refine lp_ind ?_
  rintro K47 ⟨S, x3, x4, x5⟩ hK47 hw H locs ls hP hD hS hl
  have hw : f6_bringFrom_47 post tw x1 K47 S x3 x4 x5 := hw
  unfold f6_bringFrom_47 at hw
  have hP : va_P D gCl (wM D ad none rdv tw S) H := hP
  have hD : va_D A (wM D ad none rdv tw S) := hD
  have hl : lv_has ls 7 [(0, .ref (ad 0)), (1, .int x1), (3, .int x3), (4, .int x4), (5, .int x5)] := hl
  refine lv_iload hC.x hC.b dX6_bringFrom_47 (lv_at hl 4 rfl) ?_
  refine lv_aload_n hC.x hC.b dX6_bringFrom_49 rfl (lv_at hl 0 rfl) ?_
  refine gM_3 hC hP dX6_bringFrom_50 ?_
  obtain ⟨⟨t, rfl⟩, hw816⟩ := hw
  refine gT_0 hC hP dX6_bringFrom_53 ?_
  refine lv_icmp_ge (tgt := 91) hC.x hC.b dX6_bringFrom_56 (by decide) (fun c7 => ?_) (fun c7 => ?_)
  · have hw817 := hw816.1 c7
    refine lv_aload_n hC.x hC.b dX6_bringFrom_91 rfl (lv_at hl 0 rfl) ?_
    refine lv_iload_n hC.x hC.b dX6_bringFrom_92 rfl (lv_at hl 2 rfl) ?_
    refine go_i (run_V (rest := []) hC (m6_good l hw817) v6_6_good h6_good 0 5 gCl_X6 rfl rfl ⟨rfl, rfl, Nat.le_of_ble_eq_true rfl, Nat.le_of_ble_eq_true rfl⟩ ⟨Nat.le_refl _, Nat.le_refl _⟩ hP hD hS hl.1 (Nat.le_of_ble_eq_true rfl) dX6_bringFrom_93 rfl) hS (fun r8 S9 H locs hw818 hP hD hS => ?_)
    exact rt_i hC hw818 hP hD hS dX6_bringFrom_96
  · have hw819 := hw816.2 c7
    refine lv_aload_n hC.x hC.b dX6_bringFrom_59 rfl (lv_at hl 0 rfl) ?_
    refine lv_iload hC.x hC.b dX6_bringFrom_60 (lv_at hl 4 rfl) ?_
    refine lv_iload_n hC.x hC.b dX6_bringFrom_62 rfl (lv_at hl 1 rfl) ?_
    refine go_i (run_V (rest := []) hC (m6_brings l hw819) v6_6_brings h6_brings 0 5 gCl_X6 rfl rfl ⟨rfl, rfl, Nat.le_of_ble_eq_true rfl, Nat.le_of_ble_eq_true rfl⟩ ⟨Nat.le_refl _, Nat.le_refl _⟩ hP hD hS hl.1 (Nat.le_of_ble_eq_true rfl) dX6_bringFrom_63 rfl) hS (fun r10 S11 H locs hw820 hP hD hS => ?_)
    refine lv_istore (lv' := [(6, .int r10), (0, .ref (ad 0)), (1, .int x1), (3, .int x3), (4, .int x4), (5, .int x5)]) hC.x hC.b dX6_bringFrom_66 hl (by decide) rfl (fun ls hl => ?_)
    refine lv_iload hC.x hC.b dX6_bringFrom_68 (lv_at hl 0 rfl) ?_
    refine lv_iload hC.x hC.b dX6_bringFrom_70 (lv_at hl 4 rfl) ?_
    refine lv_icmp_lt (tgt := 78) hC.x hC.b dX6_bringFrom_72 (by decide) (fun c12 => ?_) (fun c12 => ?_)
    · have hw821 := hw820.1 c12
      refine lv_iload hC.x hC.b dX6_bringFrom_78 (lv_at hl 0 rfl) ?_
      refine lv_istore (lv' := [(4, .int r10), (6, .int r10), (0, .ref (ad 0)), (1, .int x1), (3, .int x3), (5, .int x5)]) hC.x hC.b dX6_bringFrom_80 hl (by decide) rfl (fun ls hl => ?_)
      refine lv_iload hC.x hC.b dX6_bringFrom_82 (lv_at hl 5 rfl) ?_
      refine lv_istore_n (lv' := [(3, .int x5), (4, .int r10), (6, .int r10), (0, .ref (ad 0)), (1, .int x1), (5, .int x5)]) hC.x hC.b dX6_bringFrom_84 rfl hl (by decide) rfl (fun ls hl => ?_)
      refine lv_iinc (v := (x5 + 1)) (lv' := [(5, .int (x5 + 1)), (3, .int x5), (4, .int r10), (6, .int r10), (0, .ref (ad 0)), (1, .int x1)]) hC.x hC.b dX6_bringFrom_85 hl (k := 5) rfl rfl (by decide) rfl (fun ls hl => ?_)
      refine lv_goto (tgt := 47) hC.x hC.b dX6_bringFrom_88 (by decide) ?_
      exact hK47 (S11, x5, r10, (x5 + 1)) hw821 H locs ls hP hD hS (lv_sub hl [4, 5, 1, 2, 0] rfl)
    · have hw822 := hw820.2 c12
      refine lv_goto (tgt := 85) hC.x hC.b dX6_bringFrom_75 (by decide) ?_
      refine lv_iinc (v := (x5 + 1)) (lv' := [(5, .int (x5 + 1)), (6, .int r10), (0, .ref (ad 0)), (1, .int x1), (3, .int x3), (4, .int x4)]) hC.x hC.b dX6_bringFrom_85 hl (k := 5) rfl rfl (by decide) rfl (fun ls hl => ?_)
      refine lv_goto (tgt := 47) hC.x hC.b dX6_bringFrom_88 (by decide) ?_
      exact hK47 (S11, x3, x4, (x5 + 1)) hw822 H locs ls hP hD hS (lv_sub hl [2, 3, 4, 5, 0] rfl)
def j6_bringFrom_18 (post : Int32 → MS → Prop) (tw : Option (Nat → Nat)) (S : MS) (x1 : Int32) (y1 : Int32) : Prop :=
  (w6_refusesNight (fun r3 => ((r3 ≤ 0 → (w6_works (fun S6 => (lp (fun (K : (MS × Int32 × Int32 × Int32) → Prop) (z : (MS × Int32 × Int32 × Int32)) => f6_bringFrom_47 post tw x1 K z.1 z.2.1 z.2.2.1 z.2.2.2) (S6, 0, 9999, 0))) S)) ∧ (¬ r3 ≤ 0 → (w6_refused (fun r13 S14 => (post r13 S14)) S r3)))) S y1 x1)
set_option maxHeartbeats 4000000 in
theorem k6_bringFrom_18 {post : Int32 → MS → Prop} {S : MS} {x1 : Int32} {y1 : Int32} (hC : CX RX6 cX6_bringFrom 7 (some .int) D gCl nwG Z Hb A p s m args meth c) (hw : j6_bringFrom_18 post tw S x1 y1) : ∀ (H : Heap) (locs : List Loc) (ls : Array Slot), va_P D gCl (wM D ad none rdv tw S) H → va_D A (wM D ad none rdv tw S) → va_S A s.heap H locs → lv_has ls 7 [(0, .ref (ad 0)), (1, .int x1)] → W p l e ({ frames := 4, cells := 0, slots := 0, locals := 100 } : Room) s m args below meth c H locs 0 0 (MQ below (va_Qi post (BW D gCl A (fun u => (wM D ad none rdv tw u))) A) args s 0 0 A) (F0 m 18 ls [.int y1, .ref (ad 0)]) := by
  intro H locs ls hP hD hS hl
  unfold j6_bringFrom_18 at hw
  refine lv_iload_n hC.x hC.b dX6_bringFrom_18 rfl (lv_at hl 1 rfl) ?_
  refine go_i (run_V (rest := []) hC (m6_refusesNight l hw) v6_6_refusesNight h6_refusesNight 0 5 gCl_X6 rfl rfl ⟨rfl, rfl, Nat.le_of_ble_eq_true rfl, Nat.le_of_ble_eq_true rfl⟩ ⟨Nat.le_refl _, Nat.le_refl _⟩ hP hD hS hl.1 (Nat.le_of_ble_eq_true rfl) dX6_bringFrom_19 rfl) hS (fun r3 u H locs hw813 hP hD hS => ?_)
  refine lv_istore_n (lv' := [(2, .int r3), (0, .ref (ad 0)), (1, .int x1)]) hC.x hC.b dX6_bringFrom_22 rfl hl (by decide) rfl (fun ls hl => ?_)
  refine lv_iload_n hC.x hC.b dX6_bringFrom_23 rfl (lv_at hl 0 rfl) ?_
  refine lv_if_le (tgt := 33) hC.x hC.b dX6_bringFrom_24 (by decide) (fun c4 => ?_) (fun c4 => ?_)
  · have hw814 := hw813.1 c4
    refine lv_aload_n hC.x hC.b dX6_bringFrom_33 rfl (lv_at hl 1 rfl) ?_
    refine go_v (run_V (rest := []) hC (m6_works l hw814) v6_6_works h6_works 0 5 gCl_X6 rfl rfl ⟨rfl, rfl, Nat.le_of_ble_eq_true rfl, Nat.le_of_ble_eq_true rfl⟩ ⟨Nat.le_refl _, Nat.le_refl _⟩ hP hD hS hl.1 (Nat.le_of_ble_eq_true rfl) dX6_bringFrom_34 rfl) hS (fun S6 H locs hw815 hP hD hS => ?_)
    refine lv_iconst (v := 0) hC.x hC.b dX6_bringFrom_37 (by decide) ?_
    refine lv_istore_n (lv' := [(3, .int 0), (2, .int r3), (0, .ref (ad 0)), (1, .int x1)]) hC.x hC.b dX6_bringFrom_38 rfl hl (by decide) rfl (fun ls hl => ?_)
    refine lv_sipush (v := 9999) hC.x hC.b dX6_bringFrom_39 (by decide) ?_
    refine lv_istore (lv' := [(4, .int 9999), (3, .int 0), (2, .int r3), (0, .ref (ad 0)), (1, .int x1)]) hC.x hC.b dX6_bringFrom_42 hl (by decide) rfl (fun ls hl => ?_)
    refine lv_iconst (v := 0) hC.x hC.b dX6_bringFrom_44 (by decide) ?_
    refine lv_istore (lv' := [(5, .int 0), (4, .int 9999), (3, .int 0), (2, .int r3), (0, .ref (ad 0)), (1, .int x1)]) hC.x hC.b dX6_bringFrom_45 hl (by decide) rfl (fun ls hl => ?_)
    exact k6_bringFrom_47 hC (S6, 0, 9999, 0) hw815 H locs ls hP hD hS (lv_sub hl [4, 5, 2, 1, 0] rfl)
  · have hw823 := hw813.2 c4
    refine lv_aload_n hC.x hC.b dX6_bringFrom_27 rfl (lv_at hl 1 rfl) ?_
    refine lv_iload_n hC.x hC.b dX6_bringFrom_28 rfl (lv_at hl 0 rfl) ?_
    refine go_i (run_V (rest := []) hC (m6_refused l hw823) v6_6_refused h6_refused 0 5 gCl_X6 rfl rfl ⟨rfl, rfl, Nat.le_of_ble_eq_true rfl, Nat.le_of_ble_eq_true rfl⟩ ⟨Nat.le_refl _, Nat.le_refl _⟩ hP hD hS hl.1 (Nat.le_of_ble_eq_true rfl) dX6_bringFrom_29 rfl) hS (fun r13 S14 H locs hw824 hP hD hS => ?_)
    exact rt_i hC hw824 hP hD hS dX6_bringFrom_32
def w6_bringFrom (post : Int32 → MS → Prop) (tw : Option (Nat → Nat)) (S : MS) (x1 : Int32) : Prop :=
  (∀ S1, S1 = uI S 0 0 0 → ((tw = none → (j6_bringFrom_18 post tw S1 x1 0)) ∧ ((∃ t, tw = some t) → (j6_bringFrom_18 post tw S1 x1 1))))
set_option maxHeartbeats 4000000 in
theorem m6_bringFrom (l : Launch) {post : Int32 → MS → Prop} {S : MS} {x1 : Int32} (hw : w6_bringFrom post tw S x1) : Met l yX6_bringFrom (ws_ yX6_bringFrom cX6_bringFrom 7 (some .int)) ({ frames := 4, cells := 0, slots := 0, locals := 100 } : Room) (va_Pc [.ref (ad 0), .int x1] (PcG D gCl nwG Z Hb A (wM D ad none rdv tw S))) (va_Qi post (BW D gCl A (fun u => (wM D ad none rdv tw u))) A) 0 0 A := by
  refine Met.ofG (by decide) (Nat.le_of_ble_eq_true rfl) ?_
  intro p e s m below meth c ls hC _ hP hD hS hl
  have hC : CX RX6 cX6_bringFrom 7 (some .int) D gCl nwG Z Hb A p s m _ meth c := hC
  have hl : lv_has ls 7 [(0, .ref (ad 0)), (1, .int x1)] := hl
  unfold w6_bringFrom at hw
  refine lv_aload_n hC.x hC.b dX6_bringFrom_0 rfl (lv_at hl 0 rfl) ?_
  refine lv_iconst (v := 0) hC.x hC.b dX6_bringFrom_1 (by decide) ?_
  refine pM_0 hC hP hD hS (v := 0) dX6_bringFrom_2 (fun S1 eS1 H locs hP hD hS => ?_)
  have hw811 := hw S1 eS1
  refine lv_aload_n hC.x hC.b dX6_bringFrom_5 rfl (lv_at hl 0 rfl) ?_
  refine lv_aload_n hC.x hC.b dX6_bringFrom_6 rfl (lv_at hl 0 rfl) ?_
  refine gM_3 hC hP dX6_bringFrom_7 ?_
  rcases va_o2 tw with c2 | ⟨t, c2⟩
  · have hw812 := hw811.1 c2
    subst c2
    refine lv_ifnullN (tgt := 17) hC.x hC.b dX6_bringFrom_10 (by decide) ?_
    refine lv_iconst (v := 0) hC.x hC.b dX6_bringFrom_17 (by decide) ?_
    exact k6_bringFrom_18 hC hw812 H locs ls hP hD hS (lv_sub hl [0, 1] rfl)
  · have hw825 := hw811.2 ⟨t, c2⟩
    subst c2
    refine lv_ifnull hC.x hC.b dX6_bringFrom_10 ?_
    refine lv_iconst (v := 1) hC.x hC.b dX6_bringFrom_13 (by decide) ?_
    refine lv_goto (tgt := 18) hC.x hC.b dX6_bringFrom_14 (by decide) ?_
    exact k6_bringFrom_18 hC hw825 H locs ls hP hD hS (lv_sub hl [0, 1] rfl)
theorem h6_steps : yX6_steps.cls = RX6 ∧ yX6_steps.cls ≠ "java/lang/invoke/MethodHandle" ∧ yX6_steps.cls ≠ "java/lang/invoke/VarHandle" ∧ (parseMethodDescriptor yX6_steps.desc).map (fun d => d.parameters.length) = some 2 := by decide +kernel
def w6_steps (post : Int32 → MS → Prop) (tw : Option (Nat → Nat)) (S : MS) (x1 : Int32) (x2 : Int32) : Prop :=
  (∀ S1, S1 = uI S 0 0 0 → (w6_isHouse (fun r2 => ((r2 = 0 → (w6_refused (fun r4 S5 => (post r4 S5)) S1 1)) ∧ (¬ r2 = 0 → (w6_isHouse (fun r6 => ((r6 = 0 → (w6_refused (fun r8 S9 => (post r8 S9)) S1 1)) ∧ (¬ r6 = 0 → (w6_apart (fun r10 => (w6_good (fun r11 S12 => (post r11 S12)) S1 r10)) tw S1 x1 x2)))) tw S1 x2)))) tw S1 x1))
set_option maxHeartbeats 4000000 in
theorem m6_steps (l : Launch) {post : Int32 → MS → Prop} {S : MS} {x1 : Int32} {x2 : Int32} (hw : w6_steps post tw S x1 x2) : Met l yX6_steps (ws_ yX6_steps cX6_steps 3 (some .int)) ({ frames := 2, cells := 0, slots := 0, locals := 45 } : Room) (va_Pc [.ref (ad 0), .int x1, .int x2] (PcG D gCl nwG Z Hb A (wM D ad none rdv tw S))) (va_Qi post (BW D gCl A (fun u => (wM D ad none rdv tw u))) A) 0 0 A := by
  refine Met.ofG (by decide) (Nat.le_of_ble_eq_true rfl) ?_
  intro p e s m below meth c ls hC _ hP hD hS hl
  have hC : CX RX6 cX6_steps 3 (some .int) D gCl nwG Z Hb A p s m _ meth c := hC
  have hl : lv_has ls 3 [(0, .ref (ad 0)), (1, .int x1), (2, .int x2)] := hl
  unfold w6_steps at hw
  refine lv_aload_n hC.x hC.b dX6_steps_0 rfl (lv_at hl 0 rfl) ?_
  refine lv_iconst (v := 0) hC.x hC.b dX6_steps_1 (by decide) ?_
  refine pM_0 hC hP hD hS (v := 0) dX6_steps_2 (fun S1 eS1 H locs hP hD hS => ?_)
  have hw826 := hw S1 eS1
  refine lv_aload_n hC.x hC.b dX6_steps_5 rfl (lv_at hl 0 rfl) ?_
  refine lv_iload_n hC.x hC.b dX6_steps_6 rfl (lv_at hl 1 rfl) ?_
  refine go_i (run_V (rest := []) hC (m6_isHouse l hw826) v6_6_isHouse h6_isHouse 0 5 gCl_X6 rfl rfl ⟨rfl, rfl, Nat.le_of_ble_eq_true rfl, Nat.le_of_ble_eq_true rfl⟩ ⟨Nat.le_refl _, Nat.le_refl _⟩ hP hD hS hl.1 (Nat.le_of_ble_eq_true rfl) dX6_steps_7 rfl) hS (fun r2 u H locs hw827 hP hD hS => ?_)
  refine lv_if_eq (tgt := 34) hC.x hC.b dX6_steps_10 (by decide) (fun c3 => ?_) (fun c3 => ?_)
  · have hw828 := hw827.1 c3
    refine lv_aload_n hC.x hC.b dX6_steps_34 rfl (lv_at hl 0 rfl) ?_
    refine lv_iconst (v := 1) hC.x hC.b dX6_steps_35 (by decide) ?_
    refine go_i (run_V (rest := []) hC (m6_refused l hw828) v6_6_refused h6_refused 0 5 gCl_X6 rfl rfl ⟨rfl, rfl, Nat.le_of_ble_eq_true rfl, Nat.le_of_ble_eq_true rfl⟩ ⟨Nat.le_refl _, Nat.le_refl _⟩ hP hD hS hl.1 (Nat.le_of_ble_eq_true rfl) dX6_steps_36 rfl) hS (fun r4 S5 H locs hw829 hP hD hS => ?_)
    exact rt_i hC hw829 hP hD hS dX6_steps_39
  · have hw830 := hw827.2 c3
    refine lv_aload_n hC.x hC.b dX6_steps_13 rfl (lv_at hl 0 rfl) ?_
    refine lv_iload_n hC.x hC.b dX6_steps_14 rfl (lv_at hl 2 rfl) ?_
    refine go_i (run_V (rest := []) hC (m6_isHouse l hw830) v6_6_isHouse h6_isHouse 0 5 gCl_X6 rfl rfl ⟨rfl, rfl, Nat.le_of_ble_eq_true rfl, Nat.le_of_ble_eq_true rfl⟩ ⟨Nat.le_refl _, Nat.le_refl _⟩ hP hD hS hl.1 (Nat.le_of_ble_eq_true rfl) dX6_steps_15 rfl) hS (fun r6 u H locs hw831 hP hD hS => ?_)
    refine lv_if_eq (tgt := 34) hC.x hC.b dX6_steps_18 (by decide) (fun c7 => ?_) (fun c7 => ?_)
    · have hw832 := hw831.1 c7
      refine lv_aload_n hC.x hC.b dX6_steps_34 rfl (lv_at hl 0 rfl) ?_
      refine lv_iconst (v := 1) hC.x hC.b dX6_steps_35 (by decide) ?_
      refine go_i (run_V (rest := []) hC (m6_refused l hw832) v6_6_refused h6_refused 0 5 gCl_X6 rfl rfl ⟨rfl, rfl, Nat.le_of_ble_eq_true rfl, Nat.le_of_ble_eq_true rfl⟩ ⟨Nat.le_refl _, Nat.le_refl _⟩ hP hD hS hl.1 (Nat.le_of_ble_eq_true rfl) dX6_steps_36 rfl) hS (fun r8 S9 H locs hw833 hP hD hS => ?_)
      exact rt_i hC hw833 hP hD hS dX6_steps_39
    · have hw834 := hw831.2 c7
      refine lv_aload_n hC.x hC.b dX6_steps_21 rfl (lv_at hl 0 rfl) ?_
      refine lv_aload_n hC.x hC.b dX6_steps_22 rfl (lv_at hl 0 rfl) ?_
      refine lv_iload_n hC.x hC.b dX6_steps_23 rfl (lv_at hl 1 rfl) ?_
      refine lv_iload_n hC.x hC.b dX6_steps_24 rfl (lv_at hl 2 rfl) ?_
      refine go_i (run_V (rest := [.ref (ad 0)]) hC (m6_apart l hw834) v6_6_apart h6_apart 0 5 gCl_X6 rfl rfl ⟨rfl, rfl, Nat.le_of_ble_eq_true rfl, Nat.le_of_ble_eq_true rfl⟩ ⟨Nat.le_refl _, Nat.le_refl _⟩ hP hD hS hl.1 (Nat.le_of_ble_eq_true rfl) dX6_steps_25 rfl) hS (fun r10 u H locs hw835 hP hD hS => ?_)
      refine go_i (run_V (rest := []) hC (m6_good l hw835) v6_6_good h6_good 0 5 gCl_X6 rfl rfl ⟨rfl, rfl, Nat.le_of_ble_eq_true rfl, Nat.le_of_ble_eq_true rfl⟩ ⟨Nat.le_refl _, Nat.le_refl _⟩ hP hD hS hl.1 (Nat.le_of_ble_eq_true rfl) dX6_steps_28 rfl) hS (fun r11 S12 H locs hw836 hP hD hS => ?_)
      refine lv_goto (tgt := 39) hC.x hC.b dX6_steps_31 (by decide) ?_
      exact rt_i hC hw836 hP hD hS dX6_steps_39
theorem h6_firstDead : yX6_firstDead.cls = RX6 ∧ yX6_firstDead.cls ≠ "java/lang/invoke/MethodHandle" ∧ yX6_firstDead.cls ≠ "java/lang/invoke/VarHandle" ∧ (parseMethodDescriptor yX6_firstDead.desc).map (fun d => d.parameters.length) = some 1 := by decide +kernel
def f6_firstDead_2 (post : Int32 → Prop) (tw : Option (Nat → Nat)) (S : MS) (x1 : Int32) (K2 : Int32 → Prop) (x2 : Int32) : Prop :=
  ((∃ t, tw = some t) ∧ (((S.1 20 3) ≤ x2 → (post (-2))) ∧ (¬ (S.1 20 3) ≤ x2 → (vp_in x2 6 ∧ ((¬ (S.1 24 x2.toNatClampNeg) = x1 → (K2 (x2 + 1))) ∧ ((S.1 24 x2.toNatClampNeg) = x1 → (post x2)))))))
set_option maxHeartbeats 4000000 in
theorem k6_firstDead_2 {post : Int32 → Prop} {S : MS} {x1 : Int32} (hC : CX RX6 cX6_firstDead 3 (some .int) D gCl nwG Z Hb A p s m args meth c) : ∀ z : Int32, lp (fun (K : Int32 → Prop) (z : Int32) => f6_firstDead_2 post tw S x1 K z) z → ∀ (H : Heap) (locs : List Loc) (ls : Array Slot), va_P D gCl (wM D ad none rdv tw S) H → va_D A (wM D ad none rdv tw S) → va_S A s.heap H locs → lv_has ls 3 [(0, .ref (ad 0)), (1, .int x1), (2, .int z)] → W p l e ({ frames := 0, cells := 0, slots := 0, locals := 0 } : Room) s m args below meth c H locs 0 0 (MQ below (va_Qi (fun r (_ : Unit) => post r) (BW D gCl A (fun _ => (wM D ad none rdv tw S))) A) args s 0 0 A) (F0 m 2 ls []) := by
  refine lp_ind ?_
  rintro K2 x2 hK2 hw H locs ls hP hD hS hl
  have hw : f6_firstDead_2 post tw S x1 K2 x2 := hw
  unfold f6_firstDead_2 at hw
  have hP : va_P D gCl (wM D ad none rdv tw S) H := hP
  have hD : va_D A (wM D ad none rdv tw S) := hD
  have hl : lv_has ls 3 [(0, .ref (ad 0)), (1, .int x1), (2, .int x2)] := hl
  refine lv_iload_n hC.x hC.b dX6_firstDead_2 rfl (lv_at hl 2 rfl) ?_
  refine lv_aload_n hC.x hC.b dX6_firstDead_3 rfl (lv_at hl 0 rfl) ?_
  refine gM_3 hC hP dX6_firstDead_4 ?_
  obtain ⟨⟨t, rfl⟩, hw837⟩ := hw
  refine gT_3 hC hP dX6_firstDead_7 ?_
  refine lv_icmp_ge (tgt := 34) hC.x hC.b dX6_firstDead_10 (by decide) (fun c1 => ?_) (fun c1 => ?_)
  · have hw838 := hw837.1 c1
    refine lv_bipush (v := (-2)) hC.x hC.b dX6_firstDead_34 (by decide) ?_
    exact rt_i (u := ()) hC hw838 hP hD hS dX6_firstDead_36
  · have hw839 := hw837.2 c1
    refine lv_aload_n hC.x hC.b dX6_firstDead_13 rfl (lv_at hl 0 rfl) ?_
    refine gM_3 hC hP dX6_firstDead_14 ?_
    refine gT_11 hC hP dX6_firstDead_17 ?_
    refine lv_iload_n hC.x hC.b dX6_firstDead_20 rfl (lv_at hl 2 rfl) ?_
    obtain ⟨hin, hw840⟩ := hw839
    refine lT_4 hC hP hin rfl dX6_firstDead_21 ?_
    refine lv_iload_n hC.x hC.b dX6_firstDead_22 rfl (lv_at hl 1 rfl) ?_
    refine lv_icmp_ne (tgt := 28) hC.x hC.b dX6_firstDead_23 (by decide) (fun c2 => ?_) (fun c2 => ?_)
    · have hw841 := hw840.1 c2
      refine lv_iinc (v := (x2 + 1)) (lv' := [(2, .int (x2 + 1)), (0, .ref (ad 0)), (1, .int x1)]) hC.x hC.b dX6_firstDead_28 hl (k := 2) rfl rfl (by decide) rfl (fun ls hl => ?_)
      refine lv_goto (tgt := 2) hC.x hC.b dX6_firstDead_31 (by decide) ?_
      exact hK2 (x2 + 1) hw841 H locs ls hP hD hS (lv_sub hl [1, 2, 0] rfl)
    · have hw842 := hw840.2 c2
      refine lv_iload_n hC.x hC.b dX6_firstDead_26 rfl (lv_at hl 2 rfl) ?_
      exact rt_i (u := ()) hC hw842 hP hD hS dX6_firstDead_27
def w6_firstDead (post : Int32 → Prop) (tw : Option (Nat → Nat)) (S : MS) (x1 : Int32) : Prop :=
  (lp (fun (K : Int32 → Prop) (z : Int32) => f6_firstDead_2 post tw S x1 K z) 0)
set_option maxHeartbeats 4000000 in
theorem m6_firstDead (l : Launch) {post : Int32 → Prop} {S : MS} {x1 : Int32} (hw : w6_firstDead post tw S x1) : Met l yX6_firstDead (ws_ yX6_firstDead cX6_firstDead 3 (some .int)) ({ frames := 0, cells := 0, slots := 0, locals := 0 } : Room) (va_Pc [.ref (ad 0), .int x1] (PcG D gCl nwG Z Hb A (wM D ad none rdv tw S))) (va_Qi (fun r (_ : Unit) => post r) (BW D gCl A (fun _ => (wM D ad none rdv tw S))) A) 0 0 A := by
  refine Met.ofG (by decide) (Nat.le_of_ble_eq_true rfl) ?_
  intro p e s m below meth c ls hC _ hP hD hS hl
  have hC : CX RX6 cX6_firstDead 3 (some .int) D gCl nwG Z Hb A p s m _ meth c := hC
  have hl : lv_has ls 3 [(0, .ref (ad 0)), (1, .int x1)] := hl
  unfold w6_firstDead at hw
  refine lv_iconst (v := 0) hC.x hC.b dX6_firstDead_0 (by decide) ?_
  refine lv_istore_n (lv' := [(2, .int 0), (0, .ref (ad 0)), (1, .int x1)]) hC.x hC.b dX6_firstDead_1 rfl hl (by decide) rfl (fun ls hl => ?_)
  exact k6_firstDead_2 hC 0 hw s.heap [] ls hP hD hS (lv_sub hl [1, 2, 0] rfl)
theorem v6_6_firstDead : GoodIn lw_all (wsV RX6 401 RX6 yX6_firstDead (ws_ yX6_firstDead cX6_firstDead 3 (some .int))) := lw_V q2014 q2016 qs102 q126 q2017
theorem h6_nextOf : yX6_nextOf.cls = RX6 ∧ yX6_nextOf.cls ≠ "java/lang/invoke/MethodHandle" ∧ yX6_nextOf.cls ≠ "java/lang/invoke/VarHandle" ∧ (parseMethodDescriptor yX6_nextOf.desc).map (fun d => d.parameters.length) = some 2 := by decide +kernel
def w6_nextOf (post : Int32 → Prop) (tw : Option (Nat → Nat)) (S : MS) (x1 : Int32) (x2 : Int32) : Prop :=
  (w6_firstDead (fun r1 => ((¬ r1 = (-2) → (w6_whoHears (fun r3 => (post r3)) tw S r1 x2)) ∧ (r1 = (-2) → (post (-2))))) tw S x1)
set_option maxHeartbeats 4000000 in
theorem m6_nextOf (l : Launch) {post : Int32 → Prop} {S : MS} {x1 : Int32} {x2 : Int32} (hw : w6_nextOf post tw S x1 x2) : Met l yX6_nextOf (ws_ yX6_nextOf cX6_nextOf 4 (some .int)) ({ frames := 3, cells := 0, slots := 0, locals := 72 } : Room) (va_Pc [.ref (ad 0), .int x1, .int x2] (PcG D gCl nwG Z Hb A (wM D ad none rdv tw S))) (va_Qi (fun r (_ : Unit) => post r) (BW D gCl A (fun _ => (wM D ad none rdv tw S))) A) 0 0 A := by
  refine Met.ofG (by decide) (Nat.le_of_ble_eq_true rfl) ?_
  intro p e s m below meth c ls hC _ hP hD hS hl
  have hC : CX RX6 cX6_nextOf 4 (some .int) D gCl nwG Z Hb A p s m _ meth c := hC
  have hl : lv_has ls 4 [(0, .ref (ad 0)), (1, .int x1), (2, .int x2)] := hl
  unfold w6_nextOf at hw
  refine lv_aload_n hC.x hC.b dX6_nextOf_0 rfl (lv_at hl 0 rfl) ?_
  refine lv_iload_n hC.x hC.b dX6_nextOf_1 rfl (lv_at hl 1 rfl) ?_
  refine go_i (run_V (rest := []) hC (m6_firstDead l hw) v6_6_firstDead h6_firstDead 0 5 gCl_X6 rfl rfl ⟨rfl, rfl, Nat.le_of_ble_eq_true rfl, Nat.le_of_ble_eq_true rfl⟩ ⟨Nat.le_refl _, Nat.le_refl _⟩ hP hD hS hl.1 (Nat.le_of_ble_eq_true rfl) dX6_nextOf_2 rfl) hS (fun r1 u H locs hw843 hP hD hS => ?_)
  refine lv_istore_n (lv' := [(3, .int r1), (0, .ref (ad 0)), (1, .int x1), (2, .int x2)]) hC.x hC.b dX6_nextOf_5 rfl hl (by decide) rfl (fun ls hl => ?_)
  refine lv_iload_n hC.x hC.b dX6_nextOf_6 rfl (lv_at hl 0 rfl) ?_
  refine lv_bipush (v := (-2)) hC.x hC.b dX6_nextOf_7 (by decide) ?_
  refine lv_icmp_ne (tgt := 17) hC.x hC.b dX6_nextOf_9 (by decide) (fun c2 => ?_) (fun c2 => ?_)
  · have hw844 := hw843.1 c2
    refine lv_aload_n hC.x hC.b dX6_nextOf_17 rfl (lv_at hl 1 rfl) ?_
    refine lv_iload_n hC.x hC.b dX6_nextOf_18 rfl (lv_at hl 0 rfl) ?_
    refine lv_iload_n hC.x hC.b dX6_nextOf_19 rfl (lv_at hl 3 rfl) ?_
    refine go_i (run_V (rest := []) hC (m6_whoHears l hw844) v6_6_whoHears h6_whoHears 0 5 gCl_X6 rfl rfl ⟨rfl, rfl, Nat.le_of_ble_eq_true rfl, Nat.le_of_ble_eq_true rfl⟩ ⟨Nat.le_refl _, Nat.le_refl _⟩ hP hD hS hl.1 (Nat.le_of_ble_eq_true rfl) dX6_nextOf_20 rfl) hS (fun r3 u H locs hw845 hP hD hS => ?_)
    exact rt_i (u := ()) hC hw845 hP hD hS dX6_nextOf_23
  · have hw846 := hw843.2 c2
    refine lv_bipush (v := (-2)) hC.x hC.b dX6_nextOf_12 (by decide) ?_
    refine lv_goto (tgt := 23) hC.x hC.b dX6_nextOf_14 (by decide) ?_
    exact rt_i (u := ()) hC hw846 hP hD hS dX6_nextOf_23
theorem v6_6_nextOf : GoodIn lw_all (wsV RX6 404 RX6 yX6_nextOf (ws_ yX6_nextOf cX6_nextOf 4 (some .int))) := lw_V q2010 q2012 qs101 q126 q2013
theorem h6_ringOf : yX6_ringOf.cls = RX6 ∧ yX6_ringOf.cls ≠ "java/lang/invoke/MethodHandle" ∧ yX6_ringOf.cls ≠ "java/lang/invoke/VarHandle" ∧ (parseMethodDescriptor yX6_ringOf.desc).map (fun d => d.parameters.length) = some 2 := by decide +kernel
def f6_ringOf_5 (post : Int32 → Prop) (tw : Option (Nat → Nat)) (S : MS) (x1 : Int32) (x2 : Int32) (K5 : (Int32 × Int32) → Prop) (x3 : Int32) (x4 : Int32) : Prop :=
  ((∃ t, tw = some t) ∧ (((S.1 20 2) < x4 → (post (-2))) ∧ (¬ (S.1 20 2) < x4 → (w6_nextOf (fun r2 => ((¬ r2 = (-2) → ((¬ r2 = x1 → (K5 (r2, (x4 + 1)))) ∧ (r2 = x1 → (post x4)))) ∧ (r2 = (-2) → (post (-2))))) tw S x3 x2))))
set_option maxHeartbeats 4000000 in
theorem k6_ringOf_5 {post : Int32 → Prop} {S : MS} {x1 : Int32} {x2 : Int32} (hC : CX RX6 cX6_ringOf 5 (some .int) D gCl nwG Z Hb A p s m args meth c) : ∀ z : (Int32 × Int32), lp (fun (K : (Int32 × Int32) → Prop) (z : (Int32 × Int32)) => f6_ringOf_5 post tw S x1 x2 K z.1 z.2) z → ∀ (H : Heap) (locs : List Loc) (ls : Array Slot), va_P D gCl (wM D ad none rdv tw S) H → va_D A (wM D ad none rdv tw S) → va_S A s.heap H locs → lv_has ls 5 [(0, .ref (ad 0)), (1, .int x1), (2, .int x2), (3, .int z.1), (4, .int z.2)] → W p l e ({ frames := 4, cells := 0, slots := 0, locals := 95 } : Room) s m args below meth c H locs 0 0 (MQ below (va_Qi (fun r (_ : Unit) => post r) (BW D gCl A (fun _ => (wM D ad none rdv tw S))) A) args s 0 0 A) (F0 m 5 ls []) := by
  refine lp_ind ?_
  rintro K5 ⟨x3, x4⟩ hK5 hw H locs ls hP hD hS hl
  have hw : f6_ringOf_5 post tw S x1 x2 K5 x3 x4 := hw
  unfold f6_ringOf_5 at hw
  have hP : va_P D gCl (wM D ad none rdv tw S) H := hP
  have hD : va_D A (wM D ad none rdv tw S) := hD
  have hl : lv_has ls 5 [(0, .ref (ad 0)), (1, .int x1), (2, .int x2), (3, .int x3), (4, .int x4)] := hl
  refine lv_iload hC.x hC.b dX6_ringOf_5 (lv_at hl 4 rfl) ?_
  refine lv_aload_n hC.x hC.b dX6_ringOf_7 rfl (lv_at hl 0 rfl) ?_
  refine gM_3 hC hP dX6_ringOf_8 ?_
  obtain ⟨⟨t, rfl⟩, hw847⟩ := hw
  refine gT_2 hC hP dX6_ringOf_11 ?_
  refine lv_icmp_gt (tgt := 47) hC.x hC.b dX6_ringOf_14 (by decide) (fun c1 => ?_) (fun c1 => ?_)
  · have hw848 := hw847.1 c1
    refine lv_bipush (v := (-2)) hC.x hC.b dX6_ringOf_47 (by decide) ?_
    exact rt_i (u := ()) hC hw848 hP hD hS dX6_ringOf_49
  · have hw849 := hw847.2 c1
    refine lv_aload_n hC.x hC.b dX6_ringOf_17 rfl (lv_at hl 0 rfl) ?_
    refine lv_iload_n hC.x hC.b dX6_ringOf_18 rfl (lv_at hl 3 rfl) ?_
    refine lv_iload_n hC.x hC.b dX6_ringOf_19 rfl (lv_at hl 2 rfl) ?_
    refine go_i (run_V (rest := []) hC (m6_nextOf l hw849) v6_6_nextOf h6_nextOf 0 5 gCl_X6 rfl rfl ⟨rfl, rfl, Nat.le_of_ble_eq_true rfl, Nat.le_of_ble_eq_true rfl⟩ ⟨Nat.le_refl _, Nat.le_refl _⟩ hP hD hS hl.1 (Nat.le_of_ble_eq_true rfl) dX6_ringOf_20 rfl) hS (fun r2 u H locs hw850 hP hD hS => ?_)
    refine lv_istore_n (lv' := [(3, .int r2), (0, .ref (ad 0)), (1, .int x1), (2, .int x2), (4, .int x4)]) hC.x hC.b dX6_ringOf_23 rfl hl (by decide) rfl (fun ls hl => ?_)
    refine lv_iload_n hC.x hC.b dX6_ringOf_24 rfl (lv_at hl 0 rfl) ?_
    refine lv_bipush (v := (-2)) hC.x hC.b dX6_ringOf_25 (by decide) ?_
    refine lv_icmp_ne (tgt := 33) hC.x hC.b dX6_ringOf_27 (by decide) (fun c3 => ?_) (fun c3 => ?_)
    · have hw851 := hw850.1 c3
      refine lv_iload_n hC.x hC.b dX6_ringOf_33 rfl (lv_at hl 0 rfl) ?_
      refine lv_iload_n hC.x hC.b dX6_ringOf_34 rfl (lv_at hl 2 rfl) ?_
      refine lv_icmp_ne (tgt := 41) hC.x hC.b dX6_ringOf_35 (by decide) (fun c4 => ?_) (fun c4 => ?_)
      · have hw852 := hw851.1 c4
        refine lv_iinc (v := (x4 + 1)) (lv' := [(4, .int (x4 + 1)), (3, .int r2), (0, .ref (ad 0)), (1, .int x1), (2, .int x2)]) hC.x hC.b dX6_ringOf_41 hl (k := 4) rfl rfl (by decide) rfl (fun ls hl => ?_)
        refine lv_goto (tgt := 5) hC.x hC.b dX6_ringOf_44 (by decide) ?_
        exact hK5 (r2, (x4 + 1)) hw852 H locs ls hP hD hS (lv_sub hl [2, 3, 4, 1, 0] rfl)
      · have hw853 := hw851.2 c4
        refine lv_iload hC.x hC.b dX6_ringOf_38 (lv_at hl 4 rfl) ?_
        exact rt_i (u := ()) hC hw853 hP hD hS dX6_ringOf_40
    · have hw854 := hw850.2 c3
      refine lv_bipush (v := (-2)) hC.x hC.b dX6_ringOf_30 (by decide) ?_
      exact rt_i (u := ()) hC hw854 hP hD hS dX6_ringOf_32
def w6_ringOf (post : Int32 → Prop) (tw : Option (Nat → Nat)) (S : MS) (x1 : Int32) (x2 : Int32) : Prop :=
  (lp (fun (K : (Int32 × Int32) → Prop) (z : (Int32 × Int32)) => f6_ringOf_5 post tw S x1 x2 K z.1 z.2) (x1, 1))
set_option maxHeartbeats 4000000 in
theorem m6_ringOf (l : Launch) {post : Int32 → Prop} {S : MS} {x1 : Int32} {x2 : Int32} (hw : w6_ringOf post tw S x1 x2) : Met l yX6_ringOf (ws_ yX6_ringOf cX6_ringOf 5 (some .int)) ({ frames := 4, cells := 0, slots := 0, locals := 95 } : Room) (va_Pc [.ref (ad 0), .int x1, .int x2] (PcG D gCl nwG Z Hb A (wM D ad none rdv tw S))) (va_Qi (fun r (_ : Unit) => post r) (BW D gCl A (fun _ => (wM D ad none rdv tw S))) A) 0 0 A := by
  refine Met.ofG (by decide) (Nat.le_of_ble_eq_true rfl) ?_
  intro p e s m below meth c ls hC _ hP hD hS hl
  have hC : CX RX6 cX6_ringOf 5 (some .int) D gCl nwG Z Hb A p s m _ meth c := hC
  have hl : lv_has ls 5 [(0, .ref (ad 0)), (1, .int x1), (2, .int x2)] := hl
  unfold w6_ringOf at hw
  refine lv_iload_n hC.x hC.b dX6_ringOf_0 rfl (lv_at hl 1 rfl) ?_
  refine lv_istore_n (lv' := [(3, .int x1), (0, .ref (ad 0)), (1, .int x1), (2, .int x2)]) hC.x hC.b dX6_ringOf_1 rfl hl (by decide) rfl (fun ls hl => ?_)
  refine lv_iconst (v := 1) hC.x hC.b dX6_ringOf_2 (by decide) ?_
  refine lv_istore (lv' := [(4, .int 1), (3, .int x1), (0, .ref (ad 0)), (1, .int x1), (2, .int x2)]) hC.x hC.b dX6_ringOf_3 hl (by decide) rfl (fun ls hl => ?_)
  exact k6_ringOf_5 hC (x1, 1) hw s.heap [] ls hP hD hS (lv_sub hl [2, 3, 4, 1, 0] rfl)
theorem v6_6_ringOf : GoodIn lw_all (wsV RX6 407 RX6 yX6_ringOf (ws_ yX6_ringOf cX6_ringOf 5 (some .int))) := lw_V q2006 q2008 qs100 q126 q2009
theorem h6_ring : yX6_ring.cls = RX6 ∧ yX6_ring.cls ≠ "java/lang/invoke/MethodHandle" ∧ yX6_ring.cls ≠ "java/lang/invoke/VarHandle" ∧ (parseMethodDescriptor yX6_ring.desc).map (fun d => d.parameters.length) = some 2 := by decide +kernel
def w6_ring (post : Int32 → MS → Prop) (tw : Option (Nat → Nat)) (S : MS) (x1 : Int32) (x2 : Int32) : Prop :=
  (∀ S1, S1 = uI S 0 0 0 → (w6_isPerson (fun r2 => (w6_refusesNight (fun r3 => ((r3 ≤ 0 → (w6_works (fun S6 => (w6_ringOf (fun r7 => (w6_good (fun r8 S9 => (post r8 S9)) S6 r7)) tw S6 x1 x2)) S1)) ∧ (¬ r3 ≤ 0 → (w6_refused (fun r10 S11 => (post r10 S11)) S1 r3)))) S1 r2 x2)) tw S1 x1))
set_option maxHeartbeats 4000000 in
theorem m6_ring (l : Launch) {post : Int32 → MS → Prop} {S : MS} {x1 : Int32} {x2 : Int32} (hw : w6_ring post tw S x1 x2) : Met l yX6_ring (ws_ yX6_ring cX6_ring 4 (some .int)) ({ frames := 5, cells := 0, slots := 0, locals := 119 } : Room) (va_Pc [.ref (ad 0), .int x1, .int x2] (PcG D gCl nwG Z Hb A (wM D ad none rdv tw S))) (va_Qi post (BW D gCl A (fun u => (wM D ad none rdv tw u))) A) 0 0 A := by
  refine Met.ofG (by decide) (Nat.le_of_ble_eq_true rfl) ?_
  intro p e s m below meth c ls hC _ hP hD hS hl
  have hC : CX RX6 cX6_ring 4 (some .int) D gCl nwG Z Hb A p s m _ meth c := hC
  have hl : lv_has ls 4 [(0, .ref (ad 0)), (1, .int x1), (2, .int x2)] := hl
  unfold w6_ring at hw
  refine lv_aload_n hC.x hC.b dX6_ring_0 rfl (lv_at hl 0 rfl) ?_
  refine lv_iconst (v := 0) hC.x hC.b dX6_ring_1 (by decide) ?_
  refine pM_0 hC hP hD hS (v := 0) dX6_ring_2 (fun S1 eS1 H locs hP hD hS => ?_)
  have hw855 := hw S1 eS1
  refine lv_aload_n hC.x hC.b dX6_ring_5 rfl (lv_at hl 0 rfl) ?_
  refine lv_aload_n hC.x hC.b dX6_ring_6 rfl (lv_at hl 0 rfl) ?_
  refine lv_iload_n hC.x hC.b dX6_ring_7 rfl (lv_at hl 1 rfl) ?_
  refine go_i (run_V (rest := [.ref (ad 0)]) hC (m6_isPerson l hw855) v6_6_isPerson h6_isPerson 0 5 gCl_X6 rfl rfl ⟨rfl, rfl, Nat.le_of_ble_eq_true rfl, Nat.le_of_ble_eq_true rfl⟩ ⟨Nat.le_refl _, Nat.le_refl _⟩ hP hD hS hl.1 (Nat.le_of_ble_eq_true rfl) dX6_ring_8 rfl) hS (fun r2 u H locs hw856 hP hD hS => ?_)
  refine lv_iload_n hC.x hC.b dX6_ring_11 rfl (lv_at hl 2 rfl) ?_
  refine go_i (run_V (rest := []) hC (m6_refusesNight l hw856) v6_6_refusesNight h6_refusesNight 0 5 gCl_X6 rfl rfl ⟨rfl, rfl, Nat.le_of_ble_eq_true rfl, Nat.le_of_ble_eq_true rfl⟩ ⟨Nat.le_refl _, Nat.le_refl _⟩ hP hD hS hl.1 (Nat.le_of_ble_eq_true rfl) dX6_ring_12 rfl) hS (fun r3 u H locs hw857 hP hD hS => ?_)
  refine lv_istore_n (lv' := [(3, .int r3), (0, .ref (ad 0)), (1, .int x1), (2, .int x2)]) hC.x hC.b dX6_ring_15 rfl hl (by decide) rfl (fun ls hl => ?_)
  refine lv_iload_n hC.x hC.b dX6_ring_16 rfl (lv_at hl 0 rfl) ?_
  refine lv_if_le (tgt := 26) hC.x hC.b dX6_ring_17 (by decide) (fun c4 => ?_) (fun c4 => ?_)
  · have hw858 := hw857.1 c4
    refine lv_aload_n hC.x hC.b dX6_ring_26 rfl (lv_at hl 1 rfl) ?_
    refine go_v (run_V (rest := []) hC (m6_works l hw858) v6_6_works h6_works 0 5 gCl_X6 rfl rfl ⟨rfl, rfl, Nat.le_of_ble_eq_true rfl, Nat.le_of_ble_eq_true rfl⟩ ⟨Nat.le_refl _, Nat.le_refl _⟩ hP hD hS hl.1 (Nat.le_of_ble_eq_true rfl) dX6_ring_27 rfl) hS (fun S6 H locs hw859 hP hD hS => ?_)
    refine lv_aload_n hC.x hC.b dX6_ring_30 rfl (lv_at hl 1 rfl) ?_
    refine lv_aload_n hC.x hC.b dX6_ring_31 rfl (lv_at hl 1 rfl) ?_
    refine lv_iload_n hC.x hC.b dX6_ring_32 rfl (lv_at hl 2 rfl) ?_
    refine lv_iload_n hC.x hC.b dX6_ring_33 rfl (lv_at hl 3 rfl) ?_
    refine go_i (run_V (rest := [.ref (ad 0)]) hC (m6_ringOf l hw859) v6_6_ringOf h6_ringOf 0 5 gCl_X6 rfl rfl ⟨rfl, rfl, Nat.le_of_ble_eq_true rfl, Nat.le_of_ble_eq_true rfl⟩ ⟨Nat.le_refl _, Nat.le_refl _⟩ hP hD hS hl.1 (Nat.le_of_ble_eq_true rfl) dX6_ring_34 rfl) hS (fun r7 u H locs hw860 hP hD hS => ?_)
    refine go_i (run_V (rest := []) hC (m6_good l hw860) v6_6_good h6_good 0 5 gCl_X6 rfl rfl ⟨rfl, rfl, Nat.le_of_ble_eq_true rfl, Nat.le_of_ble_eq_true rfl⟩ ⟨Nat.le_refl _, Nat.le_refl _⟩ hP hD hS hl.1 (Nat.le_of_ble_eq_true rfl) dX6_ring_37 rfl) hS (fun r8 S9 H locs hw861 hP hD hS => ?_)
    exact rt_i hC hw861 hP hD hS dX6_ring_40
  · have hw862 := hw857.2 c4
    refine lv_aload_n hC.x hC.b dX6_ring_20 rfl (lv_at hl 1 rfl) ?_
    refine lv_iload_n hC.x hC.b dX6_ring_21 rfl (lv_at hl 0 rfl) ?_
    refine go_i (run_V (rest := []) hC (m6_refused l hw862) v6_6_refused h6_refused 0 5 gCl_X6 rfl rfl ⟨rfl, rfl, Nat.le_of_ble_eq_true rfl, Nat.le_of_ble_eq_true rfl⟩ ⟨Nat.le_refl _, Nat.le_refl _⟩ hP hD hS hl.1 (Nat.le_of_ble_eq_true rfl) dX6_ring_22 rfl) hS (fun r10 S11 H locs hw863 hP hD hS => ?_)
    exact rt_i hC hw863 hP hD hS dX6_ring_25
theorem h6_ringAt : yX6_ringAt.cls = RX6 ∧ yX6_ringAt.cls ≠ "java/lang/invoke/MethodHandle" ∧ yX6_ringAt.cls ≠ "java/lang/invoke/VarHandle" ∧ (parseMethodDescriptor yX6_ringAt.desc).map (fun d => d.parameters.length) = some 3 := by decide +kernel
def f6_ringAt_59 (post : Int32 → MS → Prop) (tw : Option (Nat → Nat)) (S : MS) (x2 : Int32) (x3 : Int32) (K59 : (Int32 × Int32) → Prop) (x5 : Int32) (x6 : Int32) : Prop :=
  ((x3 ≤ x6 → (w6_good (fun r13 S14 => (post r13 S14)) S x5)) ∧ (¬ x3 ≤ x6 → (w6_nextOf (fun r15 => (K59 (r15, (x6 + 1)))) tw S x5 x2)))
set_option maxHeartbeats 4000000 in
theorem k6_ringAt_59 {post : Int32 → MS → Prop} {S : MS} {x2 : Int32} {x3 : Int32} (hC : CX RX6 cX6_ringAt 7 (some .int) D gCl nwG Z Hb A p s m args meth c) : ∀ z : (Int32 × Int32), lp (fun (K : (Int32 × Int32) → Prop) (z : (Int32 × Int32)) => f6_ringAt_59 post tw S x2 x3 K z.1 z.2) z → ∀ (H : Heap) (locs : List Loc) (ls : Array Slot), va_P D gCl (wM D ad none rdv tw S) H → va_D A (wM D ad none rdv tw S) → va_S A s.heap H locs → lv_has ls 7 [(0, .ref (ad 0)), (2, .int x2), (3, .int x3), (5, .int z.1), (6, .int z.2)] → W p l e ({ frames := 5, cells := 0, slots := 0, locals := 119 } : Room) s m args below meth c H locs 0 0 (MQ below (va_Qi post (BW D gCl A (fun u => (wM D ad none rdv tw u))) A) args s 0 0 A) (F0 m 59 ls []) := by
  refine lp_ind ?_
  rintro K59 ⟨x5, x6⟩ hK59 hw H locs ls hP hD hS hl
  have hw : f6_ringAt_59 post tw S x2 x3 K59 x5 x6 := hw
  unfold f6_ringAt_59 at hw
  have hP : va_P D gCl (wM D ad none rdv tw S) H := hP
  have hD : va_D A (wM D ad none rdv tw S) := hD
  have hl : lv_has ls 7 [(0, .ref (ad 0)), (2, .int x2), (3, .int x3), (5, .int x5), (6, .int x6)] := hl
  refine lv_iload hC.x hC.b dX6_ringAt_59 (lv_at hl 4 rfl) ?_
  refine lv_iload_n hC.x hC.b dX6_ringAt_61 rfl (lv_at hl 2 rfl) ?_
  refine lv_icmp_ge (tgt := 80) hC.x hC.b dX6_ringAt_62 (by decide) (fun c12 => ?_) (fun c12 => ?_)
  · have hw874 := hw.1 c12
    refine lv_aload_n hC.x hC.b dX6_ringAt_80 rfl (lv_at hl 0 rfl) ?_
    refine lv_iload hC.x hC.b dX6_ringAt_81 (lv_at hl 3 rfl) ?_
    refine go_i (run_V (rest := []) hC (m6_good l hw874) v6_6_good h6_good 0 5 gCl_X6 rfl rfl ⟨rfl, rfl, Nat.le_of_ble_eq_true rfl, Nat.le_of_ble_eq_true rfl⟩ ⟨Nat.le_refl _, Nat.le_refl _⟩ hP hD hS hl.1 (Nat.le_of_ble_eq_true rfl) dX6_ringAt_83 rfl) hS (fun r13 S14 H locs hw875 hP hD hS => ?_)
    exact rt_i hC hw875 hP hD hS dX6_ringAt_86
  · have hw876 := hw.2 c12
    refine lv_aload_n hC.x hC.b dX6_ringAt_65 rfl (lv_at hl 0 rfl) ?_
    refine lv_iload hC.x hC.b dX6_ringAt_66 (lv_at hl 3 rfl) ?_
    refine lv_iload_n hC.x hC.b dX6_ringAt_68 rfl (lv_at hl 1 rfl) ?_
    refine go_i (run_V (rest := []) hC (m6_nextOf l hw876) v6_6_nextOf h6_nextOf 0 5 gCl_X6 rfl rfl ⟨rfl, rfl, Nat.le_of_ble_eq_true rfl, Nat.le_of_ble_eq_true rfl⟩ ⟨Nat.le_refl _, Nat.le_refl _⟩ hP hD hS hl.1 (Nat.le_of_ble_eq_true rfl) dX6_ringAt_69 rfl) hS (fun r15 u H locs hw877 hP hD hS => ?_)
    refine lv_istore (lv' := [(5, .int r15), (0, .ref (ad 0)), (2, .int x2), (3, .int x3), (6, .int x6)]) hC.x hC.b dX6_ringAt_72 hl (by decide) rfl (fun ls hl => ?_)
    refine lv_iinc (v := (x6 + 1)) (lv' := [(6, .int (x6 + 1)), (5, .int r15), (0, .ref (ad 0)), (2, .int x2), (3, .int x3)]) hC.x hC.b dX6_ringAt_74 hl (k := 4) rfl rfl (by decide) rfl (fun ls hl => ?_)
    refine lv_goto (tgt := 59) hC.x hC.b dX6_ringAt_77 (by decide) ?_
    exact hK59 (r15, (x6 + 1)) hw877 H locs ls hP hD hS (lv_sub hl [2, 3, 4, 1, 0] rfl)
def w6_ringAt (post : Int32 → MS → Prop) (tw : Option (Nat → Nat)) (S : MS) (x1 : Int32) (x2 : Int32) (x3 : Int32) : Prop :=
  (∀ S1, S1 = uI S 0 0 0 → (w6_isPerson (fun r2 => (w6_refusesNight (fun r3 => ((r3 ≤ 0 → (w6_works (fun S6 => ((x3 < 0 → (w6_refused (fun r8 S9 => (post r8 S9)) S6 1)) ∧ (¬ x3 < 0 → (w6_ringOf (fun r10 => ((x3 < r10 → (lp (fun (K : (Int32 × Int32) → Prop) (z : (Int32 × Int32)) => f6_ringAt_59 post tw S6 x2 x3 K z.1 z.2) (x1, 0))) ∧ (¬ x3 < r10 → (w6_refused (fun r16 S17 => (post r16 S17)) S6 1)))) tw S6 x1 x2)))) S1)) ∧ (¬ r3 ≤ 0 → (w6_refused (fun r18 S19 => (post r18 S19)) S1 r3)))) S1 r2 x2)) tw S1 x1))
set_option maxHeartbeats 4000000 in
theorem m6_ringAt (l : Launch) {post : Int32 → MS → Prop} {S : MS} {x1 : Int32} {x2 : Int32} {x3 : Int32} (hw : w6_ringAt post tw S x1 x2 x3) : Met l yX6_ringAt (ws_ yX6_ringAt cX6_ringAt 7 (some .int)) ({ frames := 5, cells := 0, slots := 0, locals := 119 } : Room) (va_Pc [.ref (ad 0), .int x1, .int x2, .int x3] (PcG D gCl nwG Z Hb A (wM D ad none rdv tw S))) (va_Qi post (BW D gCl A (fun u => (wM D ad none rdv tw u))) A) 0 0 A := by
  refine Met.ofG (by decide) (Nat.le_of_ble_eq_true rfl) ?_
  intro p e s m below meth c ls hC _ hP hD hS hl
  have hC : CX RX6 cX6_ringAt 7 (some .int) D gCl nwG Z Hb A p s m _ meth c := hC
  have hl : lv_has ls 7 [(0, .ref (ad 0)), (1, .int x1), (2, .int x2), (3, .int x3)] := hl
  unfold w6_ringAt at hw
  refine lv_aload_n hC.x hC.b dX6_ringAt_0 rfl (lv_at hl 0 rfl) ?_
  refine lv_iconst (v := 0) hC.x hC.b dX6_ringAt_1 (by decide) ?_
  refine pM_0 hC hP hD hS (v := 0) dX6_ringAt_2 (fun S1 eS1 H locs hP hD hS => ?_)
  have hw864 := hw S1 eS1
  refine lv_aload_n hC.x hC.b dX6_ringAt_5 rfl (lv_at hl 0 rfl) ?_
  refine lv_aload_n hC.x hC.b dX6_ringAt_6 rfl (lv_at hl 0 rfl) ?_
  refine lv_iload_n hC.x hC.b dX6_ringAt_7 rfl (lv_at hl 1 rfl) ?_
  refine go_i (run_V (rest := [.ref (ad 0)]) hC (m6_isPerson l hw864) v6_6_isPerson h6_isPerson 0 5 gCl_X6 rfl rfl ⟨rfl, rfl, Nat.le_of_ble_eq_true rfl, Nat.le_of_ble_eq_true rfl⟩ ⟨Nat.le_refl _, Nat.le_refl _⟩ hP hD hS hl.1 (Nat.le_of_ble_eq_true rfl) dX6_ringAt_8 rfl) hS (fun r2 u H locs hw865 hP hD hS => ?_)
  refine lv_iload_n hC.x hC.b dX6_ringAt_11 rfl (lv_at hl 2 rfl) ?_
  refine go_i (run_V (rest := []) hC (m6_refusesNight l hw865) v6_6_refusesNight h6_refusesNight 0 5 gCl_X6 rfl rfl ⟨rfl, rfl, Nat.le_of_ble_eq_true rfl, Nat.le_of_ble_eq_true rfl⟩ ⟨Nat.le_refl _, Nat.le_refl _⟩ hP hD hS hl.1 (Nat.le_of_ble_eq_true rfl) dX6_ringAt_12 rfl) hS (fun r3 u H locs hw866 hP hD hS => ?_)
  refine lv_istore (lv' := [(4, .int r3), (0, .ref (ad 0)), (1, .int x1), (2, .int x2), (3, .int x3)]) hC.x hC.b dX6_ringAt_15 hl (by decide) rfl (fun ls hl => ?_)
  refine lv_iload hC.x hC.b dX6_ringAt_17 (lv_at hl 0 rfl) ?_
  refine lv_if_le (tgt := 29) hC.x hC.b dX6_ringAt_19 (by decide) (fun c4 => ?_) (fun c4 => ?_)
  · have hw867 := hw866.1 c4
    refine lv_aload_n hC.x hC.b dX6_ringAt_29 rfl (lv_at hl 1 rfl) ?_
    refine go_v (run_V (rest := []) hC (m6_works l hw867) v6_6_works h6_works 0 5 gCl_X6 rfl rfl ⟨rfl, rfl, Nat.le_of_ble_eq_true rfl, Nat.le_of_ble_eq_true rfl⟩ ⟨Nat.le_refl _, Nat.le_refl _⟩ hP hD hS hl.1 (Nat.le_of_ble_eq_true rfl) dX6_ringAt_30 rfl) hS (fun S6 H locs hw868 hP hD hS => ?_)
    refine lv_iload_n hC.x hC.b dX6_ringAt_33 rfl (lv_at hl 4 rfl) ?_
    refine lv_if_lt (tgt := 47) hC.x hC.b dX6_ringAt_34 (by decide) (fun c7 => ?_) (fun c7 => ?_)
    · have hw869 := hw868.1 c7
      refine lv_aload_n hC.x hC.b dX6_ringAt_47 rfl (lv_at hl 1 rfl) ?_
      refine lv_iconst (v := 1) hC.x hC.b dX6_ringAt_48 (by decide) ?_
      refine go_i (run_V (rest := []) hC (m6_refused l hw869) v6_6_refused h6_refused 0 5 gCl_X6 rfl rfl ⟨rfl, rfl, Nat.le_of_ble_eq_true rfl, Nat.le_of_ble_eq_true rfl⟩ ⟨Nat.le_refl _, Nat.le_refl _⟩ hP hD hS hl.1 (Nat.le_of_ble_eq_true rfl) dX6_ringAt_49 rfl) hS (fun r8 S9 H locs hw870 hP hD hS => ?_)
      exact rt_i hC hw870 hP hD hS dX6_ringAt_52
    · have hw871 := hw868.2 c7
      refine lv_iload_n hC.x hC.b dX6_ringAt_37 rfl (lv_at hl 4 rfl) ?_
      refine lv_aload_n hC.x hC.b dX6_ringAt_38 rfl (lv_at hl 1 rfl) ?_
      refine lv_iload_n hC.x hC.b dX6_ringAt_39 rfl (lv_at hl 2 rfl) ?_
      refine lv_iload_n hC.x hC.b dX6_ringAt_40 rfl (lv_at hl 3 rfl) ?_
      refine go_i (run_V (rest := [.int x3]) hC (m6_ringOf l hw871) v6_6_ringOf h6_ringOf 0 5 gCl_X6 rfl rfl ⟨rfl, rfl, Nat.le_of_ble_eq_true rfl, Nat.le_of_ble_eq_true rfl⟩ ⟨Nat.le_refl _, Nat.le_refl _⟩ hP hD hS hl.1 (Nat.le_of_ble_eq_true rfl) dX6_ringAt_41 rfl) hS (fun r10 u H locs hw872 hP hD hS => ?_)
      refine lv_icmp_lt (tgt := 53) hC.x hC.b dX6_ringAt_44 (by decide) (fun c11 => ?_) (fun c11 => ?_)
      · have hw873 := hw872.1 c11
        refine lv_iload_n hC.x hC.b dX6_ringAt_53 rfl (lv_at hl 2 rfl) ?_
        refine lv_istore (lv' := [(5, .int x1), (4, .int r3), (0, .ref (ad 0)), (1, .int x1), (2, .int x2), (3, .int x3)]) hC.x hC.b dX6_ringAt_54 hl (by decide) rfl (fun ls hl => ?_)
        refine lv_iconst (v := 0) hC.x hC.b dX6_ringAt_56 (by decide) ?_
        refine lv_istore (lv' := [(6, .int 0), (5, .int x1), (4, .int r3), (0, .ref (ad 0)), (1, .int x1), (2, .int x2), (3, .int x3)]) hC.x hC.b dX6_ringAt_57 hl (by decide) rfl (fun ls hl => ?_)
        exact k6_ringAt_59 hC (x1, 0) hw873 H locs ls hP hD hS (lv_sub hl [3, 5, 6, 1, 0] rfl)
      · have hw878 := hw872.2 c11
        refine lv_aload_n hC.x hC.b dX6_ringAt_47 rfl (lv_at hl 1 rfl) ?_
        refine lv_iconst (v := 1) hC.x hC.b dX6_ringAt_48 (by decide) ?_
        refine go_i (run_V (rest := []) hC (m6_refused l hw878) v6_6_refused h6_refused 0 5 gCl_X6 rfl rfl ⟨rfl, rfl, Nat.le_of_ble_eq_true rfl, Nat.le_of_ble_eq_true rfl⟩ ⟨Nat.le_refl _, Nat.le_refl _⟩ hP hD hS hl.1 (Nat.le_of_ble_eq_true rfl) dX6_ringAt_49 rfl) hS (fun r16 S17 H locs hw879 hP hD hS => ?_)
        exact rt_i hC hw879 hP hD hS dX6_ringAt_52
  · have hw880 := hw866.2 c4
    refine lv_aload_n hC.x hC.b dX6_ringAt_22 rfl (lv_at hl 1 rfl) ?_
    refine lv_iload hC.x hC.b dX6_ringAt_23 (lv_at hl 0 rfl) ?_
    refine go_i (run_V (rest := []) hC (m6_refused l hw880) v6_6_refused h6_refused 0 5 gCl_X6 rfl rfl ⟨rfl, rfl, Nat.le_of_ble_eq_true rfl, Nat.le_of_ble_eq_true rfl⟩ ⟨Nat.le_refl _, Nat.le_refl _⟩ hP hD hS hl.1 (Nat.le_of_ble_eq_true rfl) dX6_ringAt_25 rfl) hS (fun r18 S19 H locs hw881 hP hD hS => ?_)
    exact rt_i hC hw881 hP hD hS dX6_ringAt_28
theorem v6_6_asTold : GoodIn lw_all (wsV RX6 305 RX6 yX6_asTold (ws_ yX6_asTold cX6_asTold 3 none)) := lw_V q1764 q1766 qs73 q126 q1767
theorem h6_wrongHeard : yX6_wrongHeard.cls = RX6 ∧ yX6_wrongHeard.cls ≠ "java/lang/invoke/MethodHandle" ∧ yX6_wrongHeard.cls ≠ "java/lang/invoke/VarHandle" ∧ (parseMethodDescriptor yX6_wrongHeard.desc).map (fun d => d.parameters.length) = some 1 := by decide +kernel
def f6_wrongHeard_7 (post : Int32 → MS → Prop) (tw : Option (Nat → Nat)) (S : MS) (K7 : Int32 → Prop) (x2 : Int32) : Prop :=
  ((∃ t, tw = some t) ∧ (((S.1 20 6) ≤ x2 → (post (-2) S)) ∧ (¬ (S.1 20 6) ≤ x2 → (vp_in x2 8 ∧ (vp_in x2 8 ∧ (w6_whoHears (fun r4 => (vp_in x2 8 ∧ ((r4 = (S.1 28 x2.toNatClampNeg) → (K7 (x2 + 1))) ∧ (¬ r4 = (S.1 28 x2.toNatClampNeg) → (post x2 S))))) tw S (S.1 29 x2.toNatClampNeg) (S.1 30 x2.toNatClampNeg)))))))
set_option maxHeartbeats 4000000 in
theorem k6_wrongHeard_7 {post : Int32 → MS → Prop} {S : MS} (hC : CX RX6 cX6_wrongHeard 3 (some .int) D gCl nwG Z Hb A p s m args meth c) : ∀ z : Int32, lp (fun (K : Int32 → Prop) (z : Int32) => f6_wrongHeard_7 post tw S K z) z → ∀ (H : Heap) (locs : List Loc) (ls : Array Slot), va_P D gCl (wM D ad none rdv tw S) H → va_D A (wM D ad none rdv tw S) → va_S A s.heap H locs → lv_has ls 3 [(0, .ref (ad 0)), (2, .int z)] → W p l e ({ frames := 3, cells := 0, slots := 0, locals := 72 } : Room) s m args below meth c H locs 0 0 (MQ below (va_Qi post (BW D gCl A (fun u => (wM D ad none rdv tw u))) A) args s 0 0 A) (F0 m 7 ls []) := by
  refine lp_ind ?_
  rintro K7 x2 hK7 hw H locs ls hP hD hS hl
  have hw : f6_wrongHeard_7 post tw S K7 x2 := hw
  unfold f6_wrongHeard_7 at hw
  have hP : va_P D gCl (wM D ad none rdv tw S) H := hP
  have hD : va_D A (wM D ad none rdv tw S) := hD
  have hl : lv_has ls 3 [(0, .ref (ad 0)), (2, .int x2)] := hl
  refine lv_iload_n hC.x hC.b dX6_wrongHeard_7 rfl (lv_at hl 1 rfl) ?_
  refine lv_aload_n hC.x hC.b dX6_wrongHeard_8 rfl (lv_at hl 0 rfl) ?_
  refine gM_3 hC hP dX6_wrongHeard_9 ?_
  obtain ⟨⟨t, rfl⟩, hw883⟩ := hw
  refine gT_6 hC hP dX6_wrongHeard_12 ?_
  refine lv_icmp_ge (tgt := 60) hC.x hC.b dX6_wrongHeard_15 (by decide) (fun c3 => ?_) (fun c3 => ?_)
  · have hw884 := hw883.1 c3
    refine lv_bipush (v := (-2)) hC.x hC.b dX6_wrongHeard_60 (by decide) ?_
    exact rt_i hC hw884 hP hD hS dX6_wrongHeard_62
  · have hw885 := hw883.2 c3
    refine lv_aload_n hC.x hC.b dX6_wrongHeard_18 rfl (lv_at hl 0 rfl) ?_
    refine lv_aload_n hC.x hC.b dX6_wrongHeard_19 rfl (lv_at hl 0 rfl) ?_
    refine gM_3 hC hP dX6_wrongHeard_20 ?_
    refine gT_16 hC hP dX6_wrongHeard_23 ?_
    refine lv_iload_n hC.x hC.b dX6_wrongHeard_26 rfl (lv_at hl 1 rfl) ?_
    obtain ⟨hin, hw886⟩ := hw885
    refine lT_9 hC hP hin rfl dX6_wrongHeard_27 ?_
    refine lv_aload_n hC.x hC.b dX6_wrongHeard_28 rfl (lv_at hl 0 rfl) ?_
    refine gM_3 hC hP dX6_wrongHeard_29 ?_
    refine gT_17 hC hP dX6_wrongHeard_32 ?_
    refine lv_iload_n hC.x hC.b dX6_wrongHeard_35 rfl (lv_at hl 1 rfl) ?_
    obtain ⟨hin, hw887⟩ := hw886
    refine lT_10 hC hP hin rfl dX6_wrongHeard_36 ?_
    refine go_i (run_V (rest := []) hC (m6_whoHears l hw887) v6_6_whoHears h6_whoHears 0 5 gCl_X6 rfl rfl ⟨rfl, rfl, Nat.le_of_ble_eq_true rfl, Nat.le_of_ble_eq_true rfl⟩ ⟨Nat.le_refl _, Nat.le_refl _⟩ hP hD hS hl.1 (Nat.le_of_ble_eq_true rfl) dX6_wrongHeard_37 rfl) hS (fun r4 u H locs hw888 hP hD hS => ?_)
    refine lv_aload_n hC.x hC.b dX6_wrongHeard_40 rfl (lv_at hl 0 rfl) ?_
    refine gM_3 hC hP dX6_wrongHeard_41 ?_
    refine gT_15 hC hP dX6_wrongHeard_44 ?_
    refine lv_iload_n hC.x hC.b dX6_wrongHeard_47 rfl (lv_at hl 1 rfl) ?_
    obtain ⟨hin, hw889⟩ := hw888
    refine lT_8 hC hP hin rfl dX6_wrongHeard_48 ?_
    refine lv_icmp_eq (tgt := 54) hC.x hC.b dX6_wrongHeard_49 (by decide) (fun c5 => ?_) (fun c5 => ?_)
    · have hw890 := hw889.1 c5
      refine lv_iinc (v := (x2 + 1)) (lv' := [(2, .int (x2 + 1)), (0, .ref (ad 0))]) hC.x hC.b dX6_wrongHeard_54 hl (k := 1) rfl rfl (by decide) rfl (fun ls hl => ?_)
      refine lv_goto (tgt := 7) hC.x hC.b dX6_wrongHeard_57 (by decide) ?_
      exact hK7 (x2 + 1) hw890 H locs ls hP hD hS (lv_sub hl [1, 0] rfl)
    · have hw891 := hw889.2 c5
      refine lv_iload_n hC.x hC.b dX6_wrongHeard_52 rfl (lv_at hl 1 rfl) ?_
      exact rt_i hC hw891 hP hD hS dX6_wrongHeard_53
def w6_wrongHeard (post : Int32 → MS → Prop) (tw : Option (Nat → Nat)) (S : MS) (x1 : Int32) : Prop :=
  (w6_asTold (fun S2 => (lp (fun (K : Int32 → Prop) (z : Int32) => f6_wrongHeard_7 post tw S2 K z) 0)) tw S x1)
set_option maxHeartbeats 4000000 in
theorem m6_wrongHeard (l : Launch) {post : Int32 → MS → Prop} {S : MS} {x1 : Int32} (hw : w6_wrongHeard post tw S x1) : Met l yX6_wrongHeard (ws_ yX6_wrongHeard cX6_wrongHeard 3 (some .int)) ({ frames := 3, cells := 0, slots := 0, locals := 72 } : Room) (va_Pc [.ref (ad 0), .int x1] (PcG D gCl nwG Z Hb A (wM D ad none rdv tw S))) (va_Qi post (BW D gCl A (fun u => (wM D ad none rdv tw u))) A) 0 0 A := by
  refine Met.ofG (by decide) (Nat.le_of_ble_eq_true rfl) ?_
  intro p e s m below meth c ls hC _ hP hD hS hl
  have hC : CX RX6 cX6_wrongHeard 3 (some .int) D gCl nwG Z Hb A p s m _ meth c := hC
  have hl : lv_has ls 3 [(0, .ref (ad 0)), (1, .int x1)] := hl
  unfold w6_wrongHeard at hw
  refine lv_aload_n hC.x hC.b dX6_wrongHeard_0 rfl (lv_at hl 0 rfl) ?_
  refine lv_iload_n hC.x hC.b dX6_wrongHeard_1 rfl (lv_at hl 1 rfl) ?_
  refine go_v (run_V (rest := []) hC (m6_asTold l hw) v6_6_asTold h6_asTold 0 5 gCl_X6 rfl rfl ⟨rfl, rfl, Nat.le_of_ble_eq_true rfl, Nat.le_of_ble_eq_true rfl⟩ ⟨Nat.le_refl _, Nat.le_refl _⟩ hP hD hS hl.1 (Nat.le_of_ble_eq_true rfl) dX6_wrongHeard_2 rfl) hS (fun S2 H locs hw882 hP hD hS => ?_)
  refine lv_iconst (v := 0) hC.x hC.b dX6_wrongHeard_5 (by decide) ?_
  refine lv_istore_n (lv' := [(2, .int 0), (0, .ref (ad 0)), (1, .int x1)]) hC.x hC.b dX6_wrongHeard_6 rfl hl (by decide) rfl (fun ls hl => ?_)
  exact k6_wrongHeard_7 hC 0 hw882 H locs ls hP hD hS (lv_sub hl [1, 0] rfl)
theorem v6_6_wrongHeard : GoodIn lw_all (wsV RX6 419 RX6 yX6_wrongHeard (ws_ yX6_wrongHeard cX6_wrongHeard 3 (some .int))) := lw_V q2030 q2032 qs104 q126 q2033
theorem h6_fitting : yX6_fitting.cls = RX6 ∧ yX6_fitting.cls ≠ "java/lang/invoke/MethodHandle" ∧ yX6_fitting.cls ≠ "java/lang/invoke/VarHandle" ∧ (parseMethodDescriptor yX6_fitting.desc).map (fun d => d.parameters.length) = some 1 := by decide +kernel
def f6_fitting_118 (K49 : (MS × Int32 × Int32) → Prop) (x2 : Int32) (x3 : Int32) (K118 : (MS × Int32) → Prop) (S : MS) (x4 : Int32) : Prop :=
  (((S.1 20 5) ≤ x4 → (K49 (S, x2, (x3 + 1)))) ∧ (¬ (S.1 20 5) ≤ x4 → (vp_in x4 4 ∧ (w6_bit (fun r16 => ((r16 = 0 → (vp_in x4 4 ∧ (∀ S18, S18 = uI S 10 x4.toNatClampNeg ((S.1 10 x4.toNatClampNeg) + 0) → (K118 (S18, (x4 + 1)))))) ∧ (¬ r16 = 0 → (vp_in x4 4 ∧ (∀ S19, S19 = uI S 10 x4.toNatClampNeg ((S.1 10 x4.toNatClampNeg) + 1) → (K118 (S19, (x4 + 1)))))))) x3 x4))))
set_option maxHeartbeats 4000000 in
theorem k6_fitting_118 {post : Int32 → MS → Prop} {x1 : Int32} {x2 : Int32} {x3 : Int32} {K49 : (MS × Int32 × Int32) → Prop} (hC : CX RX6 cX6_fitting 5 (some .int) D gCl nwG Z Hb A p s m args meth c) (hK49 : ∀ z : (MS × Int32 × Int32), K49 z → ∀ (H : Heap) (locs : List Loc) (ls : Array Slot), va_P D gCl (wM D ad none rdv (some t) z.1) H → va_D A (wM D ad none rdv (some t) z.1) → va_S A s.heap H locs → lv_has ls 5 [(0, .ref (ad 0)), (1, .int x1), (2, .int z.2.1), (3, .int z.2.2)] → W p l e ({ frames := 4, cells := 0, slots := 0, locals := 94 } : Room) s m args below meth c H locs 0 0 (MQ below (va_Qi post (BW D gCl A (fun u => (wM D ad none rdv (some t) u))) A) args s 0 0 A) (F0 m 49 ls [])) : ∀ z : (MS × Int32), lp (fun (K : (MS × Int32) → Prop) (z : (MS × Int32)) => f6_fitting_118 K49 x2 x3 K z.1 z.2) z → ∀ (H : Heap) (locs : List Loc) (ls : Array Slot), va_P D gCl (wM D ad none rdv (some t) z.1) H → va_D A (wM D ad none rdv (some t) z.1) → va_S A s.heap H locs → lv_has ls 5 [(0, .ref (ad 0)), (1, .int x1), (2, .int x2), (3, .int x3), (4, .int z.2)] → W p l e ({ frames := 4, cells := 0, slots := 0, locals := 94 } : Room) s m args below meth c H locs 0 0 (MQ below (va_Qi post (BW D gCl A (fun u => (wM D ad none rdv (some t) u))) A) args s 0 0 A) (F0 m 118 ls []) := by
  refine lp_ind ?_
  rintro K118 ⟨S, x4⟩ hK118 hw H locs ls hP hD hS hl
  have hw : f6_fitting_118 K49 x2 x3 K118 S x4 := hw
  unfold f6_fitting_118 at hw
  have hP : va_P D gCl (wM D ad none rdv (some t) S) H := hP
  have hD : va_D A (wM D ad none rdv (some t) S) := hD
  have hl : lv_has ls 5 [(0, .ref (ad 0)), (1, .int x1), (2, .int x2), (3, .int x3), (4, .int x4)] := hl
  refine lv_iload hC.x hC.b dX6_fitting_118 (lv_at hl 4 rfl) ?_
  refine lv_aload_n hC.x hC.b dX6_fitting_120 rfl (lv_at hl 0 rfl) ?_
  refine gM_3 hC hP dX6_fitting_121 ?_
  refine gT_5 hC hP dX6_fitting_124 ?_
  refine lv_icmp_ge (tgt := 160) hC.x hC.b dX6_fitting_127 (by decide) (fun c15 => ?_) (fun c15 => ?_)
  · have hw908 := hw.1 c15
    refine lv_iinc (v := (x3 + 1)) (lv' := [(3, .int (x3 + 1)), (0, .ref (ad 0)), (1, .int x1), (2, .int x2), (4, .int x4)]) hC.x hC.b dX6_fitting_160 hl (k := 3) rfl rfl (by decide) rfl (fun ls hl => ?_)
    refine lv_goto (tgt := 49) hC.x hC.b dX6_fitting_163 (by decide) ?_
    exact hK49 (S, x2, (x3 + 1)) hw908 H locs ls hP hD hS (lv_sub hl [1, 2, 3, 0] rfl)
  · have hw909 := hw.2 c15
    refine lv_aload_n hC.x hC.b dX6_fitting_130 rfl (lv_at hl 0 rfl) ?_
    refine gM_29 hC hP dX6_fitting_131 ?_
    refine lv_iload hC.x hC.b dX6_fitting_134 (lv_at hl 4 rfl) ?_
    refine lv_dup2_11 hC.x hC.b dX6_fitting_136 rfl rfl ?_
    obtain ⟨hin, hw910⟩ := hw909
    refine lM_10 hC hP hin rfl dX6_fitting_137 ?_
    refine lv_iload_n hC.x hC.b dX6_fitting_138 rfl (lv_at hl 3 rfl) ?_
    refine lv_iload hC.x hC.b dX6_fitting_139 (lv_at hl 4 rfl) ?_
    refine go_i (run_S (rest := [.int (S.1 10 x4.toNatClampNeg), .int x4, .ref (ad 10)]) hC (m6_bit l hw910) v6_6_bit h6_bit ⟨rfl, rfl, Nat.le_of_ble_eq_true rfl, Nat.le_of_ble_eq_true rfl⟩ ⟨Nat.le_refl _, Nat.le_refl _⟩ hP hD hS hl.1 (Nat.le_of_ble_eq_true rfl) dX6_fitting_141 rfl) hS (fun r16 u H locs hw911 hP hD hS => ?_)
    refine lv_if_eq (tgt := 151) hC.x hC.b dX6_fitting_144 (by decide) (fun c17 => ?_) (fun c17 => ?_)
    · have hw912 := hw911.1 c17
      refine lv_iconst (v := 0) hC.x hC.b dX6_fitting_151 (by decide) ?_
      refine lv_iadd hC.x hC.b dX6_fitting_152 ?_
      obtain ⟨hin, hw913⟩ := hw912
      refine sM_10 hC hP hD hS (v := ((S.1 10 x4.toNatClampNeg) + 0)) hin rfl dX6_fitting_153 (fun S18 eS18 H locs hP hD hS => ?_)
      have hw914 := hw913 S18 eS18
      refine lv_iinc (v := (x4 + 1)) (lv' := [(4, .int (x4 + 1)), (0, .ref (ad 0)), (1, .int x1), (2, .int x2), (3, .int x3)]) hC.x hC.b dX6_fitting_154 hl (k := 4) rfl rfl (by decide) rfl (fun ls hl => ?_)
      refine lv_goto (tgt := 118) hC.x hC.b dX6_fitting_157 (by decide) ?_
      exact hK118 (S18, (x4 + 1)) hw914 H locs ls hP hD hS (lv_sub hl [1, 2, 3, 4, 0] rfl)
    · have hw915 := hw911.2 c17
      refine lv_iconst (v := 1) hC.x hC.b dX6_fitting_147 (by decide) ?_
      refine lv_goto (tgt := 152) hC.x hC.b dX6_fitting_148 (by decide) ?_
      refine lv_iadd hC.x hC.b dX6_fitting_152 ?_
      obtain ⟨hin, hw916⟩ := hw915
      refine sM_10 hC hP hD hS (v := ((S.1 10 x4.toNatClampNeg) + 1)) hin rfl dX6_fitting_153 (fun S19 eS19 H locs hP hD hS => ?_)
      have hw917 := hw916 S19 eS19
      refine lv_iinc (v := (x4 + 1)) (lv' := [(4, .int (x4 + 1)), (0, .ref (ad 0)), (1, .int x1), (2, .int x2), (3, .int x3)]) hC.x hC.b dX6_fitting_154 hl (k := 4) rfl rfl (by decide) rfl (fun ls hl => ?_)
      refine lv_goto (tgt := 118) hC.x hC.b dX6_fitting_157 (by decide) ?_
      exact hK118 (S19, (x4 + 1)) hw917 H locs ls hP hD hS (lv_sub hl [1, 2, 3, 4, 0] rfl)
def j6_fitting_85 (K49 : (MS × Int32 × Int32) → Prop) (S : MS) (x2 : Int32) (x3 : Int32) : Prop :=
  (∀ S12, S12 = uI S 0 26 ((S.1 0 26) + 1) → (∀ S13, S13 = uI S12 0 27 ((S12.1 0 27) ||| x3) → (∀ S14, S14 = uI S13 0 28 ((S13.1 0 28) &&& x3) → (lp (fun (K : (MS × Int32) → Prop) (z : (MS × Int32)) => f6_fitting_118 K49 x2 x3 K z.1 z.2) (S14, 0)))))
set_option maxHeartbeats 4000000 in
theorem k6_fitting_85 {post : Int32 → MS → Prop} {S : MS} {x1 : Int32} {x2 : Int32} {x3 : Int32} {K49 : (MS × Int32 × Int32) → Prop} (hC : CX RX6 cX6_fitting 5 (some .int) D gCl nwG Z Hb A p s m args meth c) (hK49 : ∀ z : (MS × Int32 × Int32), K49 z → ∀ (H : Heap) (locs : List Loc) (ls : Array Slot), va_P D gCl (wM D ad none rdv (some t) z.1) H → va_D A (wM D ad none rdv (some t) z.1) → va_S A s.heap H locs → lv_has ls 5 [(0, .ref (ad 0)), (1, .int x1), (2, .int z.2.1), (3, .int z.2.2)] → W p l e ({ frames := 4, cells := 0, slots := 0, locals := 94 } : Room) s m args below meth c H locs 0 0 (MQ below (va_Qi post (BW D gCl A (fun u => (wM D ad none rdv (some t) u))) A) args s 0 0 A) (F0 m 49 ls [])) (hw : j6_fitting_85 K49 S x2 x3) : ∀ (H : Heap) (locs : List Loc) (ls : Array Slot), va_P D gCl (wM D ad none rdv (some t) S) H → va_D A (wM D ad none rdv (some t) S) → va_S A s.heap H locs → lv_has ls 5 [(0, .ref (ad 0)), (1, .int x1), (2, .int x2), (3, .int x3)] → W p l e ({ frames := 4, cells := 0, slots := 0, locals := 94 } : Room) s m args below meth c H locs 0 0 (MQ below (va_Qi post (BW D gCl A (fun u => (wM D ad none rdv (some t) u))) A) args s 0 0 A) (F0 m 85 ls []) := by
  intro H locs ls hP hD hS hl
  unfold j6_fitting_85 at hw
  refine lv_aload_n hC.x hC.b dX6_fitting_85 rfl (lv_at hl 0 rfl) ?_
  refine lv_dup hC.x hC.b dX6_fitting_86 rfl ?_
  refine gM_26 hC hP dX6_fitting_87 ?_
  refine lv_iconst (v := 1) hC.x hC.b dX6_fitting_90 (by decide) ?_
  refine lv_iadd hC.x hC.b dX6_fitting_91 ?_
  refine pM_26 hC hP hD hS (v := ((S.1 0 26) + 1)) dX6_fitting_92 (fun S12 eS12 H locs hP hD hS => ?_)
  have hw905 := hw S12 eS12
  refine lv_aload_n hC.x hC.b dX6_fitting_95 rfl (lv_at hl 0 rfl) ?_
  refine lv_dup hC.x hC.b dX6_fitting_96 rfl ?_
  refine gM_27 hC hP dX6_fitting_97 ?_
  refine lv_iload_n hC.x hC.b dX6_fitting_100 rfl (lv_at hl 3 rfl) ?_
  refine lv_ior hC.x hC.b dX6_fitting_101 ?_
  refine pM_27 hC hP hD hS (v := ((S12.1 0 27) ||| x3)) dX6_fitting_102 (fun S13 eS13 H locs hP hD hS => ?_)
  have hw906 := hw905 S13 eS13
  refine lv_aload_n hC.x hC.b dX6_fitting_105 rfl (lv_at hl 0 rfl) ?_
  refine lv_dup hC.x hC.b dX6_fitting_106 rfl ?_
  refine gM_28 hC hP dX6_fitting_107 ?_
  refine lv_iload_n hC.x hC.b dX6_fitting_110 rfl (lv_at hl 3 rfl) ?_
  refine lv_iand hC.x hC.b dX6_fitting_111 ?_
  refine pM_28 hC hP hD hS (v := ((S13.1 0 28) &&& x3)) dX6_fitting_112 (fun S14 eS14 H locs hP hD hS => ?_)
  have hw907 := hw906 S14 eS14
  refine lv_iconst (v := 0) hC.x hC.b dX6_fitting_115 (by decide) ?_
  refine lv_istore (lv' := [(4, .int 0), (0, .ref (ad 0)), (1, .int x1), (2, .int x2), (3, .int x3)]) hC.x hC.b dX6_fitting_116 hl (by decide) rfl (fun ls hl => ?_)
  exact k6_fitting_118 hC hK49 (S14, 0) hw907 H locs ls hP hD hS (lv_sub hl [1, 2, 3, 4, 0] rfl)
def f6_fitting_49 (post : Int32 → MS → Prop) (tw : Option (Nat → Nat)) (x1 : Int32) (K49 : (MS × Int32 × Int32) → Prop) (S : MS) (x2 : Int32) (x3 : Int32) : Prop :=
  ((((1 : Int32) <<< ((S.1 20 5) &&& 31)) ≤ x3 → ((¬ (S.1 0 26) = 0 → (post x2 S)) ∧ ((S.1 0 26) = 0 → (∀ S7, S7 = uI S 0 28 0 → (post x2 S7))))) ∧ (¬ ((1 : Int32) <<< ((S.1 20 5) &&& 31)) ≤ x3 → (w6_wrongHeard (fun r8 S9 => ((r8 = (-2) → ((¬ (S9.1 0 26) = x1 → (j6_fitting_85 K49 S9 x2 x3)) ∧ ((S9.1 0 26) = x1 → (j6_fitting_85 K49 S9 x3 x3)))) ∧ (¬ r8 = (-2) → (K49 (S9, x2, (x3 + 1)))))) tw S x3)))
set_option maxHeartbeats 4000000 in
theorem k6_fitting_49 {post : Int32 → MS → Prop} {x1 : Int32} (hC : CX RX6 cX6_fitting 5 (some .int) D gCl nwG Z Hb A p s m args meth c) : ∀ z : (MS × Int32 × Int32), lp (fun (K : (MS × Int32 × Int32) → Prop) (z : (MS × Int32 × Int32)) => f6_fitting_49 post (some t) x1 K z.1 z.2.1 z.2.2) z → ∀ (H : Heap) (locs : List Loc) (ls : Array Slot), va_P D gCl (wM D ad none rdv (some t) z.1) H → va_D A (wM D ad none rdv (some t) z.1) → va_S A s.heap H locs → lv_has ls 5 [(0, .ref (ad 0)), (1, .int x1), (2, .int z.2.1), (3, .int z.2.2)] → W p l e ({ frames := 4, cells := 0, slots := 0, locals := 94 } : Room) s m args below meth c H locs 0 0 (MQ below (va_Qi post (BW D gCl A (fun u => (wM D ad none rdv (some t) u))) A) args s 0 0 A) (F0 m 49 ls []) := by
  refine lp_ind ?_
  rintro K49 ⟨S, x2, x3⟩ hK49 hw H locs ls hP hD hS hl
  have hw : f6_fitting_49 post (some t) x1 K49 S x2 x3 := hw
  unfold f6_fitting_49 at hw
  have hP : va_P D gCl (wM D ad none rdv (some t) S) H := hP
  have hD : va_D A (wM D ad none rdv (some t) S) := hD
  have hl : lv_has ls 5 [(0, .ref (ad 0)), (1, .int x1), (2, .int x2), (3, .int x3)] := hl
  refine lv_iload_n hC.x hC.b dX6_fitting_49 rfl (lv_at hl 3 rfl) ?_
  refine lv_iconst (v := 1) hC.x hC.b dX6_fitting_50 (by decide) ?_
  refine lv_aload_n hC.x hC.b dX6_fitting_51 rfl (lv_at hl 0 rfl) ?_
  refine gM_3 hC hP dX6_fitting_52 ?_
  refine gT_5 hC hP dX6_fitting_55 ?_
  refine lv_ishl hC.x hC.b dX6_fitting_58 ?_
  refine lv_icmp_ge (tgt := 166) hC.x hC.b dX6_fitting_59 (by decide) (fun c5 => ?_) (fun c5 => ?_)
  · have hw897 := hw.1 c5
    refine lv_aload_n hC.x hC.b dX6_fitting_166 rfl (lv_at hl 0 rfl) ?_
    refine gM_26 hC hP dX6_fitting_167 ?_
    refine lv_if_ne (tgt := 178) hC.x hC.b dX6_fitting_170 (by decide) (fun c6 => ?_) (fun c6 => ?_)
    · have hw898 := hw897.1 c6
      refine lv_iload_n hC.x hC.b dX6_fitting_178 rfl (lv_at hl 2 rfl) ?_
      exact rt_i hC hw898 hP hD hS dX6_fitting_179
    · have hw899 := hw897.2 c6
      refine lv_aload_n hC.x hC.b dX6_fitting_173 rfl (lv_at hl 0 rfl) ?_
      refine lv_iconst (v := 0) hC.x hC.b dX6_fitting_174 (by decide) ?_
      refine pM_28 hC hP hD hS (v := 0) dX6_fitting_175 (fun S7 eS7 H locs hP hD hS => ?_)
      have hw900 := hw899 S7 eS7
      refine lv_iload_n hC.x hC.b dX6_fitting_178 rfl (lv_at hl 2 rfl) ?_
      exact rt_i hC hw900 hP hD hS dX6_fitting_179
  · have hw901 := hw.2 c5
    refine lv_aload_n hC.x hC.b dX6_fitting_62 rfl (lv_at hl 0 rfl) ?_
    refine lv_iload_n hC.x hC.b dX6_fitting_63 rfl (lv_at hl 3 rfl) ?_
    refine go_i (run_V (rest := []) hC (m6_wrongHeard l hw901) v6_6_wrongHeard h6_wrongHeard 0 5 gCl_X6 rfl rfl ⟨rfl, rfl, Nat.le_of_ble_eq_true rfl, Nat.le_of_ble_eq_true rfl⟩ ⟨Nat.le_refl _, Nat.le_refl _⟩ hP hD hS hl.1 (Nat.le_of_ble_eq_true rfl) dX6_fitting_64 rfl) hS (fun r8 S9 H locs hw902 hP hD hS => ?_)
    refine lv_bipush (v := (-2)) hC.x hC.b dX6_fitting_67 (by decide) ?_
    refine lv_icmp_eq (tgt := 75) hC.x hC.b dX6_fitting_69 (by decide) (fun c10 => ?_) (fun c10 => ?_)
    · have hw903 := hw902.1 c10
      refine lv_aload_n hC.x hC.b dX6_fitting_75 rfl (lv_at hl 0 rfl) ?_
      refine gM_26 hC hP dX6_fitting_76 ?_
      refine lv_iload_n hC.x hC.b dX6_fitting_79 rfl (lv_at hl 1 rfl) ?_
      refine lv_icmp_ne (tgt := 85) hC.x hC.b dX6_fitting_80 (by decide) (fun c11 => ?_) (fun c11 => ?_)
      · have hw904 := hw903.1 c11
        exact k6_fitting_85 hC hK49 hw904 H locs ls hP hD hS (lv_sub hl [0, 1, 2, 3] rfl)
      · have hw918 := hw903.2 c11
        refine lv_iload_n hC.x hC.b dX6_fitting_83 rfl (lv_at hl 3 rfl) ?_
        refine lv_istore_n (lv' := [(2, .int x3), (0, .ref (ad 0)), (1, .int x1), (3, .int x3)]) hC.x hC.b dX6_fitting_84 rfl hl (by decide) rfl (fun ls hl => ?_)
        exact k6_fitting_85 hC hK49 hw918 H locs ls hP hD hS (lv_sub hl [1, 2, 0, 3] rfl)
    · have hw919 := hw902.2 c10
      refine lv_goto (tgt := 160) hC.x hC.b dX6_fitting_72 (by decide) ?_
      refine lv_iinc (v := (x3 + 1)) (lv' := [(3, .int (x3 + 1)), (0, .ref (ad 0)), (1, .int x1), (2, .int x2)]) hC.x hC.b dX6_fitting_160 hl (k := 3) rfl rfl (by decide) rfl (fun ls hl => ?_)
      refine lv_goto (tgt := 49) hC.x hC.b dX6_fitting_163 (by decide) ?_
      exact hK49 (S9, x2, (x3 + 1)) hw919 H locs ls hP hD hS (lv_sub hl [1, 2, 3, 0] rfl)
def f6_fitting_29 (post : Int32 → MS → Prop) (tw : Option (Nat → Nat)) (x1 : Int32) (x2 : Int32) (K29 : (MS × Int32) → Prop) (S : MS) (x3 : Int32) : Prop :=
  ((4 ≤ x3 → (lp (fun (K : (MS × Int32 × Int32) → Prop) (z : (MS × Int32 × Int32)) => f6_fitting_49 post tw x1 K z.1 z.2.1 z.2.2) (S, x2, 0))) ∧ (¬ 4 ≤ x3 → (vp_in x3 4 ∧ (∀ S20, S20 = uI S 10 x3.toNatClampNeg 0 → (K29 (S20, (x3 + 1)))))))
set_option maxHeartbeats 4000000 in
theorem k6_fitting_29 {post : Int32 → MS → Prop} {x1 : Int32} {x2 : Int32} (hC : CX RX6 cX6_fitting 5 (some .int) D gCl nwG Z Hb A p s m args meth c) : ∀ z : (MS × Int32), lp (fun (K : (MS × Int32) → Prop) (z : (MS × Int32)) => f6_fitting_29 post (some t) x1 x2 K z.1 z.2) z → ∀ (H : Heap) (locs : List Loc) (ls : Array Slot), va_P D gCl (wM D ad none rdv (some t) z.1) H → va_D A (wM D ad none rdv (some t) z.1) → va_S A s.heap H locs → lv_has ls 5 [(0, .ref (ad 0)), (1, .int x1), (2, .int x2), (3, .int z.2)] → W p l e ({ frames := 4, cells := 0, slots := 0, locals := 94 } : Room) s m args below meth c H locs 0 0 (MQ below (va_Qi post (BW D gCl A (fun u => (wM D ad none rdv (some t) u))) A) args s 0 0 A) (F0 m 29 ls []) := by
  refine lp_ind ?_
  rintro K29 ⟨S, x3⟩ hK29 hw H locs ls hP hD hS hl
  have hw : f6_fitting_29 post (some t) x1 x2 K29 S x3 := hw
  unfold f6_fitting_29 at hw
  have hP : va_P D gCl (wM D ad none rdv (some t) S) H := hP
  have hD : va_D A (wM D ad none rdv (some t) S) := hD
  have hl : lv_has ls 5 [(0, .ref (ad 0)), (1, .int x1), (2, .int x2), (3, .int x3)] := hl
  refine lv_iload_n hC.x hC.b dX6_fitting_29 rfl (lv_at hl 3 rfl) ?_
  refine lv_iconst (v := 4) hC.x hC.b dX6_fitting_30 (by decide) ?_
  refine lv_icmp_ge (tgt := 47) hC.x hC.b dX6_fitting_31 (by decide) (fun c4 => ?_) (fun c4 => ?_)
  · have hw896 := hw.1 c4
    refine lv_iconst (v := 0) hC.x hC.b dX6_fitting_47 (by decide) ?_
    refine lv_istore_n (lv' := [(3, .int 0), (0, .ref (ad 0)), (1, .int x1), (2, .int x2)]) hC.x hC.b dX6_fitting_48 rfl hl (by decide) rfl (fun ls hl => ?_)
    exact k6_fitting_49 hC (S, x2, 0) hw896 H locs ls hP hD hS (lv_sub hl [1, 2, 3, 0] rfl)
  · have hw920 := hw.2 c4
    refine lv_aload_n hC.x hC.b dX6_fitting_34 rfl (lv_at hl 0 rfl) ?_
    refine gM_29 hC hP dX6_fitting_35 ?_
    refine lv_iload_n hC.x hC.b dX6_fitting_38 rfl (lv_at hl 3 rfl) ?_
    refine lv_iconst (v := 0) hC.x hC.b dX6_fitting_39 (by decide) ?_
    obtain ⟨hin, hw921⟩ := hw920
    refine sM_10 hC hP hD hS (v := 0) hin rfl dX6_fitting_40 (fun S20 eS20 H locs hP hD hS => ?_)
    have hw922 := hw921 S20 eS20
    refine lv_iinc (v := (x3 + 1)) (lv' := [(3, .int (x3 + 1)), (0, .ref (ad 0)), (1, .int x1), (2, .int x2)]) hC.x hC.b dX6_fitting_41 hl (k := 3) rfl rfl (by decide) rfl (fun ls hl => ?_)
    refine lv_goto (tgt := 29) hC.x hC.b dX6_fitting_44 (by decide) ?_
    exact hK29 (S20, (x3 + 1)) hw922 H locs ls hP hD hS (lv_sub hl [1, 2, 3, 0] rfl)
def w6_fitting (post : Int32 → MS → Prop) (tw : Option (Nat → Nat)) (S : MS) (x1 : Int32) : Prop :=
  (∀ S1, S1 = uI S 0 26 0 → (∀ S2, S2 = uI S1 0 27 0 → ((∃ t, tw = some t) ∧ (∀ S3, S3 = uI S2 0 28 (((1 : Int32) <<< ((S2.1 20 5) &&& 31)) - 1) → (lp (fun (K : (MS × Int32) → Prop) (z : (MS × Int32)) => f6_fitting_29 post tw x1 (-1) K z.1 z.2) (S3, 0))))))
set_option maxHeartbeats 4000000 in
theorem m6_fitting (l : Launch) {post : Int32 → MS → Prop} {S : MS} {x1 : Int32} (hw : w6_fitting post tw S x1) : Met l yX6_fitting (ws_ yX6_fitting cX6_fitting 5 (some .int)) ({ frames := 4, cells := 0, slots := 0, locals := 94 } : Room) (va_Pc [.ref (ad 0), .int x1] (PcG D gCl nwG Z Hb A (wM D ad none rdv tw S))) (va_Qi post (BW D gCl A (fun u => (wM D ad none rdv tw u))) A) 0 0 A := by
  refine Met.ofG (by decide) (Nat.le_of_ble_eq_true rfl) ?_
  intro p e s m below meth c ls hC _ hP hD hS hl
  have hC : CX RX6 cX6_fitting 5 (some .int) D gCl nwG Z Hb A p s m _ meth c := hC
  have hl : lv_has ls 5 [(0, .ref (ad 0)), (1, .int x1)] := hl
  unfold w6_fitting at hw
  refine lv_aload_n hC.x hC.b dX6_fitting_0 rfl (lv_at hl 0 rfl) ?_
  refine lv_iconst (v := 0) hC.x hC.b dX6_fitting_1 (by decide) ?_
  refine pM_26 hC hP hD hS (v := 0) dX6_fitting_2 (fun S1 eS1 H locs hP hD hS => ?_)
  have hw892 := hw S1 eS1
  refine lv_aload_n hC.x hC.b dX6_fitting_5 rfl (lv_at hl 0 rfl) ?_
  refine lv_iconst (v := 0) hC.x hC.b dX6_fitting_6 (by decide) ?_
  refine pM_27 hC hP hD hS (v := 0) dX6_fitting_7 (fun S2 eS2 H locs hP hD hS => ?_)
  have hw893 := hw892 S2 eS2
  refine lv_aload_n hC.x hC.b dX6_fitting_10 rfl (lv_at hl 0 rfl) ?_
  refine lv_iconst (v := 1) hC.x hC.b dX6_fitting_11 (by decide) ?_
  refine lv_aload_n hC.x hC.b dX6_fitting_12 rfl (lv_at hl 0 rfl) ?_
  refine gM_3 hC hP dX6_fitting_13 ?_
  obtain ⟨⟨t, rfl⟩, hw894⟩ := hw893
  refine gT_5 hC hP dX6_fitting_16 ?_
  refine lv_ishl hC.x hC.b dX6_fitting_19 ?_
  refine lv_iconst (v := 1) hC.x hC.b dX6_fitting_20 (by decide) ?_
  refine lv_isub hC.x hC.b dX6_fitting_21 ?_
  refine pM_28 hC hP hD hS (v := (((1 : Int32) <<< ((S2.1 20 5) &&& 31)) - 1)) dX6_fitting_22 (fun S3 eS3 H locs hP hD hS => ?_)
  have hw895 := hw894 S3 eS3
  refine lv_iconst (v := (-1)) hC.x hC.b dX6_fitting_25 (by decide) ?_
  refine lv_istore_n (lv' := [(2, .int (-1)), (0, .ref (ad 0)), (1, .int x1)]) hC.x hC.b dX6_fitting_26 rfl hl (by decide) rfl (fun ls hl => ?_)
  refine lv_iconst (v := 0) hC.x hC.b dX6_fitting_27 (by decide) ?_
  refine lv_istore_n (lv' := [(3, .int 0), (2, .int (-1)), (0, .ref (ad 0)), (1, .int x1)]) hC.x hC.b dX6_fitting_28 rfl hl (by decide) rfl (fun ls hl => ?_)
  exact k6_fitting_29 hC (S3, 0) hw895 H locs ls hP hD hS (lv_sub hl [2, 3, 1, 0] rfl)
theorem v6_6_fitting : GoodIn lw_all (wsV RX6 422 RX6 yX6_fitting (ws_ yX6_fitting cX6_fitting 5 (some .int))) := lw_V q2026 q2028 qs103 q126 q2029
theorem h6_fits : yX6_fits.cls = RX6 ∧ yX6_fits.cls ≠ "java/lang/invoke/MethodHandle" ∧ yX6_fits.cls ≠ "java/lang/invoke/VarHandle" ∧ (parseMethodDescriptor yX6_fits.desc).map (fun d => d.parameters.length) = some 0 := by decide +kernel
def w6_fits (post : Int32 → MS → Prop) (tw : Option (Nat → Nat)) (S : MS) : Prop :=
  (∀ S1, S1 = uI S 0 0 0 → ((tw = none → (w6_refused (fun r3 S4 => (post r3 S4)) S1 1)) ∧ ((∃ t, tw = some t) → (w6_fitting (fun r5 S6 => (w6_good (fun r7 S8 => (post r7 S8)) S6 (S6.1 0 26))) tw S1 (-1)))))
set_option maxHeartbeats 4000000 in
theorem m6_fits (l : Launch) {post : Int32 → MS → Prop} {S : MS} (hw : w6_fits post tw S) : Met l yX6_fits (ws_ yX6_fits cX6_fits 1 (some .int)) ({ frames := 5, cells := 0, slots := 0, locals := 118 } : Room) (va_Pc [.ref (ad 0)] (PcG D gCl nwG Z Hb A (wM D ad none rdv tw S))) (va_Qi post (BW D gCl A (fun u => (wM D ad none rdv tw u))) A) 0 0 A := by
  refine Met.ofG (by decide) (Nat.le_of_ble_eq_true rfl) ?_
  intro p e s m below meth c ls hC _ hP hD hS hl
  have hC : CX RX6 cX6_fits 1 (some .int) D gCl nwG Z Hb A p s m _ meth c := hC
  have hl : lv_has ls 1 [(0, .ref (ad 0))] := hl
  unfold w6_fits at hw
  refine lv_aload_n hC.x hC.b dX6_fits_0 rfl (lv_at hl 0 rfl) ?_
  refine lv_iconst (v := 0) hC.x hC.b dX6_fits_1 (by decide) ?_
  refine pM_0 hC hP hD hS (v := 0) dX6_fits_2 (fun S1 eS1 H locs hP hD hS => ?_)
  have hw923 := hw S1 eS1
  refine lv_aload_n hC.x hC.b dX6_fits_5 rfl (lv_at hl 0 rfl) ?_
  refine gM_3 hC hP dX6_fits_6 ?_
  rcases va_o2 tw with c2 | ⟨t, c2⟩
  · have hw924 := hw923.1 c2
    subst c2
    refine lv_ifnonnullN hC.x hC.b dX6_fits_9 ?_
    refine lv_aload_n hC.x hC.b dX6_fits_12 rfl (lv_at hl 0 rfl) ?_
    refine lv_iconst (v := 1) hC.x hC.b dX6_fits_13 (by decide) ?_
    refine go_i (run_V (rest := []) hC (m6_refused l hw924) v6_6_refused h6_refused 0 5 gCl_X6 rfl rfl ⟨rfl, rfl, Nat.le_of_ble_eq_true rfl, Nat.le_of_ble_eq_true rfl⟩ ⟨Nat.le_refl _, Nat.le_refl _⟩ hP hD hS hl.1 (Nat.le_of_ble_eq_true rfl) dX6_fits_14 rfl) hS (fun r3 S4 H locs hw925 hP hD hS => ?_)
    exact rt_i hC hw925 hP hD hS dX6_fits_17
  · have hw926 := hw923.2 ⟨t, c2⟩
    subst c2
    refine lv_ifnonnull (tgt := 18) hC.x hC.b dX6_fits_9 (by decide) ?_
    refine lv_aload_n hC.x hC.b dX6_fits_18 rfl (lv_at hl 0 rfl) ?_
    refine lv_iconst (v := (-1)) hC.x hC.b dX6_fits_19 (by decide) ?_
    refine go_i (run_V (rest := []) hC (m6_fitting l hw926) v6_6_fitting h6_fitting 0 5 gCl_X6 rfl rfl ⟨rfl, rfl, Nat.le_of_ble_eq_true rfl, Nat.le_of_ble_eq_true rfl⟩ ⟨Nat.le_refl _, Nat.le_refl _⟩ hP hD hS hl.1 (Nat.le_of_ble_eq_true rfl) dX6_fits_20 rfl) hS (fun r5 S6 H locs hw927 hP hD hS => ?_)
    refine lv_pop hC.x hC.b dX6_fits_23 rfl ?_
    refine lv_aload_n hC.x hC.b dX6_fits_24 rfl (lv_at hl 0 rfl) ?_
    refine lv_aload_n hC.x hC.b dX6_fits_25 rfl (lv_at hl 0 rfl) ?_
    refine gM_26 hC hP dX6_fits_26 ?_
    refine go_i (run_V (rest := []) hC (m6_good l hw927) v6_6_good h6_good 0 5 gCl_X6 rfl rfl ⟨rfl, rfl, Nat.le_of_ble_eq_true rfl, Nat.le_of_ble_eq_true rfl⟩ ⟨Nat.le_refl _, Nat.le_refl _⟩ hP hD hS hl.1 (Nat.le_of_ble_eq_true rfl) dX6_fits_29 rfl) hS (fun r7 S8 H locs hw928 hP hD hS => ?_)
    exact rt_i hC hw928 hP hD hS dX6_fits_32
theorem h6_fitAt : yX6_fitAt.cls = RX6 ∧ yX6_fitAt.cls ≠ "java/lang/invoke/MethodHandle" ∧ yX6_fitAt.cls ≠ "java/lang/invoke/VarHandle" ∧ (parseMethodDescriptor yX6_fitAt.desc).map (fun d => d.parameters.length) = some 1 := by decide +kernel
def w6_fitAt (post : Int32 → MS → Prop) (tw : Option (Nat → Nat)) (S : MS) (x1 : Int32) : Prop :=
  (∀ S1, S1 = uI S 0 0 0 → ((tw = none → (w6_refused (fun r3 S4 => (post r3 S4)) S1 1)) ∧ ((∃ t, tw = some t) → ((0 ≤ x1 → (w6_fitting (fun r6 S7 => ((¬ r6 = (-1) → (w6_good (fun r9 S10 => (post r9 S10)) S7 r6)) ∧ (r6 = (-1) → (w6_refused (fun r11 S12 => (post r11 S12)) S7 1)))) tw S1 x1)) ∧ (¬ 0 ≤ x1 → (w6_refused (fun r13 S14 => (post r13 S14)) S1 1))))))
set_option maxHeartbeats 4000000 in
theorem m6_fitAt (l : Launch) {post : Int32 → MS → Prop} {S : MS} {x1 : Int32} (hw : w6_fitAt post tw S x1) : Met l yX6_fitAt (ws_ yX6_fitAt cX6_fitAt 3 (some .int)) ({ frames := 5, cells := 0, slots := 0, locals := 118 } : Room) (va_Pc [.ref (ad 0), .int x1] (PcG D gCl nwG Z Hb A (wM D ad none rdv tw S))) (va_Qi post (BW D gCl A (fun u => (wM D ad none rdv tw u))) A) 0 0 A := by
  refine Met.ofG (by decide) (Nat.le_of_ble_eq_true rfl) ?_
  intro p e s m below meth c ls hC _ hP hD hS hl
  have hC : CX RX6 cX6_fitAt 3 (some .int) D gCl nwG Z Hb A p s m _ meth c := hC
  have hl : lv_has ls 3 [(0, .ref (ad 0)), (1, .int x1)] := hl
  unfold w6_fitAt at hw
  refine lv_aload_n hC.x hC.b dX6_fitAt_0 rfl (lv_at hl 0 rfl) ?_
  refine lv_iconst (v := 0) hC.x hC.b dX6_fitAt_1 (by decide) ?_
  refine pM_0 hC hP hD hS (v := 0) dX6_fitAt_2 (fun S1 eS1 H locs hP hD hS => ?_)
  have hw929 := hw S1 eS1
  refine lv_aload_n hC.x hC.b dX6_fitAt_5 rfl (lv_at hl 0 rfl) ?_
  refine gM_3 hC hP dX6_fitAt_6 ?_
  rcases va_o2 tw with c2 | ⟨t, c2⟩
  · have hw930 := hw929.1 c2
    subst c2
    refine lv_ifnullN (tgt := 16) hC.x hC.b dX6_fitAt_9 (by decide) ?_
    refine lv_aload_n hC.x hC.b dX6_fitAt_16 rfl (lv_at hl 0 rfl) ?_
    refine lv_iconst (v := 1) hC.x hC.b dX6_fitAt_17 (by decide) ?_
    refine go_i (run_V (rest := []) hC (m6_refused l hw930) v6_6_refused h6_refused 0 5 gCl_X6 rfl rfl ⟨rfl, rfl, Nat.le_of_ble_eq_true rfl, Nat.le_of_ble_eq_true rfl⟩ ⟨Nat.le_refl _, Nat.le_refl _⟩ hP hD hS hl.1 (Nat.le_of_ble_eq_true rfl) dX6_fitAt_18 rfl) hS (fun r3 S4 H locs hw931 hP hD hS => ?_)
    exact rt_i hC hw931 hP hD hS dX6_fitAt_21
  · have hw932 := hw929.2 ⟨t, c2⟩
    subst c2
    refine lv_ifnull hC.x hC.b dX6_fitAt_9 ?_
    refine lv_iload_n hC.x hC.b dX6_fitAt_12 rfl (lv_at hl 1 rfl) ?_
    refine lv_if_ge (tgt := 22) hC.x hC.b dX6_fitAt_13 (by decide) (fun c5 => ?_) (fun c5 => ?_)
    · have hw933 := hw932.1 c5
      refine lv_aload_n hC.x hC.b dX6_fitAt_22 rfl (lv_at hl 0 rfl) ?_
      refine lv_iload_n hC.x hC.b dX6_fitAt_23 rfl (lv_at hl 1 rfl) ?_
      refine go_i (run_V (rest := []) hC (m6_fitting l hw933) v6_6_fitting h6_fitting 0 5 gCl_X6 rfl rfl ⟨rfl, rfl, Nat.le_of_ble_eq_true rfl, Nat.le_of_ble_eq_true rfl⟩ ⟨Nat.le_refl _, Nat.le_refl _⟩ hP hD hS hl.1 (Nat.le_of_ble_eq_true rfl) dX6_fitAt_24 rfl) hS (fun r6 S7 H locs hw934 hP hD hS => ?_)
      refine lv_istore_n (lv' := [(2, .int r6), (0, .ref (ad 0)), (1, .int x1)]) hC.x hC.b dX6_fitAt_27 rfl hl (by decide) rfl (fun ls hl => ?_)
      refine lv_iload_n hC.x hC.b dX6_fitAt_28 rfl (lv_at hl 0 rfl) ?_
      refine lv_iconst (v := (-1)) hC.x hC.b dX6_fitAt_29 (by decide) ?_
      refine lv_icmp_ne (tgt := 41) hC.x hC.b dX6_fitAt_30 (by decide) (fun c8 => ?_) (fun c8 => ?_)
      · have hw935 := hw934.1 c8
        refine lv_aload_n hC.x hC.b dX6_fitAt_41 rfl (lv_at hl 1 rfl) ?_
        refine lv_iload_n hC.x hC.b dX6_fitAt_42 rfl (lv_at hl 0 rfl) ?_
        refine go_i (run_V (rest := []) hC (m6_good l hw935) v6_6_good h6_good 0 5 gCl_X6 rfl rfl ⟨rfl, rfl, Nat.le_of_ble_eq_true rfl, Nat.le_of_ble_eq_true rfl⟩ ⟨Nat.le_refl _, Nat.le_refl _⟩ hP hD hS hl.1 (Nat.le_of_ble_eq_true rfl) dX6_fitAt_43 rfl) hS (fun r9 S10 H locs hw936 hP hD hS => ?_)
        exact rt_i hC hw936 hP hD hS dX6_fitAt_46
      · have hw937 := hw934.2 c8
        refine lv_aload_n hC.x hC.b dX6_fitAt_33 rfl (lv_at hl 1 rfl) ?_
        refine lv_iconst (v := 1) hC.x hC.b dX6_fitAt_34 (by decide) ?_
        refine go_i (run_V (rest := []) hC (m6_refused l hw937) v6_6_refused h6_refused 0 5 gCl_X6 rfl rfl ⟨rfl, rfl, Nat.le_of_ble_eq_true rfl, Nat.le_of_ble_eq_true rfl⟩ ⟨Nat.le_refl _, Nat.le_refl _⟩ hP hD hS hl.1 (Nat.le_of_ble_eq_true rfl) dX6_fitAt_35 rfl) hS (fun r11 S12 H locs hw938 hP hD hS => ?_)
        refine lv_goto (tgt := 46) hC.x hC.b dX6_fitAt_38 (by decide) ?_
        exact rt_i hC hw938 hP hD hS dX6_fitAt_46
    · have hw939 := hw932.2 c5
      refine lv_aload_n hC.x hC.b dX6_fitAt_16 rfl (lv_at hl 0 rfl) ?_
      refine lv_iconst (v := 1) hC.x hC.b dX6_fitAt_17 (by decide) ?_
      refine go_i (run_V (rest := []) hC (m6_refused l hw939) v6_6_refused h6_refused 0 5 gCl_X6 rfl rfl ⟨rfl, rfl, Nat.le_of_ble_eq_true rfl, Nat.le_of_ble_eq_true rfl⟩ ⟨Nat.le_refl _, Nat.le_refl _⟩ hP hD hS hl.1 (Nat.le_of_ble_eq_true rfl) dX6_fitAt_18 rfl) hS (fun r13 S14 H locs hw940 hP hD hS => ?_)
      exact rt_i hC hw940 hP hD hS dX6_fitAt_21
theorem h6_could : yX6_could.cls = RX6 ∧ yX6_could.cls ≠ "java/lang/invoke/MethodHandle" ∧ yX6_could.cls ≠ "java/lang/invoke/VarHandle" ∧ (parseMethodDescriptor yX6_could.desc).map (fun d => d.parameters.length) = some 0 := by decide +kernel
def w6_could (post : Int32 → MS → Prop) (tw : Option (Nat → Nat)) (S : MS) : Prop :=
  (∀ S1, S1 = uI S 0 0 0 → ((tw = none → (w6_refused (fun r3 S4 => (post r3 S4)) S1 1)) ∧ ((∃ t, tw = some t) → (w6_fitting (fun r5 S6 => (w6_good (fun r7 S8 => (post r7 S8)) S6 (S6.1 0 27))) tw S1 (-1)))))
set_option maxHeartbeats 4000000 in
theorem m6_could (l : Launch) {post : Int32 → MS → Prop} {S : MS} (hw : w6_could post tw S) : Met l yX6_could (ws_ yX6_could cX6_could 1 (some .int)) ({ frames := 5, cells := 0, slots := 0, locals := 118 } : Room) (va_Pc [.ref (ad 0)] (PcG D gCl nwG Z Hb A (wM D ad none rdv tw S))) (va_Qi post (BW D gCl A (fun u => (wM D ad none rdv tw u))) A) 0 0 A := by
  refine Met.ofG (by decide) (Nat.le_of_ble_eq_true rfl) ?_
  intro p e s m below meth c ls hC _ hP hD hS hl
  have hC : CX RX6 cX6_could 1 (some .int) D gCl nwG Z Hb A p s m _ meth c := hC
  have hl : lv_has ls 1 [(0, .ref (ad 0))] := hl
  unfold w6_could at hw
  refine lv_aload_n hC.x hC.b dX6_could_0 rfl (lv_at hl 0 rfl) ?_
  refine lv_iconst (v := 0) hC.x hC.b dX6_could_1 (by decide) ?_
  refine pM_0 hC hP hD hS (v := 0) dX6_could_2 (fun S1 eS1 H locs hP hD hS => ?_)
  have hw941 := hw S1 eS1
  refine lv_aload_n hC.x hC.b dX6_could_5 rfl (lv_at hl 0 rfl) ?_
  refine gM_3 hC hP dX6_could_6 ?_
  rcases va_o2 tw with c2 | ⟨t, c2⟩
  · have hw942 := hw941.1 c2
    subst c2
    refine lv_ifnonnullN hC.x hC.b dX6_could_9 ?_
    refine lv_aload_n hC.x hC.b dX6_could_12 rfl (lv_at hl 0 rfl) ?_
    refine lv_iconst (v := 1) hC.x hC.b dX6_could_13 (by decide) ?_
    refine go_i (run_V (rest := []) hC (m6_refused l hw942) v6_6_refused h6_refused 0 5 gCl_X6 rfl rfl ⟨rfl, rfl, Nat.le_of_ble_eq_true rfl, Nat.le_of_ble_eq_true rfl⟩ ⟨Nat.le_refl _, Nat.le_refl _⟩ hP hD hS hl.1 (Nat.le_of_ble_eq_true rfl) dX6_could_14 rfl) hS (fun r3 S4 H locs hw943 hP hD hS => ?_)
    exact rt_i hC hw943 hP hD hS dX6_could_17
  · have hw944 := hw941.2 ⟨t, c2⟩
    subst c2
    refine lv_ifnonnull (tgt := 18) hC.x hC.b dX6_could_9 (by decide) ?_
    refine lv_aload_n hC.x hC.b dX6_could_18 rfl (lv_at hl 0 rfl) ?_
    refine lv_iconst (v := (-1)) hC.x hC.b dX6_could_19 (by decide) ?_
    refine go_i (run_V (rest := []) hC (m6_fitting l hw944) v6_6_fitting h6_fitting 0 5 gCl_X6 rfl rfl ⟨rfl, rfl, Nat.le_of_ble_eq_true rfl, Nat.le_of_ble_eq_true rfl⟩ ⟨Nat.le_refl _, Nat.le_refl _⟩ hP hD hS hl.1 (Nat.le_of_ble_eq_true rfl) dX6_could_20 rfl) hS (fun r5 S6 H locs hw945 hP hD hS => ?_)
    refine lv_pop hC.x hC.b dX6_could_23 rfl ?_
    refine lv_aload_n hC.x hC.b dX6_could_24 rfl (lv_at hl 0 rfl) ?_
    refine lv_aload_n hC.x hC.b dX6_could_25 rfl (lv_at hl 0 rfl) ?_
    refine gM_27 hC hP dX6_could_26 ?_
    refine go_i (run_V (rest := []) hC (m6_good l hw945) v6_6_good h6_good 0 5 gCl_X6 rfl rfl ⟨rfl, rfl, Nat.le_of_ble_eq_true rfl, Nat.le_of_ble_eq_true rfl⟩ ⟨Nat.le_refl _, Nat.le_refl _⟩ hP hD hS hl.1 (Nat.le_of_ble_eq_true rfl) dX6_could_29 rfl) hS (fun r7 S8 H locs hw946 hP hD hS => ?_)
    exact rt_i hC hw946 hP hD hS dX6_could_32
theorem h6_surely : yX6_surely.cls = RX6 ∧ yX6_surely.cls ≠ "java/lang/invoke/MethodHandle" ∧ yX6_surely.cls ≠ "java/lang/invoke/VarHandle" ∧ (parseMethodDescriptor yX6_surely.desc).map (fun d => d.parameters.length) = some 0 := by decide +kernel
def w6_surely (post : Int32 → MS → Prop) (tw : Option (Nat → Nat)) (S : MS) : Prop :=
  (∀ S1, S1 = uI S 0 0 0 → ((tw = none → (w6_refused (fun r3 S4 => (post r3 S4)) S1 1)) ∧ ((∃ t, tw = some t) → (w6_fitting (fun r5 S6 => (w6_good (fun r7 S8 => (post r7 S8)) S6 (S6.1 0 28))) tw S1 (-1)))))
set_option maxHeartbeats 4000000 in
theorem m6_surely (l : Launch) {post : Int32 → MS → Prop} {S : MS} (hw : w6_surely post tw S) : Met l yX6_surely (ws_ yX6_surely cX6_surely 1 (some .int)) ({ frames := 5, cells := 0, slots := 0, locals := 118 } : Room) (va_Pc [.ref (ad 0)] (PcG D gCl nwG Z Hb A (wM D ad none rdv tw S))) (va_Qi post (BW D gCl A (fun u => (wM D ad none rdv tw u))) A) 0 0 A := by
  refine Met.ofG (by decide) (Nat.le_of_ble_eq_true rfl) ?_
  intro p e s m below meth c ls hC _ hP hD hS hl
  have hC : CX RX6 cX6_surely 1 (some .int) D gCl nwG Z Hb A p s m _ meth c := hC
  have hl : lv_has ls 1 [(0, .ref (ad 0))] := hl
  unfold w6_surely at hw
  refine lv_aload_n hC.x hC.b dX6_surely_0 rfl (lv_at hl 0 rfl) ?_
  refine lv_iconst (v := 0) hC.x hC.b dX6_surely_1 (by decide) ?_
  refine pM_0 hC hP hD hS (v := 0) dX6_surely_2 (fun S1 eS1 H locs hP hD hS => ?_)
  have hw947 := hw S1 eS1
  refine lv_aload_n hC.x hC.b dX6_surely_5 rfl (lv_at hl 0 rfl) ?_
  refine gM_3 hC hP dX6_surely_6 ?_
  rcases va_o2 tw with c2 | ⟨t, c2⟩
  · have hw948 := hw947.1 c2
    subst c2
    refine lv_ifnonnullN hC.x hC.b dX6_surely_9 ?_
    refine lv_aload_n hC.x hC.b dX6_surely_12 rfl (lv_at hl 0 rfl) ?_
    refine lv_iconst (v := 1) hC.x hC.b dX6_surely_13 (by decide) ?_
    refine go_i (run_V (rest := []) hC (m6_refused l hw948) v6_6_refused h6_refused 0 5 gCl_X6 rfl rfl ⟨rfl, rfl, Nat.le_of_ble_eq_true rfl, Nat.le_of_ble_eq_true rfl⟩ ⟨Nat.le_refl _, Nat.le_refl _⟩ hP hD hS hl.1 (Nat.le_of_ble_eq_true rfl) dX6_surely_14 rfl) hS (fun r3 S4 H locs hw949 hP hD hS => ?_)
    exact rt_i hC hw949 hP hD hS dX6_surely_17
  · have hw950 := hw947.2 ⟨t, c2⟩
    subst c2
    refine lv_ifnonnull (tgt := 18) hC.x hC.b dX6_surely_9 (by decide) ?_
    refine lv_aload_n hC.x hC.b dX6_surely_18 rfl (lv_at hl 0 rfl) ?_
    refine lv_iconst (v := (-1)) hC.x hC.b dX6_surely_19 (by decide) ?_
    refine go_i (run_V (rest := []) hC (m6_fitting l hw950) v6_6_fitting h6_fitting 0 5 gCl_X6 rfl rfl ⟨rfl, rfl, Nat.le_of_ble_eq_true rfl, Nat.le_of_ble_eq_true rfl⟩ ⟨Nat.le_refl _, Nat.le_refl _⟩ hP hD hS hl.1 (Nat.le_of_ble_eq_true rfl) dX6_surely_20 rfl) hS (fun r5 S6 H locs hw951 hP hD hS => ?_)
    refine lv_pop hC.x hC.b dX6_surely_23 rfl ?_
    refine lv_aload_n hC.x hC.b dX6_surely_24 rfl (lv_at hl 0 rfl) ?_
    refine lv_aload_n hC.x hC.b dX6_surely_25 rfl (lv_at hl 0 rfl) ?_
    refine gM_28 hC hP dX6_surely_26 ?_
    refine go_i (run_V (rest := []) hC (m6_good l hw951) v6_6_good h6_good 0 5 gCl_X6 rfl rfl ⟨rfl, rfl, Nat.le_of_ble_eq_true rfl, Nat.le_of_ble_eq_true rfl⟩ ⟨Nat.le_refl _, Nat.le_refl _⟩ hP hD hS hl.1 (Nat.le_of_ble_eq_true rfl) dX6_surely_29 rfl) hS (fun r7 S8 H locs hw952 hP hD hS => ?_)
    exact rt_i hC hw952 hP hD hS dX6_surely_32
theorem h6_asks : yX6_asks.cls = RX6 ∧ yX6_asks.cls ≠ "java/lang/invoke/MethodHandle" ∧ yX6_asks.cls ≠ "java/lang/invoke/VarHandle" ∧ (parseMethodDescriptor yX6_asks.desc).map (fun d => d.parameters.length) = some 0 := by decide +kernel
def j6_asks_75 (K17 : (MS × Int32 × Int32) → Prop) (S : MS) (x1 : Int32) (x2 : Int32) (y0 : Int32) : Prop :=
  ((x1 = (-2) → (∀ S8, S8 = uI S 0 30 y0 → (K17 (S8, x2, (x2 + 1))))) ∧ (¬ x1 = (-2) → ((y0 < (S.1 0 30) → (∀ S10, S10 = uI S 0 30 y0 → (K17 (S10, x2, (x2 + 1))))) ∧ (¬ y0 < (S.1 0 30) → (K17 (S, x1, (x2 + 1)))))))
set_option maxHeartbeats 4000000 in
theorem k6_asks_75 {post : Int32 → MS → Prop} {S : MS} {x1 : Int32} {x2 : Int32} {y0 : Int32} {K17 : (MS × Int32 × Int32) → Prop} (hC : CX RX6 cX6_asks 4 (some .int) D gCl nwG Z Hb A p s m args meth c) (hK17 : ∀ z : (MS × Int32 × Int32), K17 z → ∀ (H : Heap) (locs : List Loc) (ls : Array Slot), va_P D gCl (wM D ad none rdv tw z.1) H → va_D A (wM D ad none rdv tw z.1) → va_S A s.heap H locs → lv_has ls 4 [(0, .ref (ad 0)), (1, .int z.2.1), (2, .int z.2.2)] → W p l e ({ frames := 5, cells := 0, slots := 0, locals := 118 } : Room) s m args below meth c H locs 0 0 (MQ below (va_Qi post (BW D gCl A (fun u => (wM D ad none rdv tw u))) A) args s 0 0 A) (F0 m 17 ls [])) (hw : j6_asks_75 K17 S x1 x2 y0) : ∀ (H : Heap) (locs : List Loc) (ls : Array Slot), va_P D gCl (wM D ad none rdv tw S) H → va_D A (wM D ad none rdv tw S) → va_S A s.heap H locs → lv_has ls 4 [(0, .ref (ad 0)), (1, .int x1), (2, .int x2)] → W p l e ({ frames := 5, cells := 0, slots := 0, locals := 118 } : Room) s m args below meth c H locs 0 0 (MQ below (va_Qi post (BW D gCl A (fun u => (wM D ad none rdv tw u))) A) args s 0 0 A) (F0 m 75 ls [.int y0]) := by
  intro H locs ls hP hD hS hl
  unfold j6_asks_75 at hw
  refine lv_istore_n (lv' := [(3, .int y0), (0, .ref (ad 0)), (1, .int x1), (2, .int x2)]) hC.x hC.b dX6_asks_75 rfl hl (by decide) rfl (fun ls hl => ?_)
  refine lv_iload_n hC.x hC.b dX6_asks_76 rfl (lv_at hl 2 rfl) ?_
  refine lv_bipush (v := (-2)) hC.x hC.b dX6_asks_77 (by decide) ?_
  refine lv_icmp_eq (tgt := 93) hC.x hC.b dX6_asks_79 (by decide) (fun c7 => ?_) (fun c7 => ?_)
  · have hw964 := hw.1 c7
    refine lv_iload_n hC.x hC.b dX6_asks_93 rfl (lv_at hl 3 rfl) ?_
    refine lv_istore_n (lv' := [(1, .int x2), (3, .int y0), (0, .ref (ad 0)), (2, .int x2)]) hC.x hC.b dX6_asks_94 rfl hl (by decide) rfl (fun ls hl => ?_)
    refine lv_aload_n hC.x hC.b dX6_asks_95 rfl (lv_at hl 2 rfl) ?_
    refine lv_iload_n hC.x hC.b dX6_asks_96 rfl (lv_at hl 1 rfl) ?_
    refine pM_30 hC hP hD hS (v := y0) dX6_asks_97 (fun S8 eS8 H locs hP hD hS => ?_)
    have hw965 := hw964 S8 eS8
    refine lv_iinc (v := (x2 + 1)) (lv' := [(2, .int (x2 + 1)), (1, .int x2), (3, .int y0), (0, .ref (ad 0))]) hC.x hC.b dX6_asks_100 hl (k := 3) rfl rfl (by decide) rfl (fun ls hl => ?_)
    refine lv_goto (tgt := 17) hC.x hC.b dX6_asks_103 (by decide) ?_
    exact hK17 (S8, x2, (x2 + 1)) hw965 H locs ls hP hD hS (lv_sub hl [3, 1, 0] rfl)
  · have hw966 := hw.2 c7
    refine lv_iload_n hC.x hC.b dX6_asks_82 rfl (lv_at hl 0 rfl) ?_
    refine lv_aload_n hC.x hC.b dX6_asks_83 rfl (lv_at hl 1 rfl) ?_
    refine gM_30 hC hP dX6_asks_84 ?_
    refine lv_icmp_lt (tgt := 93) hC.x hC.b dX6_asks_87 (by decide) (fun c9 => ?_) (fun c9 => ?_)
    · have hw967 := hw966.1 c9
      refine lv_iload_n hC.x hC.b dX6_asks_93 rfl (lv_at hl 3 rfl) ?_
      refine lv_istore_n (lv' := [(1, .int x2), (3, .int y0), (0, .ref (ad 0)), (2, .int x2)]) hC.x hC.b dX6_asks_94 rfl hl (by decide) rfl (fun ls hl => ?_)
      refine lv_aload_n hC.x hC.b dX6_asks_95 rfl (lv_at hl 2 rfl) ?_
      refine lv_iload_n hC.x hC.b dX6_asks_96 rfl (lv_at hl 1 rfl) ?_
      refine pM_30 hC hP hD hS (v := y0) dX6_asks_97 (fun S10 eS10 H locs hP hD hS => ?_)
      have hw968 := hw967 S10 eS10
      refine lv_iinc (v := (x2 + 1)) (lv' := [(2, .int (x2 + 1)), (1, .int x2), (3, .int y0), (0, .ref (ad 0))]) hC.x hC.b dX6_asks_100 hl (k := 3) rfl rfl (by decide) rfl (fun ls hl => ?_)
      refine lv_goto (tgt := 17) hC.x hC.b dX6_asks_103 (by decide) ?_
      exact hK17 (S10, x2, (x2 + 1)) hw968 H locs ls hP hD hS (lv_sub hl [3, 1, 0] rfl)
    · have hw969 := hw966.2 c9
      refine lv_goto (tgt := 100) hC.x hC.b dX6_asks_90 (by decide) ?_
      refine lv_iinc (v := (x2 + 1)) (lv' := [(2, .int (x2 + 1)), (3, .int y0), (0, .ref (ad 0)), (1, .int x1)]) hC.x hC.b dX6_asks_100 hl (k := 3) rfl rfl (by decide) rfl (fun ls hl => ?_)
      refine lv_goto (tgt := 17) hC.x hC.b dX6_asks_103 (by decide) ?_
      exact hK17 (S, x1, (x2 + 1)) hw969 H locs ls hP hD hS (lv_sub hl [2, 3, 0] rfl)
def f6_asks_17 (post : Int32 → MS → Prop) (tw : Option (Nat → Nat)) (K17 : (MS × Int32 × Int32) → Prop) (S : MS) (x1 : Int32) (x2 : Int32) : Prop :=
  ((∃ t, tw = some t) ∧ (((S.1 20 5) ≤ x2 → (post x1 S)) ∧ (¬ (S.1 20 5) ≤ x2 → (((S.1 0 26) ≤ 0 → (post x1 S)) ∧ (¬ (S.1 0 26) ≤ 0 → (vp_in x2 4 ∧ (vp_in x2 4 ∧ (((S.1 10 x2.toNatClampNeg) ≤ ((S.1 0 26) - (S.1 10 x2.toNatClampNeg)) → (vp_in x2 4 ∧ (j6_asks_75 K17 S x1 x2 ((S.1 0 26) - (S.1 10 x2.toNatClampNeg))))) ∧ (¬ (S.1 10 x2.toNatClampNeg) ≤ ((S.1 0 26) - (S.1 10 x2.toNatClampNeg)) → (vp_in x2 4 ∧ (j6_asks_75 K17 S x1 x2 (S.1 10 x2.toNatClampNeg))))))))))))
set_option maxHeartbeats 4000000 in
theorem k6_asks_17 {post : Int32 → MS → Prop} (hC : CX RX6 cX6_asks 4 (some .int) D gCl nwG Z Hb A p s m args meth c) : ∀ z : (MS × Int32 × Int32), lp (fun (K : (MS × Int32 × Int32) → Prop) (z : (MS × Int32 × Int32)) => f6_asks_17 post tw K z.1 z.2.1 z.2.2) z → ∀ (H : Heap) (locs : List Loc) (ls : Array Slot), va_P D gCl (wM D ad none rdv tw z.1) H → va_D A (wM D ad none rdv tw z.1) → va_S A s.heap H locs → lv_has ls 4 [(0, .ref (ad 0)), (1, .int z.2.1), (2, .int z.2.2)] → W p l e ({ frames := 5, cells := 0, slots := 0, locals := 118 } : Room) s m args below meth c H locs 0 0 (MQ below (va_Qi post (BW D gCl A (fun u => (wM D ad none rdv tw u))) A) args s 0 0 A) (F0 m 17 ls []) := by
  refine lp_ind ?_
  rintro K17 ⟨S, x1, x2⟩ hK17 hw H locs ls hP hD hS hl
  have hw : f6_asks_17 post tw K17 S x1 x2 := hw
  unfold f6_asks_17 at hw
  have hP : va_P D gCl (wM D ad none rdv tw S) H := hP
  have hD : va_D A (wM D ad none rdv tw S) := hD
  have hl : lv_has ls 4 [(0, .ref (ad 0)), (1, .int x1), (2, .int x2)] := hl
  refine lv_iload_n hC.x hC.b dX6_asks_17 rfl (lv_at hl 2 rfl) ?_
  refine lv_aload_n hC.x hC.b dX6_asks_18 rfl (lv_at hl 0 rfl) ?_
  refine gM_3 hC hP dX6_asks_19 ?_
  obtain ⟨⟨t, rfl⟩, hw955⟩ := hw
  refine gT_5 hC hP dX6_asks_22 ?_
  refine lv_icmp_ge (tgt := 106) hC.x hC.b dX6_asks_25 (by decide) (fun c4 => ?_) (fun c4 => ?_)
  · have hw956 := hw955.1 c4
    refine lv_iload_n hC.x hC.b dX6_asks_106 rfl (lv_at hl 1 rfl) ?_
    exact rt_i hC hw956 hP hD hS dX6_asks_107
  · have hw957 := hw955.2 c4
    refine lv_aload_n hC.x hC.b dX6_asks_28 rfl (lv_at hl 0 rfl) ?_
    refine gM_26 hC hP dX6_asks_29 ?_
    refine lv_if_le (tgt := 106) hC.x hC.b dX6_asks_32 (by decide) (fun c5 => ?_) (fun c5 => ?_)
    · have hw958 := hw957.1 c5
      refine lv_iload_n hC.x hC.b dX6_asks_106 rfl (lv_at hl 1 rfl) ?_
      exact rt_i hC hw958 hP hD hS dX6_asks_107
    · have hw959 := hw957.2 c5
      refine lv_aload_n hC.x hC.b dX6_asks_35 rfl (lv_at hl 0 rfl) ?_
      refine gM_29 hC hP dX6_asks_36 ?_
      refine lv_iload_n hC.x hC.b dX6_asks_39 rfl (lv_at hl 2 rfl) ?_
      obtain ⟨hin, hw960⟩ := hw959
      refine lM_10 hC hP hin rfl dX6_asks_40 ?_
      refine lv_aload_n hC.x hC.b dX6_asks_41 rfl (lv_at hl 0 rfl) ?_
      refine gM_26 hC hP dX6_asks_42 ?_
      refine lv_aload_n hC.x hC.b dX6_asks_45 rfl (lv_at hl 0 rfl) ?_
      refine gM_29 hC hP dX6_asks_46 ?_
      refine lv_iload_n hC.x hC.b dX6_asks_49 rfl (lv_at hl 2 rfl) ?_
      obtain ⟨hin, hw961⟩ := hw960
      refine lM_10 hC hP hin rfl dX6_asks_50 ?_
      refine lv_isub hC.x hC.b dX6_asks_51 ?_
      refine lv_icmp_le (tgt := 64) hC.x hC.b dX6_asks_52 (by decide) (fun c6 => ?_) (fun c6 => ?_)
      · have hw962 := hw961.1 c6
        refine lv_aload_n hC.x hC.b dX6_asks_64 rfl (lv_at hl 0 rfl) ?_
        refine gM_26 hC hP dX6_asks_65 ?_
        refine lv_aload_n hC.x hC.b dX6_asks_68 rfl (lv_at hl 0 rfl) ?_
        refine gM_29 hC hP dX6_asks_69 ?_
        refine lv_iload_n hC.x hC.b dX6_asks_72 rfl (lv_at hl 2 rfl) ?_
        obtain ⟨hin, hw963⟩ := hw962
        refine lM_10 hC hP hin rfl dX6_asks_73 ?_
        refine lv_isub hC.x hC.b dX6_asks_74 ?_
        exact k6_asks_75 hC hK17 hw963 H locs ls hP hD hS (lv_sub hl [0, 1, 2] rfl)
      · have hw970 := hw961.2 c6
        refine lv_aload_n hC.x hC.b dX6_asks_55 rfl (lv_at hl 0 rfl) ?_
        refine gM_29 hC hP dX6_asks_56 ?_
        refine lv_iload_n hC.x hC.b dX6_asks_59 rfl (lv_at hl 2 rfl) ?_
        obtain ⟨hin, hw971⟩ := hw970
        refine lM_10 hC hP hin rfl dX6_asks_60 ?_
        refine lv_goto (tgt := 75) hC.x hC.b dX6_asks_61 (by decide) ?_
        exact k6_asks_75 hC hK17 hw971 H locs ls hP hD hS (lv_sub hl [0, 1, 2] rfl)
def w6_asks (post : Int32 → MS → Prop) (tw : Option (Nat → Nat)) (S : MS) : Prop :=
  (w6_fitting (fun r1 S2 => (∀ S3, S3 = uI S2 0 30 (-2) → (lp (fun (K : (MS × Int32 × Int32) → Prop) (z : (MS × Int32 × Int32)) => f6_asks_17 post tw K z.1 z.2.1 z.2.2) (S3, (-2), 0)))) tw S (-1))
set_option maxHeartbeats 4000000 in
theorem m6_asks (l : Launch) {post : Int32 → MS → Prop} {S : MS} (hw : w6_asks post tw S) : Met l yX6_asks (ws_ yX6_asks cX6_asks 4 (some .int)) ({ frames := 5, cells := 0, slots := 0, locals := 118 } : Room) (va_Pc [.ref (ad 0)] (PcG D gCl nwG Z Hb A (wM D ad none rdv tw S))) (va_Qi post (BW D gCl A (fun u => (wM D ad none rdv tw u))) A) 0 0 A := by
  refine Met.ofG (by decide) (Nat.le_of_ble_eq_true rfl) ?_
  intro p e s m below meth c ls hC _ hP hD hS hl
  have hC : CX RX6 cX6_asks 4 (some .int) D gCl nwG Z Hb A p s m _ meth c := hC
  have hl : lv_has ls 4 [(0, .ref (ad 0))] := hl
  unfold w6_asks at hw
  refine lv_aload_n hC.x hC.b dX6_asks_0 rfl (lv_at hl 0 rfl) ?_
  refine lv_iconst (v := (-1)) hC.x hC.b dX6_asks_1 (by decide) ?_
  refine go_i (run_V (rest := []) hC (m6_fitting l hw) v6_6_fitting h6_fitting 0 5 gCl_X6 rfl rfl ⟨rfl, rfl, Nat.le_of_ble_eq_true rfl, Nat.le_of_ble_eq_true rfl⟩ ⟨Nat.le_refl _, Nat.le_refl _⟩ hP hD hS hl.1 (Nat.le_of_ble_eq_true rfl) dX6_asks_2 rfl) hS (fun r1 S2 H locs hw953 hP hD hS => ?_)
  refine lv_pop hC.x hC.b dX6_asks_5 rfl ?_
  refine lv_bipush (v := (-2)) hC.x hC.b dX6_asks_6 (by decide) ?_
  refine lv_istore_n (lv' := [(1, .int (-2)), (0, .ref (ad 0))]) hC.x hC.b dX6_asks_8 rfl hl (by decide) rfl (fun ls hl => ?_)
  refine lv_aload_n hC.x hC.b dX6_asks_9 rfl (lv_at hl 1 rfl) ?_
  refine lv_bipush (v := (-2)) hC.x hC.b dX6_asks_10 (by decide) ?_
  refine pM_30 hC hP hD hS (v := (-2)) dX6_asks_12 (fun S3 eS3 H locs hP hD hS => ?_)
  have hw954 := hw953 S3 eS3
  refine lv_iconst (v := 0) hC.x hC.b dX6_asks_15 (by decide) ?_
  refine lv_istore_n (lv' := [(2, .int 0), (1, .int (-2)), (0, .ref (ad 0))]) hC.x hC.b dX6_asks_16 rfl hl (by decide) rfl (fun ls hl => ?_)
  exact k6_asks_17 hC (S3, (-2), 0) hw954 H locs ls hP hD hS (lv_sub hl [2, 1, 0] rfl)
theorem v6_6_asks : GoodIn lw_all (wsV RX6 428 RX6 yX6_asks (ws_ yX6_asks cX6_asks 4 (some .int))) := lw_V q2050 q2052 qs105 q126 q2053
theorem h6_ask : yX6_ask.cls = RX6 ∧ yX6_ask.cls ≠ "java/lang/invoke/MethodHandle" ∧ yX6_ask.cls ≠ "java/lang/invoke/VarHandle" ∧ (parseMethodDescriptor yX6_ask.desc).map (fun d => d.parameters.length) = some 0 := by decide +kernel
def w6_ask (post : Int32 → MS → Prop) (tw : Option (Nat → Nat)) (S : MS) : Prop :=
  (∀ S1, S1 = uI S 0 0 0 → ((tw = none → (w6_refused (fun r3 S4 => (post r3 S4)) S1 1)) ∧ ((∃ t, tw = some t) → (w6_asks (fun r5 S6 => (w6_good (fun r7 S8 => (post r7 S8)) S6 r5)) tw S1))))
set_option maxHeartbeats 4000000 in
theorem m6_ask (l : Launch) {post : Int32 → MS → Prop} {S : MS} (hw : w6_ask post tw S) : Met l yX6_ask (ws_ yX6_ask cX6_ask 1 (some .int)) ({ frames := 6, cells := 0, slots := 0, locals := 141 } : Room) (va_Pc [.ref (ad 0)] (PcG D gCl nwG Z Hb A (wM D ad none rdv tw S))) (va_Qi post (BW D gCl A (fun u => (wM D ad none rdv tw u))) A) 0 0 A := by
  refine Met.ofG (by decide) (Nat.le_of_ble_eq_true rfl) ?_
  intro p e s m below meth c ls hC _ hP hD hS hl
  have hC : CX RX6 cX6_ask 1 (some .int) D gCl nwG Z Hb A p s m _ meth c := hC
  have hl : lv_has ls 1 [(0, .ref (ad 0))] := hl
  unfold w6_ask at hw
  refine lv_aload_n hC.x hC.b dX6_ask_0 rfl (lv_at hl 0 rfl) ?_
  refine lv_iconst (v := 0) hC.x hC.b dX6_ask_1 (by decide) ?_
  refine pM_0 hC hP hD hS (v := 0) dX6_ask_2 (fun S1 eS1 H locs hP hD hS => ?_)
  have hw972 := hw S1 eS1
  refine lv_aload_n hC.x hC.b dX6_ask_5 rfl (lv_at hl 0 rfl) ?_
  refine gM_3 hC hP dX6_ask_6 ?_
  rcases va_o2 tw with c2 | ⟨t, c2⟩
  · have hw973 := hw972.1 c2
    subst c2
    refine lv_ifnonnullN hC.x hC.b dX6_ask_9 ?_
    refine lv_aload_n hC.x hC.b dX6_ask_12 rfl (lv_at hl 0 rfl) ?_
    refine lv_iconst (v := 1) hC.x hC.b dX6_ask_13 (by decide) ?_
    refine go_i (run_V (rest := []) hC (m6_refused l hw973) v6_6_refused h6_refused 0 5 gCl_X6 rfl rfl ⟨rfl, rfl, Nat.le_of_ble_eq_true rfl, Nat.le_of_ble_eq_true rfl⟩ ⟨Nat.le_refl _, Nat.le_refl _⟩ hP hD hS hl.1 (Nat.le_of_ble_eq_true rfl) dX6_ask_14 rfl) hS (fun r3 S4 H locs hw974 hP hD hS => ?_)
    refine lv_goto (tgt := 28) hC.x hC.b dX6_ask_17 (by decide) ?_
    exact rt_i hC hw974 hP hD hS dX6_ask_28
  · have hw975 := hw972.2 ⟨t, c2⟩
    subst c2
    refine lv_ifnonnull (tgt := 20) hC.x hC.b dX6_ask_9 (by decide) ?_
    refine lv_aload_n hC.x hC.b dX6_ask_20 rfl (lv_at hl 0 rfl) ?_
    refine lv_aload_n hC.x hC.b dX6_ask_21 rfl (lv_at hl 0 rfl) ?_
    refine go_i (run_V (rest := [.ref (ad 0)]) hC (m6_asks l hw975) v6_6_asks h6_asks 0 5 gCl_X6 rfl rfl ⟨rfl, rfl, Nat.le_of_ble_eq_true rfl, Nat.le_of_ble_eq_true rfl⟩ ⟨Nat.le_refl _, Nat.le_refl _⟩ hP hD hS hl.1 (Nat.le_of_ble_eq_true rfl) dX6_ask_22 rfl) hS (fun r5 S6 H locs hw976 hP hD hS => ?_)
    refine go_i (run_V (rest := []) hC (m6_good l hw976) v6_6_good h6_good 0 5 gCl_X6 rfl rfl ⟨rfl, rfl, Nat.le_of_ble_eq_true rfl, Nat.le_of_ble_eq_true rfl⟩ ⟨Nat.le_refl _, Nat.le_refl _⟩ hP hD hS hl.1 (Nat.le_of_ble_eq_true rfl) dX6_ask_25 rfl) hS (fun r7 S8 H locs hw977 hP hD hS => ?_)
    exact rt_i hC hw977 hP hD hS dX6_ask_28
theorem h6_askLeaves : yX6_askLeaves.cls = RX6 ∧ yX6_askLeaves.cls ≠ "java/lang/invoke/MethodHandle" ∧ yX6_askLeaves.cls ≠ "java/lang/invoke/VarHandle" ∧ (parseMethodDescriptor yX6_askLeaves.desc).map (fun d => d.parameters.length) = some 0 := by decide +kernel
def w6_askLeaves (post : Int32 → MS → Prop) (tw : Option (Nat → Nat)) (S : MS) : Prop :=
  (∀ S1, S1 = uI S 0 0 0 → ((tw = none → (w6_refused (fun r3 S4 => (post r3 S4)) S1 1)) ∧ ((∃ t, tw = some t) → (w6_asks (fun r5 S6 => (w6_good (fun r7 S8 => (post r7 S8)) S6 (S6.1 0 30))) tw S1))))
set_option maxHeartbeats 4000000 in
theorem m6_askLeaves (l : Launch) {post : Int32 → MS → Prop} {S : MS} (hw : w6_askLeaves post tw S) : Met l yX6_askLeaves (ws_ yX6_askLeaves cX6_askLeaves 1 (some .int)) ({ frames := 6, cells := 0, slots := 0, locals := 141 } : Room) (va_Pc [.ref (ad 0)] (PcG D gCl nwG Z Hb A (wM D ad none rdv tw S))) (va_Qi post (BW D gCl A (fun u => (wM D ad none rdv tw u))) A) 0 0 A := by
  refine Met.ofG (by decide) (Nat.le_of_ble_eq_true rfl) ?_
  intro p e s m below meth c ls hC _ hP hD hS hl
  have hC : CX RX6 cX6_askLeaves 1 (some .int) D gCl nwG Z Hb A p s m _ meth c := hC
  have hl : lv_has ls 1 [(0, .ref (ad 0))] := hl
  unfold w6_askLeaves at hw
  refine lv_aload_n hC.x hC.b dX6_askLeaves_0 rfl (lv_at hl 0 rfl) ?_
  refine lv_iconst (v := 0) hC.x hC.b dX6_askLeaves_1 (by decide) ?_
  refine pM_0 hC hP hD hS (v := 0) dX6_askLeaves_2 (fun S1 eS1 H locs hP hD hS => ?_)
  have hw978 := hw S1 eS1
  refine lv_aload_n hC.x hC.b dX6_askLeaves_5 rfl (lv_at hl 0 rfl) ?_
  refine gM_3 hC hP dX6_askLeaves_6 ?_
  rcases va_o2 tw with c2 | ⟨t, c2⟩
  · have hw979 := hw978.1 c2
    subst c2
    refine lv_ifnonnullN hC.x hC.b dX6_askLeaves_9 ?_
    refine lv_aload_n hC.x hC.b dX6_askLeaves_12 rfl (lv_at hl 0 rfl) ?_
    refine lv_iconst (v := 1) hC.x hC.b dX6_askLeaves_13 (by decide) ?_
    refine go_i (run_V (rest := []) hC (m6_refused l hw979) v6_6_refused h6_refused 0 5 gCl_X6 rfl rfl ⟨rfl, rfl, Nat.le_of_ble_eq_true rfl, Nat.le_of_ble_eq_true rfl⟩ ⟨Nat.le_refl _, Nat.le_refl _⟩ hP hD hS hl.1 (Nat.le_of_ble_eq_true rfl) dX6_askLeaves_14 rfl) hS (fun r3 S4 H locs hw980 hP hD hS => ?_)
    exact rt_i hC hw980 hP hD hS dX6_askLeaves_17
  · have hw981 := hw978.2 ⟨t, c2⟩
    subst c2
    refine lv_ifnonnull (tgt := 18) hC.x hC.b dX6_askLeaves_9 (by decide) ?_
    refine lv_aload_n hC.x hC.b dX6_askLeaves_18 rfl (lv_at hl 0 rfl) ?_
    refine go_i (run_V (rest := []) hC (m6_asks l hw981) v6_6_asks h6_asks 0 5 gCl_X6 rfl rfl ⟨rfl, rfl, Nat.le_of_ble_eq_true rfl, Nat.le_of_ble_eq_true rfl⟩ ⟨Nat.le_refl _, Nat.le_refl _⟩ hP hD hS hl.1 (Nat.le_of_ble_eq_true rfl) dX6_askLeaves_19 rfl) hS (fun r5 S6 H locs hw982 hP hD hS => ?_)
    refine lv_pop hC.x hC.b dX6_askLeaves_22 rfl ?_
    refine lv_aload_n hC.x hC.b dX6_askLeaves_23 rfl (lv_at hl 0 rfl) ?_
    refine lv_aload_n hC.x hC.b dX6_askLeaves_24 rfl (lv_at hl 0 rfl) ?_
    refine gM_30 hC hP dX6_askLeaves_25 ?_
    refine go_i (run_V (rest := []) hC (m6_good l hw982) v6_6_good h6_good 0 5 gCl_X6 rfl rfl ⟨rfl, rfl, Nat.le_of_ble_eq_true rfl, Nat.le_of_ble_eq_true rfl⟩ ⟨Nat.le_refl _, Nat.le_refl _⟩ hP hD hS hl.1 (Nat.le_of_ble_eq_true rfl) dX6_askLeaves_28 rfl) hS (fun r7 S8 H locs hw983 hP hD hS => ?_)
    exact rt_i hC hw983 hP hD hS dX6_askLeaves_31
theorem h6_judge : yX6_judge.cls = RX6 ∧ yX6_judge.cls ≠ "java/lang/invoke/MethodHandle" ∧ yX6_judge.cls ≠ "java/lang/invoke/VarHandle" ∧ (parseMethodDescriptor yX6_judge.desc).map (fun d => d.parameters.length) = some 0 := by decide +kernel
def w6_judge (post : Int32 → MS → Prop) (tw : Option (Nat → Nat)) (S : MS) : Prop :=
  (∀ S1, S1 = uI S 0 0 0 → ((tw = none → (w6_refused (fun r3 S4 => (post r3 S4)) S1 1)) ∧ ((∃ t, tw = some t) → (w6_wrongHeard (fun r5 S6 => (w6_good (fun r7 S8 => (post r7 S8)) S6 r5)) tw S1 0))))
set_option maxHeartbeats 4000000 in
theorem m6_judge (l : Launch) {post : Int32 → MS → Prop} {S : MS} (hw : w6_judge post tw S) : Met l yX6_judge (ws_ yX6_judge cX6_judge 1 (some .int)) ({ frames := 4, cells := 0, slots := 0, locals := 94 } : Room) (va_Pc [.ref (ad 0)] (PcG D gCl nwG Z Hb A (wM D ad none rdv tw S))) (va_Qi post (BW D gCl A (fun u => (wM D ad none rdv tw u))) A) 0 0 A := by
  refine Met.ofG (by decide) (Nat.le_of_ble_eq_true rfl) ?_
  intro p e s m below meth c ls hC _ hP hD hS hl
  have hC : CX RX6 cX6_judge 1 (some .int) D gCl nwG Z Hb A p s m _ meth c := hC
  have hl : lv_has ls 1 [(0, .ref (ad 0))] := hl
  unfold w6_judge at hw
  refine lv_aload_n hC.x hC.b dX6_judge_0 rfl (lv_at hl 0 rfl) ?_
  refine lv_iconst (v := 0) hC.x hC.b dX6_judge_1 (by decide) ?_
  refine pM_0 hC hP hD hS (v := 0) dX6_judge_2 (fun S1 eS1 H locs hP hD hS => ?_)
  have hw984 := hw S1 eS1
  refine lv_aload_n hC.x hC.b dX6_judge_5 rfl (lv_at hl 0 rfl) ?_
  refine gM_3 hC hP dX6_judge_6 ?_
  rcases va_o2 tw with c2 | ⟨t, c2⟩
  · have hw985 := hw984.1 c2
    subst c2
    refine lv_ifnonnullN hC.x hC.b dX6_judge_9 ?_
    refine lv_aload_n hC.x hC.b dX6_judge_12 rfl (lv_at hl 0 rfl) ?_
    refine lv_iconst (v := 1) hC.x hC.b dX6_judge_13 (by decide) ?_
    refine go_i (run_V (rest := []) hC (m6_refused l hw985) v6_6_refused h6_refused 0 5 gCl_X6 rfl rfl ⟨rfl, rfl, Nat.le_of_ble_eq_true rfl, Nat.le_of_ble_eq_true rfl⟩ ⟨Nat.le_refl _, Nat.le_refl _⟩ hP hD hS hl.1 (Nat.le_of_ble_eq_true rfl) dX6_judge_14 rfl) hS (fun r3 S4 H locs hw986 hP hD hS => ?_)
    refine lv_goto (tgt := 29) hC.x hC.b dX6_judge_17 (by decide) ?_
    exact rt_i hC hw986 hP hD hS dX6_judge_29
  · have hw987 := hw984.2 ⟨t, c2⟩
    subst c2
    refine lv_ifnonnull (tgt := 20) hC.x hC.b dX6_judge_9 (by decide) ?_
    refine lv_aload_n hC.x hC.b dX6_judge_20 rfl (lv_at hl 0 rfl) ?_
    refine lv_aload_n hC.x hC.b dX6_judge_21 rfl (lv_at hl 0 rfl) ?_
    refine lv_iconst (v := 0) hC.x hC.b dX6_judge_22 (by decide) ?_
    refine go_i (run_V (rest := [.ref (ad 0)]) hC (m6_wrongHeard l hw987) v6_6_wrongHeard h6_wrongHeard 0 5 gCl_X6 rfl rfl ⟨rfl, rfl, Nat.le_of_ble_eq_true rfl, Nat.le_of_ble_eq_true rfl⟩ ⟨Nat.le_refl _, Nat.le_refl _⟩ hP hD hS hl.1 (Nat.le_of_ble_eq_true rfl) dX6_judge_23 rfl) hS (fun r5 S6 H locs hw988 hP hD hS => ?_)
    refine go_i (run_V (rest := []) hC (m6_good l hw988) v6_6_good h6_good 0 5 gCl_X6 rfl rfl ⟨rfl, rfl, Nat.le_of_ble_eq_true rfl, Nat.le_of_ble_eq_true rfl⟩ ⟨Nat.le_refl _, Nat.le_refl _⟩ hP hD hS hl.1 (Nat.le_of_ble_eq_true rfl) dX6_judge_26 rfl) hS (fun r7 S8 H locs hw989 hP hD hS => ?_)
    exact rt_i hC hw989 hP hD hS dX6_judge_29
theorem h6_refusesSoot : yX6_refusesSoot.cls = RX6 ∧ yX6_refusesSoot.cls ≠ "java/lang/invoke/MethodHandle" ∧ yX6_refusesSoot.cls ≠ "java/lang/invoke/VarHandle" ∧ (parseMethodDescriptor yX6_refusesSoot.desc).map (fun d => d.parameters.length) = some 1 := by decide +kernel
def w6_refusesSoot (post : Int32 → Prop) (tw : Option (Nat → Nat)) (S : MS) (x1 : Int32) : Prop :=
  ((tw = none → (post 1)) ∧ ((∃ t, tw = some t) → (w6_in (fun r2 => ((r2 = 0 → (post 2)) ∧ (¬ r2 = 0 → (post 0)))) x1 0 9)))
set_option maxHeartbeats 4000000 in
theorem m6_refusesSoot (l : Launch) {post : Int32 → Prop} {S : MS} {x1 : Int32} (hw : w6_refusesSoot post tw S x1) : Met l yX6_refusesSoot (ws_ yX6_refusesSoot cX6_refusesSoot 2 (some .int)) ({ frames := 1, cells := 0, slots := 0, locals := 22 } : Room) (va_Pc [.ref (ad 0), .int x1] (PcG D gCl nwG Z Hb A (wM D ad none rdv tw S))) (va_Qi (fun r (_ : Unit) => post r) (BW D gCl A (fun _ => (wM D ad none rdv tw S))) A) 0 0 A := by
  refine Met.ofG (by decide) (Nat.le_of_ble_eq_true rfl) ?_
  intro p e s m below meth c ls hC _ hP hD hS hl
  have hC : CX RX6 cX6_refusesSoot 2 (some .int) D gCl nwG Z Hb A p s m _ meth c := hC
  have hl : lv_has ls 2 [(0, .ref (ad 0)), (1, .int x1)] := hl
  unfold w6_refusesSoot at hw
  refine lv_aload_n hC.x hC.b dX6_refusesSoot_0 rfl (lv_at hl 0 rfl) ?_
  refine gM_3 hC hP dX6_refusesSoot_1 ?_
  rcases va_o2 tw with c1 | ⟨t, c1⟩
  · have hw990 := hw.1 c1
    subst c1
    refine lv_ifnonnullN hC.x hC.b dX6_refusesSoot_4 ?_
    refine lv_iconst (v := 1) hC.x hC.b dX6_refusesSoot_7 (by decide) ?_
    refine lv_goto (tgt := 26) hC.x hC.b dX6_refusesSoot_8 (by decide) ?_
    exact rt_i (u := ()) hC hw990 hP hD hS dX6_refusesSoot_26
  · have hw991 := hw.2 ⟨t, c1⟩
    subst c1
    refine lv_ifnonnull (tgt := 11) hC.x hC.b dX6_refusesSoot_4 (by decide) ?_
    refine lv_iload_n hC.x hC.b dX6_refusesSoot_11 rfl (lv_at hl 1 rfl) ?_
    refine lv_iconst (v := 0) hC.x hC.b dX6_refusesSoot_12 (by decide) ?_
    refine lv_bipush (v := 9) hC.x hC.b dX6_refusesSoot_13 (by decide) ?_
    refine go_i (run_S (rest := []) hC (m6_in l hw991) v6_6_in h6_in ⟨rfl, rfl, Nat.le_of_ble_eq_true rfl, Nat.le_of_ble_eq_true rfl⟩ ⟨Nat.le_refl _, Nat.le_refl _⟩ hP hD hS hl.1 (Nat.le_of_ble_eq_true rfl) dX6_refusesSoot_15 rfl) hS (fun r2 u H locs hw992 hP hD hS => ?_)
    refine lv_if_eq (tgt := 25) hC.x hC.b dX6_refusesSoot_18 (by decide) (fun c3 => ?_) (fun c3 => ?_)
    · have hw993 := hw992.1 c3
      refine lv_iconst (v := 2) hC.x hC.b dX6_refusesSoot_25 (by decide) ?_
      exact rt_i (u := ()) hC hw993 hP hD hS dX6_refusesSoot_26
    · have hw994 := hw992.2 c3
      refine lv_iconst (v := 0) hC.x hC.b dX6_refusesSoot_21 (by decide) ?_
      refine lv_goto (tgt := 26) hC.x hC.b dX6_refusesSoot_22 (by decide) ?_
      exact rt_i (u := ()) hC hw994 hP hD hS dX6_refusesSoot_26
theorem h6_lost : yX6_lost.cls = RX6 ∧ yX6_lost.cls ≠ "java/lang/invoke/MethodHandle" ∧ yX6_lost.cls ≠ "java/lang/invoke/VarHandle" ∧ (parseMethodDescriptor yX6_lost.desc).map (fun d => d.parameters.length) = some 1 := by decide +kernel
def w6_lost (post : Int32 → MS → Prop) (S : MS) (x1 : Int32) : Prop :=
  (w6_refused (fun r1 S2 => (post (-100) S2)) S x1)
set_option maxHeartbeats 4000000 in
theorem m6_lost (l : Launch) {post : Int32 → MS → Prop} {S : MS} {x1 : Int32} (hw : w6_lost post S x1) : Met l yX6_lost (ws_ yX6_lost cX6_lost 2 (some .int)) ({ frames := 1, cells := 0, slots := 0, locals := 21 } : Room) (va_Pc [.ref (ad 0), .int x1] (PcG D gCl nwG Z Hb A (wM D ad rd rdv tw S))) (va_Qi post (BW D gCl A (fun u => (wM D ad rd rdv tw u))) A) 0 0 A := by
  refine Met.ofG (by decide) (Nat.le_of_ble_eq_true rfl) ?_
  intro p e s m below meth c ls hC _ hP hD hS hl
  have hC : CX RX6 cX6_lost 2 (some .int) D gCl nwG Z Hb A p s m _ meth c := hC
  have hl : lv_has ls 2 [(0, .ref (ad 0)), (1, .int x1)] := hl
  unfold w6_lost at hw
  refine lv_aload_n hC.x hC.b dX6_lost_0 rfl (lv_at hl 0 rfl) ?_
  refine lv_iload_n hC.x hC.b dX6_lost_1 rfl (lv_at hl 1 rfl) ?_
  refine go_i (run_V (rest := []) hC (m6_refused l hw) v6_6_refused h6_refused 0 5 gCl_X6 rfl rfl ⟨rfl, rfl, Nat.le_of_ble_eq_true rfl, Nat.le_of_ble_eq_true rfl⟩ ⟨Nat.le_refl _, Nat.le_refl _⟩ hP hD hS hl.1 (Nat.le_of_ble_eq_true rfl) dX6_lost_2 rfl) hS (fun r1 S2 H locs hw995 hP hD hS => ?_)
  refine lv_pop hC.x hC.b dX6_lost_5 rfl ?_
  refine lv_bipush (v := (-100)) hC.x hC.b dX6_lost_6 (by decide) ?_
  exact rt_i hC hw995 hP hD hS dX6_lost_8
theorem h6_chatted : yX6_chatted.cls ≠ "java/lang/invoke/MethodHandle" ∧ yX6_chatted.cls ≠ "java/lang/invoke/VarHandle" ∧ (parseMethodDescriptor yX6_chatted.desc).map (fun d => d.parameters.length) = some 3 := by decide +kernel
def w6_chatted (post : Int32 → Prop) (x0 : Int32) (x1 : Int32) (x2 : Int32) : Prop :=
  ((x1 = 0 → ((x2 = 0 → (post 1)) ∧ (¬ x2 = 0 → (post (2 - x0))))) ∧ (¬ x1 = 0 → ((x2 = 0 → (post 3)) ∧ (¬ x2 = 0 → (post 0)))))
set_option maxHeartbeats 4000000 in
theorem m6_chatted (l : Launch) {post : Int32 → Prop} {x0 : Int32} {x1 : Int32} {x2 : Int32} (hw : w6_chatted post x0 x1 x2) : Met l yX6_chatted (ws_ yX6_chatted cX6_chatted 3 (some .int)) ({ frames := 0, cells := 0, slots := 0, locals := 0 } : Room) (va_Pc [.int x0, .int x1, .int x2] (PcG D gCl nwG Z Hb A w0)) (va_Qi (fun r (_ : Unit) => post r) (BW D gCl A (fun _ => w0)) A) 0 0 A := by
  refine Met.ofG (by decide) (Nat.le_of_ble_eq_true rfl) ?_
  intro p e s m below meth c ls hC _ hP hD hS hl
  have hC : CX RX6 cX6_chatted 3 (some .int) D gCl nwG Z Hb A p s m _ meth c := hC
  have hl : lv_has ls 3 [(0, .int x0), (1, .int x1), (2, .int x2)] := hl
  unfold w6_chatted at hw
  refine lv_iload_n hC.x hC.b dX6_chatted_0 rfl (lv_at hl 1 rfl) ?_
  refine lv_if_eq (tgt := 16) hC.x hC.b dX6_chatted_1 (by decide) (fun c1 => ?_) (fun c1 => ?_)
  · have hw996 := hw.1 c1
    refine lv_iload_n hC.x hC.b dX6_chatted_16 rfl (lv_at hl 2 rfl) ?_
    refine lv_if_eq (tgt := 26) hC.x hC.b dX6_chatted_17 (by decide) (fun c2 => ?_) (fun c2 => ?_)
    · have hw997 := hw996.1 c2
      refine lv_iconst (v := 1) hC.x hC.b dX6_chatted_26 (by decide) ?_
      exact rt_i (u := ()) hC hw997 hP hD hS dX6_chatted_27
    · have hw998 := hw996.2 c2
      refine lv_iconst (v := 2) hC.x hC.b dX6_chatted_20 (by decide) ?_
      refine lv_iload_n hC.x hC.b dX6_chatted_21 rfl (lv_at hl 0 rfl) ?_
      refine lv_isub hC.x hC.b dX6_chatted_22 ?_
      refine lv_goto (tgt := 27) hC.x hC.b dX6_chatted_23 (by decide) ?_
      exact rt_i (u := ()) hC hw998 hP hD hS dX6_chatted_27
  · have hw999 := hw.2 c1
    refine lv_iload_n hC.x hC.b dX6_chatted_4 rfl (lv_at hl 2 rfl) ?_
    refine lv_if_eq (tgt := 12) hC.x hC.b dX6_chatted_5 (by decide) (fun c3 => ?_) (fun c3 => ?_)
    · have hw1000 := hw999.1 c3
      refine lv_iconst (v := 3) hC.x hC.b dX6_chatted_12 (by decide) ?_
      refine lv_goto (tgt := 27) hC.x hC.b dX6_chatted_13 (by decide) ?_
      exact rt_i (u := ()) hC hw1000 hP hD hS dX6_chatted_27
    · have hw1001 := hw999.2 c3
      refine lv_iconst (v := 0) hC.x hC.b dX6_chatted_8 (by decide) ?_
      refine lv_goto (tgt := 27) hC.x hC.b dX6_chatted_9 (by decide) ?_
      exact rt_i (u := ()) hC hw1001 hP hD hS dX6_chatted_27
theorem v6_6_chatted : GoodIn lw_all (va_wsS RX6 437 yX6_chatted (ws_ yX6_chatted cX6_chatted 3 (some .int))) := lw_S q2074 q2075 q126 q2076
theorem v6_6_refusesSoot : GoodIn lw_all (wsV RX6 431 RX6 yX6_refusesSoot (ws_ yX6_refusesSoot cX6_refusesSoot 2 (some .int))) := lw_V q2066 q2068 qs106 q126 q2069
theorem v6_6_lost : GoodIn lw_all (wsV RX6 434 RX6 yX6_lost (ws_ yX6_lost cX6_lost 2 (some .int))) := lw_V q2070 q2072 qs107 q126 q2073
theorem h6_chat : yX6_chat.cls = RX6 ∧ yX6_chat.cls ≠ "java/lang/invoke/MethodHandle" ∧ yX6_chat.cls ≠ "java/lang/invoke/VarHandle" ∧ (parseMethodDescriptor yX6_chat.desc).map (fun d => d.parameters.length) = some 4 := by decide +kernel
def w6_chat (post : Int32 → MS → Prop) (tw : Option (Nat → Nat)) (S : MS) (x1 : Int32) (x2 : Int32) (x3 : Int32) (x4 : Int32) : Prop :=
  (∀ S1, S1 = uI S 0 0 0 → (w6_refusesSoot (fun r2 => ((r2 ≤ 0 → ((x4 = 0 → (w6_chatted (fun r5 => (w6_good (fun r6 S7 => (post r6 S7)) S1 r5)) x1 x2 x3)) ∧ (¬ x4 = 0 → (w6_chatted (fun r8 => (w6_good (fun r9 S10 => (post r9 S10)) S1 r8)) x1 x3 x2)))) ∧ (¬ r2 ≤ 0 → (w6_lost (fun r11 S12 => (post r11 S12)) S1 r2)))) tw S1 x1))
set_option maxHeartbeats 4000000 in
theorem m6_chat (l : Launch) {post : Int32 → MS → Prop} {S : MS} {x1 : Int32} {x2 : Int32} {x3 : Int32} {x4 : Int32} (hw : w6_chat post tw S x1 x2 x3 x4) : Met l yX6_chat (ws_ yX6_chat cX6_chat 6 (some .int)) ({ frames := 2, cells := 0, slots := 0, locals := 43 } : Room) (va_Pc [.ref (ad 0), .int x1, .int x2, .int x3, .int x4] (PcG D gCl nwG Z Hb A (wM D ad none rdv tw S))) (va_Qi post (BW D gCl A (fun u => (wM D ad none rdv tw u))) A) 0 0 A := by
  refine Met.ofG (by decide) (Nat.le_of_ble_eq_true rfl) ?_
  intro p e s m below meth c ls hC _ hP hD hS hl
  have hC : CX RX6 cX6_chat 6 (some .int) D gCl nwG Z Hb A p s m _ meth c := hC
  have hl : lv_has ls 6 [(0, .ref (ad 0)), (1, .int x1), (2, .int x2), (3, .int x3), (4, .int x4)] := hl
  unfold w6_chat at hw
  refine lv_aload_n hC.x hC.b dX6_chat_0 rfl (lv_at hl 0 rfl) ?_
  refine lv_iconst (v := 0) hC.x hC.b dX6_chat_1 (by decide) ?_
  refine pM_0 hC hP hD hS (v := 0) dX6_chat_2 (fun S1 eS1 H locs hP hD hS => ?_)
  have hw1002 := hw S1 eS1
  refine lv_aload_n hC.x hC.b dX6_chat_5 rfl (lv_at hl 0 rfl) ?_
  refine lv_iload_n hC.x hC.b dX6_chat_6 rfl (lv_at hl 1 rfl) ?_
  refine go_i (run_V (rest := []) hC (m6_refusesSoot l hw1002) v6_6_refusesSoot h6_refusesSoot 0 5 gCl_X6 rfl rfl ⟨rfl, rfl, Nat.le_of_ble_eq_true rfl, Nat.le_of_ble_eq_true rfl⟩ ⟨Nat.le_refl _, Nat.le_refl _⟩ hP hD hS hl.1 (Nat.le_of_ble_eq_true rfl) dX6_chat_7 rfl) hS (fun r2 u H locs hw1003 hP hD hS => ?_)
  refine lv_istore (lv' := [(5, .int r2), (0, .ref (ad 0)), (1, .int x1), (2, .int x2), (3, .int x3), (4, .int x4)]) hC.x hC.b dX6_chat_10 hl (by decide) rfl (fun ls hl => ?_)
  refine lv_iload hC.x hC.b dX6_chat_12 (lv_at hl 0 rfl) ?_
  refine lv_if_le (tgt := 26) hC.x hC.b dX6_chat_14 (by decide) (fun c3 => ?_) (fun c3 => ?_)
  · have hw1004 := hw1003.1 c3
    refine lv_aload_n hC.x hC.b dX6_chat_26 rfl (lv_at hl 1 rfl) ?_
    refine lv_iload hC.x hC.b dX6_chat_27 (lv_at hl 5 rfl) ?_
    refine lv_if_eq (tgt := 41) hC.x hC.b dX6_chat_29 (by decide) (fun c4 => ?_) (fun c4 => ?_)
    · have hw1005 := hw1004.1 c4
      refine lv_iload_n hC.x hC.b dX6_chat_41 rfl (lv_at hl 2 rfl) ?_
      refine lv_iload_n hC.x hC.b dX6_chat_42 rfl (lv_at hl 3 rfl) ?_
      refine lv_iload_n hC.x hC.b dX6_chat_43 rfl (lv_at hl 4 rfl) ?_
      refine go_i (run_S (rest := [.ref (ad 0)]) hC (m6_chatted l hw1005) v6_6_chatted h6_chatted ⟨rfl, rfl, Nat.le_of_ble_eq_true rfl, Nat.le_of_ble_eq_true rfl⟩ ⟨Nat.le_refl _, Nat.le_refl _⟩ hP hD hS hl.1 (Nat.le_of_ble_eq_true rfl) dX6_chat_44 rfl) hS (fun r5 u H locs hw1006 hP hD hS => ?_)
      refine go_i (run_V (rest := []) hC (m6_good l hw1006) v6_6_good h6_good 0 5 gCl_X6 rfl rfl ⟨rfl, rfl, Nat.le_of_ble_eq_true rfl, Nat.le_of_ble_eq_true rfl⟩ ⟨Nat.le_refl _, Nat.le_refl _⟩ hP hD hS hl.1 (Nat.le_of_ble_eq_true rfl) dX6_chat_47 rfl) hS (fun r6 S7 H locs hw1007 hP hD hS => ?_)
      exact rt_i hC hw1007 hP hD hS dX6_chat_50
    · have hw1008 := hw1004.2 c4
      refine lv_iload_n hC.x hC.b dX6_chat_32 rfl (lv_at hl 2 rfl) ?_
      refine lv_iload_n hC.x hC.b dX6_chat_33 rfl (lv_at hl 4 rfl) ?_
      refine lv_iload_n hC.x hC.b dX6_chat_34 rfl (lv_at hl 3 rfl) ?_
      refine go_i (run_S (rest := [.ref (ad 0)]) hC (m6_chatted l hw1008) v6_6_chatted h6_chatted ⟨rfl, rfl, Nat.le_of_ble_eq_true rfl, Nat.le_of_ble_eq_true rfl⟩ ⟨Nat.le_refl _, Nat.le_refl _⟩ hP hD hS hl.1 (Nat.le_of_ble_eq_true rfl) dX6_chat_35 rfl) hS (fun r8 u H locs hw1009 hP hD hS => ?_)
      refine lv_goto (tgt := 47) hC.x hC.b dX6_chat_38 (by decide) ?_
      refine go_i (run_V (rest := []) hC (m6_good l hw1009) v6_6_good h6_good 0 5 gCl_X6 rfl rfl ⟨rfl, rfl, Nat.le_of_ble_eq_true rfl, Nat.le_of_ble_eq_true rfl⟩ ⟨Nat.le_refl _, Nat.le_refl _⟩ hP hD hS hl.1 (Nat.le_of_ble_eq_true rfl) dX6_chat_47 rfl) hS (fun r9 S10 H locs hw1010 hP hD hS => ?_)
      exact rt_i hC hw1010 hP hD hS dX6_chat_50
  · have hw1011 := hw1003.2 c3
    refine lv_aload_n hC.x hC.b dX6_chat_17 rfl (lv_at hl 1 rfl) ?_
    refine lv_iload hC.x hC.b dX6_chat_18 (lv_at hl 0 rfl) ?_
    refine go_i (run_V (rest := []) hC (m6_lost l hw1011) v6_6_lost h6_lost 0 5 gCl_X6 rfl rfl ⟨rfl, rfl, Nat.le_of_ble_eq_true rfl, Nat.le_of_ble_eq_true rfl⟩ ⟨Nat.le_refl _, Nat.le_refl _⟩ hP hD hS hl.1 (Nat.le_of_ble_eq_true rfl) dX6_chat_20 rfl) hS (fun r11 S12 H locs hw1012 hP hD hS => ?_)
    refine lv_goto (tgt := 50) hC.x hC.b dX6_chat_23 (by decide) ?_
    exact rt_i hC hw1012 hP hD hS dX6_chat_50
theorem h6_isRest : yX6_isRest.cls ≠ "java/lang/invoke/MethodHandle" ∧ yX6_isRest.cls ≠ "java/lang/invoke/VarHandle" ∧ (parseMethodDescriptor yX6_isRest.desc).map (fun d => d.parameters.length) = some 2 := by decide +kernel
def j6_isRest_57 (post : Int32 → Prop) (x0 : Int32) (x2 : Int32) (x3 : Int32) (y0 : Int32) (y1 : Int32) : Prop :=
  (w6_chatted (fun r8 => (w6_chatted (fun r9 => ((r9 < r8 → (post 0)) ∧ (¬ r9 < r8 → (post 1)))) x0 x3 x2)) y0 y1 x2)
set_option maxHeartbeats 4000000 in
theorem k6_isRest_57 {post : Int32 → Prop} {x0 : Int32} {x2 : Int32} {x3 : Int32} {y0 : Int32} {y1 : Int32} (hC : CX RX6 cX6_isRest 4 (some .boolean) D gCl nwG Z Hb A p s m args meth c) (hw : j6_isRest_57 post x0 x2 x3 y0 y1) : ∀ (H : Heap) (locs : List Loc) (ls : Array Slot), va_P D gCl w0 H → va_D A w0 → va_S A s.heap H locs → lv_has ls 4 [(0, .int x0), (2, .int x2), (3, .int x3)] → W p l e ({ frames := 1, cells := 0, slots := 0, locals := 22 } : Room) s m args below meth c H locs 0 0 (MQ below (va_Qi (fun r (_ : Unit) => post r) (BW D gCl A (fun _ => w0)) A) args s 0 0 A) (F0 m 57 ls [.int y1, .int y0]) := by
  intro H locs ls hP hD hS hl
  unfold j6_isRest_57 at hw
  refine lv_iload_n hC.x hC.b dX6_isRest_57 rfl (lv_at hl 1 rfl) ?_
  refine go_i (run_S (rest := []) hC (m6_chatted l hw) v6_6_chatted h6_chatted ⟨rfl, rfl, Nat.le_of_ble_eq_true rfl, Nat.le_of_ble_eq_true rfl⟩ ⟨Nat.le_refl _, Nat.le_refl _⟩ hP hD hS hl.1 (Nat.le_of_ble_eq_true rfl) dX6_isRest_58 rfl) hS (fun r8 u H locs hw1021 hP hD hS => ?_)
  refine lv_iload_n hC.x hC.b dX6_isRest_61 rfl (lv_at hl 0 rfl) ?_
  refine lv_iload_n hC.x hC.b dX6_isRest_62 rfl (lv_at hl 2 rfl) ?_
  refine lv_iload_n hC.x hC.b dX6_isRest_63 rfl (lv_at hl 1 rfl) ?_
  refine go_i (run_S (rest := [.int r8]) hC (m6_chatted l hw1021) v6_6_chatted h6_chatted ⟨rfl, rfl, Nat.le_of_ble_eq_true rfl, Nat.le_of_ble_eq_true rfl⟩ ⟨Nat.le_refl _, Nat.le_refl _⟩ hP hD hS hl.1 (Nat.le_of_ble_eq_true rfl) dX6_isRest_64 rfl) hS (fun r9 u H locs hw1022 hP hD hS => ?_)
  refine lv_icmp_gt (tgt := 74) hC.x hC.b dX6_isRest_67 (by decide) (fun c10 => ?_) (fun c10 => ?_)
  · have hw1023 := hw1022.1 c10
    refine lv_iconst (v := 0) hC.x hC.b dX6_isRest_74 (by decide) ?_
    exact rt_z (u := ()) hC (Or.inl rfl) hw1023 hP hD hS dX6_isRest_75
  · have hw1024 := hw1022.2 c10
    refine lv_iconst (v := 1) hC.x hC.b dX6_isRest_70 (by decide) ?_
    refine lv_goto (tgt := 75) hC.x hC.b dX6_isRest_71 (by decide) ?_
    exact rt_z (u := ()) hC (Or.inr rfl) hw1024 hP hD hS dX6_isRest_75
def j6_isRest_34 (post : Int32 → Prop) (x0 : Int32) (x2 : Int32) (x3 : Int32) (y0 : Int32) (y1 : Int32) : Prop :=
  (w6_chatted (fun r4 => (w6_chatted (fun r5 => ((r5 < r4 → (post 0)) ∧ (¬ r5 < r4 → ((¬ x3 = 0 → (j6_isRest_57 post x0 x2 x3 x0 0)) ∧ (x3 = 0 → (j6_isRest_57 post x0 x2 x3 x0 1)))))) x0 x2 x3)) y0 y1 x3)
set_option maxHeartbeats 4000000 in
theorem k6_isRest_34 {post : Int32 → Prop} {x0 : Int32} {x2 : Int32} {x3 : Int32} {y0 : Int32} {y1 : Int32} (hC : CX RX6 cX6_isRest 4 (some .boolean) D gCl nwG Z Hb A p s m args meth c) (hw : j6_isRest_34 post x0 x2 x3 y0 y1) : ∀ (H : Heap) (locs : List Loc) (ls : Array Slot), va_P D gCl w0 H → va_D A w0 → va_S A s.heap H locs → lv_has ls 4 [(0, .int x0), (2, .int x2), (3, .int x3)] → W p l e ({ frames := 1, cells := 0, slots := 0, locals := 22 } : Room) s m args below meth c H locs 0 0 (MQ below (va_Qi (fun r (_ : Unit) => post r) (BW D gCl A (fun _ => w0)) A) args s 0 0 A) (F0 m 34 ls [.int y1, .int y0]) := by
  intro H locs ls hP hD hS hl
  unfold j6_isRest_34 at hw
  refine lv_iload_n hC.x hC.b dX6_isRest_34 rfl (lv_at hl 2 rfl) ?_
  refine go_i (run_S (rest := []) hC (m6_chatted l hw) v6_6_chatted h6_chatted ⟨rfl, rfl, Nat.le_of_ble_eq_true rfl, Nat.le_of_ble_eq_true rfl⟩ ⟨Nat.le_refl _, Nat.le_refl _⟩ hP hD hS hl.1 (Nat.le_of_ble_eq_true rfl) dX6_isRest_35 rfl) hS (fun r4 u H locs hw1016 hP hD hS => ?_)
  refine lv_iload_n hC.x hC.b dX6_isRest_38 rfl (lv_at hl 0 rfl) ?_
  refine lv_iload_n hC.x hC.b dX6_isRest_39 rfl (lv_at hl 1 rfl) ?_
  refine lv_iload_n hC.x hC.b dX6_isRest_40 rfl (lv_at hl 2 rfl) ?_
  refine go_i (run_S (rest := [.int r4]) hC (m6_chatted l hw1016) v6_6_chatted h6_chatted ⟨rfl, rfl, Nat.le_of_ble_eq_true rfl, Nat.le_of_ble_eq_true rfl⟩ ⟨Nat.le_refl _, Nat.le_refl _⟩ hP hD hS hl.1 (Nat.le_of_ble_eq_true rfl) dX6_isRest_41 rfl) hS (fun r5 u H locs hw1017 hP hD hS => ?_)
  refine lv_icmp_gt (tgt := 74) hC.x hC.b dX6_isRest_44 (by decide) (fun c6 => ?_) (fun c6 => ?_)
  · have hw1018 := hw1017.1 c6
    refine lv_iconst (v := 0) hC.x hC.b dX6_isRest_74 (by decide) ?_
    exact rt_z (u := ()) hC (Or.inl rfl) hw1018 hP hD hS dX6_isRest_75
  · have hw1019 := hw1017.2 c6
    refine lv_iload_n hC.x hC.b dX6_isRest_47 rfl (lv_at hl 0 rfl) ?_
    refine lv_iload_n hC.x hC.b dX6_isRest_48 rfl (lv_at hl 2 rfl) ?_
    refine lv_if_ne (tgt := 56) hC.x hC.b dX6_isRest_49 (by decide) (fun c7 => ?_) (fun c7 => ?_)
    · have hw1020 := hw1019.1 c7
      refine lv_iconst (v := 0) hC.x hC.b dX6_isRest_56 (by decide) ?_
      exact k6_isRest_57 hC hw1020 H locs ls hP hD hS (lv_sub hl [0, 1, 2] rfl)
    · have hw1025 := hw1019.2 c7
      refine lv_iconst (v := 1) hC.x hC.b dX6_isRest_52 (by decide) ?_
      refine lv_goto (tgt := 57) hC.x hC.b dX6_isRest_53 (by decide) ?_
      exact k6_isRest_57 hC hw1025 H locs ls hP hD hS (lv_sub hl [0, 1, 2] rfl)
def j6_isRest_23 (post : Int32 → Prop) (x0 : Int32) (x2 : Int32) (y0 : Int32) : Prop :=
  ((¬ x2 = 0 → (j6_isRest_34 post x0 x2 y0 x0 0)) ∧ (x2 = 0 → (j6_isRest_34 post x0 x2 y0 x0 1)))
set_option maxHeartbeats 4000000 in
theorem k6_isRest_23 {post : Int32 → Prop} {x0 : Int32} {x2 : Int32} {y0 : Int32} (hC : CX RX6 cX6_isRest 4 (some .boolean) D gCl nwG Z Hb A p s m args meth c) (hw : j6_isRest_23 post x0 x2 y0) : ∀ (H : Heap) (locs : List Loc) (ls : Array Slot), va_P D gCl w0 H → va_D A w0 → va_S A s.heap H locs → lv_has ls 4 [(0, .int x0), (2, .int x2)] → W p l e ({ frames := 1, cells := 0, slots := 0, locals := 22 } : Room) s m args below meth c H locs 0 0 (MQ below (va_Qi (fun r (_ : Unit) => post r) (BW D gCl A (fun _ => w0)) A) args s 0 0 A) (F0 m 23 ls [.int y0]) := by
  intro H locs ls hP hD hS hl
  unfold j6_isRest_23 at hw
  refine lv_istore_n (lv' := [(3, .int y0), (0, .int x0), (2, .int x2)]) hC.x hC.b dX6_isRest_23 rfl hl (by decide) rfl (fun ls hl => ?_)
  refine lv_iload_n hC.x hC.b dX6_isRest_24 rfl (lv_at hl 1 rfl) ?_
  refine lv_iload_n hC.x hC.b dX6_isRest_25 rfl (lv_at hl 2 rfl) ?_
  refine lv_if_ne (tgt := 33) hC.x hC.b dX6_isRest_26 (by decide) (fun c3 => ?_) (fun c3 => ?_)
  · have hw1015 := hw.1 c3
    refine lv_iconst (v := 0) hC.x hC.b dX6_isRest_33 (by decide) ?_
    exact k6_isRest_34 hC hw1015 H locs ls hP hD hS (lv_sub hl [1, 2, 0] rfl)
  · have hw1026 := hw.2 c3
    refine lv_iconst (v := 1) hC.x hC.b dX6_isRest_29 (by decide) ?_
    refine lv_goto (tgt := 34) hC.x hC.b dX6_isRest_30 (by decide) ?_
    exact k6_isRest_34 hC hw1026 H locs ls hP hD hS (lv_sub hl [1, 2, 0] rfl)
def j6_isRest_10 (post : Int32 → Prop) (x0 : Int32) (x1 : Int32) (y0 : Int32) : Prop :=
  ((¬ (x1 - x1 / 2 * 2) = 1 → (j6_isRest_23 post x0 y0 0)) ∧ ((x1 - x1 / 2 * 2) = 1 → (j6_isRest_23 post x0 y0 1)))
set_option maxHeartbeats 4000000 in
theorem k6_isRest_10 {post : Int32 → Prop} {x0 : Int32} {x1 : Int32} {y0 : Int32} (hC : CX RX6 cX6_isRest 4 (some .boolean) D gCl nwG Z Hb A p s m args meth c) (hw : j6_isRest_10 post x0 x1 y0) : ∀ (H : Heap) (locs : List Loc) (ls : Array Slot), va_P D gCl w0 H → va_D A w0 → va_S A s.heap H locs → lv_has ls 4 [(0, .int x0), (1, .int x1)] → W p l e ({ frames := 1, cells := 0, slots := 0, locals := 22 } : Room) s m args below meth c H locs 0 0 (MQ below (va_Qi (fun r (_ : Unit) => post r) (BW D gCl A (fun _ => w0)) A) args s 0 0 A) (F0 m 10 ls [.int y0]) := by
  intro H locs ls hP hD hS hl
  unfold j6_isRest_10 at hw
  refine lv_istore_n (lv' := [(2, .int y0), (0, .int x0), (1, .int x1)]) hC.x hC.b dX6_isRest_10 rfl hl (by decide) rfl (fun ls hl => ?_)
  refine lv_iload_n hC.x hC.b dX6_isRest_11 rfl (lv_at hl 2 rfl) ?_
  refine lv_iconst (v := 2) hC.x hC.b dX6_isRest_12 (by decide) ?_
  refine lv_irem hC.x hC.b dX6_isRest_13 (by decide) ?_
  refine lv_iconst (v := 1) hC.x hC.b dX6_isRest_14 (by decide) ?_
  refine lv_icmp_ne (tgt := 22) hC.x hC.b dX6_isRest_15 (by decide) (fun c2 => ?_) (fun c2 => ?_)
  · have hw1014 := hw.1 c2
    refine lv_iconst (v := 0) hC.x hC.b dX6_isRest_22 (by decide) ?_
    exact k6_isRest_23 hC hw1014 H locs ls hP hD hS (lv_sub hl [1, 0] rfl)
  · have hw1027 := hw.2 c2
    refine lv_iconst (v := 1) hC.x hC.b dX6_isRest_18 (by decide) ?_
    refine lv_goto (tgt := 23) hC.x hC.b dX6_isRest_19 (by decide) ?_
    exact k6_isRest_23 hC hw1027 H locs ls hP hD hS (lv_sub hl [1, 0] rfl)
def w6_isRest (post : Int32 → Prop) (x0 : Int32) (x1 : Int32) : Prop :=
  ((x1 ≤ 1 → (j6_isRest_10 post x0 x1 0)) ∧ (¬ x1 ≤ 1 → (j6_isRest_10 post x0 x1 1)))
set_option maxHeartbeats 4000000 in
theorem m6_isRest (l : Launch) {post : Int32 → Prop} {x0 : Int32} {x1 : Int32} (hw : w6_isRest post x0 x1) : Met l yX6_isRest (ws_ yX6_isRest cX6_isRest 4 (some .boolean)) ({ frames := 1, cells := 0, slots := 0, locals := 22 } : Room) (va_Pc [.int x0, .int x1] (PcG D gCl nwG Z Hb A w0)) (va_Qi (fun r (_ : Unit) => post r) (BW D gCl A (fun _ => w0)) A) 0 0 A := by
  refine Met.ofG (by decide) (Nat.le_of_ble_eq_true rfl) ?_
  intro p e s m below meth c ls hC _ hP hD hS hl
  have hC : CX RX6 cX6_isRest 4 (some .boolean) D gCl nwG Z Hb A p s m _ meth c := hC
  have hl : lv_has ls 4 [(0, .int x0), (1, .int x1)] := hl
  unfold w6_isRest at hw
  refine lv_iload_n hC.x hC.b dX6_isRest_0 rfl (lv_at hl 1 rfl) ?_
  refine lv_iconst (v := 1) hC.x hC.b dX6_isRest_1 (by decide) ?_
  refine lv_icmp_le (tgt := 9) hC.x hC.b dX6_isRest_2 (by decide) (fun c1 => ?_) (fun c1 => ?_)
  · have hw1013 := hw.1 c1
    refine lv_iconst (v := 0) hC.x hC.b dX6_isRest_9 (by decide) ?_
    exact k6_isRest_10 hC hw1013 s.heap [] ls hP hD hS (lv_sub hl [0, 1] rfl)
  · have hw1028 := hw.2 c1
    refine lv_iconst (v := 1) hC.x hC.b dX6_isRest_5 (by decide) ?_
    refine lv_goto (tgt := 10) hC.x hC.b dX6_isRest_6 (by decide) ?_
    exact k6_isRest_10 hC hw1028 s.heap [] ls hP hD hS (lv_sub hl [0, 1] rfl)
end MWm2
