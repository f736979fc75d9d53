set_option maxRecDepth 100000
section CWc2
variable {p : Program} {l : Launch} {e : Env} {s : State} {m : MethodId} {args : Array Value} {below : List Frame} {meth : Method} {c : Code} {D : va_G} {Z : State → Prop} {Hb : Heap} {A : Nat → Prop} {ad : Nat → Nat} {sc : Option Nat × Option Nat × (Nat → Value)} {tw : Option TD} {τ : TD} {w0 : va_W} {b0 : Nat}
theorem h1_together : yX1_together.cls = RX1 ∧ yX1_together.cls ≠ "java/lang/invoke/MethodHandle" ∧ yX1_together.cls ≠ "java/lang/invoke/VarHandle" ∧ (parseMethodDescriptor yX1_together.desc).map (fun d => d.parameters.length) = some 2 := by decide +kernel
def f1_together_33 (post : Int32 → CS → Prop) (tw : Option TD) (S : CS) (x1 : Int32) (x2 : Int32) (K33 : Int32 → Prop) (x3 : Int32) : Prop :=
  ((99 < x3 → (post (-2) S)) ∧ (¬ 99 < x3 → (w4_ear (fun r13 => (w4_ear (fun r14 => ((¬ r13 = r14 → (K33 (x3 + 1))) ∧ (r13 = r14 → (post x3 S)))) tw S 0 x2 x3 0)) tw S 0 x1 x3 0)))
set_option maxHeartbeats 4000000 in
theorem k1_together_33 {post : Int32 → CS → Prop} {S : CS} {x1 : Int32} {x2 : Int32} (hC : CX RX1 cX1_together 4 (some .int) D gCl nwG Z Hb A p s m args meth c) : ∀ z : Int32, lp (fun (K : Int32 → Prop) (z : Int32) => f1_together_33 post tw S x1 x2 K z) z → ∀ (H : Heap) (locs : List Loc) (ls : Array Slot), va_P D gCl (wC D ad sc tw S) H → va_D A (wC D ad sc tw S) → va_S A s.heap H locs → lv_has ls 4 [(0, .ref (ad 0)), (1, .int x1), (2, .int x2), (3, .int z)] → W p l e ({ frames := 122, cells := 0, slots := 0, locals := 6047 } : Room) s m args below meth c H locs 0 0 (MQ below (va_Qi post (BW D gCl A (fun u => (wC D ad sc tw u))) A) args s 0 0 A) (F0 m 33 ls []) := by
  refine lp_ind ?_
  rintro K33 x3 hK33 hw H locs ls hP hD hS hl
  have hw : f1_together_33 post tw S x1 x2 K33 x3 := hw
  unfold f1_together_33 at hw
  have hP : va_P D gCl (wC D ad sc tw S) H := hP
  have hD : va_D A (wC D ad sc tw S) := hD
  have hl : lv_has ls 4 [(0, .ref (ad 0)), (1, .int x1), (2, .int x2), (3, .int x3)] := hl
  refine lv_iload_n hC.x hC.b dX1_together_33 rfl (lv_at hl 3 rfl) ?_
  refine lv_bipush (v := 99) hC.x hC.b dX1_together_34 (by decide) ?_
  refine lv_icmp_gt (tgt := 70) hC.x hC.b dX1_together_36 (by decide) (fun c12 => ?_) (fun c12 => ?_)
  · have hw314 := hw.1 c12
    refine lv_bipush (v := (-2)) hC.x hC.b dX1_together_70 (by decide) ?_
    exact rt_i hC hw314 hP hD hS dX1_together_72
  · have hw315 := hw.2 c12
    refine lv_aload_n hC.x hC.b dX1_together_39 rfl (lv_at hl 0 rfl) ?_
    refine gO_9 hC hP dX1_together_40 ?_
    refine lv_iload_n hC.x hC.b dX1_together_43 rfl (lv_at hl 1 rfl) ?_
    refine lv_iload_n hC.x hC.b dX1_together_44 rfl (lv_at hl 3 rfl) ?_
    refine lv_iconst (v := 0) hC.x hC.b dX1_together_45 (by decide) ?_
    refine go_i (run_V (rest := []) hC (m4_ear l (by decide) hw315) v1_4_ear h4_ear (17 + 4 * 0) 3 gCl_X4 (wC_so (by decide)) rfl ⟨rfl, rfl, Nat.le_of_ble_eq_true rfl, Nat.le_of_ble_eq_true rfl⟩ ⟨Nat.le_refl _, Nat.le_refl _⟩ hP hD hS hl.1 (Nat.le_of_ble_eq_true rfl) dX1_together_46 rfl) hS (fun r13 u H locs hw316 hP hD hS => ?_)
    refine lv_aload_n hC.x hC.b dX1_together_49 rfl (lv_at hl 0 rfl) ?_
    refine gO_9 hC hP dX1_together_50 ?_
    refine lv_iload_n hC.x hC.b dX1_together_53 rfl (lv_at hl 2 rfl) ?_
    refine lv_iload_n hC.x hC.b dX1_together_54 rfl (lv_at hl 3 rfl) ?_
    refine lv_iconst (v := 0) hC.x hC.b dX1_together_55 (by decide) ?_
    refine go_i (run_V (rest := [.int r13]) hC (m4_ear l (by decide) hw316) v1_4_ear h4_ear (17 + 4 * 0) 3 gCl_X4 (wC_so (by decide)) rfl ⟨rfl, rfl, Nat.le_of_ble_eq_true rfl, Nat.le_of_ble_eq_true rfl⟩ ⟨Nat.le_refl _, Nat.le_refl _⟩ hP hD hS hl.1 (Nat.le_of_ble_eq_true rfl) dX1_together_56 rfl) hS (fun r14 u H locs hw317 hP hD hS => ?_)
    refine lv_icmp_ne (tgt := 64) hC.x hC.b dX1_together_59 (by decide) (fun c15 => ?_) (fun c15 => ?_)
    · have hw318 := hw317.1 c15
      refine lv_iinc (v := (x3 + 1)) (lv' := [(3, .int (x3 + 1)), (0, .ref (ad 0)), (1, .int x1), (2, .int x2)]) hC.x hC.b dX1_together_64 hl (k := 3) rfl rfl (by decide) rfl (fun ls hl => ?_)
      refine lv_goto (tgt := 33) hC.x hC.b dX1_together_67 (by decide) ?_
      exact hK33 (x3 + 1) hw318 H locs ls hP hD hS (lv_sub hl [1, 2, 3, 0] rfl)
    · have hw319 := hw317.2 c15
      refine lv_iload_n hC.x hC.b dX1_together_62 rfl (lv_at hl 3 rfl) ?_
      exact rt_i hC hw319 hP hD hS dX1_together_63
def w1_together (post : Int32 → CS → Prop) (tw : Option TD) (S : CS) (x1 : Int32) (x2 : Int32) : Prop :=
  (w1_anew (fun S2 => (w1_isDead (fun r3 => ((r3 = 0 → (w1_no (fun r5 S6 => (post r5 S6)) S2 1)) ∧ (¬ r3 = 0 → (w1_isDead (fun r7 => ((r7 = 0 → (w1_no (fun r9 S10 => (post r9 S10)) S2 1)) ∧ (¬ r7 = 0 → ((¬ x1 = x2 → (lp (fun (K : Int32 → Prop) (z : Int32) => f1_together_33 post tw S2 x1 x2 K z) 0)) ∧ (x1 = x2 → (w1_no (fun r16 S17 => (post r16 S17)) S2 1)))))) tw S2 x2)))) tw S2 x1)) S)
set_option maxHeartbeats 4000000 in
theorem m1_together (l : Launch) {post : Int32 → CS → Prop} {S : CS} {x1 : Int32} {x2 : Int32} (hw : w1_together post tw S x1 x2) : Met l yX1_together (ws_ yX1_together cX1_together 4 (some .int)) ({ frames := 122, cells := 0, slots := 0, locals := 6047 } : Room) (va_Pc [.ref (ad 0), .int x1, .int x2] (PcG D gCl nwG Z Hb A (wC D ad sc tw S))) (va_Qi post (BW D gCl A (fun u => (wC D ad sc tw u))) A) 0 0 A := by
  refine Met.ofG (by decide) (Nat.le_of_ble_eq_true rfl) ?_
  intro p e s m below meth c ls hC _ hP hD hS hl
  have hC : CX RX1 cX1_together 4 (some .int) D gCl nwG Z Hb A p s m _ meth c := hC
  have hl : lv_has ls 4 [(0, .ref (ad 0)), (1, .int x1), (2, .int x2)] := hl
  unfold w1_together at hw
  refine lv_aload_n hC.x hC.b dX1_together_0 rfl (lv_at hl 0 rfl) ?_
  refine go_v (run_V (rest := []) hC (m1_anew l hw) v1_1_anew h1_anew 0 0 gCl_X1 rfl rfl ⟨rfl, rfl, Nat.le_of_ble_eq_true rfl, Nat.le_of_ble_eq_true rfl⟩ ⟨Nat.le_refl _, Nat.le_refl _⟩ hP hD hS hl.1 (Nat.le_of_ble_eq_true rfl) dX1_together_1 rfl) hS (fun S2 H locs hw304 hP hD hS => ?_)
  refine lv_aload_n hC.x hC.b dX1_together_4 rfl (lv_at hl 0 rfl) ?_
  refine lv_iload_n hC.x hC.b dX1_together_5 rfl (lv_at hl 1 rfl) ?_
  refine go_i (run_V (rest := []) hC (m1_isDead l hw304) v1_1_isDead h1_isDead 0 0 gCl_X1 rfl rfl ⟨rfl, rfl, Nat.le_of_ble_eq_true rfl, Nat.le_of_ble_eq_true rfl⟩ ⟨Nat.le_refl _, Nat.le_refl _⟩ hP hD hS hl.1 (Nat.le_of_ble_eq_true rfl) dX1_together_6 rfl) hS (fun r3 u H locs hw305 hP hD hS => ?_)
  refine lv_if_eq (tgt := 25) hC.x hC.b dX1_together_9 (by decide) (fun c4 => ?_) (fun c4 => ?_)
  · have hw306 := hw305.1 c4
    refine lv_aload_n hC.x hC.b dX1_together_25 rfl (lv_at hl 0 rfl) ?_
    refine lv_iconst (v := 1) hC.x hC.b dX1_together_26 (by decide) ?_
    refine go_i (run_V (rest := []) hC (m1_no l hw306) v1_1_no h1_no 0 0 gCl_X1 rfl rfl ⟨rfl, rfl, Nat.le_of_ble_eq_true rfl, Nat.le_of_ble_eq_true rfl⟩ ⟨Nat.le_refl _, Nat.le_refl _⟩ hP hD hS hl.1 (Nat.le_of_ble_eq_true rfl) dX1_together_27 rfl) hS (fun r5 S6 H locs hw307 hP hD hS => ?_)
    exact rt_i hC hw307 hP hD hS dX1_together_30
  · have hw308 := hw305.2 c4
    refine lv_aload_n hC.x hC.b dX1_together_12 rfl (lv_at hl 0 rfl) ?_
    refine lv_iload_n hC.x hC.b dX1_together_13 rfl (lv_at hl 2 rfl) ?_
    refine go_i (run_V (rest := []) hC (m1_isDead l hw308) v1_1_isDead h1_isDead 0 0 gCl_X1 rfl rfl ⟨rfl, rfl, Nat.le_of_ble_eq_true rfl, Nat.le_of_ble_eq_true rfl⟩ ⟨Nat.le_refl _, Nat.le_refl _⟩ hP hD hS hl.1 (Nat.le_of_ble_eq_true rfl) dX1_together_14 rfl) hS (fun r7 u H locs hw309 hP hD hS => ?_)
    refine lv_if_eq (tgt := 25) hC.x hC.b dX1_together_17 (by decide) (fun c8 => ?_) (fun c8 => ?_)
    · have hw310 := hw309.1 c8
      refine lv_aload_n hC.x hC.b dX1_together_25 rfl (lv_at hl 0 rfl) ?_
      refine lv_iconst (v := 1) hC.x hC.b dX1_together_26 (by decide) ?_
      refine go_i (run_V (rest := []) hC (m1_no l hw310) v1_1_no h1_no 0 0 gCl_X1 rfl rfl ⟨rfl, rfl, Nat.le_of_ble_eq_true rfl, Nat.le_of_ble_eq_true rfl⟩ ⟨Nat.le_refl _, Nat.le_refl _⟩ hP hD hS hl.1 (Nat.le_of_ble_eq_true rfl) dX1_together_27 rfl) hS (fun r9 S10 H locs hw311 hP hD hS => ?_)
      exact rt_i hC hw311 hP hD hS dX1_together_30
    · have hw312 := hw309.2 c8
      refine lv_iload_n hC.x hC.b dX1_together_20 rfl (lv_at hl 1 rfl) ?_
      refine lv_iload_n hC.x hC.b dX1_together_21 rfl (lv_at hl 2 rfl) ?_
      refine lv_icmp_ne (tgt := 31) hC.x hC.b dX1_together_22 (by decide) (fun c11 => ?_) (fun c11 => ?_)
      · have hw313 := hw312.1 c11
        refine lv_iconst (v := 0) hC.x hC.b dX1_together_31 (by decide) ?_
        refine lv_istore_n (lv' := [(3, .int 0), (0, .ref (ad 0)), (1, .int x1), (2, .int x2)]) hC.x hC.b dX1_together_32 rfl hl (by decide) rfl (fun ls hl => ?_)
        exact k1_together_33 hC 0 hw313 H locs ls hP hD hS (lv_sub hl [1, 2, 3, 0] rfl)
      · have hw320 := hw312.2 c11
        refine lv_aload_n hC.x hC.b dX1_together_25 rfl (lv_at hl 0 rfl) ?_
        refine lv_iconst (v := 1) hC.x hC.b dX1_together_26 (by decide) ?_
        refine go_i (run_V (rest := []) hC (m1_no l hw320) v1_1_no h1_no 0 0 gCl_X1 rfl rfl ⟨rfl, rfl, Nat.le_of_ble_eq_true rfl, Nat.le_of_ble_eq_true rfl⟩ ⟨Nat.le_refl _, Nat.le_refl _⟩ hP hD hS hl.1 (Nat.le_of_ble_eq_true rfl) dX1_together_27 rfl) hS (fun r16 S17 H locs hw321 hP hD hS => ?_)
        exact rt_i hC hw321 hP hD hS dX1_together_30
theorem v1_4_from : GoodIn lw_all (wsV RX1 208 RX4 yX4_from (ws_ yX4_from cX4_from 3 (some .int))) := lw_V q1075 q934 q935 q124 q936
theorem h1_isAim : yX1_isAim.cls = RX1 ∧ yX1_isAim.cls ≠ "java/lang/invoke/MethodHandle" ∧ yX1_isAim.cls ≠ "java/lang/invoke/VarHandle" ∧ (parseMethodDescriptor yX1_isAim.desc).map (fun d => d.parameters.length) = some 4 := by decide +kernel
def w1_isAim (post : Int32 → Prop) (tw : Option TD) (S : CS) (x1 : Int32) (x2 : Int32) (x3 : Int32) (x4 : Int32) : Prop :=
  (w4_out (fun r1 => (w4_from (fun r2 => ((¬ r2 = x3 → (post 0)) ∧ (r2 = x3 → (post 1)))) tw S 0 r1)) tw S 0 x1 x2 x4)
set_option maxHeartbeats 4000000 in
theorem m1_isAim (l : Launch) {post : Int32 → Prop} {S : CS} {x1 : Int32} {x2 : Int32} {x3 : Int32} {x4 : Int32} (hw : w1_isAim post tw S x1 x2 x3 x4) : Met l yX1_isAim (ws_ yX1_isAim cX1_isAim 5 (some .boolean)) ({ frames := 121, cells := 0, slots := 0, locals := 6024 } : Room) (va_Pc [.ref (ad 0), .int x1, .int x2, .int x3, .int x4] (PcG D gCl nwG Z Hb A (wC D ad sc tw S))) (va_Qi (fun r (_ : Unit) => post r) (BW D gCl A (fun _ => (wC D ad sc tw S))) A) 0 0 A := by
  refine Met.ofG (by decide) (Nat.le_of_ble_eq_true rfl) ?_
  intro p e s m below meth c ls hC _ hP hD hS hl
  have hC : CX RX1 cX1_isAim 5 (some .boolean) D gCl nwG Z Hb A p s m _ meth c := hC
  have hl : lv_has ls 5 [(0, .ref (ad 0)), (1, .int x1), (2, .int x2), (3, .int x3), (4, .int x4)] := hl
  unfold w1_isAim at hw
  refine lv_aload_n hC.x hC.b dX1_isAim_0 rfl (lv_at hl 0 rfl) ?_
  refine gO_9 hC hP dX1_isAim_1 ?_
  refine lv_aload_n hC.x hC.b dX1_isAim_4 rfl (lv_at hl 0 rfl) ?_
  refine gO_9 hC hP dX1_isAim_5 ?_
  refine lv_iload_n hC.x hC.b dX1_isAim_8 rfl (lv_at hl 1 rfl) ?_
  refine lv_iload_n hC.x hC.b dX1_isAim_9 rfl (lv_at hl 2 rfl) ?_
  refine lv_iload hC.x hC.b dX1_isAim_10 (lv_at hl 4 rfl) ?_
  refine go_i (run_V (rest := [.ref (ad (20 + 4 * 0))]) hC (m4_out l (by decide) hw) v1_4_out h4_out (17 + 4 * 0) 3 gCl_X4 (wC_so (by decide)) rfl ⟨rfl, rfl, Nat.le_of_ble_eq_true rfl, Nat.le_of_ble_eq_true rfl⟩ ⟨Nat.le_refl _, Nat.le_refl _⟩ hP hD hS hl.1 (Nat.le_of_ble_eq_true rfl) dX1_isAim_12 rfl) hS (fun r1 u H locs hw322 hP hD hS => ?_)
  refine go_i (run_V (rest := []) hC (m4_from l (by decide) hw322) v1_4_from h4_from (17 + 4 * 0) 3 gCl_X4 (wC_so (by decide)) rfl ⟨rfl, rfl, Nat.le_of_ble_eq_true rfl, Nat.le_of_ble_eq_true rfl⟩ ⟨Nat.le_refl _, Nat.le_refl _⟩ hP hD hS hl.1 (Nat.le_of_ble_eq_true rfl) dX1_isAim_15 rfl) hS (fun r2 u H locs hw323 hP hD hS => ?_)
  refine lv_iload_n hC.x hC.b dX1_isAim_18 rfl (lv_at hl 3 rfl) ?_
  refine lv_icmp_ne (tgt := 26) hC.x hC.b dX1_isAim_19 (by decide) (fun c3 => ?_) (fun c3 => ?_)
  · have hw324 := hw323.1 c3
    refine lv_iconst (v := 0) hC.x hC.b dX1_isAim_26 (by decide) ?_
    exact rt_z (u := ()) hC (Or.inl rfl) hw324 hP hD hS dX1_isAim_27
  · have hw325 := hw323.2 c3
    refine lv_iconst (v := 1) hC.x hC.b dX1_isAim_22 (by decide) ?_
    refine lv_goto (tgt := 27) hC.x hC.b dX1_isAim_23 (by decide) ?_
    exact rt_z (u := ()) hC (Or.inr rfl) hw325 hP hD hS dX1_isAim_27
theorem v1_1_isAim : GoodIn lw_all (wsV RX1 211 RX1 yX1_isAim (ws_ yX1_isAim cX1_isAim 5 (some .boolean))) := lw_V q1071 q1073 qs30 q118 q1074
theorem h1_aimFor : yX1_aimFor.cls = RX1 ∧ yX1_aimFor.cls ≠ "java/lang/invoke/MethodHandle" ∧ yX1_aimFor.cls ≠ "java/lang/invoke/VarHandle" ∧ (parseMethodDescriptor yX1_aimFor.desc).map (fun d => d.parameters.length) = some 3 := by decide +kernel
def f1_aimFor_47 (post : Int32 → CS → Prop) (tw : Option TD) (S : CS) (x1 : Int32) (x2 : Int32) (x3 : Int32) (K47 : Int32 → Prop) (x5 : Int32) : Prop :=
  (w1_isAim (fun r7 => ((¬ r7 = 0 → (post x5 S)) ∧ (r7 = 0 → (K47 (x5 + 1))))) tw S x1 x5 x2 x3)
set_option maxHeartbeats 4000000 in
theorem k1_aimFor_47 {post : Int32 → CS → Prop} {S : CS} {x1 : Int32} {x2 : Int32} {x3 : Int32} (hC : CX RX1 cX1_aimFor 6 (some .int) D gCl nwG Z Hb A p s m args meth c) : ∀ z : Int32, lp (fun (K : Int32 → Prop) (z : Int32) => f1_aimFor_47 post tw S x1 x2 x3 K z) z → ∀ (H : Heap) (locs : List Loc) (ls : Array Slot), va_P D gCl (wC D ad sc tw S) H → va_D A (wC D ad sc tw S) → va_S A s.heap H locs → lv_has ls 6 [(0, .ref (ad 0)), (1, .int x1), (2, .int x2), (3, .int x3), (5, .int z)] → W p l e ({ frames := 122, cells := 0, slots := 0, locals := 6048 } : Room) s m args below meth c H locs 0 0 (MQ below (va_Qi post (BW D gCl A (fun u => (wC D ad sc tw u))) A) args s 0 0 A) (F0 m 47 ls []) := by
  refine lp_ind ?_
  rintro K47 x5 hK47 hw H locs ls hP hD hS hl
  have hw : f1_aimFor_47 post tw S x1 x2 x3 K47 x5 := hw
  unfold f1_aimFor_47 at hw
  have hP : va_P D gCl (wC D ad sc tw S) H := hP
  have hD : va_D A (wC D ad sc tw S) := hD
  have hl : lv_has ls 6 [(0, .ref (ad 0)), (1, .int x1), (2, .int x2), (3, .int x3), (5, .int x5)] := hl
  refine lv_aload_n hC.x hC.b dX1_aimFor_47 rfl (lv_at hl 0 rfl) ?_
  refine lv_iload_n hC.x hC.b dX1_aimFor_48 rfl (lv_at hl 1 rfl) ?_
  refine lv_iload hC.x hC.b dX1_aimFor_49 (lv_at hl 4 rfl) ?_
  refine lv_iload_n hC.x hC.b dX1_aimFor_51 rfl (lv_at hl 2 rfl) ?_
  refine lv_iload_n hC.x hC.b dX1_aimFor_52 rfl (lv_at hl 3 rfl) ?_
  refine go_i (run_V (rest := []) hC (m1_isAim l hw) v1_1_isAim h1_isAim 0 0 gCl_X1 rfl rfl ⟨rfl, rfl, Nat.le_of_ble_eq_true rfl, Nat.le_of_ble_eq_true rfl⟩ ⟨Nat.le_refl _, Nat.le_refl _⟩ hP hD hS hl.1 (Nat.le_of_ble_eq_true rfl) dX1_aimFor_53 rfl) hS (fun r7 u H locs hw331 hP hD hS => ?_)
  refine lv_if_ne (tgt := 65) hC.x hC.b dX1_aimFor_56 (by decide) (fun c8 => ?_) (fun c8 => ?_)
  · have hw332 := hw331.1 c8
    refine lv_iload hC.x hC.b dX1_aimFor_65 (lv_at hl 4 rfl) ?_
    exact rt_i hC hw332 hP hD hS dX1_aimFor_67
  · have hw333 := hw331.2 c8
    refine lv_iinc (v := (x5 + 1)) (lv' := [(5, .int (x5 + 1)), (0, .ref (ad 0)), (1, .int x1), (2, .int x2), (3, .int x3)]) hC.x hC.b dX1_aimFor_59 hl (k := 4) rfl rfl (by decide) rfl (fun ls hl => ?_)
    refine lv_goto (tgt := 47) hC.x hC.b dX1_aimFor_62 (by decide) ?_
    exact hK47 (x5 + 1) hw333 H locs ls hP hD hS (lv_sub hl [1, 2, 3, 4, 0] rfl)
def j1_aimFor_26 (post : Int32 → CS → Prop) (tw : Option TD) (S : CS) (x1 : Int32) (x2 : Int32) (x3 : Int32) (y1 : Int32) : Prop :=
  (w1_nightWhy (fun r5 => ((r5 = 0 → (lp (fun (K : Int32 → Prop) (z : Int32) => f1_aimFor_47 post tw S x1 x2 x3 K z) 0)) ∧ (¬ r5 = 0 → (w1_no (fun r9 S10 => (post r9 S10)) S r5)))) S y1 x3)
set_option maxHeartbeats 4000000 in
theorem k1_aimFor_26 {post : Int32 → CS → Prop} {S : CS} {x1 : Int32} {x2 : Int32} {x3 : Int32} {y1 : Int32} (hC : CX RX1 cX1_aimFor 6 (some .int) D gCl nwG Z Hb A p s m args meth c) (hw : j1_aimFor_26 post tw S x1 x2 x3 y1) : ∀ (H : Heap) (locs : List Loc) (ls : Array Slot), va_P D gCl (wC D ad sc tw S) H → va_D A (wC D ad sc tw S) → va_S A s.heap H locs → lv_has ls 6 [(0, .ref (ad 0)), (1, .int x1), (2, .int x2), (3, .int x3)] → W p l e ({ frames := 122, cells := 0, slots := 0, locals := 6048 } : Room) s m args below meth c H locs 0 0 (MQ below (va_Qi post (BW D gCl A (fun u => (wC D ad sc tw u))) A) args s 0 0 A) (F0 m 26 ls [.int y1, .ref (ad 0)]) := by
  intro H locs ls hP hD hS hl
  unfold j1_aimFor_26 at hw
  refine lv_iload_n hC.x hC.b dX1_aimFor_26 rfl (lv_at hl 3 rfl) ?_
  refine go_i (run_V (rest := []) hC (m1_nightWhy l hw) v1_1_nightWhy h1_nightWhy 0 0 gCl_X1 rfl rfl ⟨rfl, rfl, Nat.le_of_ble_eq_true rfl, Nat.le_of_ble_eq_true rfl⟩ ⟨Nat.le_refl _, Nat.le_refl _⟩ hP hD hS hl.1 (Nat.le_of_ble_eq_true rfl) dX1_aimFor_27 rfl) hS (fun r5 u H locs hw329 hP hD hS => ?_)
  refine lv_istore (lv' := [(4, .int r5), (0, .ref (ad 0)), (1, .int x1), (2, .int x2), (3, .int x3)]) hC.x hC.b dX1_aimFor_30 hl (by decide) rfl (fun ls hl => ?_)
  refine lv_iload hC.x hC.b dX1_aimFor_32 (lv_at hl 0 rfl) ?_
  refine lv_if_eq (tgt := 44) hC.x hC.b dX1_aimFor_34 (by decide) (fun c6 => ?_) (fun c6 => ?_)
  · have hw330 := hw329.1 c6
    refine lv_iconst (v := 0) hC.x hC.b dX1_aimFor_44 (by decide) ?_
    refine lv_istore (lv' := [(5, .int 0), (4, .int r5), (0, .ref (ad 0)), (1, .int x1), (2, .int x2), (3, .int x3)]) hC.x hC.b dX1_aimFor_45 hl (by decide) rfl (fun ls hl => ?_)
    exact k1_aimFor_47 hC 0 hw330 H locs ls hP hD hS (lv_sub hl [2, 3, 4, 5, 0] rfl)
  · have hw334 := hw329.2 c6
    refine lv_aload_n hC.x hC.b dX1_aimFor_37 rfl (lv_at hl 1 rfl) ?_
    refine lv_iload hC.x hC.b dX1_aimFor_38 (lv_at hl 0 rfl) ?_
    refine go_i (run_V (rest := []) hC (m1_no l hw334) v1_1_no h1_no 0 0 gCl_X1 rfl rfl ⟨rfl, rfl, Nat.le_of_ble_eq_true rfl, Nat.le_of_ble_eq_true rfl⟩ ⟨Nat.le_refl _, Nat.le_refl _⟩ hP hD hS hl.1 (Nat.le_of_ble_eq_true rfl) dX1_aimFor_40 rfl) hS (fun r9 S10 H locs hw335 hP hD hS => ?_)
    exact rt_i hC hw335 hP hD hS dX1_aimFor_43
def j1_aimFor_25 (post : Int32 → CS → Prop) (tw : Option TD) (S : CS) (x1 : Int32) (x2 : Int32) (x3 : Int32) : Prop :=
  (j1_aimFor_26 post tw S x1 x2 x3 0)
set_option maxHeartbeats 4000000 in
theorem k1_aimFor_25 {post : Int32 → CS → Prop} {S : CS} {x1 : Int32} {x2 : Int32} {x3 : Int32} (hC : CX RX1 cX1_aimFor 6 (some .int) D gCl nwG Z Hb A p s m args meth c) (hw : j1_aimFor_25 post tw S x1 x2 x3) : ∀ (H : Heap) (locs : List Loc) (ls : Array Slot), va_P D gCl (wC D ad sc tw S) H → va_D A (wC D ad sc tw S) → va_S A s.heap H locs → lv_has ls 6 [(0, .ref (ad 0)), (1, .int x1), (2, .int x2), (3, .int x3)] → W p l e ({ frames := 122, cells := 0, slots := 0, locals := 6048 } : Room) s m args below meth c H locs 0 0 (MQ below (va_Qi post (BW D gCl A (fun u => (wC D ad sc tw u))) A) args s 0 0 A) (F0 m 25 ls [.ref (ad 0)]) := by
  intro H locs ls hP hD hS hl
  unfold j1_aimFor_25 at hw
  refine lv_iconst (v := 0) hC.x hC.b dX1_aimFor_25 (by decide) ?_
  exact k1_aimFor_26 hC hw H locs ls hP hD hS (lv_sub hl [0, 1, 2, 3] rfl)
def w1_aimFor (post : Int32 → CS → Prop) (tw : Option TD) (S : CS) (x1 : Int32) (x2 : Int32) (x3 : Int32) : Prop :=
  (w1_anew (fun S2 => (w1_isDead (fun r3 => ((r3 = 0 → (j1_aimFor_25 post tw S2 x1 x2 x3)) ∧ (¬ r3 = 0 → (w1_isPerson (fun r11 => ((r11 = 0 → (j1_aimFor_25 post tw S2 x1 x2 x3)) ∧ (¬ r11 = 0 → (j1_aimFor_26 post tw S2 x1 x2 x3 1)))) tw S2 x2)))) tw S2 x1)) S)
set_option maxHeartbeats 4000000 in
theorem m1_aimFor (l : Launch) {post : Int32 → CS → Prop} {S : CS} {x1 : Int32} {x2 : Int32} {x3 : Int32} (hw : w1_aimFor post tw S x1 x2 x3) : Met l yX1_aimFor (ws_ yX1_aimFor cX1_aimFor 6 (some .int)) ({ frames := 122, cells := 0, slots := 0, locals := 6048 } : Room) (va_Pc [.ref (ad 0), .int x1, .int x2, .int x3] (PcG D gCl nwG Z Hb A (wC D ad sc tw S))) (va_Qi post (BW D gCl A (fun u => (wC D ad sc tw u))) A) 0 0 A := by
  refine Met.ofG (by decide) (Nat.le_of_ble_eq_true rfl) ?_
  intro p e s m below meth c ls hC _ hP hD hS hl
  have hC : CX RX1 cX1_aimFor 6 (some .int) D gCl nwG Z Hb A p s m _ meth c := hC
  have hl : lv_has ls 6 [(0, .ref (ad 0)), (1, .int x1), (2, .int x2), (3, .int x3)] := hl
  unfold w1_aimFor at hw
  refine lv_aload_n hC.x hC.b dX1_aimFor_0 rfl (lv_at hl 0 rfl) ?_
  refine go_v (run_V (rest := []) hC (m1_anew l hw) v1_1_anew h1_anew 0 0 gCl_X1 rfl rfl ⟨rfl, rfl, Nat.le_of_ble_eq_true rfl, Nat.le_of_ble_eq_true rfl⟩ ⟨Nat.le_refl _, Nat.le_refl _⟩ hP hD hS hl.1 (Nat.le_of_ble_eq_true rfl) dX1_aimFor_1 rfl) hS (fun S2 H locs hw326 hP hD hS => ?_)
  refine lv_aload_n hC.x hC.b dX1_aimFor_4 rfl (lv_at hl 0 rfl) ?_
  refine lv_aload_n hC.x hC.b dX1_aimFor_5 rfl (lv_at hl 0 rfl) ?_
  refine lv_iload_n hC.x hC.b dX1_aimFor_6 rfl (lv_at hl 1 rfl) ?_
  refine go_i (run_V (rest := [.ref (ad 0)]) hC (m1_isDead l hw326) v1_1_isDead h1_isDead 0 0 gCl_X1 rfl rfl ⟨rfl, rfl, Nat.le_of_ble_eq_true rfl, Nat.le_of_ble_eq_true rfl⟩ ⟨Nat.le_refl _, Nat.le_refl _⟩ hP hD hS hl.1 (Nat.le_of_ble_eq_true rfl) dX1_aimFor_7 rfl) hS (fun r3 u H locs hw327 hP hD hS => ?_)
  refine lv_if_eq (tgt := 25) hC.x hC.b dX1_aimFor_10 (by decide) (fun c4 => ?_) (fun c4 => ?_)
  · have hw328 := hw327.1 c4
    exact k1_aimFor_25 hC hw328 H locs ls hP hD hS (lv_sub hl [0, 1, 2, 3] rfl)
  · have hw336 := hw327.2 c4
    refine lv_aload_n hC.x hC.b dX1_aimFor_13 rfl (lv_at hl 0 rfl) ?_
    refine lv_iload_n hC.x hC.b dX1_aimFor_14 rfl (lv_at hl 2 rfl) ?_
    refine go_i (run_V (rest := [.ref (ad 0)]) hC (m1_isPerson l hw336) v1_1_isPerson h1_isPerson 0 0 gCl_X1 rfl rfl ⟨rfl, rfl, Nat.le_of_ble_eq_true rfl, Nat.le_of_ble_eq_true rfl⟩ ⟨Nat.le_refl _, Nat.le_refl _⟩ hP hD hS hl.1 (Nat.le_of_ble_eq_true rfl) dX1_aimFor_15 rfl) hS (fun r11 u H locs hw337 hP hD hS => ?_)
    refine lv_if_eq (tgt := 25) hC.x hC.b dX1_aimFor_18 (by decide) (fun c12 => ?_) (fun c12 => ?_)
    · have hw338 := hw337.1 c12
      exact k1_aimFor_25 hC hw338 H locs ls hP hD hS (lv_sub hl [0, 1, 2, 3] rfl)
    · have hw339 := hw337.2 c12
      refine lv_iconst (v := 1) hC.x hC.b dX1_aimFor_21 (by decide) ?_
      refine lv_goto (tgt := 26) hC.x hC.b dX1_aimFor_22 (by decide) ?_
      exact k1_aimFor_26 hC hw339 H locs ls hP hD hS (lv_sub hl [0, 1, 2, 3] rfl)
theorem h1_aims : yX1_aims.cls = RX1 ∧ yX1_aims.cls ≠ "java/lang/invoke/MethodHandle" ∧ yX1_aims.cls ≠ "java/lang/invoke/VarHandle" ∧ (parseMethodDescriptor yX1_aims.desc).map (fun d => d.parameters.length) = some 3 := by decide +kernel
def f1_aims_50 (post : Int32 → CS → Prop) (tw : Option TD) (S : CS) (x1 : Int32) (x2 : Int32) (x3 : Int32) (K50 : (Int32 × Int32) → Prop) (x5 : Int32) (x6 : Int32) : Prop :=
  ((∃ τ, tw = some τ) ∧ (((S.1.1 50 6) ≤ x6 → (post x5 S)) ∧ (¬ (S.1.1 50 6) ≤ x6 → (w1_isAim (fun r8 => ((r8 = 0 → (K50 ((x5 + 0), (x6 + 1)))) ∧ (¬ r8 = 0 → (K50 ((x5 + 1), (x6 + 1)))))) tw S x1 x6 x2 x3))))
set_option maxHeartbeats 4000000 in
theorem k1_aims_50 {post : Int32 → CS → Prop} {S : CS} {x1 : Int32} {x2 : Int32} {x3 : Int32} (hC : CX RX1 cX1_aims 7 (some .int) D gCl nwG Z Hb A p s m args meth c) : ∀ z : (Int32 × Int32), lp (fun (K : (Int32 × Int32) → Prop) (z : (Int32 × Int32)) => f1_aims_50 post tw S x1 x2 x3 K z.1 z.2) z → ∀ (H : Heap) (locs : List Loc) (ls : Array Slot), va_P D gCl (wC D ad sc tw S) H → va_D A (wC D ad sc tw S) → va_S A s.heap H locs → lv_has ls 7 [(0, .ref (ad 0)), (1, .int x1), (2, .int x2), (3, .int x3), (5, .int z.1), (6, .int z.2)] → W p l e ({ frames := 122, cells := 0, slots := 0, locals := 6048 } : Room) s m args below meth c H locs 0 0 (MQ below (va_Qi post (BW D gCl A (fun u => (wC D ad sc tw u))) A) args s 0 0 A) (F0 m 50 ls []) := by
  refine lp_ind ?_
  rintro K50 ⟨x5, x6⟩ hK50 hw H locs ls hP hD hS hl
  have hw : f1_aims_50 post tw S x1 x2 x3 K50 x5 x6 := hw
  unfold f1_aims_50 at hw
  have hP : va_P D gCl (wC D ad sc tw S) H := hP
  have hD : va_D A (wC D ad sc tw S) := hD
  have hl : lv_has ls 7 [(0, .ref (ad 0)), (1, .int x1), (2, .int x2), (3, .int x3), (5, .int x5), (6, .int x6)] := hl
  refine lv_iload hC.x hC.b dX1_aims_50 (lv_at hl 5 rfl) ?_
  refine lv_aload_n hC.x hC.b dX1_aims_52 rfl (lv_at hl 0 rfl) ?_
  refine gO_3 hC hP dX1_aims_53 ?_
  obtain ⟨⟨τ, rfl⟩, hw345⟩ := hw
  refine gX1T_6 hC hP dX1_aims_56 ?_
  refine lv_icmp_ge (tgt := 90) hC.x hC.b dX1_aims_59 (by decide) (fun c7 => ?_) (fun c7 => ?_)
  · have hw346 := hw345.1 c7
    refine lv_iload hC.x hC.b dX1_aims_90 (lv_at hl 4 rfl) ?_
    exact rt_i hC hw346 hP hD hS dX1_aims_92
  · have hw347 := hw345.2 c7
    refine lv_iload hC.x hC.b dX1_aims_62 (lv_at hl 4 rfl) ?_
    refine lv_aload_n hC.x hC.b dX1_aims_64 rfl (lv_at hl 0 rfl) ?_
    refine lv_iload_n hC.x hC.b dX1_aims_65 rfl (lv_at hl 1 rfl) ?_
    refine lv_iload hC.x hC.b dX1_aims_66 (lv_at hl 5 rfl) ?_
    refine lv_iload_n hC.x hC.b dX1_aims_68 rfl (lv_at hl 2 rfl) ?_
    refine lv_iload_n hC.x hC.b dX1_aims_69 rfl (lv_at hl 3 rfl) ?_
    refine go_i (run_V (rest := [.int x5]) hC (m1_isAim l hw347) v1_1_isAim h1_isAim 0 0 gCl_X1 rfl rfl ⟨rfl, rfl, Nat.le_of_ble_eq_true rfl, Nat.le_of_ble_eq_true rfl⟩ ⟨Nat.le_refl _, Nat.le_refl _⟩ hP hD hS hl.1 (Nat.le_of_ble_eq_true rfl) dX1_aims_70 rfl) hS (fun r8 u H locs hw348 hP hD hS => ?_)
    refine lv_if_eq (tgt := 80) hC.x hC.b dX1_aims_73 (by decide) (fun c9 => ?_) (fun c9 => ?_)
    · have hw349 := hw348.1 c9
      refine lv_iconst (v := 0) hC.x hC.b dX1_aims_80 (by decide) ?_
      refine lv_iadd hC.x hC.b dX1_aims_81 ?_
      refine lv_istore (lv' := [(5, .int (x5 + 0)), (0, .ref (ad 0)), (1, .int x1), (2, .int x2), (3, .int x3), (6, .int x6)]) hC.x hC.b dX1_aims_82 hl (by decide) rfl (fun ls hl => ?_)
      refine lv_iinc (v := (x6 + 1)) (lv' := [(6, .int (x6 + 1)), (5, .int (x5 + 0)), (0, .ref (ad 0)), (1, .int x1), (2, .int x2), (3, .int x3)]) hC.x hC.b dX1_aims_84 hl (k := 5) rfl rfl (by decide) rfl (fun ls hl => ?_)
      refine lv_goto (tgt := 50) hC.x hC.b dX1_aims_87 (by decide) ?_
      exact hK50 ((x5 + 0), (x6 + 1)) hw349 H locs ls hP hD hS (lv_sub hl [2, 3, 4, 5, 1, 0] rfl)
    · have hw350 := hw348.2 c9
      refine lv_iconst (v := 1) hC.x hC.b dX1_aims_76 (by decide) ?_
      refine lv_goto (tgt := 81) hC.x hC.b dX1_aims_77 (by decide) ?_
      refine lv_iadd hC.x hC.b dX1_aims_81 ?_
      refine lv_istore (lv' := [(5, .int (x5 + 1)), (0, .ref (ad 0)), (1, .int x1), (2, .int x2), (3, .int x3), (6, .int x6)]) hC.x hC.b dX1_aims_82 hl (by decide) rfl (fun ls hl => ?_)
      refine lv_iinc (v := (x6 + 1)) (lv' := [(6, .int (x6 + 1)), (5, .int (x5 + 1)), (0, .ref (ad 0)), (1, .int x1), (2, .int x2), (3, .int x3)]) hC.x hC.b dX1_aims_84 hl (k := 5) rfl rfl (by decide) rfl (fun ls hl => ?_)
      refine lv_goto (tgt := 50) hC.x hC.b dX1_aims_87 (by decide) ?_
      exact hK50 ((x5 + 1), (x6 + 1)) hw350 H locs ls hP hD hS (lv_sub hl [2, 3, 4, 5, 1, 0] rfl)
def j1_aims_26 (post : Int32 → CS → Prop) (tw : Option TD) (S : CS) (x1 : Int32) (x2 : Int32) (x3 : Int32) (y1 : Int32) : Prop :=
  (w1_nightWhy (fun r5 => ((r5 = 0 → (lp (fun (K : (Int32 × Int32) → Prop) (z : (Int32 × Int32)) => f1_aims_50 post tw S x1 x2 x3 K z.1 z.2) (0, 0))) ∧ (¬ r5 = 0 → (w1_no (fun r10 S11 => (post r10 S11)) S r5)))) S y1 x3)
set_option maxHeartbeats 4000000 in
theorem k1_aims_26 {post : Int32 → CS → Prop} {S : CS} {x1 : Int32} {x2 : Int32} {x3 : Int32} {y1 : Int32} (hC : CX RX1 cX1_aims 7 (some .int) D gCl nwG Z Hb A p s m args meth c) (hw : j1_aims_26 post tw S x1 x2 x3 y1) : ∀ (H : Heap) (locs : List Loc) (ls : Array Slot), va_P D gCl (wC D ad sc tw S) H → va_D A (wC D ad sc tw S) → va_S A s.heap H locs → lv_has ls 7 [(0, .ref (ad 0)), (1, .int x1), (2, .int x2), (3, .int x3)] → W p l e ({ frames := 122, cells := 0, slots := 0, locals := 6048 } : Room) s m args below meth c H locs 0 0 (MQ below (va_Qi post (BW D gCl A (fun u => (wC D ad sc tw u))) A) args s 0 0 A) (F0 m 26 ls [.int y1, .ref (ad 0)]) := by
  intro H locs ls hP hD hS hl
  unfold j1_aims_26 at hw
  refine lv_iload_n hC.x hC.b dX1_aims_26 rfl (lv_at hl 3 rfl) ?_
  refine go_i (run_V (rest := []) hC (m1_nightWhy l hw) v1_1_nightWhy h1_nightWhy 0 0 gCl_X1 rfl rfl ⟨rfl, rfl, Nat.le_of_ble_eq_true rfl, Nat.le_of_ble_eq_true rfl⟩ ⟨Nat.le_refl _, Nat.le_refl _⟩ hP hD hS hl.1 (Nat.le_of_ble_eq_true rfl) dX1_aims_27 rfl) hS (fun r5 u H locs hw343 hP hD hS => ?_)
  refine lv_istore (lv' := [(4, .int r5), (0, .ref (ad 0)), (1, .int x1), (2, .int x2), (3, .int x3)]) hC.x hC.b dX1_aims_30 hl (by decide) rfl (fun ls hl => ?_)
  refine lv_iload hC.x hC.b dX1_aims_32 (lv_at hl 0 rfl) ?_
  refine lv_if_eq (tgt := 44) hC.x hC.b dX1_aims_34 (by decide) (fun c6 => ?_) (fun c6 => ?_)
  · have hw344 := hw343.1 c6
    refine lv_iconst (v := 0) hC.x hC.b dX1_aims_44 (by decide) ?_
    refine lv_istore (lv' := [(5, .int 0), (4, .int r5), (0, .ref (ad 0)), (1, .int x1), (2, .int x2), (3, .int x3)]) hC.x hC.b dX1_aims_45 hl (by decide) rfl (fun ls hl => ?_)
    refine lv_iconst (v := 0) hC.x hC.b dX1_aims_47 (by decide) ?_
    refine lv_istore (lv' := [(6, .int 0), (5, .int 0), (4, .int r5), (0, .ref (ad 0)), (1, .int x1), (2, .int x2), (3, .int x3)]) hC.x hC.b dX1_aims_48 hl (by decide) rfl (fun ls hl => ?_)
    exact k1_aims_50 hC (0, 0) hw344 H locs ls hP hD hS (lv_sub hl [3, 4, 5, 6, 1, 0] rfl)
  · have hw351 := hw343.2 c6
    refine lv_aload_n hC.x hC.b dX1_aims_37 rfl (lv_at hl 1 rfl) ?_
    refine lv_iload hC.x hC.b dX1_aims_38 (lv_at hl 0 rfl) ?_
    refine go_i (run_V (rest := []) hC (m1_no l hw351) v1_1_no h1_no 0 0 gCl_X1 rfl rfl ⟨rfl, rfl, Nat.le_of_ble_eq_true rfl, Nat.le_of_ble_eq_true rfl⟩ ⟨Nat.le_refl _, Nat.le_refl _⟩ hP hD hS hl.1 (Nat.le_of_ble_eq_true rfl) dX1_aims_40 rfl) hS (fun r10 S11 H locs hw352 hP hD hS => ?_)
    exact rt_i hC hw352 hP hD hS dX1_aims_43
def j1_aims_25 (post : Int32 → CS → Prop) (tw : Option TD) (S : CS) (x1 : Int32) (x2 : Int32) (x3 : Int32) : Prop :=
  (j1_aims_26 post tw S x1 x2 x3 0)
set_option maxHeartbeats 4000000 in
theorem k1_aims_25 {post : Int32 → CS → Prop} {S : CS} {x1 : Int32} {x2 : Int32} {x3 : Int32} (hC : CX RX1 cX1_aims 7 (some .int) D gCl nwG Z Hb A p s m args meth c) (hw : j1_aims_25 post tw S x1 x2 x3) : ∀ (H : Heap) (locs : List Loc) (ls : Array Slot), va_P D gCl (wC D ad sc tw S) H → va_D A (wC D ad sc tw S) → va_S A s.heap H locs → lv_has ls 7 [(0, .ref (ad 0)), (1, .int x1), (2, .int x2), (3, .int x3)] → W p l e ({ frames := 122, cells := 0, slots := 0, locals := 6048 } : Room) s m args below meth c H locs 0 0 (MQ below (va_Qi post (BW D gCl A (fun u => (wC D ad sc tw u))) A) args s 0 0 A) (F0 m 25 ls [.ref (ad 0)]) := by
  intro H locs ls hP hD hS hl
  unfold j1_aims_25 at hw
  refine lv_iconst (v := 0) hC.x hC.b dX1_aims_25 (by decide) ?_
  exact k1_aims_26 hC hw H locs ls hP hD hS (lv_sub hl [0, 1, 2, 3] rfl)
def w1_aims (post : Int32 → CS → Prop) (tw : Option TD) (S : CS) (x1 : Int32) (x2 : Int32) (x3 : Int32) : Prop :=
  (w1_anew (fun S2 => (w1_isDead (fun r3 => ((r3 = 0 → (j1_aims_25 post tw S2 x1 x2 x3)) ∧ (¬ r3 = 0 → (w1_isPerson (fun r12 => ((r12 = 0 → (j1_aims_25 post tw S2 x1 x2 x3)) ∧ (¬ r12 = 0 → (j1_aims_26 post tw S2 x1 x2 x3 1)))) tw S2 x2)))) tw S2 x1)) S)
set_option maxHeartbeats 4000000 in
theorem m1_aims (l : Launch) {post : Int32 → CS → Prop} {S : CS} {x1 : Int32} {x2 : Int32} {x3 : Int32} (hw : w1_aims post tw S x1 x2 x3) : Met l yX1_aims (ws_ yX1_aims cX1_aims 7 (some .int)) ({ frames := 122, cells := 0, slots := 0, locals := 6048 } : Room) (va_Pc [.ref (ad 0), .int x1, .int x2, .int x3] (PcG D gCl nwG Z Hb A (wC D ad sc tw S))) (va_Qi post (BW D gCl A (fun u => (wC D ad sc tw u))) A) 0 0 A := by
  refine Met.ofG (by decide) (Nat.le_of_ble_eq_true rfl) ?_
  intro p e s m below meth c ls hC _ hP hD hS hl
  have hC : CX RX1 cX1_aims 7 (some .int) D gCl nwG Z Hb A p s m _ meth c := hC
  have hl : lv_has ls 7 [(0, .ref (ad 0)), (1, .int x1), (2, .int x2), (3, .int x3)] := hl
  unfold w1_aims at hw
  refine lv_aload_n hC.x hC.b dX1_aims_0 rfl (lv_at hl 0 rfl) ?_
  refine go_v (run_V (rest := []) hC (m1_anew l hw) v1_1_anew h1_anew 0 0 gCl_X1 rfl rfl ⟨rfl, rfl, Nat.le_of_ble_eq_true rfl, Nat.le_of_ble_eq_true rfl⟩ ⟨Nat.le_refl _, Nat.le_refl _⟩ hP hD hS hl.1 (Nat.le_of_ble_eq_true rfl) dX1_aims_1 rfl) hS (fun S2 H locs hw340 hP hD hS => ?_)
  refine lv_aload_n hC.x hC.b dX1_aims_4 rfl (lv_at hl 0 rfl) ?_
  refine lv_aload_n hC.x hC.b dX1_aims_5 rfl (lv_at hl 0 rfl) ?_
  refine lv_iload_n hC.x hC.b dX1_aims_6 rfl (lv_at hl 1 rfl) ?_
  refine go_i (run_V (rest := [.ref (ad 0)]) hC (m1_isDead l hw340) v1_1_isDead h1_isDead 0 0 gCl_X1 rfl rfl ⟨rfl, rfl, Nat.le_of_ble_eq_true rfl, Nat.le_of_ble_eq_true rfl⟩ ⟨Nat.le_refl _, Nat.le_refl _⟩ hP hD hS hl.1 (Nat.le_of_ble_eq_true rfl) dX1_aims_7 rfl) hS (fun r3 u H locs hw341 hP hD hS => ?_)
  refine lv_if_eq (tgt := 25) hC.x hC.b dX1_aims_10 (by decide) (fun c4 => ?_) (fun c4 => ?_)
  · have hw342 := hw341.1 c4
    exact k1_aims_25 hC hw342 H locs ls hP hD hS (lv_sub hl [0, 1, 2, 3] rfl)
  · have hw353 := hw341.2 c4
    refine lv_aload_n hC.x hC.b dX1_aims_13 rfl (lv_at hl 0 rfl) ?_
    refine lv_iload_n hC.x hC.b dX1_aims_14 rfl (lv_at hl 2 rfl) ?_
    refine go_i (run_V (rest := [.ref (ad 0)]) hC (m1_isPerson l hw353) v1_1_isPerson h1_isPerson 0 0 gCl_X1 rfl rfl ⟨rfl, rfl, Nat.le_of_ble_eq_true rfl, Nat.le_of_ble_eq_true rfl⟩ ⟨Nat.le_refl _, Nat.le_refl _⟩ hP hD hS hl.1 (Nat.le_of_ble_eq_true rfl) dX1_aims_15 rfl) hS (fun r12 u H locs hw354 hP hD hS => ?_)
    refine lv_if_eq (tgt := 25) hC.x hC.b dX1_aims_18 (by decide) (fun c13 => ?_) (fun c13 => ?_)
    · have hw355 := hw354.1 c13
      exact k1_aims_25 hC hw355 H locs ls hP hD hS (lv_sub hl [0, 1, 2, 3] rfl)
    · have hw356 := hw354.2 c13
      refine lv_iconst (v := 1) hC.x hC.b dX1_aims_21 (by decide) ?_
      refine lv_goto (tgt := 26) hC.x hC.b dX1_aims_22 (by decide) ?_
      exact k1_aims_26 hC hw356 H locs ls hP hD hS (lv_sub hl [0, 1, 2, 3] rfl)
theorem h4_become : yX4_become.cls = RX4 ∧ yX4_become.cls ≠ "java/lang/invoke/MethodHandle" ∧ yX4_become.cls ≠ "java/lang/invoke/VarHandle" ∧ (parseMethodDescriptor yX4_become.desc).map (fun d => d.parameters.length) = some 1 := by decide +kernel
def w4_become (post : CS → Prop) (S : CS) (x0 : Nat) (x1 : Nat) : Prop :=
  (∀ S1, S1 = sT S x0 (S.2.1 x1) → (∀ S2, S2 = sI S1 (300 + 4 * x0) 4 (S1.1.1 (300 + 4 * x1) 4) → (∀ S3, S3 = sA S2 (300 + 4 * x0 + 1) (va_cpy (S2.1.1 (300 + 4 * x1 + 1)) (S2.1.1 (300 + 4 * x0 + 1)) 0 0 6) → (∀ S4, S4 = sA S3 (300 + 4 * x0 + 2) (va_cpy (S3.1.1 (300 + 4 * x1 + 2)) (S3.1.1 (300 + 4 * x0 + 2)) 0 0 6) → (∀ S5, S5 = sA S4 (300 + 4 * x0 + 3) (va_cpy (S4.1.1 (300 + 4 * x1 + 3)) (S4.1.1 (300 + 4 * x0 + 3)) 0 0 6) → (post S5))))))
set_option maxHeartbeats 4000000 in
theorem m4_become (l : Launch) {post : CS → Prop} {S : CS} {x0 : Nat} {x1 : Nat} (h_x0 : x0 < 22) (h_x1 : x1 < 22) (hw : w4_become post S x0 x1) : Met l yX4_become (ws_ yX4_become cX4_become 2 (some (.object "SeanceStreet$Street"))) ({ frames := 1, cells := 0, slots := 0, locals := 100 } : Room) (va_Pc [.ref (ad (20 + 4 * x0)), .ref (ad (20 + 4 * x1))] (PcG D gCl nwG Z Hb A (wC D ad sc tw S))) (va_Qr post (fun u x t => x = ((ad (20 + 4 * x0))) ∧ BW D gCl A (fun u => (wC D ad sc tw u)) u t) A) 0 0 A := by
  refine Met.ofG (by decide) (Nat.le_of_ble_eq_true rfl) ?_
  intro p e s m below meth c ls hC _ hP hD hS hl
  have hC : CX RX4 cX4_become 2 (some (.object "SeanceStreet$Street")) D gCl nwG Z Hb A p s m _ meth c := hC
  have hl : lv_has ls 2 [(0, .ref (ad (20 + 4 * x0))), (1, .ref (ad (20 + 4 * x1)))] := hl
  unfold w4_become at hw
  refine lv_aload_n hC.x hC.b dX4_become_0 rfl (lv_at hl 0 rfl) ?_
  refine lv_aload_n hC.x hC.b dX4_become_1 rfl (lv_at hl 1 rfl) ?_
  refine gX4S_3 (r := x1) h_x1 hC hP dX4_become_2 ?_
  refine pX4S_3 (r := x0) h_x0 hC hP hD hS (v := (S.2.1 x1)) dX4_become_5 (fun S1 eS1 H locs hP hD hS => ?_)
  have hw357 := hw S1 eS1
  refine lv_aload_n hC.x hC.b dX4_become_8 rfl (lv_at hl 0 rfl) ?_
  refine lv_aload_n hC.x hC.b dX4_become_9 rfl (lv_at hl 1 rfl) ?_
  refine gX4S_4 (r := x1) h_x1 hC hP dX4_become_10 ?_
  refine pX4S_4 (r := x0) h_x0 hC hP hD hS (v := (S1.1.1 (300 + 4 * x1) 4)) dX4_become_13 (fun S2 eS2 H locs hP hD hS => ?_)
  have hw358 := hw357 S2 eS2
  refine lv_aload_n hC.x hC.b dX4_become_16 rfl (lv_at hl 1 rfl) ?_
  refine gX4S_0 (r := x1) h_x1 hC hP dX4_become_17 ?_
  refine lv_iconst (v := 0) hC.x hC.b dX4_become_20 (by decide) ?_
  refine lv_aload_n hC.x hC.b dX4_become_21 rfl (lv_at hl 0 rfl) ?_
  refine gX4S_0 (r := x0) h_x0 hC hP dX4_become_22 ?_
  refine lv_iconst (v := 0) hC.x hC.b dX4_become_25 (by decide) ?_
  refine lv_bipush (v := 6) hC.x hC.b dX4_become_26 (by decide) ?_
  refine cS_1 (r := x0) (r2 := x1) h_x0 h_x1 hC hP hD hS hl.1 (Nat.le_of_ble_eq_true rfl) (Nat.le_of_ble_eq_true rfl) dX4_become_28 (fun S3 eS3 H locs hP hD hS => ?_)
  have hw359 := hw358 S3 eS3
  refine lv_aload_n hC.x hC.b dX4_become_31 rfl (lv_at hl 1 rfl) ?_
  refine gX4S_1 (r := x1) h_x1 hC hP dX4_become_32 ?_
  refine lv_iconst (v := 0) hC.x hC.b dX4_become_35 (by decide) ?_
  refine lv_aload_n hC.x hC.b dX4_become_36 rfl (lv_at hl 0 rfl) ?_
  refine gX4S_1 (r := x0) h_x0 hC hP dX4_become_37 ?_
  refine lv_iconst (v := 0) hC.x hC.b dX4_become_40 (by decide) ?_
  refine lv_bipush (v := 6) hC.x hC.b dX4_become_41 (by decide) ?_
  refine cS_2 (r := x0) (r2 := x1) h_x0 h_x1 hC hP hD hS hl.1 (Nat.le_of_ble_eq_true rfl) (Nat.le_of_ble_eq_true rfl) dX4_become_43 (fun S4 eS4 H locs hP hD hS => ?_)
  have hw360 := hw359 S4 eS4
  refine lv_aload_n hC.x hC.b dX4_become_46 rfl (lv_at hl 1 rfl) ?_
  refine gX4S_2 (r := x1) h_x1 hC hP dX4_become_47 ?_
  refine lv_iconst (v := 0) hC.x hC.b dX4_become_50 (by decide) ?_
  refine lv_aload_n hC.x hC.b dX4_become_51 rfl (lv_at hl 0 rfl) ?_
  refine gX4S_2 (r := x0) h_x0 hC hP dX4_become_52 ?_
  refine lv_iconst (v := 0) hC.x hC.b dX4_become_55 (by decide) ?_
  refine lv_bipush (v := 6) hC.x hC.b dX4_become_56 (by decide) ?_
  refine cS_3 (r := x0) (r2 := x1) h_x0 h_x1 hC hP hD hS hl.1 (Nat.le_of_ble_eq_true rfl) (Nat.le_of_ble_eq_true rfl) dX4_become_58 (fun S5 eS5 H locs hP hD hS => ?_)
  have hw361 := hw360 S5 eS5
  refine lv_aload_n hC.x hC.b dX4_become_61 rfl (lv_at hl 0 rfl) ?_
  exact rt_r hC ⟨_, rfl⟩ hw361 hP hD hS dX4_become_62
theorem v1_4_become : GoodIn lw_all (wsV RX1 215 RX4 yX4_become (ws_ yX4_become cX4_become 2 (some (.object "SeanceStreet$Street")))) := lw_V q1088 q1089 q1090 q124 q1091
theorem h1_mirrored : yX1_mirrored.cls = RX1 ∧ yX1_mirrored.cls ≠ "java/lang/invoke/MethodHandle" ∧ yX1_mirrored.cls ≠ "java/lang/invoke/VarHandle" ∧ (parseMethodDescriptor yX1_mirrored.desc).map (fun d => d.parameters.length) = some 4 := by decide +kernel
def f1_mirrored_23 (post : Int32 → CS → Prop) (tw : Option TD) (S : CS) (x1 : Int32) (x4 : Int32) (K23 : (Int32 × Int32) → Prop) (x5 : Int32) (x6 : Int32) : Prop :=
  ((x4 < x6 → (post x5 S)) ∧ (¬ x4 < x6 → (w4_isRight (fun r6 => ((r6 = 0 → (K23 ((x5 + 0), (x6 + 1)))) ∧ (¬ r6 = 0 → (K23 ((x5 + 1), (x6 + 1)))))) tw S 2 x1 x6 0)))
set_option maxHeartbeats 4000000 in
theorem k1_mirrored_23 {post : Int32 → CS → Prop} {S : CS} {x1 : Int32} {x4 : Int32} (hC : CX RX1 cX1_mirrored 7 (some .int) D gCl nwG Z Hb A p s m args meth c) : ∀ z : (Int32 × Int32), lp (fun (K : (Int32 × Int32) → Prop) (z : (Int32 × Int32)) => f1_mirrored_23 post tw S x1 x4 K z.1 z.2) z → ∀ (H : Heap) (locs : List Loc) (ls : Array Slot), va_P D gCl (wC D ad sc tw S) H → va_D A (wC D ad sc tw S) → va_S A s.heap H locs → lv_has ls 7 [(0, .ref (ad 0)), (1, .int x1), (4, .int x4), (5, .int z.1), (6, .int z.2)] → W p l e ({ frames := 123, cells := 0, slots := 0, locals := 6070 } : Room) s m args below meth c H locs 0 0 (MQ below (va_Qi post (BW D gCl A (fun u => (wC D ad sc tw u))) A) args s 0 0 A) (F0 m 23 ls []) := by
  refine lp_ind ?_
  rintro K23 ⟨x5, x6⟩ hK23 hw H locs ls hP hD hS hl
  have hw : f1_mirrored_23 post tw S x1 x4 K23 x5 x6 := hw
  unfold f1_mirrored_23 at hw
  have hP : va_P D gCl (wC D ad sc tw S) H := hP
  have hD : va_D A (wC D ad sc tw S) := hD
  have hl : lv_has ls 7 [(0, .ref (ad 0)), (1, .int x1), (4, .int x4), (5, .int x5), (6, .int x6)] := hl
  refine lv_iload hC.x hC.b dX1_mirrored_23 (lv_at hl 4 rfl) ?_
  refine lv_iload hC.x hC.b dX1_mirrored_25 (lv_at hl 2 rfl) ?_
  refine lv_icmp_gt (tgt := 60) hC.x hC.b dX1_mirrored_27 (by decide) (fun c5 => ?_) (fun c5 => ?_)
  · have hw365 := hw.1 c5
    refine lv_iload hC.x hC.b dX1_mirrored_60 (lv_at hl 3 rfl) ?_
    exact rt_i hC hw365 hP hD hS dX1_mirrored_62
  · have hw366 := hw.2 c5
    refine lv_iload hC.x hC.b dX1_mirrored_30 (lv_at hl 3 rfl) ?_
    refine lv_aload_n hC.x hC.b dX1_mirrored_32 rfl (lv_at hl 0 rfl) ?_
    refine gO_11 hC hP dX1_mirrored_33 ?_
    refine lv_iload_n hC.x hC.b dX1_mirrored_36 rfl (lv_at hl 1 rfl) ?_
    refine lv_iload hC.x hC.b dX1_mirrored_37 (lv_at hl 4 rfl) ?_
    refine lv_iconst (v := 0) hC.x hC.b dX1_mirrored_39 (by decide) ?_
    refine go_i (run_V (rest := [.int x5]) hC (m4_isRight l (by decide) hw366) v1_4_isRight h4_isRight (17 + 4 * 2) 3 gCl_X4 (wC_so (by decide)) rfl ⟨rfl, rfl, Nat.le_of_ble_eq_true rfl, Nat.le_of_ble_eq_true rfl⟩ ⟨Nat.le_refl _, Nat.le_refl _⟩ hP hD hS hl.1 (Nat.le_of_ble_eq_true rfl) dX1_mirrored_40 rfl) hS (fun r6 u H locs hw367 hP hD hS => ?_)
    refine lv_if_eq (tgt := 50) hC.x hC.b dX1_mirrored_43 (by decide) (fun c7 => ?_) (fun c7 => ?_)
    · have hw368 := hw367.1 c7
      refine lv_iconst (v := 0) hC.x hC.b dX1_mirrored_50 (by decide) ?_
      refine lv_iadd hC.x hC.b dX1_mirrored_51 ?_
      refine lv_istore (lv' := [(5, .int (x5 + 0)), (0, .ref (ad 0)), (1, .int x1), (4, .int x4), (6, .int x6)]) hC.x hC.b dX1_mirrored_52 hl (by decide) rfl (fun ls hl => ?_)
      refine lv_iinc (v := (x6 + 1)) (lv' := [(6, .int (x6 + 1)), (5, .int (x5 + 0)), (0, .ref (ad 0)), (1, .int x1), (4, .int x4)]) hC.x hC.b dX1_mirrored_54 hl (k := 4) rfl rfl (by decide) rfl (fun ls hl => ?_)
      refine lv_goto (tgt := 23) hC.x hC.b dX1_mirrored_57 (by decide) ?_
      exact hK23 ((x5 + 0), (x6 + 1)) hw368 H locs ls hP hD hS (lv_sub hl [2, 3, 4, 1, 0] rfl)
    · have hw369 := hw367.2 c7
      refine lv_iconst (v := 1) hC.x hC.b dX1_mirrored_46 (by decide) ?_
      refine lv_goto (tgt := 51) hC.x hC.b dX1_mirrored_47 (by decide) ?_
      refine lv_iadd hC.x hC.b dX1_mirrored_51 ?_
      refine lv_istore (lv' := [(5, .int (x5 + 1)), (0, .ref (ad 0)), (1, .int x1), (4, .int x4), (6, .int x6)]) hC.x hC.b dX1_mirrored_52 hl (by decide) rfl (fun ls hl => ?_)
      refine lv_iinc (v := (x6 + 1)) (lv' := [(6, .int (x6 + 1)), (5, .int (x5 + 1)), (0, .ref (ad 0)), (1, .int x1), (4, .int x4)]) hC.x hC.b dX1_mirrored_54 hl (k := 4) rfl rfl (by decide) rfl (fun ls hl => ?_)
      refine lv_goto (tgt := 23) hC.x hC.b dX1_mirrored_57 (by decide) ?_
      exact hK23 ((x5 + 1), (x6 + 1)) hw369 H locs ls hP hD hS (lv_sub hl [2, 3, 4, 1, 0] rfl)
def w1_mirrored (post : Int32 → CS → Prop) (tw : Option TD) (S : CS) (x1 : Int32) (x2 : Int32) (x3 : Int32) (x4 : Int32) : Prop :=
  (w4_become (fun S2 => (vp_in x1 6 ∧ (∀ S4, S4 = sI S2 (300 + 4 * 2 + 2) x1.toNatClampNeg x2 → (lp (fun (K : (Int32 × Int32) → Prop) (z : (Int32 × Int32)) => f1_mirrored_23 post tw S4 x1 x4 K z.1 z.2) (0, x3))))) S 2 0)
set_option maxHeartbeats 4000000 in
theorem m1_mirrored (l : Launch) {post : Int32 → CS → Prop} {S : CS} {x1 : Int32} {x2 : Int32} {x3 : Int32} {x4 : Int32} (hw : w1_mirrored post tw S x1 x2 x3 x4) : Met l yX1_mirrored (ws_ yX1_mirrored cX1_mirrored 7 (some .int)) ({ frames := 123, cells := 0, slots := 0, locals := 6070 } : Room) (va_Pc [.ref (ad 0), .int x1, .int x2, .int x3, .int x4] (PcG D gCl nwG Z Hb A (wC D ad sc tw S))) (va_Qi post (BW D gCl A (fun u => (wC D ad sc tw u))) A) 0 0 A := by
  refine Met.ofG (by decide) (Nat.le_of_ble_eq_true rfl) ?_
  intro p e s m below meth c ls hC _ hP hD hS hl
  have hC : CX RX1 cX1_mirrored 7 (some .int) D gCl nwG Z Hb A p s m _ meth c := hC
  have hl : lv_has ls 7 [(0, .ref (ad 0)), (1, .int x1), (2, .int x2), (3, .int x3), (4, .int x4)] := hl
  unfold w1_mirrored at hw
  refine lv_aload_n hC.x hC.b dX1_mirrored_0 rfl (lv_at hl 0 rfl) ?_
  refine gO_11 hC hP dX1_mirrored_1 ?_
  refine lv_aload_n hC.x hC.b dX1_mirrored_4 rfl (lv_at hl 0 rfl) ?_
  refine gO_9 hC hP dX1_mirrored_5 ?_
  refine go_r (run_V (rest := []) hC (m4_become l (by decide) (by decide) hw) v1_4_become h4_become (17 + 4 * 2) 3 gCl_X4 (wC_so (by decide)) rfl ⟨rfl, rfl, Nat.le_of_ble_eq_true rfl, Nat.le_of_ble_eq_true rfl⟩ ⟨Nat.le_refl _, Nat.le_refl _⟩ hP hD hS hl.1 (Nat.le_of_ble_eq_true rfl) dX1_mirrored_8 rfl) hS (fun S2 H locs hw362 hP hD hS => ?_)
  refine gX1S_1 (r := 2) (by decide) hC hP dX1_mirrored_11 ?_
  refine lv_iload_n hC.x hC.b dX1_mirrored_14 rfl (lv_at hl 1 rfl) ?_
  refine lv_iload_n hC.x hC.b dX1_mirrored_15 rfl (lv_at hl 2 rfl) ?_
  obtain ⟨hin3, hw363⟩ := hw362
  refine sS_2 (r := 2) (by decide) hC hP hD hS (v := x2) hin3 rfl dX1_mirrored_16 (fun S4 eS4 H locs hP hD hS => ?_)
  have hw364 := hw363 S4 eS4
  refine lv_iconst (v := 0) hC.x hC.b dX1_mirrored_17 (by decide) ?_
  refine lv_istore (lv' := [(5, .int 0), (0, .ref (ad 0)), (1, .int x1), (2, .int x2), (3, .int x3), (4, .int x4)]) hC.x hC.b dX1_mirrored_18 hl (by decide) rfl (fun ls hl => ?_)
  refine lv_iload_n hC.x hC.b dX1_mirrored_20 rfl (lv_at hl 4 rfl) ?_
  refine lv_istore (lv' := [(6, .int x3), (5, .int 0), (0, .ref (ad 0)), (1, .int x1), (2, .int x2), (3, .int x3), (4, .int x4)]) hC.x hC.b dX1_mirrored_21 hl (by decide) rfl (fun ls hl => ?_)
  exact k1_mirrored_23 hC (0, x3) hw364 H locs ls hP hD hS (lv_sub hl [2, 3, 6, 1, 0] rfl)
theorem v1_1_mirrored : GoodIn lw_all (wsV RX1 219 RX1 yX1_mirrored (ws_ yX1_mirrored cX1_mirrored 7 (some .int))) := lw_V q1084 q1086 qs31 q118 q1087
theorem h1_mirrorFor : yX1_mirrorFor.cls = RX1 ∧ yX1_mirrorFor.cls ≠ "java/lang/invoke/MethodHandle" ∧ yX1_mirrorFor.cls ≠ "java/lang/invoke/VarHandle" ∧ (parseMethodDescriptor yX1_mirrorFor.desc).map (fun d => d.parameters.length) = some 2 := by decide +kernel
def f1_mirrorFor_28 (post : Int32 → CS → Prop) (tw : Option TD) (x1 : Int32) (x2 : Int32) (K28 : (CS × Int32) → Prop) (S : CS) (x4 : Int32) : Prop :=
  ((∃ τ, tw = some τ) ∧ (((S.1.1 50 6) ≤ x4 → (post (-2) S)) ∧ (¬ (S.1.1 50 6) ≤ x4 → (w1_mirrored (fun r7 S8 => ((r7 ≤ 0 → (K28 (S8, (x4 + 1)))) ∧ (¬ r7 ≤ 0 → (post x4 S8)))) tw S x1 x4 x2 x2))))
set_option maxHeartbeats 4000000 in
theorem k1_mirrorFor_28 {post : Int32 → CS → Prop} {x1 : Int32} {x2 : Int32} (hC : CX RX1 cX1_mirrorFor 5 (some .int) D gCl nwG Z Hb A p s m args meth c) : ∀ z : (CS × Int32), lp (fun (K : (CS × Int32) → Prop) (z : (CS × Int32)) => f1_mirrorFor_28 post tw x1 x2 K z.1 z.2) z → ∀ (H : Heap) (locs : List Loc) (ls : Array Slot), va_P D gCl (wC D ad sc tw z.1) H → va_D A (wC D ad sc tw z.1) → va_S A s.heap H locs → lv_has ls 5 [(0, .ref (ad 0)), (1, .int x1), (2, .int x2), (4, .int z.2)] → W p l e ({ frames := 124, cells := 0, slots := 0, locals := 6096 } : Room) s m args below meth c H locs 0 0 (MQ below (va_Qi post (BW D gCl A (fun u => (wC D ad sc tw u))) A) args s 0 0 A) (F0 m 28 ls []) := by
  refine lp_ind ?_
  rintro K28 ⟨S, x4⟩ hK28 hw H locs ls hP hD hS hl
  have hw : f1_mirrorFor_28 post tw x1 x2 K28 S x4 := hw
  unfold f1_mirrorFor_28 at hw
  have hP : va_P D gCl (wC D ad sc tw S) H := hP
  have hD : va_D A (wC D ad sc tw S) := hD
  have hl : lv_has ls 5 [(0, .ref (ad 0)), (1, .int x1), (2, .int x2), (4, .int x4)] := hl
  refine lv_iload hC.x hC.b dX1_mirrorFor_28 (lv_at hl 3 rfl) ?_
  refine lv_aload_n hC.x hC.b dX1_mirrorFor_30 rfl (lv_at hl 0 rfl) ?_
  refine gO_3 hC hP dX1_mirrorFor_31 ?_
  obtain ⟨⟨τ, rfl⟩, hw374⟩ := hw
  refine gX1T_6 hC hP dX1_mirrorFor_34 ?_
  refine lv_icmp_ge (tgt := 61) hC.x hC.b dX1_mirrorFor_37 (by decide) (fun c6 => ?_) (fun c6 => ?_)
  · have hw375 := hw374.1 c6
    refine lv_bipush (v := (-2)) hC.x hC.b dX1_mirrorFor_61 (by decide) ?_
    exact rt_i hC hw375 hP hD hS dX1_mirrorFor_63
  · have hw376 := hw374.2 c6
    refine lv_aload_n hC.x hC.b dX1_mirrorFor_40 rfl (lv_at hl 0 rfl) ?_
    refine lv_iload_n hC.x hC.b dX1_mirrorFor_41 rfl (lv_at hl 1 rfl) ?_
    refine lv_iload hC.x hC.b dX1_mirrorFor_42 (lv_at hl 3 rfl) ?_
    refine lv_iload_n hC.x hC.b dX1_mirrorFor_44 rfl (lv_at hl 2 rfl) ?_
    refine lv_iload_n hC.x hC.b dX1_mirrorFor_45 rfl (lv_at hl 2 rfl) ?_
    refine go_i (run_V (rest := []) hC (m1_mirrored l hw376) v1_1_mirrored h1_mirrored 0 0 gCl_X1 rfl rfl ⟨rfl, rfl, Nat.le_of_ble_eq_true rfl, Nat.le_of_ble_eq_true rfl⟩ ⟨Nat.le_refl _, Nat.le_refl _⟩ hP hD hS hl.1 (Nat.le_of_ble_eq_true rfl) dX1_mirrorFor_46 rfl) hS (fun r7 S8 H locs hw377 hP hD hS => ?_)
    refine lv_if_le (tgt := 55) hC.x hC.b dX1_mirrorFor_49 (by decide) (fun c9 => ?_) (fun c9 => ?_)
    · have hw378 := hw377.1 c9
      refine lv_iinc (v := (x4 + 1)) (lv' := [(4, .int (x4 + 1)), (0, .ref (ad 0)), (1, .int x1), (2, .int x2)]) hC.x hC.b dX1_mirrorFor_55 hl (k := 3) rfl rfl (by decide) rfl (fun ls hl => ?_)
      refine lv_goto (tgt := 28) hC.x hC.b dX1_mirrorFor_58 (by decide) ?_
      exact hK28 (S8, (x4 + 1)) hw378 H locs ls hP hD hS (lv_sub hl [1, 2, 3, 0] rfl)
    · have hw379 := hw377.2 c9
      refine lv_iload hC.x hC.b dX1_mirrorFor_52 (lv_at hl 3 rfl) ?_
      exact rt_i hC hw379 hP hD hS dX1_mirrorFor_54
def w1_mirrorFor (post : Int32 → CS → Prop) (tw : Option TD) (S : CS) (x1 : Int32) (x2 : Int32) : Prop :=
  (w1_anew (fun S2 => (w1_isDead (fun r3 => (w1_nightWhy (fun r4 => ((r4 = 0 → (lp (fun (K : (CS × Int32) → Prop) (z : (CS × Int32)) => f1_mirrorFor_28 post tw x1 x2 K z.1 z.2) (S2, 0))) ∧ (¬ r4 = 0 → (w1_no (fun r10 S11 => (post r10 S11)) S2 r4)))) S2 r3 x2)) tw S2 x1)) S)
set_option maxHeartbeats 4000000 in
theorem m1_mirrorFor (l : Launch) {post : Int32 → CS → Prop} {S : CS} {x1 : Int32} {x2 : Int32} (hw : w1_mirrorFor post tw S x1 x2) : Met l yX1_mirrorFor (ws_ yX1_mirrorFor cX1_mirrorFor 5 (some .int)) ({ frames := 124, cells := 0, slots := 0, locals := 6096 } : Room) (va_Pc [.ref (ad 0), .int x1, .int x2] (PcG D gCl nwG Z Hb A (wC D ad sc tw S))) (va_Qi post (BW D gCl A (fun u => (wC D ad sc tw u))) A) 0 0 A := by
  refine Met.ofG (by decide) (Nat.le_of_ble_eq_true rfl) ?_
  intro p e s m below meth c ls hC _ hP hD hS hl
  have hC : CX RX1 cX1_mirrorFor 5 (some .int) D gCl nwG Z Hb A p s m _ meth c := hC
  have hl : lv_has ls 5 [(0, .ref (ad 0)), (1, .int x1), (2, .int x2)] := hl
  unfold w1_mirrorFor at hw
  refine lv_aload_n hC.x hC.b dX1_mirrorFor_0 rfl (lv_at hl 0 rfl) ?_
  refine go_v (run_V (rest := []) hC (m1_anew l hw) v1_1_anew h1_anew 0 0 gCl_X1 rfl rfl ⟨rfl, rfl, Nat.le_of_ble_eq_true rfl, Nat.le_of_ble_eq_true rfl⟩ ⟨Nat.le_refl _, Nat.le_refl _⟩ hP hD hS hl.1 (Nat.le_of_ble_eq_true rfl) dX1_mirrorFor_1 rfl) hS (fun S2 H locs hw370 hP hD hS => ?_)
  refine lv_aload_n hC.x hC.b dX1_mirrorFor_4 rfl (lv_at hl 0 rfl) ?_
  refine lv_aload_n hC.x hC.b dX1_mirrorFor_5 rfl (lv_at hl 0 rfl) ?_
  refine lv_iload_n hC.x hC.b dX1_mirrorFor_6 rfl (lv_at hl 1 rfl) ?_
  refine go_i (run_V (rest := [.ref (ad 0)]) hC (m1_isDead l hw370) v1_1_isDead h1_isDead 0 0 gCl_X1 rfl rfl ⟨rfl, rfl, Nat.le_of_ble_eq_true rfl, Nat.le_of_ble_eq_true rfl⟩ ⟨Nat.le_refl _, Nat.le_refl _⟩ hP hD hS hl.1 (Nat.le_of_ble_eq_true rfl) dX1_mirrorFor_7 rfl) hS (fun r3 u H locs hw371 hP hD hS => ?_)
  refine lv_iload_n hC.x hC.b dX1_mirrorFor_10 rfl (lv_at hl 2 rfl) ?_
  refine go_i (run_V (rest := []) hC (m1_nightWhy l hw371) v1_1_nightWhy h1_nightWhy 0 0 gCl_X1 rfl rfl ⟨rfl, rfl, Nat.le_of_ble_eq_true rfl, Nat.le_of_ble_eq_true rfl⟩ ⟨Nat.le_refl _, Nat.le_refl _⟩ hP hD hS hl.1 (Nat.le_of_ble_eq_true rfl) dX1_mirrorFor_11 rfl) hS (fun r4 u H locs hw372 hP hD hS => ?_)
  refine lv_istore_n (lv' := [(3, .int r4), (0, .ref (ad 0)), (1, .int x1), (2, .int x2)]) hC.x hC.b dX1_mirrorFor_14 rfl hl (by decide) rfl (fun ls hl => ?_)
  refine lv_iload_n hC.x hC.b dX1_mirrorFor_15 rfl (lv_at hl 0 rfl) ?_
  refine lv_if_eq (tgt := 25) hC.x hC.b dX1_mirrorFor_16 (by decide) (fun c5 => ?_) (fun c5 => ?_)
  · have hw373 := hw372.1 c5
    refine lv_iconst (v := 0) hC.x hC.b dX1_mirrorFor_25 (by decide) ?_
    refine lv_istore (lv' := [(4, .int 0), (3, .int r4), (0, .ref (ad 0)), (1, .int x1), (2, .int x2)]) hC.x hC.b dX1_mirrorFor_26 hl (by decide) rfl (fun ls hl => ?_)
    exact k1_mirrorFor_28 hC (S2, 0) hw373 H locs ls hP hD hS (lv_sub hl [2, 3, 4, 0] rfl)
  · have hw380 := hw372.2 c5
    refine lv_aload_n hC.x hC.b dX1_mirrorFor_19 rfl (lv_at hl 1 rfl) ?_
    refine lv_iload_n hC.x hC.b dX1_mirrorFor_20 rfl (lv_at hl 0 rfl) ?_
    refine go_i (run_V (rest := []) hC (m1_no l hw380) v1_1_no h1_no 0 0 gCl_X1 rfl rfl ⟨rfl, rfl, Nat.le_of_ble_eq_true rfl, Nat.le_of_ble_eq_true rfl⟩ ⟨Nat.le_refl _, Nat.le_refl _⟩ hP hD hS hl.1 (Nat.le_of_ble_eq_true rfl) dX1_mirrorFor_21 rfl) hS (fun r10 S11 H locs hw381 hP hD hS => ?_)
    exact rt_i hC hw381 hP hD hS dX1_mirrorFor_24
theorem h1_mirrorBest : yX1_mirrorBest.cls = RX1 ∧ yX1_mirrorBest.cls ≠ "java/lang/invoke/MethodHandle" ∧ yX1_mirrorBest.cls ≠ "java/lang/invoke/VarHandle" ∧ (parseMethodDescriptor yX1_mirrorBest.desc).map (fun d => d.parameters.length) = some 1 := by decide +kernel
def f1_mirrorBest_22 (post : Int32 → CS → Prop) (tw : Option TD) (x1 : Int32) (K22 : (CS × Int32 × Int32) → Prop) (S : CS) (x2 : Int32) (x3 : Int32) : Prop :=
  ((∃ τ, tw = some τ) ∧ (((S.1.1 50 6) ≤ x3 → (post x2 S)) ∧ (¬ (S.1.1 50 6) ≤ x3 → (w1_mirrored (fun r6 S7 => (w1_mirrored (fun r8 S9 => ((r6 ≤ r8 → (K22 (S9, x2, (x3 + 1)))) ∧ (¬ r6 ≤ r8 → (K22 (S9, x3, (x3 + 1)))))) tw S7 x1 x2 0 99)) tw S x1 x3 0 99))))
set_option maxHeartbeats 4000000 in
theorem k1_mirrorBest_22 {post : Int32 → CS → Prop} {x1 : Int32} (hC : CX RX1 cX1_mirrorBest 4 (some .int) D gCl nwG Z Hb A p s m args meth c) : ∀ z : (CS × Int32 × Int32), lp (fun (K : (CS × Int32 × Int32) → Prop) (z : (CS × Int32 × Int32)) => f1_mirrorBest_22 post tw x1 K z.1 z.2.1 z.2.2) z → ∀ (H : Heap) (locs : List Loc) (ls : Array Slot), va_P D gCl (wC D ad sc tw z.1) H → va_D A (wC D ad sc tw z.1) → va_S A s.heap H locs → lv_has ls 4 [(0, .ref (ad 0)), (1, .int x1), (2, .int z.2.1), (3, .int z.2.2)] → W p l e ({ frames := 124, cells := 0, slots := 0, locals := 6096 } : Room) s m args below meth c H locs 0 0 (MQ below (va_Qi post (BW D gCl A (fun u => (wC D ad sc tw u))) A) args s 0 0 A) (F0 m 22 ls []) := by
  refine lp_ind ?_
  rintro K22 ⟨S, x2, x3⟩ hK22 hw H locs ls hP hD hS hl
  have hw : f1_mirrorBest_22 post tw x1 K22 S x2 x3 := hw
  unfold f1_mirrorBest_22 at hw
  have hP : va_P D gCl (wC D ad sc tw S) H := hP
  have hD : va_D A (wC D ad sc tw S) := hD
  have hl : lv_has ls 4 [(0, .ref (ad 0)), (1, .int x1), (2, .int x2), (3, .int x3)] := hl
  refine lv_iload_n hC.x hC.b dX1_mirrorBest_22 rfl (lv_at hl 3 rfl) ?_
  refine lv_aload_n hC.x hC.b dX1_mirrorBest_23 rfl (lv_at hl 0 rfl) ?_
  refine gO_3 hC hP dX1_mirrorBest_24 ?_
  obtain ⟨⟨τ, rfl⟩, hw385⟩ := hw
  refine gX1T_6 hC hP dX1_mirrorBest_27 ?_
  refine lv_icmp_ge (tgt := 62) hC.x hC.b dX1_mirrorBest_30 (by decide) (fun c5 => ?_) (fun c5 => ?_)
  · have hw386 := hw385.1 c5
    refine lv_iload_n hC.x hC.b dX1_mirrorBest_62 rfl (lv_at hl 2 rfl) ?_
    exact rt_i hC hw386 hP hD hS dX1_mirrorBest_63
  · have hw387 := hw385.2 c5
    refine lv_aload_n hC.x hC.b dX1_mirrorBest_33 rfl (lv_at hl 0 rfl) ?_
    refine lv_iload_n hC.x hC.b dX1_mirrorBest_34 rfl (lv_at hl 1 rfl) ?_
    refine lv_iload_n hC.x hC.b dX1_mirrorBest_35 rfl (lv_at hl 3 rfl) ?_
    refine lv_iconst (v := 0) hC.x hC.b dX1_mirrorBest_36 (by decide) ?_
    refine lv_bipush (v := 99) hC.x hC.b dX1_mirrorBest_37 (by decide) ?_
    refine go_i (run_V (rest := []) hC (m1_mirrored l hw387) v1_1_mirrored h1_mirrored 0 0 gCl_X1 rfl rfl ⟨rfl, rfl, Nat.le_of_ble_eq_true rfl, Nat.le_of_ble_eq_true rfl⟩ ⟨Nat.le_refl _, Nat.le_refl _⟩ hP hD hS hl.1 (Nat.le_of_ble_eq_true rfl) dX1_mirrorBest_39 rfl) hS (fun r6 S7 H locs hw388 hP hD hS => ?_)
    refine lv_aload_n hC.x hC.b dX1_mirrorBest_42 rfl (lv_at hl 0 rfl) ?_
    refine lv_iload_n hC.x hC.b dX1_mirrorBest_43 rfl (lv_at hl 1 rfl) ?_
    refine lv_iload_n hC.x hC.b dX1_mirrorBest_44 rfl (lv_at hl 2 rfl) ?_
    refine lv_iconst (v := 0) hC.x hC.b dX1_mirrorBest_45 (by decide) ?_
    refine lv_bipush (v := 99) hC.x hC.b dX1_mirrorBest_46 (by decide) ?_
    refine go_i (run_V (rest := [.int r6]) hC (m1_mirrored l hw388) v1_1_mirrored h1_mirrored 0 0 gCl_X1 rfl rfl ⟨rfl, rfl, Nat.le_of_ble_eq_true rfl, Nat.le_of_ble_eq_true rfl⟩ ⟨Nat.le_refl _, Nat.le_refl _⟩ hP hD hS hl.1 (Nat.le_of_ble_eq_true rfl) dX1_mirrorBest_48 rfl) hS (fun r8 S9 H locs hw389 hP hD hS => ?_)
    refine lv_icmp_le (tgt := 56) hC.x hC.b dX1_mirrorBest_51 (by decide) (fun c10 => ?_) (fun c10 => ?_)
    · have hw390 := hw389.1 c10
      refine lv_iinc (v := (x3 + 1)) (lv' := [(3, .int (x3 + 1)), (0, .ref (ad 0)), (1, .int x1), (2, .int x2)]) hC.x hC.b dX1_mirrorBest_56 hl (k := 3) rfl rfl (by decide) rfl (fun ls hl => ?_)
      refine lv_goto (tgt := 22) hC.x hC.b dX1_mirrorBest_59 (by decide) ?_
      exact hK22 (S9, x2, (x3 + 1)) hw390 H locs ls hP hD hS (lv_sub hl [1, 2, 3, 0] rfl)
    · have hw391 := hw389.2 c10
      refine lv_iload_n hC.x hC.b dX1_mirrorBest_54 rfl (lv_at hl 3 rfl) ?_
      refine lv_istore_n (lv' := [(2, .int x3), (0, .ref (ad 0)), (1, .int x1), (3, .int x3)]) hC.x hC.b dX1_mirrorBest_55 rfl hl (by decide) rfl (fun ls hl => ?_)
      refine lv_iinc (v := (x3 + 1)) (lv' := [(3, .int (x3 + 1)), (2, .int x3), (0, .ref (ad 0)), (1, .int x1)]) hC.x hC.b dX1_mirrorBest_56 hl (k := 3) rfl rfl (by decide) rfl (fun ls hl => ?_)
      refine lv_goto (tgt := 22) hC.x hC.b dX1_mirrorBest_59 (by decide) ?_
      exact hK22 (S9, x3, (x3 + 1)) hw391 H locs ls hP hD hS (lv_sub hl [2, 3, 1, 0] rfl)
def w1_mirrorBest (post : Int32 → CS → Prop) (tw : Option TD) (S : CS) (x1 : Int32) : Prop :=
  (w1_anew (fun S2 => (w1_isDead (fun r3 => ((¬ r3 = 0 → (lp (fun (K : (CS × Int32 × Int32) → Prop) (z : (CS × Int32 × Int32)) => f1_mirrorBest_22 post tw x1 K z.1 z.2.1 z.2.2) (S2, 0, 1))) ∧ (r3 = 0 → (w1_no (fun r11 S12 => (post r11 S12)) S2 1)))) tw S2 x1)) S)
set_option maxHeartbeats 4000000 in
theorem m1_mirrorBest (l : Launch) {post : Int32 → CS → Prop} {S : CS} {x1 : Int32} (hw : w1_mirrorBest post tw S x1) : Met l yX1_mirrorBest (ws_ yX1_mirrorBest cX1_mirrorBest 4 (some .int)) ({ frames := 124, cells := 0, slots := 0, locals := 6096 } : Room) (va_Pc [.ref (ad 0), .int x1] (PcG D gCl nwG Z Hb A (wC D ad sc tw S))) (va_Qi post (BW D gCl A (fun u => (wC D ad sc tw u))) A) 0 0 A := by
  refine Met.ofG (by decide) (Nat.le_of_ble_eq_true rfl) ?_
  intro p e s m below meth c ls hC _ hP hD hS hl
  have hC : CX RX1 cX1_mirrorBest 4 (some .int) D gCl nwG Z Hb A p s m _ meth c := hC
  have hl : lv_has ls 4 [(0, .ref (ad 0)), (1, .int x1)] := hl
  unfold w1_mirrorBest at hw
  refine lv_aload_n hC.x hC.b dX1_mirrorBest_0 rfl (lv_at hl 0 rfl) ?_
  refine go_v (run_V (rest := []) hC (m1_anew l hw) v1_1_anew h1_anew 0 0 gCl_X1 rfl rfl ⟨rfl, rfl, Nat.le_of_ble_eq_true rfl, Nat.le_of_ble_eq_true rfl⟩ ⟨Nat.le_refl _, Nat.le_refl _⟩ hP hD hS hl.1 (Nat.le_of_ble_eq_true rfl) dX1_mirrorBest_1 rfl) hS (fun S2 H locs hw382 hP hD hS => ?_)
  refine lv_aload_n hC.x hC.b dX1_mirrorBest_4 rfl (lv_at hl 0 rfl) ?_
  refine lv_iload_n hC.x hC.b dX1_mirrorBest_5 rfl (lv_at hl 1 rfl) ?_
  refine go_i (run_V (rest := []) hC (m1_isDead l hw382) v1_1_isDead h1_isDead 0 0 gCl_X1 rfl rfl ⟨rfl, rfl, Nat.le_of_ble_eq_true rfl, Nat.le_of_ble_eq_true rfl⟩ ⟨Nat.le_refl _, Nat.le_refl _⟩ hP hD hS hl.1 (Nat.le_of_ble_eq_true rfl) dX1_mirrorBest_6 rfl) hS (fun r3 u H locs hw383 hP hD hS => ?_)
  refine lv_if_ne (tgt := 18) hC.x hC.b dX1_mirrorBest_9 (by decide) (fun c4 => ?_) (fun c4 => ?_)
  · have hw384 := hw383.1 c4
    refine lv_iconst (v := 0) hC.x hC.b dX1_mirrorBest_18 (by decide) ?_
    refine lv_istore_n (lv' := [(2, .int 0), (0, .ref (ad 0)), (1, .int x1)]) hC.x hC.b dX1_mirrorBest_19 rfl hl (by decide) rfl (fun ls hl => ?_)
    refine lv_iconst (v := 1) hC.x hC.b dX1_mirrorBest_20 (by decide) ?_
    refine lv_istore_n (lv' := [(3, .int 1), (2, .int 0), (0, .ref (ad 0)), (1, .int x1)]) hC.x hC.b dX1_mirrorBest_21 rfl hl (by decide) rfl (fun ls hl => ?_)
    exact k1_mirrorBest_22 hC (S2, 0, 1) hw384 H locs ls hP hD hS (lv_sub hl [2, 3, 1, 0] rfl)
  · have hw392 := hw383.2 c4
    refine lv_aload_n hC.x hC.b dX1_mirrorBest_12 rfl (lv_at hl 0 rfl) ?_
    refine lv_iconst (v := 1) hC.x hC.b dX1_mirrorBest_13 (by decide) ?_
    refine go_i (run_V (rest := []) hC (m1_no l hw392) v1_1_no h1_no 0 0 gCl_X1 rfl rfl ⟨rfl, rfl, Nat.le_of_ble_eq_true rfl, Nat.le_of_ble_eq_true rfl⟩ ⟨Nat.le_refl _, Nat.le_refl _⟩ hP hD hS hl.1 (Nat.le_of_ble_eq_true rfl) dX1_mirrorBest_14 rfl) hS (fun r11 S12 H locs hw393 hP hD hS => ?_)
    exact rt_i hC hw393 hP hD hS dX1_mirrorBest_17
theorem h1_slipFor : yX1_slipFor.cls = RX1 ∧ yX1_slipFor.cls ≠ "java/lang/invoke/MethodHandle" ∧ yX1_slipFor.cls ≠ "java/lang/invoke/VarHandle" ∧ (parseMethodDescriptor yX1_slipFor.desc).map (fun d => d.parameters.length) = some 2 := by decide +kernel
def f1_slipFor_28 (post : Int32 → CS → Prop) (tw : Option TD) (x1 : Int32) (x2 : Int32) (K28 : (CS × Int32) → Prop) (S : CS) (x4 : Int32) : Prop :=
  ((39 < x4 → (post (-2) S)) ∧ (¬ 39 < x4 → (w4_become (fun S8 => (vp_in x1 6 ∧ (∀ S10, S10 = sI S8 (300 + 4 * 2 + 3) x1.toNatClampNeg x4 → (w4_isRight (fun r11 => ((r11 = 0 → (K28 (S10, (x4 + 1)))) ∧ (¬ r11 = 0 → (post x4 S10)))) tw S10 2 x1 x2 0)))) S 2 0)))
set_option maxHeartbeats 4000000 in
theorem k1_slipFor_28 {post : Int32 → CS → Prop} {x1 : Int32} {x2 : Int32} (hC : CX RX1 cX1_slipFor 5 (some .int) D gCl nwG Z Hb A p s m args meth c) : ∀ z : (CS × Int32), lp (fun (K : (CS × Int32) → Prop) (z : (CS × Int32)) => f1_slipFor_28 post tw x1 x2 K z.1 z.2) z → ∀ (H : Heap) (locs : List Loc) (ls : Array Slot), va_P D gCl (wC D ad sc tw z.1) H → va_D A (wC D ad sc tw z.1) → va_S A s.heap H locs → lv_has ls 5 [(0, .ref (ad 0)), (1, .int x1), (2, .int x2), (4, .int z.2)] → W p l e ({ frames := 123, cells := 0, slots := 0, locals := 6070 } : Room) s m args below meth c H locs 0 0 (MQ below (va_Qi post (BW D gCl A (fun u => (wC D ad sc tw u))) A) args s 0 0 A) (F0 m 28 ls []) := by
  refine lp_ind ?_
  rintro K28 ⟨S, x4⟩ hK28 hw H locs ls hP hD hS hl
  have hw : f1_slipFor_28 post tw x1 x2 K28 S x4 := hw
  unfold f1_slipFor_28 at hw
  have hP : va_P D gCl (wC D ad sc tw S) H := hP
  have hD : va_D A (wC D ad sc tw S) := hD
  have hl : lv_has ls 5 [(0, .ref (ad 0)), (1, .int x1), (2, .int x2), (4, .int x4)] := hl
  refine lv_iload hC.x hC.b dX1_slipFor_28 (lv_at hl 3 rfl) ?_
  refine lv_bipush (v := 39) hC.x hC.b dX1_slipFor_30 (by decide) ?_
  refine lv_icmp_gt (tgt := 75) hC.x hC.b dX1_slipFor_32 (by decide) (fun c6 => ?_) (fun c6 => ?_)
  · have hw398 := hw.1 c6
    refine lv_bipush (v := (-2)) hC.x hC.b dX1_slipFor_75 (by decide) ?_
    exact rt_i hC hw398 hP hD hS dX1_slipFor_77
  · have hw399 := hw.2 c6
    refine lv_aload_n hC.x hC.b dX1_slipFor_35 rfl (lv_at hl 0 rfl) ?_
    refine gO_11 hC hP dX1_slipFor_36 ?_
    refine lv_aload_n hC.x hC.b dX1_slipFor_39 rfl (lv_at hl 0 rfl) ?_
    refine gO_9 hC hP dX1_slipFor_40 ?_
    refine go_r (run_V (rest := []) hC (m4_become l (by decide) (by decide) hw399) v1_4_become h4_become (17 + 4 * 2) 3 gCl_X4 (wC_so (by decide)) rfl ⟨rfl, rfl, Nat.le_of_ble_eq_true rfl, Nat.le_of_ble_eq_true rfl⟩ ⟨Nat.le_refl _, Nat.le_refl _⟩ hP hD hS hl.1 (Nat.le_of_ble_eq_true rfl) dX1_slipFor_43 rfl) hS (fun S8 H locs hw400 hP hD hS => ?_)
    refine gX1S_2 (r := 2) (by decide) hC hP dX1_slipFor_46 ?_
    refine lv_iload_n hC.x hC.b dX1_slipFor_49 rfl (lv_at hl 1 rfl) ?_
    refine lv_iload hC.x hC.b dX1_slipFor_50 (lv_at hl 3 rfl) ?_
    obtain ⟨hin9, hw401⟩ := hw400
    refine sS_3 (r := 2) (by decide) hC hP hD hS (v := x4) hin9 rfl dX1_slipFor_52 (fun S10 eS10 H locs hP hD hS => ?_)
    have hw402 := hw401 S10 eS10
    refine lv_aload_n hC.x hC.b dX1_slipFor_53 rfl (lv_at hl 0 rfl) ?_
    refine gO_11 hC hP dX1_slipFor_54 ?_
    refine lv_iload_n hC.x hC.b dX1_slipFor_57 rfl (lv_at hl 1 rfl) ?_
    refine lv_iload_n hC.x hC.b dX1_slipFor_58 rfl (lv_at hl 2 rfl) ?_
    refine lv_iconst (v := 0) hC.x hC.b dX1_slipFor_59 (by decide) ?_
    refine go_i (run_V (rest := []) hC (m4_isRight l (by decide) hw402) v1_4_isRight h4_isRight (17 + 4 * 2) 3 gCl_X4 (wC_so (by decide)) rfl ⟨rfl, rfl, Nat.le_of_ble_eq_true rfl, Nat.le_of_ble_eq_true rfl⟩ ⟨Nat.le_refl _, Nat.le_refl _⟩ hP hD hS hl.1 (Nat.le_of_ble_eq_true rfl) dX1_slipFor_60 rfl) hS (fun r11 u H locs hw403 hP hD hS => ?_)
    refine lv_if_eq (tgt := 69) hC.x hC.b dX1_slipFor_63 (by decide) (fun c12 => ?_) (fun c12 => ?_)
    · have hw404 := hw403.1 c12
      refine lv_iinc (v := (x4 + 1)) (lv' := [(4, .int (x4 + 1)), (0, .ref (ad 0)), (1, .int x1), (2, .int x2)]) hC.x hC.b dX1_slipFor_69 hl (k := 3) rfl rfl (by decide) rfl (fun ls hl => ?_)
      refine lv_goto (tgt := 28) hC.x hC.b dX1_slipFor_72 (by decide) ?_
      exact hK28 (S10, (x4 + 1)) hw404 H locs ls hP hD hS (lv_sub hl [1, 2, 3, 0] rfl)
    · have hw405 := hw403.2 c12
      refine lv_iload hC.x hC.b dX1_slipFor_66 (lv_at hl 3 rfl) ?_
      exact rt_i hC hw405 hP hD hS dX1_slipFor_68
def w1_slipFor (post : Int32 → CS → Prop) (tw : Option TD) (S : CS) (x1 : Int32) (x2 : Int32) : Prop :=
  (w1_anew (fun S2 => (w1_isDead (fun r3 => (w1_nightWhy (fun r4 => ((r4 = 0 → (lp (fun (K : (CS × Int32) → Prop) (z : (CS × Int32)) => f1_slipFor_28 post tw x1 x2 K z.1 z.2) (S2, 0))) ∧ (¬ r4 = 0 → (w1_no (fun r13 S14 => (post r13 S14)) S2 r4)))) S2 r3 x2)) tw S2 x1)) S)
set_option maxHeartbeats 4000000 in
theorem m1_slipFor (l : Launch) {post : Int32 → CS → Prop} {S : CS} {x1 : Int32} {x2 : Int32} (hw : w1_slipFor post tw S x1 x2) : Met l yX1_slipFor (ws_ yX1_slipFor cX1_slipFor 5 (some .int)) ({ frames := 123, cells := 0, slots := 0, locals := 6070 } : Room) (va_Pc [.ref (ad 0), .int x1, .int x2] (PcG D gCl nwG Z Hb A (wC D ad sc tw S))) (va_Qi post (BW D gCl A (fun u => (wC D ad sc tw u))) A) 0 0 A := by
  refine Met.ofG (by decide) (Nat.le_of_ble_eq_true rfl) ?_
  intro p e s m below meth c ls hC _ hP hD hS hl
  have hC : CX RX1 cX1_slipFor 5 (some .int) D gCl nwG Z Hb A p s m _ meth c := hC
  have hl : lv_has ls 5 [(0, .ref (ad 0)), (1, .int x1), (2, .int x2)] := hl
  unfold w1_slipFor at hw
  refine lv_aload_n hC.x hC.b dX1_slipFor_0 rfl (lv_at hl 0 rfl) ?_
  refine go_v (run_V (rest := []) hC (m1_anew l hw) v1_1_anew h1_anew 0 0 gCl_X1 rfl rfl ⟨rfl, rfl, Nat.le_of_ble_eq_true rfl, Nat.le_of_ble_eq_true rfl⟩ ⟨Nat.le_refl _, Nat.le_refl _⟩ hP hD hS hl.1 (Nat.le_of_ble_eq_true rfl) dX1_slipFor_1 rfl) hS (fun S2 H locs hw394 hP hD hS => ?_)
  refine lv_aload_n hC.x hC.b dX1_slipFor_4 rfl (lv_at hl 0 rfl) ?_
  refine lv_aload_n hC.x hC.b dX1_slipFor_5 rfl (lv_at hl 0 rfl) ?_
  refine lv_iload_n hC.x hC.b dX1_slipFor_6 rfl (lv_at hl 1 rfl) ?_
  refine go_i (run_V (rest := [.ref (ad 0)]) hC (m1_isDead l hw394) v1_1_isDead h1_isDead 0 0 gCl_X1 rfl rfl ⟨rfl, rfl, Nat.le_of_ble_eq_true rfl, Nat.le_of_ble_eq_true rfl⟩ ⟨Nat.le_refl _, Nat.le_refl _⟩ hP hD hS hl.1 (Nat.le_of_ble_eq_true rfl) dX1_slipFor_7 rfl) hS (fun r3 u H locs hw395 hP hD hS => ?_)
  refine lv_iload_n hC.x hC.b dX1_slipFor_10 rfl (lv_at hl 2 rfl) ?_
  refine go_i (run_V (rest := []) hC (m1_nightWhy l hw395) v1_1_nightWhy h1_nightWhy 0 0 gCl_X1 rfl rfl ⟨rfl, rfl, Nat.le_of_ble_eq_true rfl, Nat.le_of_ble_eq_true rfl⟩ ⟨Nat.le_refl _, Nat.le_refl _⟩ hP hD hS hl.1 (Nat.le_of_ble_eq_true rfl) dX1_slipFor_11 rfl) hS (fun r4 u H locs hw396 hP hD hS => ?_)
  refine lv_istore_n (lv' := [(3, .int r4), (0, .ref (ad 0)), (1, .int x1), (2, .int x2)]) hC.x hC.b dX1_slipFor_14 rfl hl (by decide) rfl (fun ls hl => ?_)
  refine lv_iload_n hC.x hC.b dX1_slipFor_15 rfl (lv_at hl 0 rfl) ?_
  refine lv_if_eq (tgt := 25) hC.x hC.b dX1_slipFor_16 (by decide) (fun c5 => ?_) (fun c5 => ?_)
  · have hw397 := hw396.1 c5
    refine lv_iconst (v := 0) hC.x hC.b dX1_slipFor_25 (by decide) ?_
    refine lv_istore (lv' := [(4, .int 0), (3, .int r4), (0, .ref (ad 0)), (1, .int x1), (2, .int x2)]) hC.x hC.b dX1_slipFor_26 hl (by decide) rfl (fun ls hl => ?_)
    exact k1_slipFor_28 hC (S2, 0) hw397 H locs ls hP hD hS (lv_sub hl [2, 3, 4, 0] rfl)
  · have hw406 := hw396.2 c5
    refine lv_aload_n hC.x hC.b dX1_slipFor_19 rfl (lv_at hl 1 rfl) ?_
    refine lv_iload_n hC.x hC.b dX1_slipFor_20 rfl (lv_at hl 0 rfl) ?_
    refine go_i (run_V (rest := []) hC (m1_no l hw406) v1_1_no h1_no 0 0 gCl_X1 rfl rfl ⟨rfl, rfl, Nat.le_of_ble_eq_true rfl, Nat.le_of_ble_eq_true rfl⟩ ⟨Nat.le_refl _, Nat.le_refl _⟩ hP hD hS hl.1 (Nat.le_of_ble_eq_true rfl) dX1_slipFor_21 rfl) hS (fun r13 S14 H locs hw407 hP hD hS => ?_)
    exact rt_i hC hw407 hP hD hS dX1_slipFor_24
theorem v1_1_has : GoodIn lw_all (va_wsS RX1 232 yX1_has (ws_ yX1_has cX1_has 2 (some .boolean))) := lw_S q1116 q1117 q118 q1118
theorem v1_1_trySeats : GoodIn lw_all (wsV RX1 236 RX1 yX1_trySeats (ws_ yX1_trySeats cX1_trySeats 5 none)) := lw_V q1111 q1113 qs33 q118 q1114
theorem h1_trySeats : yX1_trySeats.cls = RX1 ∧ yX1_trySeats.cls ≠ "java/lang/invoke/MethodHandle" ∧ yX1_trySeats.cls ≠ "java/lang/invoke/VarHandle" ∧ (parseMethodDescriptor yX1_trySeats.desc).map (fun d => d.parameters.length) = some 3 := by decide +kernel
def f1_trySeats_62 (post : CS → Prop) (wself : (CS → Prop) → CS → Int32 → Int32 → Int32 → Prop) (x1 : Int32) (x2 : Int32) (x3 : Int32) (K62 : (CS × Int32) → Prop) (S : CS) (x4 : Int32) : Prop :=
  (((S.1.1 50 8) ≤ x4 → (post S)) ∧ (¬ (S.1.1 50 8) ≤ x4 → (w1_has (fun r3 => ((r3 = 0 → (vp_in x4 6 ∧ (vp_in x1 6 ∧ (∀ S7, S7 = sI S (300 + 4 * 2 + 1) x1.toNatClampNeg (S.1.1 10 x4.toNatClampNeg) → (wself (fun S9 => (K62 (S9, (x4 + 1)))) S7 (x1 + 1) (x2 ||| ((1 : Int32) <<< (x4 &&& 31))) x3))))) ∧ (¬ r3 = 0 → (K62 (S, (x4 + 1)))))) x2 x4)))
def wn1_trySeats (tw : Option TD) : Nat → (CS → Prop) → CS → Int32 → Int32 → Int32 → Prop
  | 0 => fun _ _ _ _ _ => False
  | n + 1 => fun post S x1 x2 x3 =>
    ((∃ τ, tw = some τ) ∧ ((¬ x1 = (S.1.1 50 8) → (lp (fun (K : (CS × Int32) → Prop) (z : (CS × Int32)) => f1_trySeats_62 post (wn1_trySeats tw n) x1 x2 x3 K z.1 z.2) (S, 0))) ∧ (x1 = (S.1.1 50 8) → (w4_rightOnes (fun r10 => (w1_ones (fun r11 => (((S.1.1 0 17) < r11 → (∀ S13, S13 = sI S 0 17 r11 → (∀ S14, S14 = sA S13 11 (va_cpy (S13.1.1 (300 + 4 * 2 + 1)) (S13.1.1 11) 0 0 6) → (post S14)))) ∧ (¬ (S.1.1 0 17) < r11 → (post S)))) r10)) tw S 2 x3))))
def cn1_trySeats (l : Launch) (D : va_G) (Z : State → Prop) (Hb : Heap) (A : Nat → Prop) (ad : Nat → Nat) (sc : Option Nat × Option Nat × (Nat → Value)) (tw : Option TD) (n : Nat) : Prop := ∀ {post : CS → Prop} {S : CS} {x1 : Int32} {x2 : Int32} {x3 : Int32} , wn1_trySeats tw n post S x1 x2 x3 → Met l yX1_trySeats (ws_ yX1_trySeats cX1_trySeats 5 none) ({ frames := n + 124, cells := 0, slots := 0, locals := n * 24 + 6093 } : Room) (va_Pc [.ref (ad 0), .int x1, .int x2, .int x3] (PcG D gCl nwG Z Hb A (wC D ad sc tw S))) (va_Qv post (BW D gCl A (fun u => (wC D ad sc tw u))) A) 0 0 A
set_option maxHeartbeats 4000000 in
theorem k1_trySeats_62 {post : CS → Prop} {x1 : Int32} {x2 : Int32} {x3 : Int32} {n : Nat} (hC : CX RX1 cX1_trySeats 5 none D gCl nwG Z Hb A p s m args meth c) (ih : cn1_trySeats l D Z Hb A ad sc (some τ) n) : ∀ z : (CS × Int32), lp (fun (K : (CS × Int32) → Prop) (z : (CS × Int32)) => f1_trySeats_62 post (wn1_trySeats (some τ) n) x1 x2 x3 K z.1 z.2) z → ∀ (H : Heap) (locs : List Loc) (ls : Array Slot), va_P D gCl (wC D ad sc (some τ) z.1) H → va_D A (wC D ad sc (some τ) z.1) → va_S A s.heap H locs → lv_has ls 5 [(0, .ref (ad 0)), (1, .int x1), (2, .int x2), (3, .int x3), (4, .int z.2)] → W p l e ({ frames := n + 1 + 124, cells := 0, slots := 0, locals := (n + 1) * 24 + 6093 } : Room) s m args below meth c H locs 0 0 (MQ below (va_Qv post (BW D gCl A (fun u => (wC D ad sc (some τ) u))) A) args s 0 0 A) (F0 m 62 ls []) := by
  refine lp_ind ?_
  rintro K62 ⟨S, x4⟩ hK62 hw H locs ls hP hD hS hl
  have hw : f1_trySeats_62 post (wn1_trySeats (some τ) n) x1 x2 x3 K62 S x4 := hw
  unfold f1_trySeats_62 at hw
  have hP : va_P D gCl (wC D ad sc (some τ) S) H := hP
  have hD : va_D A (wC D ad sc (some τ) S) := hD
  have hl : lv_has ls 5 [(0, .ref (ad 0)), (1, .int x1), (2, .int x2), (3, .int x3), (4, .int x4)] := hl
  refine lv_iload hC.x hC.b dX1_trySeats_62 (lv_at hl 4 rfl) ?_
  refine lv_aload_n hC.x hC.b dX1_trySeats_64 rfl (lv_at hl 0 rfl) ?_
  refine gO_3 hC hP dX1_trySeats_65 ?_
  refine gX1T_8 hC hP dX1_trySeats_68 ?_
  refine lv_icmp_ge (tgt := 122) hC.x hC.b dX1_trySeats_71 (by decide) (fun c2 => ?_) (fun c2 => ?_)
  · have hw410 := hw.1 c2
    exact rt_v hC hw410 hP hD hS dX1_trySeats_122
  · have hw411 := hw.2 c2
    refine lv_iload_n hC.x hC.b dX1_trySeats_74 rfl (lv_at hl 2 rfl) ?_
    refine lv_iload hC.x hC.b dX1_trySeats_75 (lv_at hl 4 rfl) ?_
    refine go_i (run_S (rest := []) hC (m1_has l hw411) v1_1_has h1_has ⟨rfl, rfl, Nat.le_of_ble_eq_true rfl, Nat.le_of_ble_eq_true rfl⟩ ⟨Nat.le_refl _, Nat.le_refl _⟩ hP hD hS hl.1 (Nat.le_of_ble_eq_true rfl) dX1_trySeats_77 rfl) hS (fun r3 u H locs hw412 hP hD hS => ?_)
    refine lv_if_eq (tgt := 86) hC.x hC.b dX1_trySeats_80 (by decide) (fun c4 => ?_) (fun c4 => ?_)
    · have hw413 := hw412.1 c4
      refine lv_aload_n hC.x hC.b dX1_trySeats_86 rfl (lv_at hl 0 rfl) ?_
      refine gO_11 hC hP dX1_trySeats_87 ?_
      refine gX1S_0 (r := 2) (by decide) hC hP dX1_trySeats_90 ?_
      refine lv_iload_n hC.x hC.b dX1_trySeats_93 rfl (lv_at hl 1 rfl) ?_
      refine lv_aload_n hC.x hC.b dX1_trySeats_94 rfl (lv_at hl 0 rfl) ?_
      refine gO_15 hC hP dX1_trySeats_95 ?_
      refine lv_iload hC.x hC.b dX1_trySeats_98 (lv_at hl 4 rfl) ?_
      obtain ⟨hin5, hw414⟩ := hw413
      refine lF_10 hC hP hin5 rfl dX1_trySeats_100 ?_
      obtain ⟨hin6, hw415⟩ := hw414
      refine sS_1 (r := 2) (by decide) hC hP hD hS (v := (S.1.1 10 x4.toNatClampNeg)) hin6 rfl dX1_trySeats_101 (fun S7 eS7 H locs hP hD hS => ?_)
      have hw416 := hw415 S7 eS7
      refine lv_aload_n hC.x hC.b dX1_trySeats_102 rfl (lv_at hl 0 rfl) ?_
      refine lv_iload_n hC.x hC.b dX1_trySeats_103 rfl (lv_at hl 1 rfl) ?_
      refine lv_iconst (v := 1) hC.x hC.b dX1_trySeats_104 (by decide) ?_
      refine lv_iadd hC.x hC.b dX1_trySeats_105 ?_
      refine lv_iload_n hC.x hC.b dX1_trySeats_106 rfl (lv_at hl 2 rfl) ?_
      refine lv_iconst (v := 1) hC.x hC.b dX1_trySeats_107 (by decide) ?_
      refine lv_iload hC.x hC.b dX1_trySeats_108 (lv_at hl 4 rfl) ?_
      refine lv_ishl hC.x hC.b dX1_trySeats_110 ?_
      refine lv_ior hC.x hC.b dX1_trySeats_111 ?_
      refine lv_iload_n hC.x hC.b dX1_trySeats_112 rfl (lv_at hl 3 rfl) ?_
      refine go_v (run_V (rest := []) hC (ih hw416) v1_1_trySeats h1_trySeats 0 0 gCl_X1 rfl rfl ⟨rfl, rfl, (by simp only []; omega), (by simp only []; omega)⟩ ⟨Nat.le_refl _, Nat.le_refl _⟩ hP hD hS hl.1 (Nat.le_of_ble_eq_true rfl) dX1_trySeats_113 rfl) hS (fun S9 H locs hw417 hP hD hS => ?_)
      refine lv_iinc (v := (x4 + 1)) (lv' := [(4, .int (x4 + 1)), (0, .ref (ad 0)), (1, .int x1), (2, .int x2), (3, .int x3)]) hC.x hC.b dX1_trySeats_116 hl (k := 4) rfl rfl (by decide) rfl (fun ls hl => ?_)
      refine lv_goto (tgt := 62) hC.x hC.b dX1_trySeats_119 (by decide) ?_
      exact hK62 (S9, (x4 + 1)) hw417 H locs ls hP hD hS (lv_sub hl [1, 2, 3, 4, 0] rfl)
    · have hw418 := hw412.2 c4
      refine lv_goto (tgt := 116) hC.x hC.b dX1_trySeats_83 (by decide) ?_
      refine lv_iinc (v := (x4 + 1)) (lv' := [(4, .int (x4 + 1)), (0, .ref (ad 0)), (1, .int x1), (2, .int x2), (3, .int x3)]) hC.x hC.b dX1_trySeats_116 hl (k := 4) rfl rfl (by decide) rfl (fun ls hl => ?_)
      refine lv_goto (tgt := 62) hC.x hC.b dX1_trySeats_119 (by decide) ?_
      exact hK62 (S, (x4 + 1)) hw418 H locs ls hP hD hS (lv_sub hl [1, 2, 3, 4, 0] rfl)
set_option maxHeartbeats 4000000 in
theorem cm1_trySeats (l : Launch) : ∀ n, cn1_trySeats l D Z Hb A ad sc tw n := by
  intro n
  induction n with
  | zero => intro post S x1 x2 x3 hw; exact hw.elim
  | succ n ih =>
    intro post S x1 x2 x3 hw
    refine Met.ofG (by decide) (Nat.le_of_ble_eq_true rfl) ?_
    intro p e s m below meth c ls hC _ hP hD hS hl
    have hC : CX RX1 cX1_trySeats 5 none D gCl nwG Z Hb A p s m _ meth c := hC
    have hl : lv_has ls 5 [(0, .ref (ad 0)), (1, .int x1), (2, .int x2), (3, .int x3)] := hl
    unfold wn1_trySeats at hw
    refine lv_iload_n hC.x hC.b dX1_trySeats_0 rfl (lv_at hl 1 rfl) ?_
    refine lv_aload_n hC.x hC.b dX1_trySeats_1 rfl (lv_at hl 0 rfl) ?_
    refine gO_3 hC hP dX1_trySeats_2 ?_
    obtain ⟨⟨τ, rfl⟩, hw408⟩ := hw
    refine gX1T_8 hC hP dX1_trySeats_5 ?_
    refine lv_icmp_ne (tgt := 59) hC.x hC.b dX1_trySeats_8 (by decide) (fun c1 => ?_) (fun c1 => ?_)
    · have hw409 := hw408.1 c1
      refine lv_iconst (v := 0) hC.x hC.b dX1_trySeats_59 (by decide) ?_
      refine lv_istore (lv' := [(4, .int 0), (0, .ref (ad 0)), (1, .int x1), (2, .int x2), (3, .int x3)]) hC.x hC.b dX1_trySeats_60 hl (by decide) rfl (fun ls hl => ?_)
      exact k1_trySeats_62 hC ih (S, 0) hw409 s.heap [] ls hP hD hS (lv_sub hl [1, 2, 3, 4, 0] rfl)
    · have hw419 := hw408.2 c1
      refine lv_aload_n hC.x hC.b dX1_trySeats_11 rfl (lv_at hl 0 rfl) ?_
      refine gO_11 hC hP dX1_trySeats_12 ?_
      refine lv_iload_n hC.x hC.b dX1_trySeats_15 rfl (lv_at hl 3 rfl) ?_
      refine go_i (run_V (rest := []) hC (m4_rightOnes l (by decide) hw419) v1_4_rightOnes h4_rightOnes (17 + 4 * 2) 3 gCl_X4 (wC_so (by decide)) rfl ⟨rfl, rfl, Nat.le_of_ble_eq_true rfl, Nat.le_of_ble_eq_true rfl⟩ ⟨Nat.le_refl _, Nat.le_refl _⟩ hP hD hS hl.1 (Nat.le_of_ble_eq_true rfl) dX1_trySeats_16 rfl) hS (fun r10 u H locs hw420 hP hD hS => ?_)
      refine go_i (run_S (rest := []) hC (m1_ones l hw420) v1_1_ones h1_ones ⟨rfl, rfl, Nat.le_of_ble_eq_true rfl, Nat.le_of_ble_eq_true rfl⟩ ⟨Nat.le_refl _, Nat.le_refl _⟩ hP hD hS hl.1 (Nat.le_of_ble_eq_true rfl) dX1_trySeats_19 rfl) hS (fun r11 u H locs hw421 hP hD hS => ?_)
      refine lv_istore (lv' := [(4, .int r11), (0, .ref (ad 0)), (1, .int x1), (2, .int x2), (3, .int x3)]) hC.x hC.b dX1_trySeats_22 hl (by decide) rfl (fun ls hl => ?_)
      refine lv_iload hC.x hC.b dX1_trySeats_24 (lv_at hl 0 rfl) ?_
      refine lv_aload_n hC.x hC.b dX1_trySeats_26 rfl (lv_at hl 1 rfl) ?_
      refine gO_17 hC hP dX1_trySeats_27 ?_
      refine lv_icmp_gt (tgt := 34) hC.x hC.b dX1_trySeats_30 (by decide) (fun c12 => ?_) (fun c12 => ?_)
      · have hw422 := hw421.1 c12
        refine lv_aload_n hC.x hC.b dX1_trySeats_34 rfl (lv_at hl 1 rfl) ?_
        refine lv_iload hC.x hC.b dX1_trySeats_35 (lv_at hl 0 rfl) ?_
        refine pO_17 hC hP hD hS (v := r11) dX1_trySeats_37 (fun S13 eS13 H locs hP hD hS => ?_)
        have hw423 := hw422 S13 eS13
        refine lv_aload_n hC.x hC.b dX1_trySeats_40 rfl (lv_at hl 1 rfl) ?_
        refine gO_11 hC hP dX1_trySeats_41 ?_
        refine gX1S_0 (r := 2) (by decide) hC hP dX1_trySeats_44 ?_
        refine lv_iconst (v := 0) hC.x hC.b dX1_trySeats_47 (by decide) ?_
        refine lv_aload_n hC.x hC.b dX1_trySeats_48 rfl (lv_at hl 1 rfl) ?_
        refine gO_16 hC hP dX1_trySeats_49 ?_
        refine lv_iconst (v := 0) hC.x hC.b dX1_trySeats_52 (by decide) ?_
        refine lv_bipush (v := 6) hC.x hC.b dX1_trySeats_53 (by decide) ?_
        refine cSe (r2 := 2) (by decide) hC hP hD hS hl.1 (Nat.le_of_ble_eq_true rfl) (Nat.le_of_ble_eq_true rfl) dX1_trySeats_55 (fun S14 eS14 H locs hP hD hS => ?_)
        have hw424 := hw423 S14 eS14
        exact rt_v hC hw424 hP hD hS dX1_trySeats_58
      · have hw425 := hw421.2 c12
        exact rt_v hC hw425 hP hD hS dX1_trySeats_33
def w1_trySeats (post : CS → Prop) (tw : Option TD) (S : CS) (x1 : Int32) (x2 : Int32) (x3 : Int32) : Prop := wn1_trySeats tw 8 post S x1 x2 x3
theorem m1_trySeats (l : Launch) {post : CS → Prop} {S : CS} {x1 : Int32} {x2 : Int32} {x3 : Int32} (hw : w1_trySeats post tw S x1 x2 x3) : Met l yX1_trySeats (ws_ yX1_trySeats cX1_trySeats 5 none) ({ frames := 132, cells := 0, slots := 0, locals := 6285 } : Room) (va_Pc [.ref (ad 0), .int x1, .int x2, .int x3] (PcG D gCl nwG Z Hb A (wC D ad sc tw S))) (va_Qv post (BW D gCl A (fun u => (wC D ad sc tw u))) A) 0 0 A := cm1_trySeats l 8 hw
theorem h1_seek : yX1_seek.cls = RX1 ∧ yX1_seek.cls ≠ "java/lang/invoke/MethodHandle" ∧ yX1_seek.cls ≠ "java/lang/invoke/VarHandle" ∧ (parseMethodDescriptor yX1_seek.desc).map (fun d => d.parameters.length) = some 1 := by decide +kernel
def f1_seek_35 (K19 : (CS × Int32) → Prop) (S : CS) (x2 : Int32) (K35 : (Int32 × Int32) → Prop) (x3 : Int32) (x4 : Int32) : Prop :=
  (((S.1.1 50 8) ≤ x4 → (vp_in x2 6 ∧ (vp_in x3 6 ∧ (∀ S10, S10 = sI S 10 x3.toNatClampNeg (S.1.1 (300 + 4 * 0 + 1) x2.toNatClampNeg) → (K19 (S10, (x2 + 1))))))) ∧ (¬ (S.1.1 50 8) ≤ x4 → (vp_in x4 6 ∧ (vp_in x2 6 ∧ (((S.1.1 (300 + 4 * 0 + 1) x2.toNatClampNeg) ≤ (S.1.1 (300 + 4 * 0 + 1) x4.toNatClampNeg) → (K35 ((x3 + 0), (x4 + 1)))) ∧ (¬ (S.1.1 (300 + 4 * 0 + 1) x2.toNatClampNeg) ≤ (S.1.1 (300 + 4 * 0 + 1) x4.toNatClampNeg) → (K35 ((x3 + 1), (x4 + 1)))))))))
set_option maxHeartbeats 4000000 in
theorem k1_seek_35 {post : CS → Prop} {S : CS} {x1 : Int32} {x2 : Int32} {K19 : (CS × Int32) → Prop} (hC : CX RX1 cX1_seek 5 none D gCl nwG Z Hb A p s m args meth c) (hK19 : ∀ z : (CS × Int32), K19 z → ∀ (H : Heap) (locs : List Loc) (ls : Array Slot), va_P D gCl (wC D ad sc (some τ) z.1) H → va_D A (wC D ad sc (some τ) z.1) → va_S A s.heap H locs → lv_has ls 5 [(0, .ref (ad 0)), (1, .int x1), (2, .int z.2)] → W p l e ({ frames := 133, cells := 0, slots := 0, locals := 6309 } : Room) s m args below meth c H locs 0 0 (MQ below (va_Qv post (BW D gCl A (fun u => (wC D ad sc (some τ) u))) A) args s 0 0 A) (F0 m 19 ls [])) : ∀ z : (Int32 × Int32), lp (fun (K : (Int32 × Int32) → Prop) (z : (Int32 × Int32)) => f1_seek_35 K19 S x2 K z.1 z.2) z → ∀ (H : Heap) (locs : List Loc) (ls : Array Slot), va_P D gCl (wC D ad sc (some τ) S) H → va_D A (wC D ad sc (some τ) S) → va_S A s.heap H locs → lv_has ls 5 [(0, .ref (ad 0)), (1, .int x1), (2, .int x2), (3, .int z.1), (4, .int z.2)] → W p l e ({ frames := 133, cells := 0, slots := 0, locals := 6309 } : Room) s m args below meth c H locs 0 0 (MQ below (va_Qv post (BW D gCl A (fun u => (wC D ad sc (some τ) u))) A) args s 0 0 A) (F0 m 35 ls []) := by
  refine lp_ind ?_
  rintro K35 ⟨x3, x4⟩ hK35 hw H locs ls hP hD hS hl
  have hw : f1_seek_35 K19 S x2 K35 x3 x4 := hw
  unfold f1_seek_35 at hw
  have hP : va_P D gCl (wC D ad sc (some τ) S) H := hP
  have hD : va_D A (wC D ad sc (some τ) S) := hD
  have hl : lv_has ls 5 [(0, .ref (ad 0)), (1, .int x1), (2, .int x2), (3, .int x3), (4, .int x4)] := hl
  refine lv_iload hC.x hC.b dX1_seek_35 (lv_at hl 4 rfl) ?_
  refine lv_aload_n hC.x hC.b dX1_seek_37 rfl (lv_at hl 0 rfl) ?_
  refine gO_3 hC hP dX1_seek_38 ?_
  refine gX1T_8 hC hP dX1_seek_41 ?_
  refine lv_icmp_ge (tgt := 83) hC.x hC.b dX1_seek_44 (by decide) (fun c7 => ?_) (fun c7 => ?_)
  · have hw432 := hw.1 c7
    refine lv_aload_n hC.x hC.b dX1_seek_83 rfl (lv_at hl 0 rfl) ?_
    refine gO_15 hC hP dX1_seek_84 ?_
    refine lv_iload_n hC.x hC.b dX1_seek_87 rfl (lv_at hl 3 rfl) ?_
    refine lv_aload_n hC.x hC.b dX1_seek_88 rfl (lv_at hl 0 rfl) ?_
    refine gO_9 hC hP dX1_seek_89 ?_
    refine gX1S_0 (r := 0) (by decide) hC hP dX1_seek_92 ?_
    refine lv_iload_n hC.x hC.b dX1_seek_95 rfl (lv_at hl 2 rfl) ?_
    obtain ⟨hin8, hw433⟩ := hw432
    refine lS_1 (r := 0) (by decide) hC hP hin8 rfl dX1_seek_96 ?_
    obtain ⟨hin9, hw434⟩ := hw433
    refine sF_10 hC hP hD hS (v := (S.1.1 (300 + 4 * 0 + 1) x2.toNatClampNeg)) hin9 rfl dX1_seek_97 (fun S10 eS10 H locs hP hD hS => ?_)
    have hw435 := hw434 S10 eS10
    refine lv_iinc (v := (x2 + 1)) (lv' := [(2, .int (x2 + 1)), (0, .ref (ad 0)), (1, .int x1), (3, .int x3), (4, .int x4)]) hC.x hC.b dX1_seek_98 hl (k := 2) rfl rfl (by decide) rfl (fun ls hl => ?_)
    refine lv_goto (tgt := 19) hC.x hC.b dX1_seek_101 (by decide) ?_
    exact hK19 (S10, (x2 + 1)) hw435 H locs ls hP hD hS (lv_sub hl [1, 2, 0] rfl)
  · have hw436 := hw.2 c7
    refine lv_iload_n hC.x hC.b dX1_seek_47 rfl (lv_at hl 3 rfl) ?_
    refine lv_aload_n hC.x hC.b dX1_seek_48 rfl (lv_at hl 0 rfl) ?_
    refine gO_9 hC hP dX1_seek_49 ?_
    refine gX1S_0 (r := 0) (by decide) hC hP dX1_seek_52 ?_
    refine lv_iload hC.x hC.b dX1_seek_55 (lv_at hl 4 rfl) ?_
    obtain ⟨hin11, hw437⟩ := hw436
    refine lS_1 (r := 0) (by decide) hC hP hin11 rfl dX1_seek_57 ?_
    refine lv_aload_n hC.x hC.b dX1_seek_58 rfl (lv_at hl 0 rfl) ?_
    refine gO_9 hC hP dX1_seek_59 ?_
    refine gX1S_0 (r := 0) (by decide) hC hP dX1_seek_62 ?_
    refine lv_iload_n hC.x hC.b dX1_seek_65 rfl (lv_at hl 2 rfl) ?_
    obtain ⟨hin12, hw438⟩ := hw437
    refine lS_1 (r := 0) (by decide) hC hP hin12 rfl dX1_seek_66 ?_
    refine lv_icmp_ge (tgt := 74) hC.x hC.b dX1_seek_67 (by decide) (fun c13 => ?_) (fun c13 => ?_)
    · have hw439 := hw438.1 c13
      refine lv_iconst (v := 0) hC.x hC.b dX1_seek_74 (by decide) ?_
      refine lv_iadd hC.x hC.b dX1_seek_75 ?_
      refine lv_istore_n (lv' := [(3, .int (x3 + 0)), (0, .ref (ad 0)), (1, .int x1), (2, .int x2), (4, .int x4)]) hC.x hC.b dX1_seek_76 rfl hl (by decide) rfl (fun ls hl => ?_)
      refine lv_iinc (v := (x4 + 1)) (lv' := [(4, .int (x4 + 1)), (3, .int (x3 + 0)), (0, .ref (ad 0)), (1, .int x1), (2, .int x2)]) hC.x hC.b dX1_seek_77 hl (k := 4) rfl rfl (by decide) rfl (fun ls hl => ?_)
      refine lv_goto (tgt := 35) hC.x hC.b dX1_seek_80 (by decide) ?_
      exact hK35 ((x3 + 0), (x4 + 1)) hw439 H locs ls hP hD hS (lv_sub hl [2, 3, 4, 1, 0] rfl)
    · have hw440 := hw438.2 c13
      refine lv_iconst (v := 1) hC.x hC.b dX1_seek_70 (by decide) ?_
      refine lv_goto (tgt := 75) hC.x hC.b dX1_seek_71 (by decide) ?_
      refine lv_iadd hC.x hC.b dX1_seek_75 ?_
      refine lv_istore_n (lv' := [(3, .int (x3 + 1)), (0, .ref (ad 0)), (1, .int x1), (2, .int x2), (4, .int x4)]) hC.x hC.b dX1_seek_76 rfl hl (by decide) rfl (fun ls hl => ?_)
      refine lv_iinc (v := (x4 + 1)) (lv' := [(4, .int (x4 + 1)), (3, .int (x3 + 1)), (0, .ref (ad 0)), (1, .int x1), (2, .int x2)]) hC.x hC.b dX1_seek_77 hl (k := 4) rfl rfl (by decide) rfl (fun ls hl => ?_)
      refine lv_goto (tgt := 35) hC.x hC.b dX1_seek_80 (by decide) ?_
      exact hK35 ((x3 + 1), (x4 + 1)) hw440 H locs ls hP hD hS (lv_sub hl [2, 3, 4, 1, 0] rfl)
def f1_seek_19 (post : CS → Prop) (tw : Option TD) (x1 : Int32) (K19 : (CS × Int32) → Prop) (S : CS) (x2 : Int32) : Prop :=
  ((∃ τ, tw = some τ) ∧ (((S.1.1 50 8) ≤ x2 → (w1_trySeats (fun S6 => (post S6)) tw S 0 0 x1)) ∧ (¬ (S.1.1 50 8) ≤ x2 → (lp (fun (K : (Int32 × Int32) → Prop) (z : (Int32 × Int32)) => f1_seek_35 K19 S x2 K z.1 z.2) (0, 0)))))
set_option maxHeartbeats 4000000 in
theorem k1_seek_19 {post : CS → Prop} {x1 : Int32} (hC : CX RX1 cX1_seek 5 none D gCl nwG Z Hb A p s m args meth c) : ∀ z : (CS × Int32), lp (fun (K : (CS × Int32) → Prop) (z : (CS × Int32)) => f1_seek_19 post tw x1 K z.1 z.2) z → ∀ (H : Heap) (locs : List Loc) (ls : Array Slot), va_P D gCl (wC D ad sc tw z.1) H → va_D A (wC D ad sc tw z.1) → va_S A s.heap H locs → lv_has ls 5 [(0, .ref (ad 0)), (1, .int x1), (2, .int z.2)] → W p l e ({ frames := 133, cells := 0, slots := 0, locals := 6309 } : Room) s m args below meth c H locs 0 0 (MQ below (va_Qv post (BW D gCl A (fun u => (wC D ad sc tw u))) A) args s 0 0 A) (F0 m 19 ls []) := by
  refine lp_ind ?_
  rintro K19 ⟨S, x2⟩ hK19 hw H locs ls hP hD hS hl
  have hw : f1_seek_19 post tw x1 K19 S x2 := hw
  unfold f1_seek_19 at hw
  have hP : va_P D gCl (wC D ad sc tw S) H := hP
  have hD : va_D A (wC D ad sc tw S) := hD
  have hl : lv_has ls 5 [(0, .ref (ad 0)), (1, .int x1), (2, .int x2)] := hl
  refine lv_iload_n hC.x hC.b dX1_seek_19 rfl (lv_at hl 2 rfl) ?_
  refine lv_aload_n hC.x hC.b dX1_seek_20 rfl (lv_at hl 0 rfl) ?_
  refine gO_3 hC hP dX1_seek_21 ?_
  obtain ⟨⟨τ, rfl⟩, hw428⟩ := hw
  refine gX1T_8 hC hP dX1_seek_24 ?_
  refine lv_icmp_ge (tgt := 104) hC.x hC.b dX1_seek_27 (by decide) (fun c4 => ?_) (fun c4 => ?_)
  · have hw429 := hw428.1 c4
    refine lv_aload_n hC.x hC.b dX1_seek_104 rfl (lv_at hl 0 rfl) ?_
    refine lv_iconst (v := 0) hC.x hC.b dX1_seek_105 (by decide) ?_
    refine lv_iconst (v := 0) hC.x hC.b dX1_seek_106 (by decide) ?_
    refine lv_iload_n hC.x hC.b dX1_seek_107 rfl (lv_at hl 1 rfl) ?_
    refine go_v (run_V (rest := []) hC (m1_trySeats l hw429) v1_1_trySeats h1_trySeats 0 0 gCl_X1 rfl rfl ⟨rfl, rfl, Nat.le_of_ble_eq_true rfl, Nat.le_of_ble_eq_true rfl⟩ ⟨Nat.le_refl _, Nat.le_refl _⟩ hP hD hS hl.1 (Nat.le_of_ble_eq_true rfl) dX1_seek_108 rfl) hS (fun S6 H locs hw430 hP hD hS => ?_)
    exact rt_v hC hw430 hP hD hS dX1_seek_111
  · have hw431 := hw428.2 c4
    refine lv_iconst (v := 0) hC.x hC.b dX1_seek_30 (by decide) ?_
    refine lv_istore_n (lv' := [(3, .int 0), (0, .ref (ad 0)), (1, .int x1), (2, .int x2)]) hC.x hC.b dX1_seek_31 rfl hl (by decide) rfl (fun ls hl => ?_)
    refine lv_iconst (v := 0) hC.x hC.b dX1_seek_32 (by decide) ?_
    refine lv_istore (lv' := [(4, .int 0), (3, .int 0), (0, .ref (ad 0)), (1, .int x1), (2, .int x2)]) hC.x hC.b dX1_seek_33 hl (by decide) rfl (fun ls hl => ?_)
    exact k1_seek_35 hC hK19 (0, 0) hw431 H locs ls hP hD hS (lv_sub hl [2, 3, 4, 1, 0] rfl)
def w1_seek (post : CS → Prop) (tw : Option TD) (S : CS) (x1 : Int32) : Prop :=
  (w4_become (fun S2 => (∀ S3, S3 = sI S2 0 17 (-1) → (lp (fun (K : (CS × Int32) → Prop) (z : (CS × Int32)) => f1_seek_19 post tw x1 K z.1 z.2) (S3, 0)))) S 2 0)
set_option maxHeartbeats 4000000 in
theorem m1_seek (l : Launch) {post : CS → Prop} {S : CS} {x1 : Int32} (hw : w1_seek post tw S x1) : Met l yX1_seek (ws_ yX1_seek cX1_seek 5 none) ({ frames := 133, cells := 0, slots := 0, locals := 6309 } : Room) (va_Pc [.ref (ad 0), .int x1] (PcG D gCl nwG Z Hb A (wC D ad sc tw S))) (va_Qv post (BW D gCl A (fun u => (wC D ad sc tw u))) A) 0 0 A := by
  refine Met.ofG (by decide) (Nat.le_of_ble_eq_true rfl) ?_
  intro p e s m below meth c ls hC _ hP hD hS hl
  have hC : CX RX1 cX1_seek 5 none D gCl nwG Z Hb A p s m _ meth c := hC
  have hl : lv_has ls 5 [(0, .ref (ad 0)), (1, .int x1)] := hl
  unfold w1_seek at hw
  refine lv_aload_n hC.x hC.b dX1_seek_0 rfl (lv_at hl 0 rfl) ?_
  refine gO_11 hC hP dX1_seek_1 ?_
  refine lv_aload_n hC.x hC.b dX1_seek_4 rfl (lv_at hl 0 rfl) ?_
  refine gO_9 hC hP dX1_seek_5 ?_
  refine go_r (run_V (rest := []) hC (m4_become l (by decide) (by decide) hw) v1_4_become h4_become (17 + 4 * 2) 3 gCl_X4 (wC_so (by decide)) rfl ⟨rfl, rfl, Nat.le_of_ble_eq_true rfl, Nat.le_of_ble_eq_true rfl⟩ ⟨Nat.le_refl _, Nat.le_refl _⟩ hP hD hS hl.1 (Nat.le_of_ble_eq_true rfl) dX1_seek_8 rfl) hS (fun S2 H locs hw426 hP hD hS => ?_)
  refine lv_pop hC.x hC.b dX1_seek_11 rfl ?_
  refine lv_aload_n hC.x hC.b dX1_seek_12 rfl (lv_at hl 0 rfl) ?_
  refine lv_iconst (v := (-1)) hC.x hC.b dX1_seek_13 (by decide) ?_
  refine pO_17 hC hP hD hS (v := (-1)) dX1_seek_14 (fun S3 eS3 H locs hP hD hS => ?_)
  have hw427 := hw426 S3 eS3
  refine lv_iconst (v := 0) hC.x hC.b dX1_seek_17 (by decide) ?_
  refine lv_istore_n (lv' := [(2, .int 0), (0, .ref (ad 0)), (1, .int x1)]) hC.x hC.b dX1_seek_18 rfl hl (by decide) rfl (fun ls hl => ?_)
  exact k1_seek_19 hC (S3, 0) hw427 H locs ls hP hD hS (lv_sub hl [1, 2, 0] rfl)
theorem v1_1_seek : GoodIn lw_all (wsV RX1 240 RX1 yX1_seek (ws_ yX1_seek cX1_seek 5 none)) := lw_V q1107 q1109 qs32 q118 q1110
theorem h1_seat : yX1_seat.cls = RX1 ∧ yX1_seat.cls ≠ "java/lang/invoke/MethodHandle" ∧ yX1_seat.cls ≠ "java/lang/invoke/VarHandle" ∧ (parseMethodDescriptor yX1_seat.desc).map (fun d => d.parameters.length) = some 1 := by decide +kernel
def j1_seat_17 (post : Int32 → CS → Prop) (tw : Option TD) (S : CS) (x1 : Int32) (y1 : Int32) : Prop :=
  (w1_nightWhy (fun r4 => ((r4 = 0 → (w1_seek (fun S7 => (post (S7.1.1 0 17) S7)) tw S x1)) ∧ (¬ r4 = 0 → (w1_no (fun r8 S9 => (post r8 S9)) S r4)))) S y1 x1)
set_option maxHeartbeats 4000000 in
theorem k1_seat_17 {post : Int32 → CS → Prop} {S : CS} {x1 : Int32} {y1 : Int32} (hC : CX RX1 cX1_seat 3 (some .int) D gCl nwG Z Hb A p s m args meth c) (hw : j1_seat_17 post tw S x1 y1) : ∀ (H : Heap) (locs : List Loc) (ls : Array Slot), va_P D gCl (wC D ad sc tw S) H → va_D A (wC D ad sc tw S) → va_S A s.heap H locs → lv_has ls 3 [(0, .ref (ad 0)), (1, .int x1)] → W p l e ({ frames := 134, cells := 0, slots := 0, locals := 6333 } : Room) s m args below meth c H locs 0 0 (MQ below (va_Qi post (BW D gCl A (fun u => (wC D ad sc tw u))) A) args s 0 0 A) (F0 m 17 ls [.int y1, .ref (ad 0)]) := by
  intro H locs ls hP hD hS hl
  unfold j1_seat_17 at hw
  refine lv_iload_n hC.x hC.b dX1_seat_17 rfl (lv_at hl 1 rfl) ?_
  refine go_i (run_V (rest := []) hC (m1_nightWhy l hw) v1_1_nightWhy h1_nightWhy 0 0 gCl_X1 rfl rfl ⟨rfl, rfl, Nat.le_of_ble_eq_true rfl, Nat.le_of_ble_eq_true rfl⟩ ⟨Nat.le_refl _, Nat.le_refl _⟩ hP hD hS hl.1 (Nat.le_of_ble_eq_true rfl) dX1_seat_18 rfl) hS (fun r4 u H locs hw443 hP hD hS => ?_)
  refine lv_istore_n (lv' := [(2, .int r4), (0, .ref (ad 0)), (1, .int x1)]) hC.x hC.b dX1_seat_21 rfl hl (by decide) rfl (fun ls hl => ?_)
  refine lv_iload_n hC.x hC.b dX1_seat_22 rfl (lv_at hl 0 rfl) ?_
  refine lv_if_eq (tgt := 32) hC.x hC.b dX1_seat_23 (by decide) (fun c5 => ?_) (fun c5 => ?_)
  · have hw444 := hw443.1 c5
    refine lv_aload_n hC.x hC.b dX1_seat_32 rfl (lv_at hl 1 rfl) ?_
    refine lv_iload_n hC.x hC.b dX1_seat_33 rfl (lv_at hl 2 rfl) ?_
    refine go_v (run_V (rest := []) hC (m1_seek l hw444) v1_1_seek h1_seek 0 0 gCl_X1 rfl rfl ⟨rfl, rfl, Nat.le_of_ble_eq_true rfl, Nat.le_of_ble_eq_true rfl⟩ ⟨Nat.le_refl _, Nat.le_refl _⟩ hP hD hS hl.1 (Nat.le_of_ble_eq_true rfl) dX1_seat_34 rfl) hS (fun S7 H locs hw445 hP hD hS => ?_)
    refine lv_aload_n hC.x hC.b dX1_seat_37 rfl (lv_at hl 1 rfl) ?_
    refine gO_17 hC hP dX1_seat_38 ?_
    exact rt_i hC hw445 hP hD hS dX1_seat_41
  · have hw446 := hw443.2 c5
    refine lv_aload_n hC.x hC.b dX1_seat_26 rfl (lv_at hl 1 rfl) ?_
    refine lv_iload_n hC.x hC.b dX1_seat_27 rfl (lv_at hl 0 rfl) ?_
    refine go_i (run_V (rest := []) hC (m1_no l hw446) v1_1_no h1_no 0 0 gCl_X1 rfl rfl ⟨rfl, rfl, Nat.le_of_ble_eq_true rfl, Nat.le_of_ble_eq_true rfl⟩ ⟨Nat.le_refl _, Nat.le_refl _⟩ hP hD hS hl.1 (Nat.le_of_ble_eq_true rfl) dX1_seat_28 rfl) hS (fun r8 S9 H locs hw447 hP hD hS => ?_)
    exact rt_i hC hw447 hP hD hS dX1_seat_31
def w1_seat (post : Int32 → CS → Prop) (tw : Option TD) (S : CS) (x1 : Int32) : Prop :=
  (w1_anew (fun S2 => ((tw = none → (j1_seat_17 post tw S2 x1 0)) ∧ ((∃ τ, tw = some τ) → (j1_seat_17 post tw S2 x1 1)))) S)
set_option maxHeartbeats 4000000 in
theorem m1_seat (l : Launch) {post : Int32 → CS → Prop} {S : CS} {x1 : Int32} (hw : w1_seat post tw S x1) : Met l yX1_seat (ws_ yX1_seat cX1_seat 3 (some .int)) ({ frames := 134, cells := 0, slots := 0, locals := 6333 } : Room) (va_Pc [.ref (ad 0), .int x1] (PcG D gCl nwG Z Hb A (wC D ad sc tw S))) (va_Qi post (BW D gCl A (fun u => (wC D ad sc tw u))) A) 0 0 A := by
  refine Met.ofG (by decide) (Nat.le_of_ble_eq_true rfl) ?_
  intro p e s m below meth c ls hC _ hP hD hS hl
  have hC : CX RX1 cX1_seat 3 (some .int) D gCl nwG Z Hb A p s m _ meth c := hC
  have hl : lv_has ls 3 [(0, .ref (ad 0)), (1, .int x1)] := hl
  unfold w1_seat at hw
  refine lv_aload_n hC.x hC.b dX1_seat_0 rfl (lv_at hl 0 rfl) ?_
  refine go_v (run_V (rest := []) hC (m1_anew l hw) v1_1_anew h1_anew 0 0 gCl_X1 rfl rfl ⟨rfl, rfl, Nat.le_of_ble_eq_true rfl, Nat.le_of_ble_eq_true rfl⟩ ⟨Nat.le_refl _, Nat.le_refl _⟩ hP hD hS hl.1 (Nat.le_of_ble_eq_true rfl) dX1_seat_1 rfl) hS (fun S2 H locs hw441 hP hD hS => ?_)
  refine lv_aload_n hC.x hC.b dX1_seat_4 rfl (lv_at hl 0 rfl) ?_
  refine lv_aload_n hC.x hC.b dX1_seat_5 rfl (lv_at hl 0 rfl) ?_
  refine gO_3 hC hP dX1_seat_6 ?_
  rcases va_o2 tw with c3 | ⟨τ, c3⟩
  · have hw442 := hw441.1 c3
    subst c3
    refine lv_ifnullN (tgt := 16) hC.x hC.b dX1_seat_9 (by decide) ?_
    refine lv_iconst (v := 0) hC.x hC.b dX1_seat_16 (by decide) ?_
    exact k1_seat_17 hC hw442 H locs ls hP hD hS (lv_sub hl [0, 1] rfl)
  · have hw448 := hw441.2 ⟨τ, c3⟩
    subst c3
    refine lv_ifnull hC.x hC.b dX1_seat_9 ?_
    refine lv_iconst (v := 1) hC.x hC.b dX1_seat_12 (by decide) ?_
    refine lv_goto (tgt := 17) hC.x hC.b dX1_seat_13 (by decide) ?_
    exact k1_seat_17 hC hw448 H locs ls hP hD hS (lv_sub hl [0, 1] rfl)
theorem h1_seatAt : yX1_seatAt.cls = RX1 ∧ yX1_seatAt.cls ≠ "java/lang/invoke/MethodHandle" ∧ yX1_seatAt.cls ≠ "java/lang/invoke/VarHandle" ∧ (parseMethodDescriptor yX1_seatAt.desc).map (fun d => d.parameters.length) = some 2 := by decide +kernel
def w1_seatAt (post : Int32 → CS → Prop) (tw : Option TD) (S : CS) (x1 : Int32) (x2 : Int32) : Prop :=
  (w1_anew (fun S2 => (w1_isPerson (fun r3 => (w1_nightWhy (fun r4 => ((r4 = 0 → (w1_seek (fun S7 => (vp_in x1 6 ∧ (post (S7.1.1 11 x1.toNatClampNeg) S7))) tw S2 x2)) ∧ (¬ r4 = 0 → (w1_no (fun r9 S10 => (post r9 S10)) S2 r4)))) S2 r3 x2)) tw S2 x1)) S)
set_option maxHeartbeats 4000000 in
theorem m1_seatAt (l : Launch) {post : Int32 → CS → Prop} {S : CS} {x1 : Int32} {x2 : Int32} (hw : w1_seatAt post tw S x1 x2) : Met l yX1_seatAt (ws_ yX1_seatAt cX1_seatAt 4 (some .int)) ({ frames := 134, cells := 0, slots := 0, locals := 6333 } : Room) (va_Pc [.ref (ad 0), .int x1, .int x2] (PcG D gCl nwG Z Hb A (wC D ad sc tw S))) (va_Qi post (BW D gCl A (fun u => (wC D ad sc tw u))) A) 0 0 A := by
  refine Met.ofG (by decide) (Nat.le_of_ble_eq_true rfl) ?_
  intro p e s m below meth c ls hC _ hP hD hS hl
  have hC : CX RX1 cX1_seatAt 4 (some .int) D gCl nwG Z Hb A p s m _ meth c := hC
  have hl : lv_has ls 4 [(0, .ref (ad 0)), (1, .int x1), (2, .int x2)] := hl
  unfold w1_seatAt at hw
  refine lv_aload_n hC.x hC.b dX1_seatAt_0 rfl (lv_at hl 0 rfl) ?_
  refine go_v (run_V (rest := []) hC (m1_anew l hw) v1_1_anew h1_anew 0 0 gCl_X1 rfl rfl ⟨rfl, rfl, Nat.le_of_ble_eq_true rfl, Nat.le_of_ble_eq_true rfl⟩ ⟨Nat.le_refl _, Nat.le_refl _⟩ hP hD hS hl.1 (Nat.le_of_ble_eq_true rfl) dX1_seatAt_1 rfl) hS (fun S2 H locs hw449 hP hD hS => ?_)
  refine lv_aload_n hC.x hC.b dX1_seatAt_4 rfl (lv_at hl 0 rfl) ?_
  refine lv_aload_n hC.x hC.b dX1_seatAt_5 rfl (lv_at hl 0 rfl) ?_
  refine lv_iload_n hC.x hC.b dX1_seatAt_6 rfl (lv_at hl 1 rfl) ?_
  refine go_i (run_V (rest := [.ref (ad 0)]) hC (m1_isPerson l hw449) v1_1_isPerson h1_isPerson 0 0 gCl_X1 rfl rfl ⟨rfl, rfl, Nat.le_of_ble_eq_true rfl, Nat.le_of_ble_eq_true rfl⟩ ⟨Nat.le_refl _, Nat.le_refl _⟩ hP hD hS hl.1 (Nat.le_of_ble_eq_true rfl) dX1_seatAt_7 rfl) hS (fun r3 u H locs hw450 hP hD hS => ?_)
  refine lv_iload_n hC.x hC.b dX1_seatAt_10 rfl (lv_at hl 2 rfl) ?_
  refine go_i (run_V (rest := []) hC (m1_nightWhy l hw450) v1_1_nightWhy h1_nightWhy 0 0 gCl_X1 rfl rfl ⟨rfl, rfl, Nat.le_of_ble_eq_true rfl, Nat.le_of_ble_eq_true rfl⟩ ⟨Nat.le_refl _, Nat.le_refl _⟩ hP hD hS hl.1 (Nat.le_of_ble_eq_true rfl) dX1_seatAt_11 rfl) hS (fun r4 u H locs hw451 hP hD hS => ?_)
  refine lv_istore_n (lv' := [(3, .int r4), (0, .ref (ad 0)), (1, .int x1), (2, .int x2)]) hC.x hC.b dX1_seatAt_14 rfl hl (by decide) rfl (fun ls hl => ?_)
  refine lv_iload_n hC.x hC.b dX1_seatAt_15 rfl (lv_at hl 0 rfl) ?_
  refine lv_if_eq (tgt := 25) hC.x hC.b dX1_seatAt_16 (by decide) (fun c5 => ?_) (fun c5 => ?_)
  · have hw452 := hw451.1 c5
    refine lv_aload_n hC.x hC.b dX1_seatAt_25 rfl (lv_at hl 1 rfl) ?_
    refine lv_iload_n hC.x hC.b dX1_seatAt_26 rfl (lv_at hl 3 rfl) ?_
    refine go_v (run_V (rest := []) hC (m1_seek l hw452) v1_1_seek h1_seek 0 0 gCl_X1 rfl rfl ⟨rfl, rfl, Nat.le_of_ble_eq_true rfl, Nat.le_of_ble_eq_true rfl⟩ ⟨Nat.le_refl _, Nat.le_refl _⟩ hP hD hS hl.1 (Nat.le_of_ble_eq_true rfl) dX1_seatAt_27 rfl) hS (fun S7 H locs hw453 hP hD hS => ?_)
    refine lv_aload_n hC.x hC.b dX1_seatAt_30 rfl (lv_at hl 1 rfl) ?_
    refine gO_16 hC hP dX1_seatAt_31 ?_
    refine lv_iload_n hC.x hC.b dX1_seatAt_34 rfl (lv_at hl 2 rfl) ?_
    obtain ⟨hin8, hw454⟩ := hw453
    refine lF_11 hC hP hin8 rfl dX1_seatAt_35 ?_
    exact rt_i hC hw454 hP hD hS dX1_seatAt_36
  · have hw455 := hw451.2 c5
    refine lv_aload_n hC.x hC.b dX1_seatAt_19 rfl (lv_at hl 1 rfl) ?_
    refine lv_iload_n hC.x hC.b dX1_seatAt_20 rfl (lv_at hl 0 rfl) ?_
    refine go_i (run_V (rest := []) hC (m1_no l hw455) v1_1_no h1_no 0 0 gCl_X1 rfl rfl ⟨rfl, rfl, Nat.le_of_ble_eq_true rfl, Nat.le_of_ble_eq_true rfl⟩ ⟨Nat.le_refl _, Nat.le_refl _⟩ hP hD hS hl.1 (Nat.le_of_ble_eq_true rfl) dX1_seatAt_21 rfl) hS (fun r9 S10 H locs hw456 hP hD hS => ?_)
    exact rt_i hC hw456 hP hD hS dX1_seatAt_24
theorem h4_exchange : yX4_exchange.cls = RX4 ∧ yX4_exchange.cls ≠ "java/lang/invoke/MethodHandle" ∧ yX4_exchange.cls ≠ "java/lang/invoke/VarHandle" ∧ (parseMethodDescriptor yX4_exchange.desc).map (fun d => d.parameters.length) = some 2 := by decide +kernel
def w4_exchange (post : CS → Prop) (S : CS) (x0 : Nat) (x1 : Int32) (x2 : Int32) : Prop :=
  (vp_in x1 6 ∧ (vp_in x2 6 ∧ (vp_in x1 6 ∧ (∀ S4, S4 = sI S (300 + 4 * x0 + 1) x1.toNatClampNeg (S.1.1 (300 + 4 * x0 + 1) x2.toNatClampNeg) → (vp_in x2 6 ∧ (∀ S6, S6 = sI S4 (300 + 4 * x0 + 1) x2.toNatClampNeg (S.1.1 (300 + 4 * x0 + 1) x1.toNatClampNeg) → (post S6)))))))
set_option maxHeartbeats 4000000 in
theorem m4_exchange (l : Launch) {post : CS → Prop} {S : CS} {x0 : Nat} {x1 : Int32} {x2 : Int32} (h_x0 : x0 < 22) (hw : w4_exchange post S x0 x1 x2) : Met l yX4_exchange (ws_ yX4_exchange cX4_exchange 4 (some (.object "SeanceStreet$Street"))) ({ frames := 0, cells := 0, slots := 0, locals := 0 } : Room) (va_Pc [.ref (ad (20 + 4 * x0)), .int x1, .int x2] (PcG D gCl nwG Z Hb A (wC D ad sc tw S))) (va_Qr post (fun u x t => x = ((ad (20 + 4 * x0))) ∧ BW D gCl A (fun u => (wC D ad sc tw u)) u t) A) 0 0 A := by
  refine Met.ofG (by decide) (Nat.le_of_ble_eq_true rfl) ?_
  intro p e s m below meth c ls hC _ hP hD hS hl
  have hC : CX RX4 cX4_exchange 4 (some (.object "SeanceStreet$Street")) D gCl nwG Z Hb A p s m _ meth c := hC
  have hl : lv_has ls 4 [(0, .ref (ad (20 + 4 * x0))), (1, .int x1), (2, .int x2)] := hl
  unfold w4_exchange at hw
  refine lv_aload_n hC.x hC.b dX4_exchange_0 rfl (lv_at hl 0 rfl) ?_
  refine gX4S_0 (r := x0) h_x0 hC hP dX4_exchange_1 ?_
  refine lv_iload_n hC.x hC.b dX4_exchange_4 rfl (lv_at hl 1 rfl) ?_
  obtain ⟨hin1, hw457⟩ := hw
  refine lS_1 (r := x0) h_x0 hC hP hin1 rfl dX4_exchange_5 ?_
  refine lv_istore_n (lv' := [(3, .int (S.1.1 (300 + 4 * x0 + 1) x1.toNatClampNeg)), (0, .ref (ad (20 + 4 * x0))), (1, .int x1), (2, .int x2)]) hC.x hC.b dX4_exchange_6 rfl hl (by decide) rfl (fun ls hl => ?_)
  refine lv_aload_n hC.x hC.b dX4_exchange_7 rfl (lv_at hl 1 rfl) ?_
  refine gX4S_0 (r := x0) h_x0 hC hP dX4_exchange_8 ?_
  refine lv_iload_n hC.x hC.b dX4_exchange_11 rfl (lv_at hl 2 rfl) ?_
  refine lv_aload_n hC.x hC.b dX4_exchange_12 rfl (lv_at hl 1 rfl) ?_
  refine gX4S_0 (r := x0) h_x0 hC hP dX4_exchange_13 ?_
  refine lv_iload_n hC.x hC.b dX4_exchange_16 rfl (lv_at hl 3 rfl) ?_
  obtain ⟨hin2, hw458⟩ := hw457
  refine lS_1 (r := x0) h_x0 hC hP hin2 rfl dX4_exchange_17 ?_
  obtain ⟨hin3, hw459⟩ := hw458
  refine sS_1 (r := x0) h_x0 hC hP hD hS (v := (S.1.1 (300 + 4 * x0 + 1) x2.toNatClampNeg)) hin3 rfl dX4_exchange_18 (fun S4 eS4 H locs hP hD hS => ?_)
  have hw460 := hw459 S4 eS4
  refine lv_aload_n hC.x hC.b dX4_exchange_19 rfl (lv_at hl 1 rfl) ?_
  refine gX4S_0 (r := x0) h_x0 hC hP dX4_exchange_20 ?_
  refine lv_iload_n hC.x hC.b dX4_exchange_23 rfl (lv_at hl 3 rfl) ?_
  refine lv_iload_n hC.x hC.b dX4_exchange_24 rfl (lv_at hl 0 rfl) ?_
  obtain ⟨hin5, hw461⟩ := hw460
  refine sS_1 (r := x0) h_x0 hC hP hD hS (v := (S.1.1 (300 + 4 * x0 + 1) x1.toNatClampNeg)) hin5 rfl dX4_exchange_25 (fun S6 eS6 H locs hP hD hS => ?_)
  have hw462 := hw461 S6 eS6
  refine lv_aload_n hC.x hC.b dX4_exchange_26 rfl (lv_at hl 1 rfl) ?_
  exact rt_r hC ⟨_, rfl⟩ hw462 hP hD hS dX4_exchange_27
theorem v1_4_exchange : GoodIn lw_all (wsV RX1 243 RX4 yX4_exchange (ws_ yX4_exchange cX4_exchange 4 (some (.object "SeanceStreet$Street")))) := lw_V q1131 q1132 q1133 q124 q1134
theorem h1_doLike : yX1_doLike.cls = RX1 ∧ yX1_doLike.cls ≠ "java/lang/invoke/MethodHandle" ∧ yX1_doLike.cls ≠ "java/lang/invoke/VarHandle" ∧ (parseMethodDescriptor yX1_doLike.desc).map (fun d => d.parameters.length) = some 3 := by decide +kernel
def w1_doLike (post : Int32 → CS → Prop) (tw : Option TD) (S : CS) (x1 : Int32) (x2 : Int32) (x3 : Int32) : Prop :=
  (w4_forOne (fun r1 => (w4_forOne (fun r2 => (w4_rightOnes (fun r3 => (w1_ones (fun r4 => (w4_become (fun S6 => (w4_exchange (fun S8 => (w4_rightOnes (fun r9 => (w1_ones (fun r10 => ((r10 ≤ r4 → (post 0 S8)) ∧ (¬ r10 ≤ r4 → (post 1 S8)))) (r9 &&& (r1 ||| r2)))) tw S8 2 x3)) S6 2 x1 x2)) S 2 0)) (r3 &&& (r1 ||| r2)))) tw S 0 x3)) tw S 0 x2)) tw S 0 x1)
set_option maxHeartbeats 4000000 in
theorem m1_doLike (l : Launch) {post : Int32 → CS → Prop} {S : CS} {x1 : Int32} {x2 : Int32} {x3 : Int32} (hw : w1_doLike post tw S x1 x2 x3) : Met l yX1_doLike (ws_ yX1_doLike cX1_doLike 6 (some .boolean)) ({ frames := 124, cells := 0, slots := 0, locals := 6093 } : Room) (va_Pc [.ref (ad 0), .int x1, .int x2, .int x3] (PcG D gCl nwG Z Hb A (wC D ad sc tw S))) (va_Qi post (BW D gCl A (fun u => (wC D ad sc tw u))) A) 0 0 A := by
  refine Met.ofG (by decide) (Nat.le_of_ble_eq_true rfl) ?_
  intro p e s m below meth c ls hC _ hP hD hS hl
  have hC : CX RX1 cX1_doLike 6 (some .boolean) D gCl nwG Z Hb A p s m _ meth c := hC
  have hl : lv_has ls 6 [(0, .ref (ad 0)), (1, .int x1), (2, .int x2), (3, .int x3)] := hl
  unfold w1_doLike at hw
  refine lv_aload_n hC.x hC.b dX1_doLike_0 rfl (lv_at hl 0 rfl) ?_
  refine gO_9 hC hP dX1_doLike_1 ?_
  refine lv_iload_n hC.x hC.b dX1_doLike_4 rfl (lv_at hl 1 rfl) ?_
  refine go_i (run_V (rest := []) hC (m4_forOne l (by decide) hw) v1_4_forOne h4_forOne (17 + 4 * 0) 3 gCl_X4 (wC_so (by decide)) rfl ⟨rfl, rfl, Nat.le_of_ble_eq_true rfl, Nat.le_of_ble_eq_true rfl⟩ ⟨Nat.le_refl _, Nat.le_refl _⟩ hP hD hS hl.1 (Nat.le_of_ble_eq_true rfl) dX1_doLike_5 rfl) hS (fun r1 u H locs hw463 hP hD hS => ?_)
  refine lv_aload_n hC.x hC.b dX1_doLike_8 rfl (lv_at hl 0 rfl) ?_
  refine gO_9 hC hP dX1_doLike_9 ?_
  refine lv_iload_n hC.x hC.b dX1_doLike_12 rfl (lv_at hl 2 rfl) ?_
  refine go_i (run_V (rest := [.int r1]) hC (m4_forOne l (by decide) hw463) v1_4_forOne h4_forOne (17 + 4 * 0) 3 gCl_X4 (wC_so (by decide)) rfl ⟨rfl, rfl, Nat.le_of_ble_eq_true rfl, Nat.le_of_ble_eq_true rfl⟩ ⟨Nat.le_refl _, Nat.le_refl _⟩ hP hD hS hl.1 (Nat.le_of_ble_eq_true rfl) dX1_doLike_13 rfl) hS (fun r2 u H locs hw464 hP hD hS => ?_)
  refine lv_ior hC.x hC.b dX1_doLike_16 ?_
  refine lv_istore (lv' := [(4, .int (r1 ||| r2)), (0, .ref (ad 0)), (1, .int x1), (2, .int x2), (3, .int x3)]) hC.x hC.b dX1_doLike_17 hl (by decide) rfl (fun ls hl => ?_)
  refine lv_aload_n hC.x hC.b dX1_doLike_19 rfl (lv_at hl 1 rfl) ?_
  refine gO_9 hC hP dX1_doLike_20 ?_
  refine lv_iload_n hC.x hC.b dX1_doLike_23 rfl (lv_at hl 4 rfl) ?_
  refine go_i (run_V (rest := []) hC (m4_rightOnes l (by decide) hw464) v1_4_rightOnes h4_rightOnes (17 + 4 * 0) 3 gCl_X4 (wC_so (by decide)) rfl ⟨rfl, rfl, Nat.le_of_ble_eq_true rfl, Nat.le_of_ble_eq_true rfl⟩ ⟨Nat.le_refl _, Nat.le_refl _⟩ hP hD hS hl.1 (Nat.le_of_ble_eq_true rfl) dX1_doLike_24 rfl) hS (fun r3 u H locs hw465 hP hD hS => ?_)
  refine lv_iload hC.x hC.b dX1_doLike_27 (lv_at hl 0 rfl) ?_
  refine lv_iand hC.x hC.b dX1_doLike_29 ?_
  refine go_i (run_S (rest := []) hC (m1_ones l hw465) v1_1_ones h1_ones ⟨rfl, rfl, Nat.le_of_ble_eq_true rfl, Nat.le_of_ble_eq_true rfl⟩ ⟨Nat.le_refl _, Nat.le_refl _⟩ hP hD hS hl.1 (Nat.le_of_ble_eq_true rfl) dX1_doLike_30 rfl) hS (fun r4 u H locs hw466 hP hD hS => ?_)
  refine lv_istore (lv' := [(5, .int r4), (4, .int (r1 ||| r2)), (0, .ref (ad 0)), (1, .int x1), (2, .int x2), (3, .int x3)]) hC.x hC.b dX1_doLike_33 hl (by decide) rfl (fun ls hl => ?_)
  refine lv_aload_n hC.x hC.b dX1_doLike_35 rfl (lv_at hl 2 rfl) ?_
  refine gO_11 hC hP dX1_doLike_36 ?_
  refine lv_aload_n hC.x hC.b dX1_doLike_39 rfl (lv_at hl 2 rfl) ?_
  refine gO_9 hC hP dX1_doLike_40 ?_
  refine go_r (run_V (rest := []) hC (m4_become l (by decide) (by decide) hw466) v1_4_become h4_become (17 + 4 * 2) 3 gCl_X4 (wC_so (by decide)) rfl ⟨rfl, rfl, Nat.le_of_ble_eq_true rfl, Nat.le_of_ble_eq_true rfl⟩ ⟨Nat.le_refl _, Nat.le_refl _⟩ hP hD hS hl.1 (Nat.le_of_ble_eq_true rfl) dX1_doLike_43 rfl) hS (fun S6 H locs hw467 hP hD hS => ?_)
  refine lv_iload_n hC.x hC.b dX1_doLike_46 rfl (lv_at hl 3 rfl) ?_
  refine lv_iload_n hC.x hC.b dX1_doLike_47 rfl (lv_at hl 4 rfl) ?_
  refine go_r (run_V (rest := []) hC (m4_exchange l (by decide) hw467) v1_4_exchange h4_exchange (17 + 4 * 2) 3 gCl_X4 (wC_so (by decide)) rfl ⟨rfl, rfl, Nat.le_of_ble_eq_true rfl, Nat.le_of_ble_eq_true rfl⟩ ⟨Nat.le_refl _, Nat.le_refl _⟩ hP hD hS hl.1 (Nat.le_of_ble_eq_true rfl) dX1_doLike_48 rfl) hS (fun S8 H locs hw468 hP hD hS => ?_)
  refine lv_iload_n hC.x hC.b dX1_doLike_51 rfl (lv_at hl 5 rfl) ?_
  refine go_i (run_V (rest := []) hC (m4_rightOnes l (by decide) hw468) v1_4_rightOnes h4_rightOnes (17 + 4 * 2) 3 gCl_X4 (wC_so (by decide)) rfl ⟨rfl, rfl, Nat.le_of_ble_eq_true rfl, Nat.le_of_ble_eq_true rfl⟩ ⟨Nat.le_refl _, Nat.le_refl _⟩ hP hD hS hl.1 (Nat.le_of_ble_eq_true rfl) dX1_doLike_52 rfl) hS (fun r9 u H locs hw469 hP hD hS => ?_)
  refine lv_iload hC.x hC.b dX1_doLike_55 (lv_at hl 1 rfl) ?_
  refine lv_iand hC.x hC.b dX1_doLike_57 ?_
  refine go_i (run_S (rest := []) hC (m1_ones l hw469) v1_1_ones h1_ones ⟨rfl, rfl, Nat.le_of_ble_eq_true rfl, Nat.le_of_ble_eq_true rfl⟩ ⟨Nat.le_refl _, Nat.le_refl _⟩ hP hD hS hl.1 (Nat.le_of_ble_eq_true rfl) dX1_doLike_58 rfl) hS (fun r10 u H locs hw470 hP hD hS => ?_)
  refine lv_iload hC.x hC.b dX1_doLike_61 (lv_at hl 0 rfl) ?_
  refine lv_icmp_le (tgt := 70) hC.x hC.b dX1_doLike_63 (by decide) (fun c11 => ?_) (fun c11 => ?_)
  · have hw471 := hw470.1 c11
    refine lv_iconst (v := 0) hC.x hC.b dX1_doLike_70 (by decide) ?_
    exact rt_z hC (Or.inl rfl) hw471 hP hD hS dX1_doLike_71
  · have hw472 := hw470.2 c11
    refine lv_iconst (v := 1) hC.x hC.b dX1_doLike_66 (by decide) ?_
    refine lv_goto (tgt := 71) hC.x hC.b dX1_doLike_67 (by decide) ?_
    exact rt_z hC (Or.inr rfl) hw472 hP hD hS dX1_doLike_71
theorem v1_1_doLike : GoodIn lw_all (wsV RX1 247 RX1 yX1_doLike (ws_ yX1_doLike cX1_doLike 6 (some .boolean))) := lw_V q1127 q1129 qs34 q118 q1130
theorem h1_likes : yX1_likes.cls = RX1 ∧ yX1_likes.cls ≠ "java/lang/invoke/MethodHandle" ∧ yX1_likes.cls ≠ "java/lang/invoke/VarHandle" ∧ (parseMethodDescriptor yX1_likes.desc).map (fun d => d.parameters.length) = some 3 := by decide +kernel
def j1_likes_31 (post : Int32 → CS → Prop) (tw : Option TD) (S : CS) (x1 : Int32) (x2 : Int32) (x3 : Int32) (y1 : Int32) : Prop :=
  (w1_nightWhy (fun r5 => ((r5 = 0 → (w1_doLike (fun r7 S8 => ((r7 = 0 → (post 0 S8)) ∧ (¬ r7 = 0 → (post 1 S8)))) tw S x1 x2 x3)) ∧ (¬ r5 = 0 → (w1_no (fun r10 S11 => (post r10 S11)) S r5)))) S y1 x3)
set_option maxHeartbeats 4000000 in
theorem k1_likes_31 {post : Int32 → CS → Prop} {S : CS} {x1 : Int32} {x2 : Int32} {x3 : Int32} {y1 : Int32} (hC : CX RX1 cX1_likes 5 (some .int) D gCl nwG Z Hb A p s m args meth c) (hw : j1_likes_31 post tw S x1 x2 x3 y1) : ∀ (H : Heap) (locs : List Loc) (ls : Array Slot), va_P D gCl (wC D ad sc tw S) H → va_D A (wC D ad sc tw S) → va_S A s.heap H locs → lv_has ls 5 [(0, .ref (ad 0)), (1, .int x1), (2, .int x2), (3, .int x3)] → W p l e ({ frames := 125, cells := 0, slots := 0, locals := 6118 } : Room) s m args below meth c H locs 0 0 (MQ below (va_Qi post (BW D gCl A (fun u => (wC D ad sc tw u))) A) args s 0 0 A) (F0 m 31 ls [.int y1, .ref (ad 0)]) := by
  intro H locs ls hP hD hS hl
  unfold j1_likes_31 at hw
  refine lv_iload_n hC.x hC.b dX1_likes_31 rfl (lv_at hl 3 rfl) ?_
  refine go_i (run_V (rest := []) hC (m1_nightWhy l hw) v1_1_nightWhy h1_nightWhy 0 0 gCl_X1 rfl rfl ⟨rfl, rfl, Nat.le_of_ble_eq_true rfl, Nat.le_of_ble_eq_true rfl⟩ ⟨Nat.le_refl _, Nat.le_refl _⟩ hP hD hS hl.1 (Nat.le_of_ble_eq_true rfl) dX1_likes_32 rfl) hS (fun r5 u H locs hw476 hP hD hS => ?_)
  refine lv_istore (lv' := [(4, .int r5), (0, .ref (ad 0)), (1, .int x1), (2, .int x2), (3, .int x3)]) hC.x hC.b dX1_likes_35 hl (by decide) rfl (fun ls hl => ?_)
  refine lv_iload hC.x hC.b dX1_likes_37 (lv_at hl 0 rfl) ?_
  refine lv_if_eq (tgt := 51) hC.x hC.b dX1_likes_39 (by decide) (fun c6 => ?_) (fun c6 => ?_)
  · have hw477 := hw476.1 c6
    refine lv_aload_n hC.x hC.b dX1_likes_51 rfl (lv_at hl 1 rfl) ?_
    refine lv_iload_n hC.x hC.b dX1_likes_52 rfl (lv_at hl 2 rfl) ?_
    refine lv_iload_n hC.x hC.b dX1_likes_53 rfl (lv_at hl 3 rfl) ?_
    refine lv_iload_n hC.x hC.b dX1_likes_54 rfl (lv_at hl 4 rfl) ?_
    refine go_i (run_V (rest := []) hC (m1_doLike l hw477) v1_1_doLike h1_doLike 0 0 gCl_X1 rfl rfl ⟨rfl, rfl, Nat.le_of_ble_eq_true rfl, Nat.le_of_ble_eq_true rfl⟩ ⟨Nat.le_refl _, Nat.le_refl _⟩ hP hD hS hl.1 (Nat.le_of_ble_eq_true rfl) dX1_likes_55 rfl) hS (fun r7 S8 H locs hw478 hP hD hS => ?_)
    refine lv_if_eq (tgt := 65) hC.x hC.b dX1_likes_58 (by decide) (fun c9 => ?_) (fun c9 => ?_)
    · have hw479 := hw478.1 c9
      refine lv_iconst (v := 0) hC.x hC.b dX1_likes_65 (by decide) ?_
      exact rt_i hC hw479 hP hD hS dX1_likes_66
    · have hw480 := hw478.2 c9
      refine lv_iconst (v := 1) hC.x hC.b dX1_likes_61 (by decide) ?_
      refine lv_goto (tgt := 66) hC.x hC.b dX1_likes_62 (by decide) ?_
      exact rt_i hC hw480 hP hD hS dX1_likes_66
  · have hw481 := hw476.2 c6
    refine lv_aload_n hC.x hC.b dX1_likes_42 rfl (lv_at hl 1 rfl) ?_
    refine lv_iload hC.x hC.b dX1_likes_43 (lv_at hl 0 rfl) ?_
    refine go_i (run_V (rest := []) hC (m1_no l hw481) v1_1_no h1_no 0 0 gCl_X1 rfl rfl ⟨rfl, rfl, Nat.le_of_ble_eq_true rfl, Nat.le_of_ble_eq_true rfl⟩ ⟨Nat.le_refl _, Nat.le_refl _⟩ hP hD hS hl.1 (Nat.le_of_ble_eq_true rfl) dX1_likes_45 rfl) hS (fun r10 S11 H locs hw482 hP hD hS => ?_)
    refine lv_goto (tgt := 66) hC.x hC.b dX1_likes_48 (by decide) ?_
    exact rt_i hC hw482 hP hD hS dX1_likes_66
def j1_likes_30 (post : Int32 → CS → Prop) (tw : Option TD) (S : CS) (x1 : Int32) (x2 : Int32) (x3 : Int32) : Prop :=
  (j1_likes_31 post tw S x1 x2 x3 0)
set_option maxHeartbeats 4000000 in
theorem k1_likes_30 {post : Int32 → CS → Prop} {S : CS} {x1 : Int32} {x2 : Int32} {x3 : Int32} (hC : CX RX1 cX1_likes 5 (some .int) D gCl nwG Z Hb A p s m args meth c) (hw : j1_likes_30 post tw S x1 x2 x3) : ∀ (H : Heap) (locs : List Loc) (ls : Array Slot), va_P D gCl (wC D ad sc tw S) H → va_D A (wC D ad sc tw S) → va_S A s.heap H locs → lv_has ls 5 [(0, .ref (ad 0)), (1, .int x1), (2, .int x2), (3, .int x3)] → W p l e ({ frames := 125, cells := 0, slots := 0, locals := 6118 } : Room) s m args below meth c H locs 0 0 (MQ below (va_Qi post (BW D gCl A (fun u => (wC D ad sc tw u))) A) args s 0 0 A) (F0 m 30 ls [.ref (ad 0)]) := by
  intro H locs ls hP hD hS hl
  unfold j1_likes_30 at hw
  refine lv_iconst (v := 0) hC.x hC.b dX1_likes_30 (by decide) ?_
  exact k1_likes_31 hC hw H locs ls hP hD hS (lv_sub hl [0, 1, 2, 3] rfl)
def w1_likes (post : Int32 → CS → Prop) (tw : Option TD) (S : CS) (x1 : Int32) (x2 : Int32) (x3 : Int32) : Prop :=
  (w1_anew (fun S2 => (w1_isPerson (fun r3 => ((r3 = 0 → (j1_likes_30 post tw S2 x1 x2 x3)) ∧ (¬ r3 = 0 → (w1_isPerson (fun r12 => ((r12 = 0 → (j1_likes_30 post tw S2 x1 x2 x3)) ∧ (¬ r12 = 0 → ((x1 = x2 → (j1_likes_30 post tw S2 x1 x2 x3)) ∧ (¬ x1 = x2 → (j1_likes_31 post tw S2 x1 x2 x3 1)))))) tw S2 x2)))) tw S2 x1)) S)
set_option maxHeartbeats 4000000 in
theorem m1_likes (l : Launch) {post : Int32 → CS → Prop} {S : CS} {x1 : Int32} {x2 : Int32} {x3 : Int32} (hw : w1_likes post tw S x1 x2 x3) : Met l yX1_likes (ws_ yX1_likes cX1_likes 5 (some .int)) ({ frames := 125, cells := 0, slots := 0, locals := 6118 } : Room) (va_Pc [.ref (ad 0), .int x1, .int x2, .int x3] (PcG D gCl nwG Z Hb A (wC D ad sc tw S))) (va_Qi post (BW D gCl A (fun u => (wC D ad sc tw u))) A) 0 0 A := by
  refine Met.ofG (by decide) (Nat.le_of_ble_eq_true rfl) ?_
  intro p e s m below meth c ls hC _ hP hD hS hl
  have hC : CX RX1 cX1_likes 5 (some .int) D gCl nwG Z Hb A p s m _ meth c := hC
  have hl : lv_has ls 5 [(0, .ref (ad 0)), (1, .int x1), (2, .int x2), (3, .int x3)] := hl
  unfold w1_likes at hw
  refine lv_aload_n hC.x hC.b dX1_likes_0 rfl (lv_at hl 0 rfl) ?_
  refine go_v (run_V (rest := []) hC (m1_anew l hw) v1_1_anew h1_anew 0 0 gCl_X1 rfl rfl ⟨rfl, rfl, Nat.le_of_ble_eq_true rfl, Nat.le_of_ble_eq_true rfl⟩ ⟨Nat.le_refl _, Nat.le_refl _⟩ hP hD hS hl.1 (Nat.le_of_ble_eq_true rfl) dX1_likes_1 rfl) hS (fun S2 H locs hw473 hP hD hS => ?_)
  refine lv_aload_n hC.x hC.b dX1_likes_4 rfl (lv_at hl 0 rfl) ?_
  refine lv_aload_n hC.x hC.b dX1_likes_5 rfl (lv_at hl 0 rfl) ?_
  refine lv_iload_n hC.x hC.b dX1_likes_6 rfl (lv_at hl 1 rfl) ?_
  refine go_i (run_V (rest := [.ref (ad 0)]) hC (m1_isPerson l hw473) v1_1_isPerson h1_isPerson 0 0 gCl_X1 rfl rfl ⟨rfl, rfl, Nat.le_of_ble_eq_true rfl, Nat.le_of_ble_eq_true rfl⟩ ⟨Nat.le_refl _, Nat.le_refl _⟩ hP hD hS hl.1 (Nat.le_of_ble_eq_true rfl) dX1_likes_7 rfl) hS (fun r3 u H locs hw474 hP hD hS => ?_)
  refine lv_if_eq (tgt := 30) hC.x hC.b dX1_likes_10 (by decide) (fun c4 => ?_) (fun c4 => ?_)
  · have hw475 := hw474.1 c4
    exact k1_likes_30 hC hw475 H locs ls hP hD hS (lv_sub hl [0, 1, 2, 3] rfl)
  · have hw483 := hw474.2 c4
    refine lv_aload_n hC.x hC.b dX1_likes_13 rfl (lv_at hl 0 rfl) ?_
    refine lv_iload_n hC.x hC.b dX1_likes_14 rfl (lv_at hl 2 rfl) ?_
    refine go_i (run_V (rest := [.ref (ad 0)]) hC (m1_isPerson l hw483) v1_1_isPerson h1_isPerson 0 0 gCl_X1 rfl rfl ⟨rfl, rfl, Nat.le_of_ble_eq_true rfl, Nat.le_of_ble_eq_true rfl⟩ ⟨Nat.le_refl _, Nat.le_refl _⟩ hP hD hS hl.1 (Nat.le_of_ble_eq_true rfl) dX1_likes_15 rfl) hS (fun r12 u H locs hw484 hP hD hS => ?_)
    refine lv_if_eq (tgt := 30) hC.x hC.b dX1_likes_18 (by decide) (fun c13 => ?_) (fun c13 => ?_)
    · have hw485 := hw484.1 c13
      exact k1_likes_30 hC hw485 H locs ls hP hD hS (lv_sub hl [0, 1, 2, 3] rfl)
    · have hw486 := hw484.2 c13
      refine lv_iload_n hC.x hC.b dX1_likes_21 rfl (lv_at hl 1 rfl) ?_
      refine lv_iload_n hC.x hC.b dX1_likes_22 rfl (lv_at hl 2 rfl) ?_
      refine lv_icmp_eq (tgt := 30) hC.x hC.b dX1_likes_23 (by decide) (fun c14 => ?_) (fun c14 => ?_)
      · have hw487 := hw486.1 c14
        exact k1_likes_30 hC hw487 H locs ls hP hD hS (lv_sub hl [0, 1, 2, 3] rfl)
      · have hw488 := hw486.2 c14
        refine lv_iconst (v := 1) hC.x hC.b dX1_likes_26 (by decide) ?_
        refine lv_goto (tgt := 31) hC.x hC.b dX1_likes_27 (by decide) ?_
        exact k1_likes_31 hC hw488 H locs ls hP hD hS (lv_sub hl [0, 1, 2, 3] rfl)
theorem h1_restless : yX1_restless.cls = RX1 ∧ yX1_restless.cls ≠ "java/lang/invoke/MethodHandle" ∧ yX1_restless.cls ≠ "java/lang/invoke/VarHandle" ∧ (parseMethodDescriptor yX1_restless.desc).map (fun d => d.parameters.length) = some 1 := by decide +kernel
def f1_restless_55 (tw : Option TD) (K37 : (CS × Int32 × Int32) → Prop) (x1 : Int32) (x4 : Int32) (K55 : (CS × Int32 × Int32) → Prop) (S : CS) (x3 : Int32) (x5 : Int32) : Prop :=
  (((S.1.1 50 8) ≤ x5 → (K37 (S, x3, (x4 + 1)))) ∧ (¬ (S.1.1 50 8) ≤ x5 → (w1_doLike (fun r8 S9 => ((r8 = 0 → (K55 (S9, (x3 + 0), (x5 + 1)))) ∧ (¬ r8 = 0 → (K55 (S9, (x3 + 1), (x5 + 1)))))) tw S x4 x5 x1)))
set_option maxHeartbeats 4000000 in
theorem k1_restless_55 {post : Int32 → CS → Prop} {x1 : Int32} {x4 : Int32} {K37 : (CS × Int32 × Int32) → Prop} (hC : CX RX1 cX1_restless 6 (some .int) D gCl nwG Z Hb A p s m args meth c) (hK37 : ∀ z : (CS × Int32 × Int32), K37 z → ∀ (H : Heap) (locs : List Loc) (ls : Array Slot), va_P D gCl (wC D ad sc (some τ) z.1) H → va_D A (wC D ad sc (some τ) z.1) → va_S A s.heap H locs → lv_has ls 6 [(0, .ref (ad 0)), (1, .int x1), (3, .int z.2.1), (4, .int z.2.2)] → W p l e ({ frames := 125, cells := 0, slots := 0, locals := 6118 } : Room) s m args below meth c H locs 0 0 (MQ below (va_Qi post (BW D gCl A (fun u => (wC D ad sc (some τ) u))) A) args s 0 0 A) (F0 m 37 ls [])) : ∀ z : (CS × Int32 × Int32), lp (fun (K : (CS × Int32 × Int32) → Prop) (z : (CS × Int32 × Int32)) => f1_restless_55 (some τ) K37 x1 x4 K z.1 z.2.1 z.2.2) z → ∀ (H : Heap) (locs : List Loc) (ls : Array Slot), va_P D gCl (wC D ad sc (some τ) z.1) H → va_D A (wC D ad sc (some τ) z.1) → va_S A s.heap H locs → lv_has ls 6 [(0, .ref (ad 0)), (1, .int x1), (3, .int z.2.1), (4, .int x4), (5, .int z.2.2)] → W p l e ({ frames := 125, cells := 0, slots := 0, locals := 6118 } : Room) s m args below meth c H locs 0 0 (MQ below (va_Qi post (BW D gCl A (fun u => (wC D ad sc (some τ) u))) A) args s 0 0 A) (F0 m 55 ls []) := by
  refine lp_ind ?_
  rintro K55 ⟨S, x3, x5⟩ hK55 hw H locs ls hP hD hS hl
  have hw : f1_restless_55 (some τ) K37 x1 x4 K55 S x3 x5 := hw
  unfold f1_restless_55 at hw
  have hP : va_P D gCl (wC D ad sc (some τ) S) H := hP
  have hD : va_D A (wC D ad sc (some τ) S) := hD
  have hl : lv_has ls 6 [(0, .ref (ad 0)), (1, .int x1), (3, .int x3), (4, .int x4), (5, .int x5)] := hl
  refine lv_iload hC.x hC.b dX1_restless_55 (lv_at hl 4 rfl) ?_
  refine lv_aload_n hC.x hC.b dX1_restless_57 rfl (lv_at hl 0 rfl) ?_
  refine gO_3 hC hP dX1_restless_58 ?_
  refine gX1T_8 hC hP dX1_restless_61 ?_
  refine lv_icmp_ge (tgt := 93) hC.x hC.b dX1_restless_64 (by decide) (fun c7 => ?_) (fun c7 => ?_)
  · have hw496 := hw.1 c7
    refine lv_iinc (v := (x4 + 1)) (lv' := [(4, .int (x4 + 1)), (0, .ref (ad 0)), (1, .int x1), (3, .int x3), (5, .int x5)]) hC.x hC.b dX1_restless_93 hl (k := 3) rfl rfl (by decide) rfl (fun ls hl => ?_)
    refine lv_goto (tgt := 37) hC.x hC.b dX1_restless_96 (by decide) ?_
    exact hK37 (S, x3, (x4 + 1)) hw496 H locs ls hP hD hS (lv_sub hl [1, 2, 3, 0] rfl)
  · have hw497 := hw.2 c7
    refine lv_iload_n hC.x hC.b dX1_restless_67 rfl (lv_at hl 2 rfl) ?_
    refine lv_aload_n hC.x hC.b dX1_restless_68 rfl (lv_at hl 0 rfl) ?_
    refine lv_iload hC.x hC.b dX1_restless_69 (lv_at hl 3 rfl) ?_
    refine lv_iload hC.x hC.b dX1_restless_71 (lv_at hl 4 rfl) ?_
    refine lv_iload_n hC.x hC.b dX1_restless_73 rfl (lv_at hl 1 rfl) ?_
    refine go_i (run_V (rest := [.int x3]) hC (m1_doLike l hw497) v1_1_doLike h1_doLike 0 0 gCl_X1 rfl rfl ⟨rfl, rfl, Nat.le_of_ble_eq_true rfl, Nat.le_of_ble_eq_true rfl⟩ ⟨Nat.le_refl _, Nat.le_refl _⟩ hP hD hS hl.1 (Nat.le_of_ble_eq_true rfl) dX1_restless_74 rfl) hS (fun r8 S9 H locs hw498 hP hD hS => ?_)
    refine lv_if_eq (tgt := 84) hC.x hC.b dX1_restless_77 (by decide) (fun c10 => ?_) (fun c10 => ?_)
    · have hw499 := hw498.1 c10
      refine lv_iconst (v := 0) hC.x hC.b dX1_restless_84 (by decide) ?_
      refine lv_iadd hC.x hC.b dX1_restless_85 ?_
      refine lv_istore_n (lv' := [(3, .int (x3 + 0)), (0, .ref (ad 0)), (1, .int x1), (4, .int x4), (5, .int x5)]) hC.x hC.b dX1_restless_86 rfl hl (by decide) rfl (fun ls hl => ?_)
      refine lv_iinc (v := (x5 + 1)) (lv' := [(5, .int (x5 + 1)), (3, .int (x3 + 0)), (0, .ref (ad 0)), (1, .int x1), (4, .int x4)]) hC.x hC.b dX1_restless_87 hl (k := 4) rfl rfl (by decide) rfl (fun ls hl => ?_)
      refine lv_goto (tgt := 55) hC.x hC.b dX1_restless_90 (by decide) ?_
      exact hK55 (S9, (x3 + 0), (x5 + 1)) hw499 H locs ls hP hD hS (lv_sub hl [2, 3, 1, 4, 0] rfl)
    · have hw500 := hw498.2 c10
      refine lv_iconst (v := 1) hC.x hC.b dX1_restless_80 (by decide) ?_
      refine lv_goto (tgt := 85) hC.x hC.b dX1_restless_81 (by decide) ?_
      refine lv_iadd hC.x hC.b dX1_restless_85 ?_
      refine lv_istore_n (lv' := [(3, .int (x3 + 1)), (0, .ref (ad 0)), (1, .int x1), (4, .int x4), (5, .int x5)]) hC.x hC.b dX1_restless_86 rfl hl (by decide) rfl (fun ls hl => ?_)
      refine lv_iinc (v := (x5 + 1)) (lv' := [(5, .int (x5 + 1)), (3, .int (x3 + 1)), (0, .ref (ad 0)), (1, .int x1), (4, .int x4)]) hC.x hC.b dX1_restless_87 hl (k := 4) rfl rfl (by decide) rfl (fun ls hl => ?_)
      refine lv_goto (tgt := 55) hC.x hC.b dX1_restless_90 (by decide) ?_
      exact hK55 (S9, (x3 + 1), (x5 + 1)) hw500 H locs ls hP hD hS (lv_sub hl [2, 3, 1, 4, 0] rfl)
def f1_restless_37 (post : Int32 → CS → Prop) (tw : Option TD) (x1 : Int32) (K37 : (CS × Int32 × Int32) → Prop) (S : CS) (x3 : Int32) (x4 : Int32) : Prop :=
  ((∃ τ, tw = some τ) ∧ (((S.1.1 50 8) ≤ x4 → (post x3 S)) ∧ (¬ (S.1.1 50 8) ≤ x4 → (lp (fun (K : (CS × Int32 × Int32) → Prop) (z : (CS × Int32 × Int32)) => f1_restless_55 tw K37 x1 x4 K z.1 z.2.1 z.2.2) (S, x3, (x4 + 1))))))
set_option maxHeartbeats 4000000 in
theorem k1_restless_37 {post : Int32 → CS → Prop} {x1 : Int32} (hC : CX RX1 cX1_restless 6 (some .int) D gCl nwG Z Hb A p s m args meth c) : ∀ z : (CS × Int32 × Int32), lp (fun (K : (CS × Int32 × Int32) → Prop) (z : (CS × Int32 × Int32)) => f1_restless_37 post tw x1 K z.1 z.2.1 z.2.2) z → ∀ (H : Heap) (locs : List Loc) (ls : Array Slot), va_P D gCl (wC D ad sc tw z.1) H → va_D A (wC D ad sc tw z.1) → va_S A s.heap H locs → lv_has ls 6 [(0, .ref (ad 0)), (1, .int x1), (3, .int z.2.1), (4, .int z.2.2)] → W p l e ({ frames := 125, cells := 0, slots := 0, locals := 6118 } : Room) s m args below meth c H locs 0 0 (MQ below (va_Qi post (BW D gCl A (fun u => (wC D ad sc tw u))) A) args s 0 0 A) (F0 m 37 ls []) := by
  refine lp_ind ?_
  rintro K37 ⟨S, x3, x4⟩ hK37 hw H locs ls hP hD hS hl
  have hw : f1_restless_37 post tw x1 K37 S x3 x4 := hw
  unfold f1_restless_37 at hw
  have hP : va_P D gCl (wC D ad sc tw S) H := hP
  have hD : va_D A (wC D ad sc tw S) := hD
  have hl : lv_has ls 6 [(0, .ref (ad 0)), (1, .int x1), (3, .int x3), (4, .int x4)] := hl
  refine lv_iload hC.x hC.b dX1_restless_37 (lv_at hl 3 rfl) ?_
  refine lv_aload_n hC.x hC.b dX1_restless_39 rfl (lv_at hl 0 rfl) ?_
  refine gO_3 hC hP dX1_restless_40 ?_
  obtain ⟨⟨τ, rfl⟩, hw493⟩ := hw
  refine gX1T_8 hC hP dX1_restless_43 ?_
  refine lv_icmp_ge (tgt := 99) hC.x hC.b dX1_restless_46 (by decide) (fun c6 => ?_) (fun c6 => ?_)
  · have hw494 := hw493.1 c6
    refine lv_iload_n hC.x hC.b dX1_restless_99 rfl (lv_at hl 2 rfl) ?_
    exact rt_i hC hw494 hP hD hS dX1_restless_100
  · have hw495 := hw493.2 c6
    refine lv_iload hC.x hC.b dX1_restless_49 (lv_at hl 3 rfl) ?_
    refine lv_iconst (v := 1) hC.x hC.b dX1_restless_51 (by decide) ?_
    refine lv_iadd hC.x hC.b dX1_restless_52 ?_
    refine lv_istore (lv' := [(5, .int (x4 + 1)), (0, .ref (ad 0)), (1, .int x1), (3, .int x3), (4, .int x4)]) hC.x hC.b dX1_restless_53 hl (by decide) rfl (fun ls hl => ?_)
    exact k1_restless_55 hC hK37 (S, x3, (x4 + 1)) hw495 H locs ls hP hD hS (lv_sub hl [1, 2, 3, 4, 0] rfl)
def j1_restless_17 (post : Int32 → CS → Prop) (tw : Option TD) (S : CS) (x1 : Int32) (y1 : Int32) : Prop :=
  (w1_nightWhy (fun r4 => ((r4 = 0 → (lp (fun (K : (CS × Int32 × Int32) → Prop) (z : (CS × Int32 × Int32)) => f1_restless_37 post tw x1 K z.1 z.2.1 z.2.2) (S, 0, 0))) ∧ (¬ r4 = 0 → (w1_no (fun r11 S12 => (post r11 S12)) S r4)))) S y1 x1)
set_option maxHeartbeats 4000000 in
theorem k1_restless_17 {post : Int32 → CS → Prop} {S : CS} {x1 : Int32} {y1 : Int32} (hC : CX RX1 cX1_restless 6 (some .int) D gCl nwG Z Hb A p s m args meth c) (hw : j1_restless_17 post tw S x1 y1) : ∀ (H : Heap) (locs : List Loc) (ls : Array Slot), va_P D gCl (wC D ad sc tw S) H → va_D A (wC D ad sc tw S) → va_S A s.heap H locs → lv_has ls 6 [(0, .ref (ad 0)), (1, .int x1)] → W p l e ({ frames := 125, cells := 0, slots := 0, locals := 6118 } : Room) s m args below meth c H locs 0 0 (MQ below (va_Qi post (BW D gCl A (fun u => (wC D ad sc tw u))) A) args s 0 0 A) (F0 m 17 ls [.int y1, .ref (ad 0)]) := by
  intro H locs ls hP hD hS hl
  unfold j1_restless_17 at hw
  refine lv_iload_n hC.x hC.b dX1_restless_17 rfl (lv_at hl 1 rfl) ?_
  refine go_i (run_V (rest := []) hC (m1_nightWhy l hw) v1_1_nightWhy h1_nightWhy 0 0 gCl_X1 rfl rfl ⟨rfl, rfl, Nat.le_of_ble_eq_true rfl, Nat.le_of_ble_eq_true rfl⟩ ⟨Nat.le_refl _, Nat.le_refl _⟩ hP hD hS hl.1 (Nat.le_of_ble_eq_true rfl) dX1_restless_18 rfl) hS (fun r4 u H locs hw491 hP hD hS => ?_)
  refine lv_istore_n (lv' := [(2, .int r4), (0, .ref (ad 0)), (1, .int x1)]) hC.x hC.b dX1_restless_21 rfl hl (by decide) rfl (fun ls hl => ?_)
  refine lv_iload_n hC.x hC.b dX1_restless_22 rfl (lv_at hl 0 rfl) ?_
  refine lv_if_eq (tgt := 32) hC.x hC.b dX1_restless_23 (by decide) (fun c5 => ?_) (fun c5 => ?_)
  · have hw492 := hw491.1 c5
    refine lv_iconst (v := 0) hC.x hC.b dX1_restless_32 (by decide) ?_
    refine lv_istore_n (lv' := [(3, .int 0), (2, .int r4), (0, .ref (ad 0)), (1, .int x1)]) hC.x hC.b dX1_restless_33 rfl hl (by decide) rfl (fun ls hl => ?_)
    refine lv_iconst (v := 0) hC.x hC.b dX1_restless_34 (by decide) ?_
    refine lv_istore (lv' := [(4, .int 0), (3, .int 0), (2, .int r4), (0, .ref (ad 0)), (1, .int x1)]) hC.x hC.b dX1_restless_35 hl (by decide) rfl (fun ls hl => ?_)
    exact k1_restless_37 hC (S, 0, 0) hw492 H locs ls hP hD hS (lv_sub hl [3, 4, 1, 0] rfl)
  · have hw501 := hw491.2 c5
    refine lv_aload_n hC.x hC.b dX1_restless_26 rfl (lv_at hl 1 rfl) ?_
    refine lv_iload_n hC.x hC.b dX1_restless_27 rfl (lv_at hl 0 rfl) ?_
    refine go_i (run_V (rest := []) hC (m1_no l hw501) v1_1_no h1_no 0 0 gCl_X1 rfl rfl ⟨rfl, rfl, Nat.le_of_ble_eq_true rfl, Nat.le_of_ble_eq_true rfl⟩ ⟨Nat.le_refl _, Nat.le_refl _⟩ hP hD hS hl.1 (Nat.le_of_ble_eq_true rfl) dX1_restless_28 rfl) hS (fun r11 S12 H locs hw502 hP hD hS => ?_)
    exact rt_i hC hw502 hP hD hS dX1_restless_31
def w1_restless (post : Int32 → CS → Prop) (tw : Option TD) (S : CS) (x1 : Int32) : Prop :=
  (w1_anew (fun S2 => ((tw = none → (j1_restless_17 post tw S2 x1 0)) ∧ ((∃ τ, tw = some τ) → (j1_restless_17 post tw S2 x1 1)))) S)
set_option maxHeartbeats 4000000 in
theorem m1_restless (l : Launch) {post : Int32 → CS → Prop} {S : CS} {x1 : Int32} (hw : w1_restless post tw S x1) : Met l yX1_restless (ws_ yX1_restless cX1_restless 6 (some .int)) ({ frames := 125, cells := 0, slots := 0, locals := 6118 } : Room) (va_Pc [.ref (ad 0), .int x1] (PcG D gCl nwG Z Hb A (wC D ad sc tw S))) (va_Qi post (BW D gCl A (fun u => (wC D ad sc tw u))) A) 0 0 A := by
  refine Met.ofG (by decide) (Nat.le_of_ble_eq_true rfl) ?_
  intro p e s m below meth c ls hC _ hP hD hS hl
  have hC : CX RX1 cX1_restless 6 (some .int) D gCl nwG Z Hb A p s m _ meth c := hC
  have hl : lv_has ls 6 [(0, .ref (ad 0)), (1, .int x1)] := hl
  unfold w1_restless at hw
  refine lv_aload_n hC.x hC.b dX1_restless_0 rfl (lv_at hl 0 rfl) ?_
  refine go_v (run_V (rest := []) hC (m1_anew l hw) v1_1_anew h1_anew 0 0 gCl_X1 rfl rfl ⟨rfl, rfl, Nat.le_of_ble_eq_true rfl, Nat.le_of_ble_eq_true rfl⟩ ⟨Nat.le_refl _, Nat.le_refl _⟩ hP hD hS hl.1 (Nat.le_of_ble_eq_true rfl) dX1_restless_1 rfl) hS (fun S2 H locs hw489 hP hD hS => ?_)
  refine lv_aload_n hC.x hC.b dX1_restless_4 rfl (lv_at hl 0 rfl) ?_
  refine lv_aload_n hC.x hC.b dX1_restless_5 rfl (lv_at hl 0 rfl) ?_
  refine gO_3 hC hP dX1_restless_6 ?_
  rcases va_o2 tw with c3 | ⟨τ, c3⟩
  · have hw490 := hw489.1 c3
    subst c3
    refine lv_ifnullN (tgt := 16) hC.x hC.b dX1_restless_9 (by decide) ?_
    refine lv_iconst (v := 0) hC.x hC.b dX1_restless_16 (by decide) ?_
    exact k1_restless_17 hC hw490 H locs ls hP hD hS (lv_sub hl [0, 1] rfl)
  · have hw503 := hw489.2 ⟨τ, c3⟩
    subst c3
    refine lv_ifnull hC.x hC.b dX1_restless_9 ?_
    refine lv_iconst (v := 1) hC.x hC.b dX1_restless_12 (by decide) ?_
    refine lv_goto (tgt := 17) hC.x hC.b dX1_restless_13 (by decide) ?_
    exact k1_restless_17 hC hw503 H locs ls hP hD hS (lv_sub hl [0, 1] rfl)
theorem h1_moveFor : yX1_moveFor.cls = RX1 ∧ yX1_moveFor.cls ≠ "java/lang/invoke/MethodHandle" ∧ yX1_moveFor.cls ≠ "java/lang/invoke/VarHandle" ∧ (parseMethodDescriptor yX1_moveFor.desc).map (fun d => d.parameters.length) = some 2 := by decide +kernel
def f1_moveFor_45 (post : Int32 → CS → Prop) (tw : Option TD) (x1 : Int32) (x2 : Int32) (K45 : (CS × Int32 × Int32 × Int32) → Prop) (S : CS) (x4 : Int32) (x5 : Int32) (x6 : Int32) : Prop :=
  ((∃ τ, tw = some τ) ∧ (((S.1.1 50 6) ≤ x6 → (post x4 S)) ∧ (¬ (S.1.1 50 6) ≤ x6 → (w4_who (fun r9 => ((r9 = (-2) → (w4_become (fun S12 => (vp_in x1 6 ∧ (∀ S14, S14 = sI S12 (300 + 4 * 2 + 1) x1.toNatClampNeg x6 → (w4_rightOnes (fun r15 => (w1_ones (fun r16 => ((x5 < r16 → (K45 (S14, x6, r16, (x6 + 1)))) ∧ (¬ x5 < r16 → (K45 (S14, x4, x5, (x6 + 1)))))) r15)) tw S14 2 x2)))) S 2 0)) ∧ (¬ r9 = (-2) → (K45 (S, x4, x5, (x6 + 1)))))) tw S 0 x6))))
set_option maxHeartbeats 4000000 in
theorem k1_moveFor_45 {post : Int32 → CS → Prop} {x1 : Int32} {x2 : Int32} (hC : CX RX1 cX1_moveFor 8 (some .int) D gCl nwG Z Hb A p s m args meth c) : ∀ z : (CS × Int32 × Int32 × Int32), lp (fun (K : (CS × Int32 × Int32 × Int32) → Prop) (z : (CS × Int32 × Int32 × Int32)) => f1_moveFor_45 post tw x1 x2 K z.1 z.2.1 z.2.2.1 z.2.2.2) z → ∀ (H : Heap) (locs : List Loc) (ls : Array Slot), va_P D gCl (wC D ad sc tw z.1) H → va_D A (wC D ad sc tw z.1) → va_S A s.heap H locs → lv_has ls 8 [(0, .ref (ad 0)), (1, .int x1), (2, .int x2), (4, .int z.2.1), (5, .int z.2.2.1), (6, .int z.2.2.2)] → W p l e ({ frames := 124, cells := 0, slots := 0, locals := 6093 } : Room) s m args below meth c H locs 0 0 (MQ below (va_Qi post (BW D gCl A (fun u => (wC D ad sc tw u))) A) args s 0 0 A) (F0 m 45 ls []) := by
  refine lp_ind ?_
  rintro K45 ⟨S, x4, x5, x6⟩ hK45 hw H locs ls hP hD hS hl
  have hw : f1_moveFor_45 post tw x1 x2 K45 S x4 x5 x6 := hw
  unfold f1_moveFor_45 at hw
  have hP : va_P D gCl (wC D ad sc tw S) H := hP
  have hD : va_D A (wC D ad sc tw S) := hD
  have hl : lv_has ls 8 [(0, .ref (ad 0)), (1, .int x1), (2, .int x2), (4, .int x4), (5, .int x5), (6, .int x6)] := hl
  refine lv_iload hC.x hC.b dX1_moveFor_45 (lv_at hl 5 rfl) ?_
  refine lv_aload_n hC.x hC.b dX1_moveFor_47 rfl (lv_at hl 0 rfl) ?_
  refine gO_3 hC hP dX1_moveFor_48 ?_
  obtain ⟨⟨τ, rfl⟩, hw510⟩ := hw
  refine gX1T_6 hC hP dX1_moveFor_51 ?_
  refine lv_icmp_ge (tgt := 129) hC.x hC.b dX1_moveFor_54 (by decide) (fun c8 => ?_) (fun c8 => ?_)
  · have hw511 := hw510.1 c8
    refine lv_iload hC.x hC.b dX1_moveFor_129 (lv_at hl 3 rfl) ?_
    exact rt_i hC hw511 hP hD hS dX1_moveFor_131
  · have hw512 := hw510.2 c8
    refine lv_aload_n hC.x hC.b dX1_moveFor_57 rfl (lv_at hl 0 rfl) ?_
    refine gO_9 hC hP dX1_moveFor_58 ?_
    refine lv_iload hC.x hC.b dX1_moveFor_61 (lv_at hl 5 rfl) ?_
    refine go_i (run_V (rest := []) hC (m4_who l (by decide) hw512) v1_4_who h4_who (17 + 4 * 0) 3 gCl_X4 (wC_so (by decide)) rfl ⟨rfl, rfl, Nat.le_of_ble_eq_true rfl, Nat.le_of_ble_eq_true rfl⟩ ⟨Nat.le_refl _, Nat.le_refl _⟩ hP hD hS hl.1 (Nat.le_of_ble_eq_true rfl) dX1_moveFor_63 rfl) hS (fun r9 u H locs hw513 hP hD hS => ?_)
    refine lv_bipush (v := (-2)) hC.x hC.b dX1_moveFor_66 (by decide) ?_
    refine lv_icmp_eq (tgt := 74) hC.x hC.b dX1_moveFor_68 (by decide) (fun c10 => ?_) (fun c10 => ?_)
    · have hw514 := hw513.1 c10
      refine lv_aload_n hC.x hC.b dX1_moveFor_74 rfl (lv_at hl 0 rfl) ?_
      refine gO_11 hC hP dX1_moveFor_75 ?_
      refine lv_aload_n hC.x hC.b dX1_moveFor_78 rfl (lv_at hl 0 rfl) ?_
      refine gO_9 hC hP dX1_moveFor_79 ?_
      refine go_r (run_V (rest := []) hC (m4_become l (by decide) (by decide) hw514) v1_4_become h4_become (17 + 4 * 2) 3 gCl_X4 (wC_so (by decide)) rfl ⟨rfl, rfl, Nat.le_of_ble_eq_true rfl, Nat.le_of_ble_eq_true rfl⟩ ⟨Nat.le_refl _, Nat.le_refl _⟩ hP hD hS hl.1 (Nat.le_of_ble_eq_true rfl) dX1_moveFor_82 rfl) hS (fun S12 H locs hw515 hP hD hS => ?_)
      refine gX1S_0 (r := 2) (by decide) hC hP dX1_moveFor_85 ?_
      refine lv_iload_n hC.x hC.b dX1_moveFor_88 rfl (lv_at hl 1 rfl) ?_
      refine lv_iload hC.x hC.b dX1_moveFor_89 (lv_at hl 5 rfl) ?_
      obtain ⟨hin13, hw516⟩ := hw515
      refine sS_1 (r := 2) (by decide) hC hP hD hS (v := x6) hin13 rfl dX1_moveFor_91 (fun S14 eS14 H locs hP hD hS => ?_)
      have hw517 := hw516 S14 eS14
      refine lv_aload_n hC.x hC.b dX1_moveFor_92 rfl (lv_at hl 0 rfl) ?_
      refine gO_11 hC hP dX1_moveFor_93 ?_
      refine lv_iload_n hC.x hC.b dX1_moveFor_96 rfl (lv_at hl 2 rfl) ?_
      refine go_i (run_V (rest := []) hC (m4_rightOnes l (by decide) hw517) v1_4_rightOnes h4_rightOnes (17 + 4 * 2) 3 gCl_X4 (wC_so (by decide)) rfl ⟨rfl, rfl, Nat.le_of_ble_eq_true rfl, Nat.le_of_ble_eq_true rfl⟩ ⟨Nat.le_refl _, Nat.le_refl _⟩ hP hD hS hl.1 (Nat.le_of_ble_eq_true rfl) dX1_moveFor_97 rfl) hS (fun r15 u H locs hw518 hP hD hS => ?_)
      refine go_i (run_S (rest := []) hC (m1_ones l hw518) v1_1_ones h1_ones ⟨rfl, rfl, Nat.le_of_ble_eq_true rfl, Nat.le_of_ble_eq_true rfl⟩ ⟨Nat.le_refl _, Nat.le_refl _⟩ hP hD hS hl.1 (Nat.le_of_ble_eq_true rfl) dX1_moveFor_100 rfl) hS (fun r16 u H locs hw519 hP hD hS => ?_)
      refine lv_istore (lv' := [(7, .int r16), (0, .ref (ad 0)), (1, .int x1), (2, .int x2), (4, .int x4), (5, .int x5), (6, .int x6)]) hC.x hC.b dX1_moveFor_103 hl (by decide) rfl (fun ls hl => ?_)
      refine lv_iload hC.x hC.b dX1_moveFor_105 (lv_at hl 0 rfl) ?_
      refine lv_iload hC.x hC.b dX1_moveFor_107 (lv_at hl 5 rfl) ?_
      refine lv_icmp_gt (tgt := 115) hC.x hC.b dX1_moveFor_109 (by decide) (fun c17 => ?_) (fun c17 => ?_)
      · have hw520 := hw519.1 c17
        refine lv_iload hC.x hC.b dX1_moveFor_115 (lv_at hl 6 rfl) ?_
        refine lv_istore (lv' := [(4, .int x6), (7, .int r16), (0, .ref (ad 0)), (1, .int x1), (2, .int x2), (5, .int x5), (6, .int x6)]) hC.x hC.b dX1_moveFor_117 hl (by decide) rfl (fun ls hl => ?_)
        refine lv_iload hC.x hC.b dX1_moveFor_119 (lv_at hl 1 rfl) ?_
        refine lv_istore (lv' := [(5, .int r16), (4, .int x6), (7, .int r16), (0, .ref (ad 0)), (1, .int x1), (2, .int x2), (6, .int x6)]) hC.x hC.b dX1_moveFor_121 hl (by decide) rfl (fun ls hl => ?_)
        refine lv_iinc (v := (x6 + 1)) (lv' := [(6, .int (x6 + 1)), (5, .int r16), (4, .int x6), (7, .int r16), (0, .ref (ad 0)), (1, .int x1), (2, .int x2)]) hC.x hC.b dX1_moveFor_123 hl (k := 6) rfl rfl (by decide) rfl (fun ls hl => ?_)
        refine lv_goto (tgt := 45) hC.x hC.b dX1_moveFor_126 (by decide) ?_
        exact hK45 (S14, x6, r16, (x6 + 1)) hw520 H locs ls hP hD hS (lv_sub hl [4, 5, 6, 2, 1, 0] rfl)
      · have hw521 := hw519.2 c17
        refine lv_goto (tgt := 123) hC.x hC.b dX1_moveFor_112 (by decide) ?_
        refine lv_iinc (v := (x6 + 1)) (lv' := [(6, .int (x6 + 1)), (7, .int r16), (0, .ref (ad 0)), (1, .int x1), (2, .int x2), (4, .int x4), (5, .int x5)]) hC.x hC.b dX1_moveFor_123 hl (k := 6) rfl rfl (by decide) rfl (fun ls hl => ?_)
        refine lv_goto (tgt := 45) hC.x hC.b dX1_moveFor_126 (by decide) ?_
        exact hK45 (S14, x4, x5, (x6 + 1)) hw521 H locs ls hP hD hS (lv_sub hl [2, 3, 4, 5, 6, 0] rfl)
    · have hw522 := hw513.2 c10
      refine lv_goto (tgt := 123) hC.x hC.b dX1_moveFor_71 (by decide) ?_
      refine lv_iinc (v := (x6 + 1)) (lv' := [(6, .int (x6 + 1)), (0, .ref (ad 0)), (1, .int x1), (2, .int x2), (4, .int x4), (5, .int x5)]) hC.x hC.b dX1_moveFor_123 hl (k := 5) rfl rfl (by decide) rfl (fun ls hl => ?_)
      refine lv_goto (tgt := 45) hC.x hC.b dX1_moveFor_126 (by decide) ?_
      exact hK45 (S, x4, x5, (x6 + 1)) hw522 H locs ls hP hD hS (lv_sub hl [1, 2, 3, 4, 5, 0] rfl)
def w1_moveFor (post : Int32 → CS → Prop) (tw : Option TD) (S : CS) (x1 : Int32) (x2 : Int32) : Prop :=
  (w1_anew (fun S2 => (w1_isPerson (fun r3 => (w1_nightWhy (fun r4 => ((r4 = 0 → (w4_rightOnes (fun r6 => (w1_ones (fun r7 => (lp (fun (K : (CS × Int32 × Int32 × Int32) → Prop) (z : (CS × Int32 × Int32 × Int32)) => f1_moveFor_45 post tw x1 x2 K z.1 z.2.1 z.2.2.1 z.2.2.2) (S2, (-2), r7, 0))) r6)) tw S2 0 x2)) ∧ (¬ r4 = 0 → (w1_no (fun r18 S19 => (post r18 S19)) S2 r4)))) S2 r3 x2)) tw S2 x1)) S)
set_option maxHeartbeats 4000000 in
theorem m1_moveFor (l : Launch) {post : Int32 → CS → Prop} {S : CS} {x1 : Int32} {x2 : Int32} (hw : w1_moveFor post tw S x1 x2) : Met l yX1_moveFor (ws_ yX1_moveFor cX1_moveFor 8 (some .int)) ({ frames := 124, cells := 0, slots := 0, locals := 6093 } : Room) (va_Pc [.ref (ad 0), .int x1, .int x2] (PcG D gCl nwG Z Hb A (wC D ad sc tw S))) (va_Qi post (BW D gCl A (fun u => (wC D ad sc tw u))) A) 0 0 A := by
  refine Met.ofG (by decide) (Nat.le_of_ble_eq_true rfl) ?_
  intro p e s m below meth c ls hC _ hP hD hS hl
  have hC : CX RX1 cX1_moveFor 8 (some .int) D gCl nwG Z Hb A p s m _ meth c := hC
  have hl : lv_has ls 8 [(0, .ref (ad 0)), (1, .int x1), (2, .int x2)] := hl
  unfold w1_moveFor at hw
  refine lv_aload_n hC.x hC.b dX1_moveFor_0 rfl (lv_at hl 0 rfl) ?_
  refine go_v (run_V (rest := []) hC (m1_anew l hw) v1_1_anew h1_anew 0 0 gCl_X1 rfl rfl ⟨rfl, rfl, Nat.le_of_ble_eq_true rfl, Nat.le_of_ble_eq_true rfl⟩ ⟨Nat.le_refl _, Nat.le_refl _⟩ hP hD hS hl.1 (Nat.le_of_ble_eq_true rfl) dX1_moveFor_1 rfl) hS (fun S2 H locs hw504 hP hD hS => ?_)
  refine lv_aload_n hC.x hC.b dX1_moveFor_4 rfl (lv_at hl 0 rfl) ?_
  refine lv_aload_n hC.x hC.b dX1_moveFor_5 rfl (lv_at hl 0 rfl) ?_
  refine lv_iload_n hC.x hC.b dX1_moveFor_6 rfl (lv_at hl 1 rfl) ?_
  refine go_i (run_V (rest := [.ref (ad 0)]) hC (m1_isPerson l hw504) v1_1_isPerson h1_isPerson 0 0 gCl_X1 rfl rfl ⟨rfl, rfl, Nat.le_of_ble_eq_true rfl, Nat.le_of_ble_eq_true rfl⟩ ⟨Nat.le_refl _, Nat.le_refl _⟩ hP hD hS hl.1 (Nat.le_of_ble_eq_true rfl) dX1_moveFor_7 rfl) hS (fun r3 u H locs hw505 hP hD hS => ?_)
  refine lv_iload_n hC.x hC.b dX1_moveFor_10 rfl (lv_at hl 2 rfl) ?_
  refine go_i (run_V (rest := []) hC (m1_nightWhy l hw505) v1_1_nightWhy h1_nightWhy 0 0 gCl_X1 rfl rfl ⟨rfl, rfl, Nat.le_of_ble_eq_true rfl, Nat.le_of_ble_eq_true rfl⟩ ⟨Nat.le_refl _, Nat.le_refl _⟩ hP hD hS hl.1 (Nat.le_of_ble_eq_true rfl) dX1_moveFor_11 rfl) hS (fun r4 u H locs hw506 hP hD hS => ?_)
  refine lv_istore_n (lv' := [(3, .int r4), (0, .ref (ad 0)), (1, .int x1), (2, .int x2)]) hC.x hC.b dX1_moveFor_14 rfl hl (by decide) rfl (fun ls hl => ?_)
  refine lv_iload_n hC.x hC.b dX1_moveFor_15 rfl (lv_at hl 0 rfl) ?_
  refine lv_if_eq (tgt := 25) hC.x hC.b dX1_moveFor_16 (by decide) (fun c5 => ?_) (fun c5 => ?_)
  · have hw507 := hw506.1 c5
    refine lv_bipush (v := (-2)) hC.x hC.b dX1_moveFor_25 (by decide) ?_
    refine lv_istore (lv' := [(4, .int (-2)), (3, .int r4), (0, .ref (ad 0)), (1, .int x1), (2, .int x2)]) hC.x hC.b dX1_moveFor_27 hl (by decide) rfl (fun ls hl => ?_)
    refine lv_aload_n hC.x hC.b dX1_moveFor_29 rfl (lv_at hl 2 rfl) ?_
    refine gO_9 hC hP dX1_moveFor_30 ?_
    refine lv_iload_n hC.x hC.b dX1_moveFor_33 rfl (lv_at hl 4 rfl) ?_
    refine go_i (run_V (rest := []) hC (m4_rightOnes l (by decide) hw507) v1_4_rightOnes h4_rightOnes (17 + 4 * 0) 3 gCl_X4 (wC_so (by decide)) rfl ⟨rfl, rfl, Nat.le_of_ble_eq_true rfl, Nat.le_of_ble_eq_true rfl⟩ ⟨Nat.le_refl _, Nat.le_refl _⟩ hP hD hS hl.1 (Nat.le_of_ble_eq_true rfl) dX1_moveFor_34 rfl) hS (fun r6 u H locs hw508 hP hD hS => ?_)
    refine go_i (run_S (rest := []) hC (m1_ones l hw508) v1_1_ones h1_ones ⟨rfl, rfl, Nat.le_of_ble_eq_true rfl, Nat.le_of_ble_eq_true rfl⟩ ⟨Nat.le_refl _, Nat.le_refl _⟩ hP hD hS hl.1 (Nat.le_of_ble_eq_true rfl) dX1_moveFor_37 rfl) hS (fun r7 u H locs hw509 hP hD hS => ?_)
    refine lv_istore (lv' := [(5, .int r7), (4, .int (-2)), (3, .int r4), (0, .ref (ad 0)), (1, .int x1), (2, .int x2)]) hC.x hC.b dX1_moveFor_40 hl (by decide) rfl (fun ls hl => ?_)
    refine lv_iconst (v := 0) hC.x hC.b dX1_moveFor_42 (by decide) ?_
    refine lv_istore (lv' := [(6, .int 0), (5, .int r7), (4, .int (-2)), (3, .int r4), (0, .ref (ad 0)), (1, .int x1), (2, .int x2)]) hC.x hC.b dX1_moveFor_43 hl (by decide) rfl (fun ls hl => ?_)
    exact k1_moveFor_45 hC (S2, (-2), r7, 0) hw509 H locs ls hP hD hS (lv_sub hl [4, 5, 6, 2, 1, 0] rfl)
  · have hw523 := hw506.2 c5
    refine lv_aload_n hC.x hC.b dX1_moveFor_19 rfl (lv_at hl 1 rfl) ?_
    refine lv_iload_n hC.x hC.b dX1_moveFor_20 rfl (lv_at hl 0 rfl) ?_
    refine go_i (run_V (rest := []) hC (m1_no l hw523) v1_1_no h1_no 0 0 gCl_X1 rfl rfl ⟨rfl, rfl, Nat.le_of_ble_eq_true rfl, Nat.le_of_ble_eq_true rfl⟩ ⟨Nat.le_refl _, Nat.le_refl _⟩ hP hD hS hl.1 (Nat.le_of_ble_eq_true rfl) dX1_moveFor_21 rfl) hS (fun r18 S19 H locs hw524 hP hD hS => ?_)
    exact rt_i hC hw524 hP hD hS dX1_moveFor_24
theorem v5_4_ear : GoodIn lw_all (wsV RX5 39 RX4 yX4_ear (ws_ yX4_ear cX4_ear 4 (some .int))) := lw_V q1151 q902 q903 q124 q904
theorem v5_4_aimed : GoodIn lw_all (wsV RX5 57 RX4 yX4_aimed (ws_ yX4_aimed cX4_aimed 2 (some .int))) := lw_V q1152 q906 q907 q124 q908
theorem h5_lay : yX5_lay.cls = RX5 ∧ yX5_lay.cls ≠ "java/lang/invoke/MethodHandle" ∧ yX5_lay.cls ≠ "java/lang/invoke/VarHandle" ∧ (parseMethodDescriptor yX5_lay.desc).map (fun d => d.parameters.length) = some 3 := by decide +kernel
def f5_lay_16 (post : CS → Prop) (tw : Option TD) (x2 : Nat) (x3 : Int32) (K16 : (CS × Int32 × Int32) → Prop) (S : CS) (x4 : Int32) (x5 : Int32) : Prop :=
  (((S.1.1 50 9) ≤ x5 → (post S)) ∧ (¬ (S.1.1 50 9) ≤ x5 → (w4_ear (fun r4 => (vp_in x5 6 ∧ (x5.toNatClampNeg < tG tw ∧ (tL tw x5.toNatClampNeg < 4 ∧ ((¬ r4 = (S.1.1 (1001 + 2 * x5.toNatClampNeg) 1) → (vp_in (S.1.1 4 6) 6 ∧ (∀ S9, S9 = sI S 7 (S.1.1 4 6).toNatClampNeg x4 → (vp_in r4 6 ∧ (vp_in (S9.1.1 4 6) 6 ∧ (∀ S12, S12 = sI S9 8 (S9.1.1 4 6).toNatClampNeg (S9.1.1 (300 + 4 * x2 + 1) r4.toNatClampNeg) → (w4_aimed (fun r13 => (vp_in (S12.1.1 4 6) 6 ∧ (∀ S15, S15 = sI S12 9 (S12.1.1 4 6).toNatClampNeg r13 → (∀ S16, S16 = sI S15 4 7 ((S15.1.1 4 7) + (2 * x4)) → (∀ S17, S17 = sI S16 4 6 ((S16.1.1 4 6) + 1) → (K16 (S17, (x4 * 3), (x5 + 1)))))))) tw S12 x2 x5))))))) ∧ (r4 = (S.1.1 (1001 + 2 * x5.toNatClampNeg) 1) → (K16 (S, x4, (x5 + 1))))))))) tw S x2 x5 x3 0)))
set_option maxHeartbeats 4000000 in
theorem k5_lay_16 {post : CS → Prop} {x2 : Nat} {x3 : Int32} (hC : CX RX5 cX5_lay 7 (some (.object "SeanceStreet$Walk")) D gCl nwG Z Hb A p s m args meth c) (h_x2 : x2 < 22) : ∀ z : (CS × Int32 × Int32), lp (fun (K : (CS × Int32 × Int32) → Prop) (z : (CS × Int32 × Int32)) => f5_lay_16 post (some τ) x2 x3 K z.1 z.2.1 z.2.2) z → ∀ (H : Heap) (locs : List Loc) (ls : Array Slot), va_P D gCl (wC D ad sc (some τ) z.1) H → va_D A (wC D ad sc (some τ) z.1) → va_S A s.heap H locs → lv_has ls 7 [(0, .ref (ad 4)), (1, .ref (τ.1 0)), (2, .ref (ad (20 + 4 * x2))), (3, .int x3), (4, .int z.2.1), (5, .int z.2.2)] → W p l e ({ frames := 122, cells := 0, slots := 0, locals := 6047 } : Room) s m args below meth c H locs 0 0 (MQ below (va_Qr post (fun u x t => x = (ad 4) ∧ BW D gCl A (fun u => (wC D ad sc (some τ) u)) u t) A) args s 0 0 A) (F0 m 16 ls []) := by
  refine lp_ind ?_
  rintro K16 ⟨S, x4, x5⟩ hK16 hw H locs ls hP hD hS hl
  have hw : f5_lay_16 post (some τ) x2 x3 K16 S x4 x5 := hw
  unfold f5_lay_16 at hw
  have hP : va_P D gCl (wC D ad sc (some τ) S) H := hP
  have hD : va_D A (wC D ad sc (some τ) S) := hD
  have hl : lv_has ls 7 [(0, .ref (ad 4)), (1, .ref (τ.1 0)), (2, .ref (ad (20 + 4 * x2))), (3, .int x3), (4, .int x4), (5, .int x5)] := hl
  refine lv_iload hC.x hC.b dX5_lay_16 (lv_at hl 5 rfl) ?_
  refine lv_aload_n hC.x hC.b dX5_lay_18 rfl (lv_at hl 1 rfl) ?_
  refine gX5T_9 hC hP dX5_lay_19 ?_
  refine lv_icmp_ge (tgt := 130) hC.x hC.b dX5_lay_22 (by decide) (fun c3 => ?_) (fun c3 => ?_)
  · have hw527 := hw.1 c3
    refine lv_aload_n hC.x hC.b dX5_lay_130 rfl (lv_at hl 0 rfl) ?_
    exact rt_r hC ⟨_, rfl⟩ hw527 hP hD hS dX5_lay_131
  · have hw528 := hw.2 c3
    refine lv_aload_n hC.x hC.b dX5_lay_25 rfl (lv_at hl 2 rfl) ?_
    refine lv_iload hC.x hC.b dX5_lay_26 (lv_at hl 5 rfl) ?_
    refine lv_iload_n hC.x hC.b dX5_lay_28 rfl (lv_at hl 3 rfl) ?_
    refine lv_iconst (v := 0) hC.x hC.b dX5_lay_29 (by decide) ?_
    refine go_i (run_V (rest := []) hC (m4_ear l h_x2 hw528) v5_4_ear h4_ear (17 + 4 * x2) 3 gCl_X4 (wC_so h_x2) rfl ⟨rfl, rfl, Nat.le_of_ble_eq_true rfl, Nat.le_of_ble_eq_true rfl⟩ ⟨Nat.le_refl _, Nat.le_refl _⟩ hP hD hS hl.1 (Nat.le_of_ble_eq_true rfl) dX5_lay_30 rfl) hS (fun r4 u H locs hw529 hP hD hS => ?_)
    refine lv_istore (lv' := [(6, .int r4), (0, .ref (ad 4)), (1, .ref (τ.1 0)), (2, .ref (ad (20 + 4 * x2))), (3, .int x3), (4, .int x4), (5, .int x5)]) hC.x hC.b dX5_lay_33 hl (by decide) rfl (fun ls hl => ?_)
    refine lv_iload hC.x hC.b dX5_lay_35 (lv_at hl 0 rfl) ?_
    refine lv_aload_n hC.x hC.b dX5_lay_37 rfl (lv_at hl 2 rfl) ?_
    refine gX5T_1 hC hP dX5_lay_38 ?_
    refine lv_iload hC.x hC.b dX5_lay_41 (lv_at hl 6 rfl) ?_
    obtain ⟨hin5, hw530⟩ := hw529
    obtain ⟨hg6, hw531⟩ := hw530
    refine lGh hC hP hin5 rfl hg6 dX5_lay_43 ?_
    obtain ⟨hlw, hw532⟩ := hw531
    refine gX5G_1 (i := x5.toNatClampNeg) hg6 hlw hC hP dX5_lay_44 ?_
    refine lv_icmp_ne (tgt := 53) hC.x hC.b dX5_lay_47 (by decide) (fun c7 => ?_) (fun c7 => ?_)
    · have hw533 := hw532.1 c7
      refine lv_aload_n hC.x hC.b dX5_lay_53 rfl (lv_at hl 1 rfl) ?_
      refine gW_2 hC hP dX5_lay_54 ?_
      refine lv_aload_n hC.x hC.b dX5_lay_57 rfl (lv_at hl 1 rfl) ?_
      refine gW_6 hC hP dX5_lay_58 ?_
      refine lv_iload hC.x hC.b dX5_lay_61 (lv_at hl 5 rfl) ?_
      obtain ⟨hin8, hw534⟩ := hw533
      refine sF_7 hC hP hD hS (v := x4) hin8 rfl dX5_lay_63 (fun S9 eS9 H locs hP hD hS => ?_)
      have hw535 := hw534 S9 eS9
      refine lv_aload_n hC.x hC.b dX5_lay_64 rfl (lv_at hl 1 rfl) ?_
      refine gW_3 hC hP dX5_lay_65 ?_
      refine lv_aload_n hC.x hC.b dX5_lay_68 rfl (lv_at hl 1 rfl) ?_
      refine gW_6 hC hP dX5_lay_69 ?_
      refine lv_aload_n hC.x hC.b dX5_lay_72 rfl (lv_at hl 3 rfl) ?_
      refine gX5S_0 (r := x2) h_x2 hC hP dX5_lay_73 ?_
      refine lv_iload hC.x hC.b dX5_lay_76 (lv_at hl 0 rfl) ?_
      obtain ⟨hin10, hw536⟩ := hw535
      refine lS_1 (r := x2) h_x2 hC hP hin10 rfl dX5_lay_78 ?_
      obtain ⟨hin11, hw537⟩ := hw536
      refine sF_8 hC hP hD hS (v := (S9.1.1 (300 + 4 * x2 + 1) r4.toNatClampNeg)) hin11 rfl dX5_lay_79 (fun S12 eS12 H locs hP hD hS => ?_)
      have hw538 := hw537 S12 eS12
      refine lv_aload_n hC.x hC.b dX5_lay_80 rfl (lv_at hl 1 rfl) ?_
      refine gW_4 hC hP dX5_lay_81 ?_
      refine lv_aload_n hC.x hC.b dX5_lay_84 rfl (lv_at hl 1 rfl) ?_
      refine gW_6 hC hP dX5_lay_85 ?_
      refine lv_aload_n hC.x hC.b dX5_lay_88 rfl (lv_at hl 3 rfl) ?_
      refine lv_iload hC.x hC.b dX5_lay_89 (lv_at hl 6 rfl) ?_
      refine go_i (run_V (rest := [.int (S12.1.1 4 6), .ref (ad 9)]) hC (m4_aimed l h_x2 hw538) v5_4_aimed h4_aimed (17 + 4 * x2) 3 gCl_X4 (wC_so h_x2) rfl ⟨rfl, rfl, Nat.le_of_ble_eq_true rfl, Nat.le_of_ble_eq_true rfl⟩ ⟨Nat.le_refl _, Nat.le_refl _⟩ hP hD hS hl.1 (Nat.le_of_ble_eq_true rfl) dX5_lay_91 rfl) hS (fun r13 u H locs hw539 hP hD hS => ?_)
      obtain ⟨hin14, hw540⟩ := hw539
      refine sF_9 hC hP hD hS (v := r13) hin14 rfl dX5_lay_94 (fun S15 eS15 H locs hP hD hS => ?_)
      have hw541 := hw540 S15 eS15
      refine lv_aload_n hC.x hC.b dX5_lay_95 rfl (lv_at hl 1 rfl) ?_
      refine lv_dup hC.x hC.b dX5_lay_96 rfl ?_
      refine gW_7 hC hP dX5_lay_97 ?_
      refine lv_iconst (v := 2) hC.x hC.b dX5_lay_100 (by decide) ?_
      refine lv_iload hC.x hC.b dX5_lay_101 (lv_at hl 5 rfl) ?_
      refine lv_imul hC.x hC.b dX5_lay_103 ?_
      refine lv_iadd hC.x hC.b dX5_lay_104 ?_
      refine pW_7 hC hP hD hS (v := ((S15.1.1 4 7) + (2 * x4))) dX5_lay_105 (fun S16 eS16 H locs hP hD hS => ?_)
      have hw542 := hw541 S16 eS16
      refine lv_iload hC.x hC.b dX5_lay_108 (lv_at hl 5 rfl) ?_
      refine lv_iconst (v := 3) hC.x hC.b dX5_lay_110 (by decide) ?_
      refine lv_imul hC.x hC.b dX5_lay_111 ?_
      refine lv_istore (lv' := [(4, .int (x4 * 3)), (6, .int r4), (0, .ref (ad 4)), (1, .ref (τ.1 0)), (2, .ref (ad (20 + 4 * x2))), (3, .int x3), (5, .int x5)]) hC.x hC.b dX5_lay_112 hl (by decide) rfl (fun ls hl => ?_)
      refine lv_aload_n hC.x hC.b dX5_lay_114 rfl (lv_at hl 2 rfl) ?_
      refine lv_dup hC.x hC.b dX5_lay_115 rfl ?_
      refine gW_6 hC hP dX5_lay_116 ?_
      refine lv_iconst (v := 1) hC.x hC.b dX5_lay_119 (by decide) ?_
      refine lv_iadd hC.x hC.b dX5_lay_120 ?_
      refine pW_6 hC hP hD hS (v := ((S16.1.1 4 6) + 1)) dX5_lay_121 (fun S17 eS17 H locs hP hD hS => ?_)
      have hw543 := hw542 S17 eS17
      refine lv_iinc (v := (x5 + 1)) (lv' := [(5, .int (x5 + 1)), (4, .int (x4 * 3)), (6, .int r4), (0, .ref (ad 4)), (1, .ref (τ.1 0)), (2, .ref (ad (20 + 4 * x2))), (3, .int x3)]) hC.x hC.b dX5_lay_124 hl (k := 6) rfl rfl (by decide) rfl (fun ls hl => ?_)
      refine lv_goto (tgt := 16) hC.x hC.b dX5_lay_127 (by decide) ?_
      exact hK16 (S17, (x4 * 3), (x5 + 1)) hw543 H locs ls hP hD hS (lv_sub hl [3, 4, 5, 6, 1, 0] rfl)
    · have hw544 := hw532.2 c7
      refine lv_goto (tgt := 124) hC.x hC.b dX5_lay_50 (by decide) ?_
      refine lv_iinc (v := (x5 + 1)) (lv' := [(5, .int (x5 + 1)), (6, .int r4), (0, .ref (ad 4)), (1, .ref (τ.1 0)), (2, .ref (ad (20 + 4 * x2))), (3, .int x3), (4, .int x4)]) hC.x hC.b dX5_lay_124 hl (k := 6) rfl rfl (by decide) rfl (fun ls hl => ?_)
      refine lv_goto (tgt := 16) hC.x hC.b dX5_lay_127 (by decide) ?_
      exact hK16 (S, x4, (x5 + 1)) hw544 H locs ls hP hD hS (lv_sub hl [2, 3, 4, 5, 6, 0] rfl)
def w5_lay (post : CS → Prop) (tw : Option TD) (S : CS) (x2 : Nat) (x3 : Int32) : Prop :=
  (∀ S1, S1 = sI S 4 6 0 → (∀ S2, S2 = sI S1 4 7 0 → (lp (fun (K : (CS × Int32 × Int32) → Prop) (z : (CS × Int32 × Int32)) => f5_lay_16 post tw x2 x3 K z.1 z.2.1 z.2.2) (S2, 1, 0))))
set_option maxHeartbeats 4000000 in
theorem m5_lay (l : Launch) {post : CS → Prop} {S : CS} {x2 : Nat} {x3 : Int32} (h_x2 : x2 < 22) (hw : w5_lay post (some τ) S x2 x3) : Met l yX5_lay (ws_ yX5_lay cX5_lay 7 (some (.object "SeanceStreet$Walk"))) ({ frames := 122, cells := 0, slots := 0, locals := 6047 } : Room) (va_Pc [.ref (ad 4), .ref (τ.1 0), .ref (ad (20 + 4 * x2)), .int x3] (PcG D gCl nwG Z Hb A (wC D ad sc (some τ) S))) (va_Qr post (fun u x t => x = (ad 4) ∧ BW D gCl A (fun u => (wC D ad sc (some τ) u)) u t) A) 0 0 A := by
  refine Met.ofG (by decide) (Nat.le_of_ble_eq_true rfl) ?_
  intro p e s m below meth c ls hC _ hP hD hS hl
  have hC : CX RX5 cX5_lay 7 (some (.object "SeanceStreet$Walk")) D gCl nwG Z Hb A p s m _ meth c := hC
  have hl : lv_has ls 7 [(0, .ref (ad 4)), (1, .ref (τ.1 0)), (2, .ref (ad (20 + 4 * x2))), (3, .int x3)] := hl
  unfold w5_lay at hw
  refine lv_aload_n hC.x hC.b dX5_lay_0 rfl (lv_at hl 0 rfl) ?_
  refine lv_iconst (v := 0) hC.x hC.b dX5_lay_1 (by decide) ?_
  refine pW_6 hC hP hD hS (v := 0) dX5_lay_2 (fun S1 eS1 H locs hP hD hS => ?_)
  have hw525 := hw S1 eS1
  refine lv_aload_n hC.x hC.b dX5_lay_5 rfl (lv_at hl 0 rfl) ?_
  refine lv_iconst (v := 0) hC.x hC.b dX5_lay_6 (by decide) ?_
  refine pW_7 hC hP hD hS (v := 0) dX5_lay_7 (fun S2 eS2 H locs hP hD hS => ?_)
  have hw526 := hw525 S2 eS2
  refine lv_iconst (v := 1) hC.x hC.b dX5_lay_10 (by decide) ?_
  refine lv_istore (lv' := [(4, .int 1), (0, .ref (ad 4)), (1, .ref (τ.1 0)), (2, .ref (ad (20 + 4 * x2))), (3, .int x3)]) hC.x hC.b dX5_lay_11 hl (by decide) rfl (fun ls hl => ?_)
  refine lv_iconst (v := 0) hC.x hC.b dX5_lay_13 (by decide) ?_
  refine lv_istore (lv' := [(5, .int 0), (4, .int 1), (0, .ref (ad 4)), (1, .ref (τ.1 0)), (2, .ref (ad (20 + 4 * x2))), (3, .int x3)]) hC.x hC.b dX5_lay_14 hl (by decide) rfl (fun ls hl => ?_)
  exact k5_lay_16 hC h_x2 (S2, 1, 0) hw526 H locs ls hP hD hS (lv_sub hl [2, 3, 4, 5, 1, 0] rfl)
theorem h5_passing : yX5_passing.cls = RX5 ∧ yX5_passing.cls ≠ "java/lang/invoke/MethodHandle" ∧ yX5_passing.cls ≠ "java/lang/invoke/VarHandle" ∧ (parseMethodDescriptor yX5_passing.desc).map (fun d => d.parameters.length) = some 2 := by decide +kernel
def j5_passing_43 (K5 : (Int32 × Int32) → Prop) (S : CS) (x2 : Int32) (x3 : Int32) (x4 : Int32) (x5 : Int32) : Prop :=
  ((¬ x5 = 1 → (K5 (x3, (x4 + 1)))) ∧ (x5 = 1 → (vp_in x4 6 ∧ ((¬ (S.1.1 9 x4.toNatClampNeg) = x2 → (K5 (x3, (x4 + 1)))) ∧ ((S.1.1 9 x4.toNatClampNeg) = x2 → (vp_in x4 6 ∧ (K5 ((x3 + (S.1.1 7 x4.toNatClampNeg)), (x4 + 1)))))))))
set_option maxHeartbeats 4000000 in
theorem k5_passing_43 {post : Int32 → Prop} {S : CS} {x2 : Int32} {x3 : Int32} {x4 : Int32} {x5 : Int32} {K5 : (Int32 × Int32) → Prop} (hC : CX RX5 cX5_passing 6 (some .int) D gCl nwG Z Hb A p s m args meth c) (hK5 : ∀ z : (Int32 × Int32), K5 z → ∀ (H : Heap) (locs : List Loc) (ls : Array Slot), va_P D gCl (wC D ad sc tw S) H → va_D A (wC D ad sc tw S) → va_S A s.heap H locs → lv_has ls 6 [(0, .ref (ad 4)), (2, .int x2), (3, .int z.1), (4, .int z.2)] → W p l e ({ frames := 0, cells := 0, slots := 0, locals := 0 } : Room) s m args below meth c H locs 0 0 (MQ below (va_Qi (fun r (_ : Unit) => post r) (BW D gCl A (fun _ => (wC D ad sc tw S))) A) args s 0 0 A) (F0 m 5 ls [])) (hw : j5_passing_43 K5 S x2 x3 x4 x5) : ∀ (H : Heap) (locs : List Loc) (ls : Array Slot), va_P D gCl (wC D ad sc tw S) H → va_D A (wC D ad sc tw S) → va_S A s.heap H locs → lv_has ls 6 [(0, .ref (ad 4)), (2, .int x2), (3, .int x3), (4, .int x4), (5, .int x5)] → W p l e ({ frames := 0, cells := 0, slots := 0, locals := 0 } : Room) s m args below meth c H locs 0 0 (MQ below (va_Qi (fun r (_ : Unit) => post r) (BW D gCl A (fun _ => (wC D ad sc tw S))) A) args s 0 0 A) (F0 m 43 ls []) := by
  intro H locs ls hP hD hS hl
  unfold j5_passing_43 at hw
  refine lv_iload hC.x hC.b dX5_passing_43 (lv_at hl 4 rfl) ?_
  refine lv_iconst (v := 1) hC.x hC.b dX5_passing_45 (by decide) ?_
  refine lv_icmp_ne (tgt := 70) hC.x hC.b dX5_passing_46 (by decide) (fun c4 => ?_) (fun c4 => ?_)
  · have hw550 := hw.1 c4
    refine lv_iinc (v := (x4 + 1)) (lv' := [(4, .int (x4 + 1)), (0, .ref (ad 4)), (2, .int x2), (3, .int x3), (5, .int x5)]) hC.x hC.b dX5_passing_70 hl (k := 3) rfl rfl (by decide) rfl (fun ls hl => ?_)
    refine lv_goto (tgt := 5) hC.x hC.b dX5_passing_73 (by decide) ?_
    exact hK5 (x3, (x4 + 1)) hw550 H locs ls hP hD hS (lv_sub hl [1, 2, 3, 0] rfl)
  · have hw551 := hw.2 c4
    refine lv_aload_n hC.x hC.b dX5_passing_49 rfl (lv_at hl 0 rfl) ?_
    refine gW_4 hC hP dX5_passing_50 ?_
    refine lv_iload hC.x hC.b dX5_passing_53 (lv_at hl 3 rfl) ?_
    obtain ⟨hin5, hw552⟩ := hw551
    refine lF_9 hC hP hin5 rfl dX5_passing_55 ?_
    refine lv_iload_n hC.x hC.b dX5_passing_56 rfl (lv_at hl 1 rfl) ?_
    refine lv_icmp_ne (tgt := 70) hC.x hC.b dX5_passing_57 (by decide) (fun c6 => ?_) (fun c6 => ?_)
    · have hw553 := hw552.1 c6
      refine lv_iinc (v := (x4 + 1)) (lv' := [(4, .int (x4 + 1)), (0, .ref (ad 4)), (2, .int x2), (3, .int x3), (5, .int x5)]) hC.x hC.b dX5_passing_70 hl (k := 3) rfl rfl (by decide) rfl (fun ls hl => ?_)
      refine lv_goto (tgt := 5) hC.x hC.b dX5_passing_73 (by decide) ?_
      exact hK5 (x3, (x4 + 1)) hw553 H locs ls hP hD hS (lv_sub hl [1, 2, 3, 0] rfl)
    · have hw554 := hw552.2 c6
      refine lv_iload_n hC.x hC.b dX5_passing_60 rfl (lv_at hl 2 rfl) ?_
      refine lv_aload_n hC.x hC.b dX5_passing_61 rfl (lv_at hl 0 rfl) ?_
      refine gW_2 hC hP dX5_passing_62 ?_
      refine lv_iload hC.x hC.b dX5_passing_65 (lv_at hl 3 rfl) ?_
      obtain ⟨hin7, hw555⟩ := hw554
      refine lF_7 hC hP hin7 rfl dX5_passing_67 ?_
      refine lv_iadd hC.x hC.b dX5_passing_68 ?_
      refine lv_istore_n (lv' := [(3, .int (x3 + (S.1.1 7 x4.toNatClampNeg))), (0, .ref (ad 4)), (2, .int x2), (4, .int x4), (5, .int x5)]) hC.x hC.b dX5_passing_69 rfl hl (by decide) rfl (fun ls hl => ?_)
      refine lv_iinc (v := (x4 + 1)) (lv' := [(4, .int (x4 + 1)), (3, .int (x3 + (S.1.1 7 x4.toNatClampNeg))), (0, .ref (ad 4)), (2, .int x2), (5, .int x5)]) hC.x hC.b dX5_passing_70 hl (k := 3) rfl rfl (by decide) rfl (fun ls hl => ?_)
      refine lv_goto (tgt := 5) hC.x hC.b dX5_passing_73 (by decide) ?_
      exact hK5 ((x3 + (S.1.1 7 x4.toNatClampNeg)), (x4 + 1)) hw555 H locs ls hP hD hS (lv_sub hl [2, 3, 1, 0] rfl)
def f5_passing_5 (post : Int32 → Prop) (S : CS) (x2 : Int32) (K5 : (Int32 × Int32) → Prop) (x3 : Int32) (x4 : Int32) : Prop :=
  (((S.1.1 4 6) ≤ x4 → (post x3)) ∧ (¬ (S.1.1 4 6) ≤ x4 → (vp_in x4 6 ∧ ((¬ (S.1.1 7 x4.toNatClampNeg) = 0) ∧ ((¬ ((x3 / (S.1.1 7 x4.toNatClampNeg)) - (x3 / (S.1.1 7 x4.toNatClampNeg)) / 3 * 3) = 0 → (j5_passing_43 K5 S x2 x3 x4 ((x3 / (S.1.1 7 x4.toNatClampNeg)) - (x3 / (S.1.1 7 x4.toNatClampNeg)) / 3 * 3))) ∧ (((x3 / (S.1.1 7 x4.toNatClampNeg)) - (x3 / (S.1.1 7 x4.toNatClampNeg)) / 3 * 3) = 0 → (vp_in x4 6 ∧ (((S.1.1 8 x4.toNatClampNeg) = x2 → (vp_in x4 6 ∧ (K5 ((x3 + (S.1.1 7 x4.toNatClampNeg)), (x4 + 1))))) ∧ (¬ (S.1.1 8 x4.toNatClampNeg) = x2 → (j5_passing_43 K5 S x2 x3 x4 ((x3 / (S.1.1 7 x4.toNatClampNeg)) - (x3 / (S.1.1 7 x4.toNatClampNeg)) / 3 * 3)))))))))))
set_option maxHeartbeats 4000000 in
theorem k5_passing_5 {post : Int32 → Prop} {S : CS} {x2 : Int32} (hC : CX RX5 cX5_passing 6 (some .int) D gCl nwG Z Hb A p s m args meth c) : ∀ z : (Int32 × Int32), lp (fun (K : (Int32 × Int32) → Prop) (z : (Int32 × Int32)) => f5_passing_5 post S x2 K z.1 z.2) z → ∀ (H : Heap) (locs : List Loc) (ls : Array Slot), va_P D gCl (wC D ad sc tw S) H → va_D A (wC D ad sc tw S) → va_S A s.heap H locs → lv_has ls 6 [(0, .ref (ad 4)), (2, .int x2), (3, .int z.1), (4, .int z.2)] → W p l e ({ frames := 0, cells := 0, slots := 0, locals := 0 } : Room) s m args below meth c H locs 0 0 (MQ below (va_Qi (fun r (_ : Unit) => post r) (BW D gCl A (fun _ => (wC D ad sc tw S))) A) args s 0 0 A) (F0 m 5 ls []) := by
  refine lp_ind ?_
  rintro K5 ⟨x3, x4⟩ hK5 hw H locs ls hP hD hS hl
  have hw : f5_passing_5 post S x2 K5 x3 x4 := hw
  unfold f5_passing_5 at hw
  have hP : va_P D gCl (wC D ad sc tw S) H := hP
  have hD : va_D A (wC D ad sc tw S) := hD
  have hl : lv_has ls 6 [(0, .ref (ad 4)), (2, .int x2), (3, .int x3), (4, .int x4)] := hl
  refine lv_iload hC.x hC.b dX5_passing_5 (lv_at hl 3 rfl) ?_
  refine lv_aload_n hC.x hC.b dX5_passing_7 rfl (lv_at hl 0 rfl) ?_
  refine gW_6 hC hP dX5_passing_8 ?_
  refine lv_icmp_ge (tgt := 76) hC.x hC.b dX5_passing_11 (by decide) (fun c1 => ?_) (fun c1 => ?_)
  · have hw545 := hw.1 c1
    refine lv_iload_n hC.x hC.b dX5_passing_76 rfl (lv_at hl 2 rfl) ?_
    exact rt_i (u := ()) hC hw545 hP hD hS dX5_passing_77
  · have hw546 := hw.2 c1
    refine lv_iload_n hC.x hC.b dX5_passing_14 rfl (lv_at hl 2 rfl) ?_
    refine lv_aload_n hC.x hC.b dX5_passing_15 rfl (lv_at hl 0 rfl) ?_
    refine gW_2 hC hP dX5_passing_16 ?_
    refine lv_iload hC.x hC.b dX5_passing_19 (lv_at hl 3 rfl) ?_
    obtain ⟨hin2, hw547⟩ := hw546
    refine lF_7 hC hP hin2 rfl dX5_passing_21 ?_
    obtain ⟨hne, hw548⟩ := hw547
    refine lv_idiv hC.x hC.b dX5_passing_22 hne ?_
    refine lv_iconst (v := 3) hC.x hC.b dX5_passing_23 (by decide) ?_
    refine lv_irem hC.x hC.b dX5_passing_24 (by decide) ?_
    refine lv_istore (lv' := [(5, .int ((x3 / (S.1.1 7 x4.toNatClampNeg)) - (x3 / (S.1.1 7 x4.toNatClampNeg)) / 3 * 3)), (0, .ref (ad 4)), (2, .int x2), (3, .int x3), (4, .int x4)]) hC.x hC.b dX5_passing_25 hl (by decide) rfl (fun ls hl => ?_)
    refine lv_iload hC.x hC.b dX5_passing_27 (lv_at hl 0 rfl) ?_
    refine lv_if_ne (tgt := 43) hC.x hC.b dX5_passing_29 (by decide) (fun c3 => ?_) (fun c3 => ?_)
    · have hw549 := hw548.1 c3
      exact k5_passing_43 hC hK5 hw549 H locs ls hP hD hS (lv_sub hl [1, 2, 3, 4, 0] rfl)
    · have hw556 := hw548.2 c3
      refine lv_aload_n hC.x hC.b dX5_passing_32 rfl (lv_at hl 1 rfl) ?_
      refine gW_3 hC hP dX5_passing_33 ?_
      refine lv_iload hC.x hC.b dX5_passing_36 (lv_at hl 4 rfl) ?_
      obtain ⟨hin8, hw557⟩ := hw556
      refine lF_8 hC hP hin8 rfl dX5_passing_38 ?_
      refine lv_iload_n hC.x hC.b dX5_passing_39 rfl (lv_at hl 2 rfl) ?_
      refine lv_icmp_eq (tgt := 60) hC.x hC.b dX5_passing_40 (by decide) (fun c9 => ?_) (fun c9 => ?_)
      · have hw558 := hw557.1 c9
        refine lv_iload_n hC.x hC.b dX5_passing_60 rfl (lv_at hl 3 rfl) ?_
        refine lv_aload_n hC.x hC.b dX5_passing_61 rfl (lv_at hl 1 rfl) ?_
        refine gW_2 hC hP dX5_passing_62 ?_
        refine lv_iload hC.x hC.b dX5_passing_65 (lv_at hl 4 rfl) ?_
        obtain ⟨hin10, hw559⟩ := hw558
        refine lF_7 hC hP hin10 rfl dX5_passing_67 ?_
        refine lv_iadd hC.x hC.b dX5_passing_68 ?_
        refine lv_istore_n (lv' := [(3, .int (x3 + (S.1.1 7 x4.toNatClampNeg))), (5, .int ((x3 / (S.1.1 7 x4.toNatClampNeg)) - (x3 / (S.1.1 7 x4.toNatClampNeg)) / 3 * 3)), (0, .ref (ad 4)), (2, .int x2), (4, .int x4)]) hC.x hC.b dX5_passing_69 rfl hl (by decide) rfl (fun ls hl => ?_)
        refine lv_iinc (v := (x4 + 1)) (lv' := [(4, .int (x4 + 1)), (3, .int (x3 + (S.1.1 7 x4.toNatClampNeg))), (5, .int ((x3 / (S.1.1 7 x4.toNatClampNeg)) - (x3 / (S.1.1 7 x4.toNatClampNeg)) / 3 * 3)), (0, .ref (ad 4)), (2, .int x2)]) hC.x hC.b dX5_passing_70 hl (k := 4) rfl rfl (by decide) rfl (fun ls hl => ?_)
        refine lv_goto (tgt := 5) hC.x hC.b dX5_passing_73 (by decide) ?_
        exact hK5 ((x3 + (S.1.1 7 x4.toNatClampNeg)), (x4 + 1)) hw559 H locs ls hP hD hS (lv_sub hl [3, 4, 1, 0] rfl)
      · have hw560 := hw557.2 c9
        exact k5_passing_43 hC hK5 hw560 H locs ls hP hD hS (lv_sub hl [1, 2, 3, 4, 0] rfl)
def w5_passing (post : Int32 → Prop) (S : CS) (x1 : Int32) (x2 : Int32) : Prop :=
  (lp (fun (K : (Int32 × Int32) → Prop) (z : (Int32 × Int32)) => f5_passing_5 post S x2 K z.1 z.2) (x1, 0))
set_option maxHeartbeats 4000000 in
theorem m5_passing (l : Launch) {post : Int32 → Prop} {S : CS} {x1 : Int32} {x2 : Int32} (hw : w5_passing post S x1 x2) : Met l yX5_passing (ws_ yX5_passing cX5_passing 6 (some .int)) ({ frames := 0, cells := 0, slots := 0, locals := 0 } : Room) (va_Pc [.ref (ad 4), .int x1, .int x2] (PcG D gCl nwG Z Hb A (wC D ad sc tw S))) (va_Qi (fun r (_ : Unit) => post r) (BW D gCl A (fun _ => (wC D ad sc tw S))) A) 0 0 A := by
  refine Met.ofG (by decide) (Nat.le_of_ble_eq_true rfl) ?_
  intro p e s m below meth c ls hC _ hP hD hS hl
  have hC : CX RX5 cX5_passing 6 (some .int) D gCl nwG Z Hb A p s m _ meth c := hC
  have hl : lv_has ls 6 [(0, .ref (ad 4)), (1, .int x1), (2, .int x2)] := hl
  unfold w5_passing at hw
  refine lv_iload_n hC.x hC.b dX5_passing_0 rfl (lv_at hl 1 rfl) ?_
  refine lv_istore_n (lv' := [(3, .int x1), (0, .ref (ad 4)), (1, .int x1), (2, .int x2)]) hC.x hC.b dX5_passing_1 rfl hl (by decide) rfl (fun ls hl => ?_)
  refine lv_iconst (v := 0) hC.x hC.b dX5_passing_2 (by decide) ?_
  refine lv_istore (lv' := [(4, .int 0), (3, .int x1), (0, .ref (ad 4)), (1, .int x1), (2, .int x2)]) hC.x hC.b dX5_passing_3 hl (by decide) rfl (fun ls hl => ?_)
  exact k5_passing_5 hC (x1, 0) hw s.heap [] ls hP hD hS (lv_sub hl [2, 4, 1, 0] rfl)
theorem h5_meet : yX5_meet.cls = RX5 ∧ yX5_meet.cls ≠ "java/lang/invoke/MethodHandle" ∧ yX5_meet.cls ≠ "java/lang/invoke/VarHandle" ∧ (parseMethodDescriptor yX5_meet.desc).map (fun d => d.parameters.length) = some 3 := by decide +kernel
def w5_meet (post : CS → Prop) (S : CS) (x1 : Int32) (x2 : Int32) (x3 : Int32) : Prop :=
  (vp_in ((729 * x1) + x2) 29160 ∧ ((x3 < (S.1.1 5 ((729 * x1) + x2).toNatClampNeg) → (vp_in ((729 * x1) + x2) 29160 ∧ (∀ S4, S4 = sI S 5 ((729 * x1) + x2).toNatClampNeg x3 → (vp_in (S4.1.1 4 5) 29160 ∧ (∀ S6, S6 = sI S4 6 (S4.1.1 4 5).toNatClampNeg ((729 * x1) + x2) → (∀ S7, S7 = sI S6 4 5 ((S6.1.1 4 5) + 1) → (post S7))))))) ∧ (¬ x3 < (S.1.1 5 ((729 * x1) + x2).toNatClampNeg) → (post S))))
set_option maxHeartbeats 4000000 in
theorem m5_meet (l : Launch) {post : CS → Prop} {S : CS} {x1 : Int32} {x2 : Int32} {x3 : Int32} (hw : w5_meet post S x1 x2 x3) : Met l yX5_meet (ws_ yX5_meet cX5_meet 5 none) ({ frames := 0, cells := 0, slots := 0, locals := 0 } : Room) (va_Pc [.ref (ad 4), .int x1, .int x2, .int x3] (PcG D gCl nwG Z Hb A (wC D ad sc tw S))) (va_Qv post (BW D gCl A (fun u => (wC D ad sc tw u))) A) 0 0 A := by
  refine Met.ofG (by decide) (Nat.le_of_ble_eq_true rfl) ?_
  intro p e s m below meth c ls hC _ hP hD hS hl
  have hC : CX RX5 cX5_meet 5 none D gCl nwG Z Hb A p s m _ meth c := hC
  have hl : lv_has ls 5 [(0, .ref (ad 4)), (1, .int x1), (2, .int x2), (3, .int x3)] := hl
  unfold w5_meet at hw
  refine lv_sipush (v := 729) hC.x hC.b dX5_meet_0 (by decide) ?_
  refine lv_iload_n hC.x hC.b dX5_meet_3 rfl (lv_at hl 1 rfl) ?_
  refine lv_imul hC.x hC.b dX5_meet_4 ?_
  refine lv_iload_n hC.x hC.b dX5_meet_5 rfl (lv_at hl 2 rfl) ?_
  refine lv_iadd hC.x hC.b dX5_meet_6 ?_
  refine lv_istore (lv' := [(4, .int ((729 * x1) + x2)), (0, .ref (ad 4)), (1, .int x1), (2, .int x2), (3, .int x3)]) hC.x hC.b dX5_meet_7 hl (by decide) rfl (fun ls hl => ?_)
  refine lv_aload_n hC.x hC.b dX5_meet_9 rfl (lv_at hl 1 rfl) ?_
  refine gW_0 hC hP dX5_meet_10 ?_
  refine lv_iload hC.x hC.b dX5_meet_13 (lv_at hl 0 rfl) ?_
  obtain ⟨hin1, hw561⟩ := hw
  refine lF_5 hC hP hin1 rfl dX5_meet_15 ?_
  refine lv_iload_n hC.x hC.b dX5_meet_16 rfl (lv_at hl 4 rfl) ?_
  refine lv_icmp_gt (tgt := 21) hC.x hC.b dX5_meet_17 (by decide) (fun c2 => ?_) (fun c2 => ?_)
  · have hw562 := hw561.1 c2
    refine lv_aload_n hC.x hC.b dX5_meet_21 rfl (lv_at hl 1 rfl) ?_
    refine gW_0 hC hP dX5_meet_22 ?_
    refine lv_iload hC.x hC.b dX5_meet_25 (lv_at hl 0 rfl) ?_
    refine lv_iload_n hC.x hC.b dX5_meet_27 rfl (lv_at hl 4 rfl) ?_
    obtain ⟨hin3, hw563⟩ := hw562
    refine sF_5 hC hP hD hS (v := x3) hin3 rfl dX5_meet_28 (fun S4 eS4 H locs hP hD hS => ?_)
    have hw564 := hw563 S4 eS4
    refine lv_aload_n hC.x hC.b dX5_meet_29 rfl (lv_at hl 1 rfl) ?_
    refine gW_1 hC hP dX5_meet_30 ?_
    refine lv_aload_n hC.x hC.b dX5_meet_33 rfl (lv_at hl 1 rfl) ?_
    refine gW_5 hC hP dX5_meet_34 ?_
    refine lv_iload hC.x hC.b dX5_meet_37 (lv_at hl 0 rfl) ?_
    obtain ⟨hin5, hw565⟩ := hw564
    refine sF_6 hC hP hD hS (v := ((729 * x1) + x2)) hin5 rfl dX5_meet_39 (fun S6 eS6 H locs hP hD hS => ?_)
    have hw566 := hw565 S6 eS6
    refine lv_aload_n hC.x hC.b dX5_meet_40 rfl (lv_at hl 1 rfl) ?_
    refine lv_dup hC.x hC.b dX5_meet_41 rfl ?_
    refine gW_5 hC hP dX5_meet_42 ?_
    refine lv_iconst (v := 1) hC.x hC.b dX5_meet_45 (by decide) ?_
    refine lv_iadd hC.x hC.b dX5_meet_46 ?_
    refine pW_5 hC hP hD hS (v := ((S6.1.1 4 5) + 1)) dX5_meet_47 (fun S7 eS7 H locs hP hD hS => ?_)
    have hw567 := hw566 S7 eS7
    exact rt_v hC hw567 hP hD hS dX5_meet_50
  · have hw568 := hw561.2 c2
    exact rt_v hC hw568 hP hD hS dX5_meet_20
end CWc2
