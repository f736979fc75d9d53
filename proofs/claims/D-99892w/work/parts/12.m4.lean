set_option maxRecDepth 100000
section MWm3
variable {p : Program} {l : Launch} {w0 : va_W} {e : Env} {s : State} {m : MethodId} {args : Array Value} {below : List Frame} {meth : Method} {c : Code} {D : va_G} {Z : State → Prop} {Hb : Heap} {A : Nat → Prop} {ad : Nat → Nat} {rd tw : Option (Nat → Nat)} {rdv : Option Nat} {t rt : Nat → Nat}
theorem v6_6_isRest : GoodIn lw_all (va_wsS RX6 441 yX6_isRest (ws_ yX6_isRest cX6_isRest 4 (some .boolean))) := lw_S q2081 q2082 q126 q2083
theorem h6_rests : yX6_rests.cls = RX6 ∧ yX6_rests.cls ≠ "java/lang/invoke/MethodHandle" ∧ yX6_rests.cls ≠ "java/lang/invoke/VarHandle" ∧ (parseMethodDescriptor yX6_rests.desc).map (fun d => d.parameters.length) = some 1 := by decide +kernel
def f6_rests_26 (post : Int32 → MS → Prop) (S : MS) (x1 : Int32) (K26 : (Int32 × Int32) → Prop) (x3 : Int32) (x4 : Int32) : Prop :=
  ((4 ≤ x4 → (w6_good (fun r5 S6 => (post r5 S6)) S x3)) ∧ (¬ 4 ≤ x4 → (w6_isRest (fun r7 => ((r7 = 0 → (K26 ((x3 + 0), (x4 + 1)))) ∧ (¬ r7 = 0 → (K26 ((x3 + 1), (x4 + 1)))))) x1 x4)))
set_option maxHeartbeats 4000000 in
theorem k6_rests_26 {post : Int32 → MS → Prop} {S : MS} {x1 : Int32} (hC : CX RX6 cX6_rests 5 (some .int) D gCl nwG Z Hb A p s m args meth c) : ∀ z : (Int32 × Int32), lp (fun (K : (Int32 × Int32) → Prop) (z : (Int32 × Int32)) => f6_rests_26 post S x1 K z.1 z.2) z → ∀ (H : Heap) (locs : List Loc) (ls : Array Slot), va_P D gCl (wM D ad none rdv tw S) H → va_D A (wM D ad none rdv tw S) → va_S A s.heap H locs → lv_has ls 5 [(0, .ref (ad 0)), (1, .int x1), (3, .int z.1), (4, .int z.2)] → W p l e ({ frames := 2, cells := 0, slots := 0, locals := 45 } : Room) s m args below meth c H locs 0 0 (MQ below (va_Qi post (BW D gCl A (fun u => (wM D ad none rdv tw u))) A) args s 0 0 A) (F0 m 26 ls []) := by
  refine lp_ind ?_
  rintro K26 ⟨x3, x4⟩ hK26 hw H locs ls hP hD hS hl
  have hw : f6_rests_26 post S x1 K26 x3 x4 := hw
  unfold f6_rests_26 at hw
  have hP : va_P D gCl (wM D ad none rdv tw S) H := hP
  have hD : va_D A (wM D ad none rdv tw S) := hD
  have hl : lv_has ls 5 [(0, .ref (ad 0)), (1, .int x1), (3, .int x3), (4, .int x4)] := hl
  refine lv_iload hC.x hC.b dX6_rests_26 (lv_at hl 3 rfl) ?_
  refine lv_iconst (v := 4) hC.x hC.b dX6_rests_28 (by decide) ?_
  refine lv_icmp_ge (tgt := 55) hC.x hC.b dX6_rests_29 (by decide) (fun c4 => ?_) (fun c4 => ?_)
  · have hw1032 := hw.1 c4
    refine lv_aload_n hC.x hC.b dX6_rests_55 rfl (lv_at hl 0 rfl) ?_
    refine lv_iload_n hC.x hC.b dX6_rests_56 rfl (lv_at hl 2 rfl) ?_
    refine go_i (run_V (rest := []) hC (m6_good l hw1032) v6_6_good h6_good 0 5 gCl_X6 rfl rfl ⟨rfl, rfl, Nat.le_of_ble_eq_true rfl, Nat.le_of_ble_eq_true rfl⟩ ⟨Nat.le_refl _, Nat.le_refl _⟩ hP hD hS hl.1 (Nat.le_of_ble_eq_true rfl) dX6_rests_57 rfl) hS (fun r5 S6 H locs hw1033 hP hD hS => ?_)
    exact rt_i hC hw1033 hP hD hS dX6_rests_60
  · have hw1034 := hw.2 c4
    refine lv_iload_n hC.x hC.b dX6_rests_32 rfl (lv_at hl 2 rfl) ?_
    refine lv_iload_n hC.x hC.b dX6_rests_33 rfl (lv_at hl 1 rfl) ?_
    refine lv_iload hC.x hC.b dX6_rests_34 (lv_at hl 3 rfl) ?_
    refine go_i (run_S (rest := [.int x3]) hC (m6_isRest l hw1034) v6_6_isRest h6_isRest ⟨rfl, rfl, Nat.le_of_ble_eq_true rfl, Nat.le_of_ble_eq_true rfl⟩ ⟨Nat.le_refl _, Nat.le_refl _⟩ hP hD hS hl.1 (Nat.le_of_ble_eq_true rfl) dX6_rests_36 rfl) hS (fun r7 u H locs hw1035 hP hD hS => ?_)
    refine lv_if_eq (tgt := 46) hC.x hC.b dX6_rests_39 (by decide) (fun c8 => ?_) (fun c8 => ?_)
    · have hw1036 := hw1035.1 c8
      refine lv_iconst (v := 0) hC.x hC.b dX6_rests_46 (by decide) ?_
      refine lv_iadd hC.x hC.b dX6_rests_47 ?_
      refine lv_istore_n (lv' := [(3, .int (x3 + 0)), (0, .ref (ad 0)), (1, .int x1), (4, .int x4)]) hC.x hC.b dX6_rests_48 rfl hl (by decide) rfl (fun ls hl => ?_)
      refine lv_iinc (v := (x4 + 1)) (lv' := [(4, .int (x4 + 1)), (3, .int (x3 + 0)), (0, .ref (ad 0)), (1, .int x1)]) hC.x hC.b dX6_rests_49 hl (k := 3) rfl rfl (by decide) rfl (fun ls hl => ?_)
      refine lv_goto (tgt := 26) hC.x hC.b dX6_rests_52 (by decide) ?_
      exact hK26 ((x3 + 0), (x4 + 1)) hw1036 H locs ls hP hD hS (lv_sub hl [2, 3, 1, 0] rfl)
    · have hw1037 := hw1035.2 c8
      refine lv_iconst (v := 1) hC.x hC.b dX6_rests_42 (by decide) ?_
      refine lv_goto (tgt := 47) hC.x hC.b dX6_rests_43 (by decide) ?_
      refine lv_iadd hC.x hC.b dX6_rests_47 ?_
      refine lv_istore_n (lv' := [(3, .int (x3 + 1)), (0, .ref (ad 0)), (1, .int x1), (4, .int x4)]) hC.x hC.b dX6_rests_48 rfl hl (by decide) rfl (fun ls hl => ?_)
      refine lv_iinc (v := (x4 + 1)) (lv' := [(4, .int (x4 + 1)), (3, .int (x3 + 1)), (0, .ref (ad 0)), (1, .int x1)]) hC.x hC.b dX6_rests_49 hl (k := 3) rfl rfl (by decide) rfl (fun ls hl => ?_)
      refine lv_goto (tgt := 26) hC.x hC.b dX6_rests_52 (by decide) ?_
      exact hK26 ((x3 + 1), (x4 + 1)) hw1037 H locs ls hP hD hS (lv_sub hl [2, 3, 1, 0] rfl)
def w6_rests (post : Int32 → MS → Prop) (tw : Option (Nat → Nat)) (S : MS) (x1 : Int32) : Prop :=
  (∀ S1, S1 = uI S 0 0 0 → (w6_refusesSoot (fun r2 => ((r2 ≤ 0 → (lp (fun (K : (Int32 × Int32) → Prop) (z : (Int32 × Int32)) => f6_rests_26 post S1 x1 K z.1 z.2) (0, 0))) ∧ (¬ r2 ≤ 0 → (w6_refused (fun r9 S10 => (post r9 S10)) S1 r2)))) tw S1 x1))
set_option maxHeartbeats 4000000 in
theorem m6_rests (l : Launch) {post : Int32 → MS → Prop} {S : MS} {x1 : Int32} (hw : w6_rests post tw S x1) : Met l yX6_rests (ws_ yX6_rests cX6_rests 5 (some .int)) ({ frames := 2, cells := 0, slots := 0, locals := 45 } : Room) (va_Pc [.ref (ad 0), .int x1] (PcG D gCl nwG Z Hb A (wM D ad none rdv tw S))) (va_Qi post (BW D gCl A (fun u => (wM D ad none rdv tw u))) A) 0 0 A := by
  refine Met.ofG (by decide) (Nat.le_of_ble_eq_true rfl) ?_
  intro p e s m below meth c ls hC _ hP hD hS hl
  have hC : CX RX6 cX6_rests 5 (some .int) D gCl nwG Z Hb A p s m _ meth c := hC
  have hl : lv_has ls 5 [(0, .ref (ad 0)), (1, .int x1)] := hl
  unfold w6_rests at hw
  refine lv_aload_n hC.x hC.b dX6_rests_0 rfl (lv_at hl 0 rfl) ?_
  refine lv_iconst (v := 0) hC.x hC.b dX6_rests_1 (by decide) ?_
  refine pM_0 hC hP hD hS (v := 0) dX6_rests_2 (fun S1 eS1 H locs hP hD hS => ?_)
  have hw1029 := hw S1 eS1
  refine lv_aload_n hC.x hC.b dX6_rests_5 rfl (lv_at hl 0 rfl) ?_
  refine lv_iload_n hC.x hC.b dX6_rests_6 rfl (lv_at hl 1 rfl) ?_
  refine go_i (run_V (rest := []) hC (m6_refusesSoot l hw1029) v6_6_refusesSoot h6_refusesSoot 0 5 gCl_X6 rfl rfl ⟨rfl, rfl, Nat.le_of_ble_eq_true rfl, Nat.le_of_ble_eq_true rfl⟩ ⟨Nat.le_refl _, Nat.le_refl _⟩ hP hD hS hl.1 (Nat.le_of_ble_eq_true rfl) dX6_rests_7 rfl) hS (fun r2 u H locs hw1030 hP hD hS => ?_)
  refine lv_istore_n (lv' := [(2, .int r2), (0, .ref (ad 0)), (1, .int x1)]) hC.x hC.b dX6_rests_10 rfl hl (by decide) rfl (fun ls hl => ?_)
  refine lv_iload_n hC.x hC.b dX6_rests_11 rfl (lv_at hl 0 rfl) ?_
  refine lv_if_le (tgt := 21) hC.x hC.b dX6_rests_12 (by decide) (fun c3 => ?_) (fun c3 => ?_)
  · have hw1031 := hw1030.1 c3
    refine lv_iconst (v := 0) hC.x hC.b dX6_rests_21 (by decide) ?_
    refine lv_istore_n (lv' := [(3, .int 0), (2, .int r2), (0, .ref (ad 0)), (1, .int x1)]) hC.x hC.b dX6_rests_22 rfl hl (by decide) rfl (fun ls hl => ?_)
    refine lv_iconst (v := 0) hC.x hC.b dX6_rests_23 (by decide) ?_
    refine lv_istore (lv' := [(4, .int 0), (3, .int 0), (2, .int r2), (0, .ref (ad 0)), (1, .int x1)]) hC.x hC.b dX6_rests_24 hl (by decide) rfl (fun ls hl => ?_)
    exact k6_rests_26 hC (0, 0) hw1031 H locs ls hP hD hS (lv_sub hl [3, 4, 1, 0] rfl)
  · have hw1038 := hw1030.2 c3
    refine lv_aload_n hC.x hC.b dX6_rests_15 rfl (lv_at hl 1 rfl) ?_
    refine lv_iload_n hC.x hC.b dX6_rests_16 rfl (lv_at hl 0 rfl) ?_
    refine go_i (run_V (rest := []) hC (m6_refused l hw1038) v6_6_refused h6_refused 0 5 gCl_X6 rfl rfl ⟨rfl, rfl, Nat.le_of_ble_eq_true rfl, Nat.le_of_ble_eq_true rfl⟩ ⟨Nat.le_refl _, Nat.le_refl _⟩ hP hD hS hl.1 (Nat.le_of_ble_eq_true rfl) dX6_rests_17 rfl) hS (fun r9 S10 H locs hw1039 hP hD hS => ?_)
    exact rt_i hC hw1039 hP hD hS dX6_rests_20
theorem h6_rest : yX6_rest.cls = RX6 ∧ yX6_rest.cls ≠ "java/lang/invoke/MethodHandle" ∧ yX6_rest.cls ≠ "java/lang/invoke/VarHandle" ∧ (parseMethodDescriptor yX6_rest.desc).map (fun d => d.parameters.length) = some 1 := by decide +kernel
def f6_rest_23 (post : Int32 → MS → Prop) (S : MS) (x1 : Int32) (K23 : Int32 → Prop) (x3 : Int32) : Prop :=
  ((4 ≤ x3 → (w6_good (fun r5 S6 => (post r5 S6)) S (-2))) ∧ (¬ 4 ≤ x3 → (w6_isRest (fun r7 => ((r7 = 0 → (K23 (x3 + 1))) ∧ (¬ r7 = 0 → (w6_good (fun r9 S10 => (post r9 S10)) S ((10 * (x3 / 2)) + (x3 - x3 / 2 * 2)))))) x1 x3)))
set_option maxHeartbeats 4000000 in
theorem k6_rest_23 {post : Int32 → MS → Prop} {S : MS} {x1 : Int32} (hC : CX RX6 cX6_rest 4 (some .int) D gCl nwG Z Hb A p s m args meth c) : ∀ z : Int32, lp (fun (K : Int32 → Prop) (z : Int32) => f6_rest_23 post S x1 K z) z → ∀ (H : Heap) (locs : List Loc) (ls : Array Slot), va_P D gCl (wM D ad none rdv tw S) H → va_D A (wM D ad none rdv tw S) → va_S A s.heap H locs → lv_has ls 4 [(0, .ref (ad 0)), (1, .int x1), (3, .int z)] → W p l e ({ frames := 2, cells := 0, slots := 0, locals := 45 } : Room) s m args below meth c H locs 0 0 (MQ below (va_Qi post (BW D gCl A (fun u => (wM D ad none rdv tw u))) A) args s 0 0 A) (F0 m 23 ls []) := by
  refine lp_ind ?_
  rintro K23 x3 hK23 hw H locs ls hP hD hS hl
  have hw : f6_rest_23 post S x1 K23 x3 := hw
  unfold f6_rest_23 at hw
  have hP : va_P D gCl (wM D ad none rdv tw S) H := hP
  have hD : va_D A (wM D ad none rdv tw S) := hD
  have hl : lv_has ls 4 [(0, .ref (ad 0)), (1, .int x1), (3, .int x3)] := hl
  refine lv_iload_n hC.x hC.b dX6_rest_23 rfl (lv_at hl 2 rfl) ?_
  refine lv_iconst (v := 4) hC.x hC.b dX6_rest_24 (by decide) ?_
  refine lv_icmp_ge (tgt := 57) hC.x hC.b dX6_rest_25 (by decide) (fun c4 => ?_) (fun c4 => ?_)
  · have hw1043 := hw.1 c4
    refine lv_aload_n hC.x hC.b dX6_rest_57 rfl (lv_at hl 0 rfl) ?_
    refine lv_bipush (v := (-2)) hC.x hC.b dX6_rest_58 (by decide) ?_
    refine go_i (run_V (rest := []) hC (m6_good l hw1043) v6_6_good h6_good 0 5 gCl_X6 rfl rfl ⟨rfl, rfl, Nat.le_of_ble_eq_true rfl, Nat.le_of_ble_eq_true rfl⟩ ⟨Nat.le_refl _, Nat.le_refl _⟩ hP hD hS hl.1 (Nat.le_of_ble_eq_true rfl) dX6_rest_60 rfl) hS (fun r5 S6 H locs hw1044 hP hD hS => ?_)
    exact rt_i hC hw1044 hP hD hS dX6_rest_63
  · have hw1045 := hw.2 c4
    refine lv_iload_n hC.x hC.b dX6_rest_28 rfl (lv_at hl 1 rfl) ?_
    refine lv_iload_n hC.x hC.b dX6_rest_29 rfl (lv_at hl 2 rfl) ?_
    refine go_i (run_S (rest := []) hC (m6_isRest l hw1045) v6_6_isRest h6_isRest ⟨rfl, rfl, Nat.le_of_ble_eq_true rfl, Nat.le_of_ble_eq_true rfl⟩ ⟨Nat.le_refl _, Nat.le_refl _⟩ hP hD hS hl.1 (Nat.le_of_ble_eq_true rfl) dX6_rest_30 rfl) hS (fun r7 u H locs hw1046 hP hD hS => ?_)
    refine lv_if_eq (tgt := 51) hC.x hC.b dX6_rest_33 (by decide) (fun c8 => ?_) (fun c8 => ?_)
    · have hw1047 := hw1046.1 c8
      refine lv_iinc (v := (x3 + 1)) (lv' := [(3, .int (x3 + 1)), (0, .ref (ad 0)), (1, .int x1)]) hC.x hC.b dX6_rest_51 hl (k := 2) rfl rfl (by decide) rfl (fun ls hl => ?_)
      refine lv_goto (tgt := 23) hC.x hC.b dX6_rest_54 (by decide) ?_
      exact hK23 (x3 + 1) hw1047 H locs ls hP hD hS (lv_sub hl [1, 2, 0] rfl)
    · have hw1048 := hw1046.2 c8
      refine lv_aload_n hC.x hC.b dX6_rest_36 rfl (lv_at hl 0 rfl) ?_
      refine lv_bipush (v := 10) hC.x hC.b dX6_rest_37 (by decide) ?_
      refine lv_iload_n hC.x hC.b dX6_rest_39 rfl (lv_at hl 2 rfl) ?_
      refine lv_iconst (v := 2) hC.x hC.b dX6_rest_40 (by decide) ?_
      refine lv_idiv hC.x hC.b dX6_rest_41 (by decide) ?_
      refine lv_imul hC.x hC.b dX6_rest_42 ?_
      refine lv_iload_n hC.x hC.b dX6_rest_43 rfl (lv_at hl 2 rfl) ?_
      refine lv_iconst (v := 2) hC.x hC.b dX6_rest_44 (by decide) ?_
      refine lv_irem hC.x hC.b dX6_rest_45 (by decide) ?_
      refine lv_iadd hC.x hC.b dX6_rest_46 ?_
      refine go_i (run_V (rest := []) hC (m6_good l hw1048) v6_6_good h6_good 0 5 gCl_X6 rfl rfl ⟨rfl, rfl, Nat.le_of_ble_eq_true rfl, Nat.le_of_ble_eq_true rfl⟩ ⟨Nat.le_refl _, Nat.le_refl _⟩ hP hD hS hl.1 (Nat.le_of_ble_eq_true rfl) dX6_rest_47 rfl) hS (fun r9 S10 H locs hw1049 hP hD hS => ?_)
      exact rt_i hC hw1049 hP hD hS dX6_rest_50
def w6_rest (post : Int32 → MS → Prop) (tw : Option (Nat → Nat)) (S : MS) (x1 : Int32) : Prop :=
  (∀ S1, S1 = uI S 0 0 0 → (w6_refusesSoot (fun r2 => ((r2 ≤ 0 → (lp (fun (K : Int32 → Prop) (z : Int32) => f6_rest_23 post S1 x1 K z) 0)) ∧ (¬ r2 ≤ 0 → (w6_refused (fun r11 S12 => (post r11 S12)) S1 r2)))) tw S1 x1))
set_option maxHeartbeats 4000000 in
theorem m6_rest (l : Launch) {post : Int32 → MS → Prop} {S : MS} {x1 : Int32} (hw : w6_rest post tw S x1) : Met l yX6_rest (ws_ yX6_rest cX6_rest 4 (some .int)) ({ frames := 2, cells := 0, slots := 0, locals := 45 } : Room) (va_Pc [.ref (ad 0), .int x1] (PcG D gCl nwG Z Hb A (wM D ad none rdv tw S))) (va_Qi post (BW D gCl A (fun u => (wM D ad none rdv tw u))) A) 0 0 A := by
  refine Met.ofG (by decide) (Nat.le_of_ble_eq_true rfl) ?_
  intro p e s m below meth c ls hC _ hP hD hS hl
  have hC : CX RX6 cX6_rest 4 (some .int) D gCl nwG Z Hb A p s m _ meth c := hC
  have hl : lv_has ls 4 [(0, .ref (ad 0)), (1, .int x1)] := hl
  unfold w6_rest at hw
  refine lv_aload_n hC.x hC.b dX6_rest_0 rfl (lv_at hl 0 rfl) ?_
  refine lv_iconst (v := 0) hC.x hC.b dX6_rest_1 (by decide) ?_
  refine pM_0 hC hP hD hS (v := 0) dX6_rest_2 (fun S1 eS1 H locs hP hD hS => ?_)
  have hw1040 := hw S1 eS1
  refine lv_aload_n hC.x hC.b dX6_rest_5 rfl (lv_at hl 0 rfl) ?_
  refine lv_iload_n hC.x hC.b dX6_rest_6 rfl (lv_at hl 1 rfl) ?_
  refine go_i (run_V (rest := []) hC (m6_refusesSoot l hw1040) v6_6_refusesSoot h6_refusesSoot 0 5 gCl_X6 rfl rfl ⟨rfl, rfl, Nat.le_of_ble_eq_true rfl, Nat.le_of_ble_eq_true rfl⟩ ⟨Nat.le_refl _, Nat.le_refl _⟩ hP hD hS hl.1 (Nat.le_of_ble_eq_true rfl) dX6_rest_7 rfl) hS (fun r2 u H locs hw1041 hP hD hS => ?_)
  refine lv_istore_n (lv' := [(2, .int r2), (0, .ref (ad 0)), (1, .int x1)]) hC.x hC.b dX6_rest_10 rfl hl (by decide) rfl (fun ls hl => ?_)
  refine lv_iload_n hC.x hC.b dX6_rest_11 rfl (lv_at hl 0 rfl) ?_
  refine lv_if_le (tgt := 21) hC.x hC.b dX6_rest_12 (by decide) (fun c3 => ?_) (fun c3 => ?_)
  · have hw1042 := hw1041.1 c3
    refine lv_iconst (v := 0) hC.x hC.b dX6_rest_21 (by decide) ?_
    refine lv_istore_n (lv' := [(3, .int 0), (2, .int r2), (0, .ref (ad 0)), (1, .int x1)]) hC.x hC.b dX6_rest_22 rfl hl (by decide) rfl (fun ls hl => ?_)
    exact k6_rest_23 hC 0 hw1042 H locs ls hP hD hS (lv_sub hl [2, 3, 0] rfl)
  · have hw1050 := hw1041.2 c3
    refine lv_aload_n hC.x hC.b dX6_rest_15 rfl (lv_at hl 1 rfl) ?_
    refine lv_iload_n hC.x hC.b dX6_rest_16 rfl (lv_at hl 0 rfl) ?_
    refine go_i (run_V (rest := []) hC (m6_refused l hw1050) v6_6_refused h6_refused 0 5 gCl_X6 rfl rfl ⟨rfl, rfl, Nat.le_of_ble_eq_true rfl, Nat.le_of_ble_eq_true rfl⟩ ⟨Nat.le_refl _, Nat.le_refl _⟩ hP hD hS hl.1 (Nat.le_of_ble_eq_true rfl) dX6_rest_17 rfl) hS (fun r11 S12 H locs hw1051 hP hD hS => ?_)
    exact rt_i hC hw1051 hP hD hS dX6_rest_20
theorem h6_hearerBy : yX6_hearerBy.cls = RX6 ∧ yX6_hearerBy.cls ≠ "java/lang/invoke/MethodHandle" ∧ yX6_hearerBy.cls ≠ "java/lang/invoke/VarHandle" ∧ (parseMethodDescriptor yX6_hearerBy.desc).map (fun d => d.parameters.length) = some 3 := by decide +kernel
def w6_hearerBy (post : Int32 → Prop) (tw : Option (Nat → Nat)) (S : MS) (x1 : Int32) (x2 : Int32) (x3 : Int32) : Prop :=
  (w6_aimOf (fun r1 => (w6_outOf (fun r2 => (w6_around (fun r3 => (w6_heardFrom (fun r4 => (post r4)) tw S r3)) tw S ((r2 + x3).toInt64))) tw S x1 r1 x2)) tw S x1)
set_option maxHeartbeats 4000000 in
theorem m6_hearerBy (l : Launch) {post : Int32 → Prop} {S : MS} {x1 : Int32} {x2 : Int32} {x3 : Int32} (hw : w6_hearerBy post tw S x1 x2 x3) : Met l yX6_hearerBy (ws_ yX6_hearerBy cX6_hearerBy 4 (some .int)) ({ frames := 2, cells := 0, slots := 0, locals := 50 } : Room) (va_Pc [.ref (ad 0), .int x1, .int x2, .int x3] (PcG D gCl nwG Z Hb A (wM D ad none rdv tw S))) (va_Qi (fun r (_ : Unit) => post r) (BW D gCl A (fun _ => (wM D ad none rdv tw S))) A) 0 0 A := by
  refine Met.ofG (by decide) (Nat.le_of_ble_eq_true rfl) ?_
  intro p e s m below meth c ls hC _ hP hD hS hl
  have hC : CX RX6 cX6_hearerBy 4 (some .int) D gCl nwG Z Hb A p s m _ meth c := hC
  have hl : lv_has ls 4 [(0, .ref (ad 0)), (1, .int x1), (2, .int x2), (3, .int x3)] := hl
  unfold w6_hearerBy at hw
  refine lv_aload_n hC.x hC.b dX6_hearerBy_0 rfl (lv_at hl 0 rfl) ?_
  refine lv_aload_n hC.x hC.b dX6_hearerBy_1 rfl (lv_at hl 0 rfl) ?_
  refine lv_aload_n hC.x hC.b dX6_hearerBy_2 rfl (lv_at hl 0 rfl) ?_
  refine lv_iload_n hC.x hC.b dX6_hearerBy_3 rfl (lv_at hl 1 rfl) ?_
  refine lv_aload_n hC.x hC.b dX6_hearerBy_4 rfl (lv_at hl 0 rfl) ?_
  refine lv_iload_n hC.x hC.b dX6_hearerBy_5 rfl (lv_at hl 1 rfl) ?_
  refine go_i (run_V (rest := [.int x1, .ref (ad 0), .ref (ad 0), .ref (ad 0)]) hC (m6_aimOf l hw) v6_6_aimOf h6_aimOf 0 5 gCl_X6 rfl rfl ⟨rfl, rfl, Nat.le_of_ble_eq_true rfl, Nat.le_of_ble_eq_true rfl⟩ ⟨Nat.le_refl _, Nat.le_refl _⟩ hP hD hS hl.1 (Nat.le_of_ble_eq_true rfl) dX6_hearerBy_6 rfl) hS (fun r1 u H locs hw1052 hP hD hS => ?_)
  refine lv_iload_n hC.x hC.b dX6_hearerBy_9 rfl (lv_at hl 2 rfl) ?_
  refine go_i (run_V (rest := [.ref (ad 0), .ref (ad 0)]) hC (m6_outOf l hw1052) v6_6_outOf h6_outOf 0 5 gCl_X6 rfl rfl ⟨rfl, rfl, Nat.le_of_ble_eq_true rfl, Nat.le_of_ble_eq_true rfl⟩ ⟨Nat.le_refl _, Nat.le_refl _⟩ hP hD hS hl.1 (Nat.le_of_ble_eq_true rfl) dX6_hearerBy_10 rfl) hS (fun r2 u H locs hw1053 hP hD hS => ?_)
  refine lv_iload_n hC.x hC.b dX6_hearerBy_13 rfl (lv_at hl 3 rfl) ?_
  refine lv_iadd hC.x hC.b dX6_hearerBy_14 ?_
  refine lv_i2l (v := ((r2 + x3).toInt64)) hC.x hC.b dX6_hearerBy_15 rfl ?_
  refine go_i (run_V (rest := [.ref (ad 0)]) hC (m6_around l hw1053) v6_6_around h6_around 0 5 gCl_X6 rfl rfl ⟨rfl, rfl, Nat.le_of_ble_eq_true rfl, Nat.le_of_ble_eq_true rfl⟩ ⟨Nat.le_refl _, Nat.le_refl _⟩ hP hD hS hl.1 (Nat.le_of_ble_eq_true rfl) dX6_hearerBy_16 rfl) hS (fun r3 u H locs hw1054 hP hD hS => ?_)
  refine go_i (run_V (rest := []) hC (m6_heardFrom l hw1054) v6_6_heardFrom h6_heardFrom 0 5 gCl_X6 rfl rfl ⟨rfl, rfl, Nat.le_of_ble_eq_true rfl, Nat.le_of_ble_eq_true rfl⟩ ⟨Nat.le_refl _, Nat.le_refl _⟩ hP hD hS hl.1 (Nat.le_of_ble_eq_true rfl) dX6_hearerBy_19 rfl) hS (fun r4 u H locs hw1055 hP hD hS => ?_)
  exact rt_i (u := ()) hC hw1055 hP hD hS dX6_hearerBy_22
theorem v6_6_hearerBy : GoodIn lw_all (wsV RX6 444 RX6 yX6_hearerBy (ws_ yX6_hearerBy cX6_hearerBy 4 (some .int))) := lw_V q2096 q2098 qs109 q126 q2099
theorem h6_chance : yX6_chance.cls = RX6 ∧ yX6_chance.cls ≠ "java/lang/invoke/MethodHandle" ∧ yX6_chance.cls ≠ "java/lang/invoke/VarHandle" ∧ (parseMethodDescriptor yX6_chance.desc).map (fun d => d.parameters.length) = some 3 := by decide +kernel
def j6_chance_25 (post : Int32 → Prop) (tw : Option (Nat → Nat)) (S : MS) (x1 : Int32) (x2 : Int32) (x3 : Int32) (y0 : Int32) : Prop :=
  (w6_hearerBy (fun r3 => ((¬ r3 = x1 → (post (y0 + 0))) ∧ (r3 = x1 → ((∃ t, tw = some t) ∧ (post (y0 + (S.1 20 1))))))) tw S x2 x3 1)
set_option maxHeartbeats 4000000 in
theorem k6_chance_25 {post : Int32 → Prop} {S : MS} {x1 : Int32} {x2 : Int32} {x3 : Int32} {y0 : Int32} (hC : CX RX6 cX6_chance 4 (some .int) D gCl nwG Z Hb A p s m args meth c) (hw : j6_chance_25 post tw S x1 x2 x3 y0) : ∀ (H : Heap) (locs : List Loc) (ls : Array Slot), va_P D gCl (wM D ad none rdv tw S) H → va_D A (wM D ad none rdv tw S) → va_S A s.heap H locs → lv_has ls 4 [(0, .ref (ad 0)), (1, .int x1), (2, .int x2), (3, .int x3)] → W p l e ({ frames := 3, cells := 0, slots := 0, locals := 73 } : Room) s m args below meth c H locs 0 0 (MQ below (va_Qi (fun r (_ : Unit) => post r) (BW D gCl A (fun _ => (wM D ad none rdv tw S))) A) args s 0 0 A) (F0 m 25 ls [.int y0]) := by
  intro H locs ls hP hD hS hl
  unfold j6_chance_25 at hw
  refine lv_aload_n hC.x hC.b dX6_chance_25 rfl (lv_at hl 0 rfl) ?_
  refine lv_iload_n hC.x hC.b dX6_chance_26 rfl (lv_at hl 2 rfl) ?_
  refine lv_iload_n hC.x hC.b dX6_chance_27 rfl (lv_at hl 3 rfl) ?_
  refine lv_iconst (v := 1) hC.x hC.b dX6_chance_28 (by decide) ?_
  refine go_i (run_V (rest := [.int y0]) hC (m6_hearerBy l hw) v6_6_hearerBy h6_hearerBy 0 5 gCl_X6 rfl rfl ⟨rfl, rfl, Nat.le_of_ble_eq_true rfl, Nat.le_of_ble_eq_true rfl⟩ ⟨Nat.le_refl _, Nat.le_refl _⟩ hP hD hS hl.1 (Nat.le_of_ble_eq_true rfl) dX6_chance_29 rfl) hS (fun r3 u H locs hw1058 hP hD hS => ?_)
  refine lv_iload_n hC.x hC.b dX6_chance_32 rfl (lv_at hl 1 rfl) ?_
  refine lv_icmp_ne (tgt := 46) hC.x hC.b dX6_chance_33 (by decide) (fun c4 => ?_) (fun c4 => ?_)
  · have hw1059 := hw1058.1 c4
    refine lv_iconst (v := 0) hC.x hC.b dX6_chance_46 (by decide) ?_
    refine lv_iadd hC.x hC.b dX6_chance_47 ?_
    exact rt_i (u := ()) hC hw1059 hP hD hS dX6_chance_48
  · have hw1060 := hw1058.2 c4
    refine lv_aload_n hC.x hC.b dX6_chance_36 rfl (lv_at hl 0 rfl) ?_
    refine gM_3 hC hP dX6_chance_37 ?_
    obtain ⟨⟨t, rfl⟩, hw1061⟩ := hw1060
    refine gT_1 hC hP dX6_chance_40 ?_
    refine lv_goto (tgt := 47) hC.x hC.b dX6_chance_43 (by decide) ?_
    refine lv_iadd hC.x hC.b dX6_chance_47 ?_
    exact rt_i (u := ()) hC hw1061 hP hD hS dX6_chance_48
def w6_chance (post : Int32 → Prop) (tw : Option (Nat → Nat)) (S : MS) (x1 : Int32) (x2 : Int32) (x3 : Int32) : Prop :=
  (w6_hearerBy (fun r1 => ((¬ r1 = x1 → (j6_chance_25 post tw S x1 x2 x3 0)) ∧ (r1 = x1 → ((∃ t, tw = some t) ∧ (j6_chance_25 post tw S x1 x2 x3 (100 - (S.1 20 1))))))) tw S x2 x3 0)
set_option maxHeartbeats 4000000 in
theorem m6_chance (l : Launch) {post : Int32 → Prop} {S : MS} {x1 : Int32} {x2 : Int32} {x3 : Int32} (hw : w6_chance post tw S x1 x2 x3) : Met l yX6_chance (ws_ yX6_chance cX6_chance 4 (some .int)) ({ frames := 3, cells := 0, slots := 0, locals := 73 } : Room) (va_Pc [.ref (ad 0), .int x1, .int x2, .int x3] (PcG D gCl nwG Z Hb A (wM D ad none rdv tw S))) (va_Qi (fun r (_ : Unit) => post r) (BW D gCl A (fun _ => (wM D ad none rdv tw S))) A) 0 0 A := by
  refine Met.ofG (by decide) (Nat.le_of_ble_eq_true rfl) ?_
  intro p e s m below meth c ls hC _ hP hD hS hl
  have hC : CX RX6 cX6_chance 4 (some .int) D gCl nwG Z Hb A p s m _ meth c := hC
  have hl : lv_has ls 4 [(0, .ref (ad 0)), (1, .int x1), (2, .int x2), (3, .int x3)] := hl
  unfold w6_chance at hw
  refine lv_aload_n hC.x hC.b dX6_chance_0 rfl (lv_at hl 0 rfl) ?_
  refine lv_iload_n hC.x hC.b dX6_chance_1 rfl (lv_at hl 2 rfl) ?_
  refine lv_iload_n hC.x hC.b dX6_chance_2 rfl (lv_at hl 3 rfl) ?_
  refine lv_iconst (v := 0) hC.x hC.b dX6_chance_3 (by decide) ?_
  refine go_i (run_V (rest := []) hC (m6_hearerBy l hw) v6_6_hearerBy h6_hearerBy 0 5 gCl_X6 rfl rfl ⟨rfl, rfl, Nat.le_of_ble_eq_true rfl, Nat.le_of_ble_eq_true rfl⟩ ⟨Nat.le_refl _, Nat.le_refl _⟩ hP hD hS hl.1 (Nat.le_of_ble_eq_true rfl) dX6_chance_4 rfl) hS (fun r1 u H locs hw1056 hP hD hS => ?_)
  refine lv_iload_n hC.x hC.b dX6_chance_7 rfl (lv_at hl 1 rfl) ?_
  refine lv_icmp_ne (tgt := 24) hC.x hC.b dX6_chance_8 (by decide) (fun c2 => ?_) (fun c2 => ?_)
  · have hw1057 := hw1056.1 c2
    refine lv_iconst (v := 0) hC.x hC.b dX6_chance_24 (by decide) ?_
    exact k6_chance_25 hC hw1057 H locs ls hP hD hS (lv_sub hl [0, 1, 2, 3] rfl)
  · have hw1062 := hw1056.2 c2
    refine lv_bipush (v := 100) hC.x hC.b dX6_chance_11 (by decide) ?_
    refine lv_aload_n hC.x hC.b dX6_chance_13 rfl (lv_at hl 0 rfl) ?_
    refine gM_3 hC hP dX6_chance_14 ?_
    obtain ⟨⟨t, rfl⟩, hw1063⟩ := hw1062
    refine gT_1 hC hP dX6_chance_17 ?_
    refine lv_isub hC.x hC.b dX6_chance_20 ?_
    refine lv_goto (tgt := 25) hC.x hC.b dX6_chance_21 (by decide) ?_
    exact k6_chance_25 hC hw1063 H locs ls hP hD hS (lv_sub hl [0, 1, 2, 3] rfl)
theorem h6_common : yX6_common.cls ≠ "java/lang/invoke/MethodHandle" ∧ yX6_common.cls ≠ "java/lang/invoke/VarHandle" ∧ (parseMethodDescriptor yX6_common.desc).map (fun d => d.parameters.length) = some 2 := by decide +kernel
def f6_common_6 (post : Int64 → Prop) (K6 : (Int64 × Int64) → Prop) (x4 : Int64) (x6 : Int64) : Prop :=
  (((lg_cmp x6 0) = 0 → (post x4)) ∧ (¬ (lg_cmp x6 0) = 0 → ((¬ x6 = 0) ∧ (K6 (x6, (x4 - x4 / x6 * x6))))))
set_option maxHeartbeats 4000000 in
theorem k6_common_6 {post : Int64 → Prop} (hC : CX RX6 cX6_common 10 (some .long) D gCl nwG Z Hb A p s m args meth c) : ∀ z : (Int64 × Int64), lp (fun (K : (Int64 × Int64) → Prop) (z : (Int64 × Int64)) => f6_common_6 post K z.1 z.2) z → ∀ (H : Heap) (locs : List Loc) (ls : Array Slot), va_P D gCl w0 H → va_D A w0 → va_S A s.heap H locs → lv_has ls 10 [(4, .long z.1), (6, .long z.2)] → W p l e ({ frames := 0, cells := 0, slots := 0, locals := 0 } : Room) s m args below meth c H locs 0 0 (MQ below (va_Ql (fun r (_ : Unit) => post r) (BW D gCl A (fun _ => w0)) A) args s 0 0 A) (F0 m 6 ls []) := by
  refine lp_ind ?_
  rintro K6 ⟨x4, x6⟩ hK6 hw H locs ls hP hD hS hl
  have hw : f6_common_6 post K6 x4 x6 := hw
  unfold f6_common_6 at hw
  have hP : va_P D gCl w0 H := hP
  have hD : va_D A w0 := hD
  have hl : lv_has ls 10 [(4, .long x4), (6, .long x6)] := hl
  refine lv_lload hC.x hC.b dX6_common_6 (lv_at hl 1 rfl) ?_
  refine lv_lconst (v := 0) hC.x hC.b dX6_common_8 rfl ?_
  refine W.lcmp hC.x hC.b dX6_common_9 ?_
  refine lv_if_eq (tgt := 31) hC.x hC.b dX6_common_10 (by decide) (fun c1 => ?_) (fun c1 => ?_)
  · have hw1064 := hw.1 c1
    refine lv_lload hC.x hC.b dX6_common_31 (lv_at hl 0 rfl) ?_
    exact rt_l (u := ()) hC hw1064 hP hD hS dX6_common_33
  · have hw1065 := hw.2 c1
    refine lv_lload hC.x hC.b dX6_common_13 (lv_at hl 0 rfl) ?_
    refine lv_lload hC.x hC.b dX6_common_15 (lv_at hl 1 rfl) ?_
    obtain ⟨hne, hw1066⟩ := hw1065
    refine lv_lrem hC.x hC.b dX6_common_17 hne ?_
    refine lv_lstore (lv' := [(8, .long (x4 - x4 / x6 * x6)), (4, .long x4), (6, .long x6)]) hC.x hC.b dX6_common_18 hl (by decide) rfl (fun ls hl => ?_)
    refine lv_lload hC.x hC.b dX6_common_20 (lv_at hl 2 rfl) ?_
    refine lv_lstore (lv' := [(4, .long x6), (8, .long (x4 - x4 / x6 * x6)), (6, .long x6)]) hC.x hC.b dX6_common_22 hl (by decide) rfl (fun ls hl => ?_)
    refine lv_lload hC.x hC.b dX6_common_24 (lv_at hl 1 rfl) ?_
    refine lv_lstore (lv' := [(6, .long (x4 - x4 / x6 * x6)), (4, .long x6), (8, .long (x4 - x4 / x6 * x6))]) hC.x hC.b dX6_common_26 hl (by decide) rfl (fun ls hl => ?_)
    refine lv_goto (tgt := 6) hC.x hC.b dX6_common_28 (by decide) ?_
    exact hK6 (x6, (x4 - x4 / x6 * x6)) hw1066 H locs ls hP hD hS (lv_sub hl [1, 0] rfl)
def w6_common (post : Int64 → Prop) (x0 : Int64) (x2 : Int64) : Prop :=
  (lp (fun (K : (Int64 × Int64) → Prop) (z : (Int64 × Int64)) => f6_common_6 post K z.1 z.2) (x0, x2))
set_option maxHeartbeats 4000000 in
theorem m6_common (l : Launch) {post : Int64 → Prop} {x0 : Int64} {x2 : Int64} (hw : w6_common post x0 x2) : Met l yX6_common (ws_ yX6_common cX6_common 10 (some .long)) ({ frames := 0, cells := 0, slots := 0, locals := 0 } : Room) (va_Pc [.long x0, .long x2] (PcG D gCl nwG Z Hb A w0)) (va_Ql (fun r (_ : Unit) => post r) (BW D gCl A (fun _ => w0)) A) 0 0 A := by
  refine Met.ofG (by decide) (Nat.le_of_ble_eq_true rfl) ?_
  intro p e s m below meth c ls hC _ hP hD hS hl
  have hC : CX RX6 cX6_common 10 (some .long) D gCl nwG Z Hb A p s m _ meth c := hC
  have hl : lv_has ls 10 [(0, .long x0), (2, .long x2)] := hl
  unfold w6_common at hw
  refine lv_lload_n hC.x hC.b dX6_common_0 rfl (lv_at hl 0 rfl) ?_
  refine lv_lstore (lv' := [(4, .long x0), (0, .long x0), (2, .long x2)]) hC.x hC.b dX6_common_1 hl (by decide) rfl (fun ls hl => ?_)
  refine lv_lload_n hC.x hC.b dX6_common_3 rfl (lv_at hl 2 rfl) ?_
  refine lv_lstore (lv' := [(6, .long x2), (4, .long x0), (0, .long x0), (2, .long x2)]) hC.x hC.b dX6_common_4 hl (by decide) rfl (fun ls hl => ?_)
  exact k6_common_6 hC (x0, x2) hw s.heap [] ls hP hD hS (lv_sub hl [1, 0] rfl)
theorem v6_6_common : GoodIn lw_all (va_wsS RX6 62 yX6_common (ws_ yX6_common cX6_common 10 (some .long))) := lw_S q2105 q2106 q126 q2107
theorem h6_fraction : yX6_fraction.cls = RX6 ∧ yX6_fraction.cls ≠ "java/lang/invoke/MethodHandle" ∧ yX6_fraction.cls ≠ "java/lang/invoke/VarHandle" ∧ (parseMethodDescriptor yX6_fraction.desc).map (fun d => d.parameters.length) = some 3 := by decide +kernel
def w6_fraction (post : Int64 → MS → Prop) (S : MS) (x1 : Int64) (x3 : Int64) (x5 : Int32) : Prop :=
  (w6_good (fun r1 S2 => ((x5 = 0 → (w6_common (fun r4 => ((¬ r4 = 0) ∧ (post (x1 / r4) S2))) x1 x3)) ∧ (¬ x5 = 0 → (w6_common (fun r5 => ((¬ r5 = 0) ∧ (post (x3 / r5) S2))) x1 x3)))) S 0)
set_option maxHeartbeats 4000000 in
theorem m6_fraction (l : Launch) {post : Int64 → MS → Prop} {S : MS} {x1 : Int64} {x3 : Int64} {x5 : Int32} (hw : w6_fraction post S x1 x3 x5) : Met l yX6_fraction (ws_ yX6_fraction cX6_fraction 6 (some .long)) ({ frames := 1, cells := 0, slots := 0, locals := 29 } : Room) (va_Pc [.ref (ad 0), .long x1, .long x3, .int x5] (PcG D gCl nwG Z Hb A (wM D ad rd rdv tw S))) (va_Ql post (BW D gCl A (fun u => (wM D ad rd rdv tw u))) A) 0 0 A := by
  refine Met.ofG (by decide) (Nat.le_of_ble_eq_true rfl) ?_
  intro p e s m below meth c ls hC _ hP hD hS hl
  have hC : CX RX6 cX6_fraction 6 (some .long) D gCl nwG Z Hb A p s m _ meth c := hC
  have hl : lv_has ls 6 [(0, .ref (ad 0)), (1, .long x1), (3, .long x3), (5, .int x5)] := hl
  unfold w6_fraction at hw
  refine lv_aload_n hC.x hC.b dX6_fraction_0 rfl (lv_at hl 0 rfl) ?_
  refine lv_iconst (v := 0) hC.x hC.b dX6_fraction_1 (by decide) ?_
  refine go_i (run_V (rest := []) hC (m6_good l hw) v6_6_good h6_good 0 5 gCl_X6 rfl rfl ⟨rfl, rfl, Nat.le_of_ble_eq_true rfl, Nat.le_of_ble_eq_true rfl⟩ ⟨Nat.le_refl _, Nat.le_refl _⟩ hP hD hS hl.1 (Nat.le_of_ble_eq_true rfl) dX6_fraction_2 rfl) hS (fun r1 S2 H locs hw1067 hP hD hS => ?_)
  refine lv_pop hC.x hC.b dX6_fraction_5 rfl ?_
  refine lv_iload hC.x hC.b dX6_fraction_6 (lv_at hl 3 rfl) ?_
  refine lv_if_eq (tgt := 15) hC.x hC.b dX6_fraction_8 (by decide) (fun c3 => ?_) (fun c3 => ?_)
  · have hw1068 := hw1067.1 c3
    refine lv_lload_n hC.x hC.b dX6_fraction_15 rfl (lv_at hl 1 rfl) ?_
    refine lv_lload_n hC.x hC.b dX6_fraction_16 rfl (lv_at hl 1 rfl) ?_
    refine lv_lload_n hC.x hC.b dX6_fraction_17 rfl (lv_at hl 2 rfl) ?_
    refine go_l (run_S (rest := [.long x1]) hC (m6_common l hw1068) v6_6_common h6_common ⟨rfl, rfl, Nat.le_of_ble_eq_true rfl, Nat.le_of_ble_eq_true rfl⟩ ⟨Nat.le_refl _, Nat.le_refl _⟩ hP hD hS hl.1 (Nat.le_of_ble_eq_true rfl) dX6_fraction_18 rfl) hS (fun r4 u H locs hw1069 hP hD hS => ?_)
    obtain ⟨hne, hw1070⟩ := hw1069
    refine lv_ldiv hC.x hC.b dX6_fraction_21 hne ?_
    exact rt_l hC hw1070 hP hD hS dX6_fraction_22
  · have hw1071 := hw1067.2 c3
    refine lv_lload_n hC.x hC.b dX6_fraction_11 rfl (lv_at hl 2 rfl) ?_
    refine lv_goto (tgt := 16) hC.x hC.b dX6_fraction_12 (by decide) ?_
    refine lv_lload_n hC.x hC.b dX6_fraction_16 rfl (lv_at hl 1 rfl) ?_
    refine lv_lload_n hC.x hC.b dX6_fraction_17 rfl (lv_at hl 2 rfl) ?_
    refine go_l (run_S (rest := [.long x3]) hC (m6_common l hw1071) v6_6_common h6_common ⟨rfl, rfl, Nat.le_of_ble_eq_true rfl, Nat.le_of_ble_eq_true rfl⟩ ⟨Nat.le_refl _, Nat.le_refl _⟩ hP hD hS hl.1 (Nat.le_of_ble_eq_true rfl) dX6_fraction_18 rfl) hS (fun r5 u H locs hw1072 hP hD hS => ?_)
    obtain ⟨hne, hw1073⟩ := hw1072
    refine lv_ldiv hC.x hC.b dX6_fraction_21 hne ?_
    exact rt_l hC hw1073 hP hD hS dX6_fraction_22
theorem v6_6_chance : GoodIn lw_all (wsV RX6 447 RX6 yX6_chance (ws_ yX6_chance cX6_chance 4 (some .int))) := lw_V q2092 q2094 qs108 q126 q2095
theorem v6_6_fraction : GoodIn lw_all (wsV RX6 452 RX6 yX6_fraction (ws_ yX6_fraction cX6_fraction 6 (some .long))) := lw_V q2101 q2103 qs110 q126 q2104
theorem h6_odds : yX6_odds.cls = RX6 ∧ yX6_odds.cls ≠ "java/lang/invoke/MethodHandle" ∧ yX6_odds.cls ≠ "java/lang/invoke/VarHandle" ∧ (parseMethodDescriptor yX6_odds.desc).map (fun d => d.parameters.length) = some 3 := by decide +kernel
def w6_odds (post : Int64 → MS → Prop) (tw : Option (Nat → Nat)) (S : MS) (x1 : Int32) (x2 : Int32) (x3 : Int32) : Prop :=
  (∀ S1, S1 = uI S 0 0 0 → (w6_isDead (fun r2 => (w6_refusesNight (fun r3 => ((r3 ≤ 0 → (w6_works (fun S6 => ((∃ t, tw = some t) ∧ (vp_in x1 6 ∧ (w6_chance (fun r7 => (w6_fraction (fun r8 S9 => (post r8 S9)) S6 (r7.toInt64) 100 x3)) tw S6 (S6.1 24 x1.toNatClampNeg) x1 x2)))) S1)) ∧ (¬ r3 ≤ 0 → (w6_refused (fun r10 S11 => (post (r10.toInt64) S11)) S1 r3)))) S1 r2 x2)) tw S1 x1))
set_option maxHeartbeats 4000000 in
theorem m6_odds (l : Launch) {post : Int64 → MS → Prop} {S : MS} {x1 : Int32} {x2 : Int32} {x3 : Int32} (hw : w6_odds post tw S x1 x2 x3) : Met l yX6_odds (ws_ yX6_odds cX6_odds 5 (some .long)) ({ frames := 4, cells := 0, slots := 0, locals := 96 } : Room) (va_Pc [.ref (ad 0), .int x1, .int x2, .int x3] (PcG D gCl nwG Z Hb A (wM D ad none rdv tw S))) (va_Ql post (BW D gCl A (fun u => (wM D ad none rdv tw u))) A) 0 0 A := by
  refine Met.ofG (by decide) (Nat.le_of_ble_eq_true rfl) ?_
  intro p e s m below meth c ls hC _ hP hD hS hl
  have hC : CX RX6 cX6_odds 5 (some .long) D gCl nwG Z Hb A p s m _ meth c := hC
  have hl : lv_has ls 5 [(0, .ref (ad 0)), (1, .int x1), (2, .int x2), (3, .int x3)] := hl
  unfold w6_odds at hw
  refine lv_aload_n hC.x hC.b dX6_odds_0 rfl (lv_at hl 0 rfl) ?_
  refine lv_iconst (v := 0) hC.x hC.b dX6_odds_1 (by decide) ?_
  refine pM_0 hC hP hD hS (v := 0) dX6_odds_2 (fun S1 eS1 H locs hP hD hS => ?_)
  have hw1074 := hw S1 eS1
  refine lv_aload_n hC.x hC.b dX6_odds_5 rfl (lv_at hl 0 rfl) ?_
  refine lv_aload_n hC.x hC.b dX6_odds_6 rfl (lv_at hl 0 rfl) ?_
  refine lv_iload_n hC.x hC.b dX6_odds_7 rfl (lv_at hl 1 rfl) ?_
  refine go_i (run_V (rest := [.ref (ad 0)]) hC (m6_isDead l hw1074) v6_6_isDead h6_isDead 0 5 gCl_X6 rfl rfl ⟨rfl, rfl, Nat.le_of_ble_eq_true rfl, Nat.le_of_ble_eq_true rfl⟩ ⟨Nat.le_refl _, Nat.le_refl _⟩ hP hD hS hl.1 (Nat.le_of_ble_eq_true rfl) dX6_odds_8 rfl) hS (fun r2 u H locs hw1075 hP hD hS => ?_)
  refine lv_iload_n hC.x hC.b dX6_odds_11 rfl (lv_at hl 2 rfl) ?_
  refine go_i (run_V (rest := []) hC (m6_refusesNight l hw1075) v6_6_refusesNight h6_refusesNight 0 5 gCl_X6 rfl rfl ⟨rfl, rfl, Nat.le_of_ble_eq_true rfl, Nat.le_of_ble_eq_true rfl⟩ ⟨Nat.le_refl _, Nat.le_refl _⟩ hP hD hS hl.1 (Nat.le_of_ble_eq_true rfl) dX6_odds_12 rfl) hS (fun r3 u H locs hw1076 hP hD hS => ?_)
  refine lv_istore (lv' := [(4, .int r3), (0, .ref (ad 0)), (1, .int x1), (2, .int x2), (3, .int x3)]) hC.x hC.b dX6_odds_15 hl (by decide) rfl (fun ls hl => ?_)
  refine lv_iload hC.x hC.b dX6_odds_17 (lv_at hl 0 rfl) ?_
  refine lv_if_le (tgt := 30) hC.x hC.b dX6_odds_19 (by decide) (fun c4 => ?_) (fun c4 => ?_)
  · have hw1077 := hw1076.1 c4
    refine lv_aload_n hC.x hC.b dX6_odds_30 rfl (lv_at hl 1 rfl) ?_
    refine go_v (run_V (rest := []) hC (m6_works l hw1077) v6_6_works h6_works 0 5 gCl_X6 rfl rfl ⟨rfl, rfl, Nat.le_of_ble_eq_true rfl, Nat.le_of_ble_eq_true rfl⟩ ⟨Nat.le_refl _, Nat.le_refl _⟩ hP hD hS hl.1 (Nat.le_of_ble_eq_true rfl) dX6_odds_31 rfl) hS (fun S6 H locs hw1078 hP hD hS => ?_)
    refine lv_aload_n hC.x hC.b dX6_odds_34 rfl (lv_at hl 1 rfl) ?_
    refine lv_aload_n hC.x hC.b dX6_odds_35 rfl (lv_at hl 1 rfl) ?_
    refine lv_aload_n hC.x hC.b dX6_odds_36 rfl (lv_at hl 1 rfl) ?_
    refine gM_3 hC hP dX6_odds_37 ?_
    obtain ⟨⟨t, rfl⟩, hw1079⟩ := hw1078
    refine gT_11 hC hP dX6_odds_40 ?_
    refine lv_iload_n hC.x hC.b dX6_odds_43 rfl (lv_at hl 2 rfl) ?_
    obtain ⟨hin, hw1080⟩ := hw1079
    refine lT_4 hC hP hin rfl dX6_odds_44 ?_
    refine lv_iload_n hC.x hC.b dX6_odds_45 rfl (lv_at hl 2 rfl) ?_
    refine lv_iload_n hC.x hC.b dX6_odds_46 rfl (lv_at hl 3 rfl) ?_
    refine go_i (run_V (rest := [.ref (ad 0)]) hC (m6_chance l hw1080) v6_6_chance h6_chance 0 5 gCl_X6 rfl rfl ⟨rfl, rfl, Nat.le_of_ble_eq_true rfl, Nat.le_of_ble_eq_true rfl⟩ ⟨Nat.le_refl _, Nat.le_refl _⟩ hP hD hS hl.1 (Nat.le_of_ble_eq_true rfl) dX6_odds_47 rfl) hS (fun r7 u H locs hw1081 hP hD hS => ?_)
    refine lv_i2l (v := (r7.toInt64)) hC.x hC.b dX6_odds_50 rfl ?_
    refine lv_ldc2 (v := 100) hC.x hC.b hC.ow (hC.ts _ q2100) dX6_odds_51 ?_
    refine lv_iload_n hC.x hC.b dX6_odds_54 rfl (lv_at hl 4 rfl) ?_
    refine go_l (run_V (rest := []) hC (m6_fraction l hw1081) v6_6_fraction h6_fraction 0 5 gCl_X6 rfl rfl ⟨rfl, rfl, Nat.le_of_ble_eq_true rfl, Nat.le_of_ble_eq_true rfl⟩ ⟨Nat.le_refl _, Nat.le_refl _⟩ hP hD hS hl.1 (Nat.le_of_ble_eq_true rfl) dX6_odds_55 rfl) hS (fun r8 S9 H locs hw1082 hP hD hS => ?_)
    exact rt_l hC hw1082 hP hD hS dX6_odds_58
  · have hw1083 := hw1076.2 c4
    refine lv_aload_n hC.x hC.b dX6_odds_22 rfl (lv_at hl 1 rfl) ?_
    refine lv_iload hC.x hC.b dX6_odds_23 (lv_at hl 0 rfl) ?_
    refine go_i (run_V (rest := []) hC (m6_refused l hw1083) v6_6_refused h6_refused 0 5 gCl_X6 rfl rfl ⟨rfl, rfl, Nat.le_of_ble_eq_true rfl, Nat.le_of_ble_eq_true rfl⟩ ⟨Nat.le_refl _, Nat.le_refl _⟩ hP hD hS hl.1 (Nat.le_of_ble_eq_true rfl) dX6_odds_25 rfl) hS (fun r10 S11 H locs hw1084 hP hD hS => ?_)
    refine lv_i2l (v := (r10.toInt64)) hC.x hC.b dX6_odds_28 rfl ?_
    exact rt_l hC hw1084 hP hD hS dX6_odds_29
theorem h6_most : yX6_most.cls = RX6 ∧ yX6_most.cls ≠ "java/lang/invoke/MethodHandle" ∧ yX6_most.cls ≠ "java/lang/invoke/VarHandle" ∧ (parseMethodDescriptor yX6_most.desc).map (fun d => d.parameters.length) = some 3 := by decide +kernel
def f6_most_199 (post : Int64 → MS → Prop) (S : MS) (x3 : Int32) (x4 : Int64) (K199 : (Int64 × Int32) → Prop) (x6 : Int64) (x8 : Int32) : Prop :=
  ((6 < x8 → (w6_fraction (fun r16 S17 => (post r16 S17)) S x6 x4 x3)) ∧ (¬ 6 < x8 → (vp_in x8 7 ∧ (K199 ((x6 + (S.2 11 x8.toNatClampNeg)), (x8 + 1))))))
set_option maxHeartbeats 4000000 in
theorem k6_most_199 {post : Int64 → MS → Prop} {S : MS} {x3 : Int32} {x4 : Int64} (hC : CX RX6 cX6_most 9 (some .long) D gCl nwG Z Hb A p s m args meth c) : ∀ z : (Int64 × Int32), lp (fun (K : (Int64 × Int32) → Prop) (z : (Int64 × Int32)) => f6_most_199 post S x3 x4 K z.1 z.2) z → ∀ (H : Heap) (locs : List Loc) (ls : Array Slot), va_P D gCl (wM D ad none rdv (some t) S) H → va_D A (wM D ad none rdv (some t) S) → va_S A s.heap H locs → lv_has ls 9 [(0, .ref (ad 0)), (3, .int x3), (4, .long x4), (6, .long z.1), (8, .int z.2)] → W p l e ({ frames := 4, cells := 0, slots := 0, locals := 96 } : Room) s m args below meth c H locs 0 0 (MQ below (va_Ql post (BW D gCl A (fun u => (wM D ad none rdv (some t) u))) A) args s 0 0 A) (F0 m 199 ls []) := by
  refine lp_ind ?_
  rintro K199 ⟨x6, x8⟩ hK199 hw H locs ls hP hD hS hl
  have hw : f6_most_199 post S x3 x4 K199 x6 x8 := hw
  unfold f6_most_199 at hw
  have hP : va_P D gCl (wM D ad none rdv (some t) S) H := hP
  have hD : va_D A (wM D ad none rdv (some t) S) := hD
  have hl : lv_has ls 9 [(0, .ref (ad 0)), (3, .int x3), (4, .long x4), (6, .long x6), (8, .int x8)] := hl
  refine lv_iload hC.x hC.b dX6_most_199 (lv_at hl 4 rfl) ?_
  refine lv_bipush (v := 6) hC.x hC.b dX6_most_201 (by decide) ?_
  refine lv_icmp_gt (tgt := 224) hC.x hC.b dX6_most_203 (by decide) (fun c15 => ?_) (fun c15 => ?_)
  · have hw1098 := hw.1 c15
    refine lv_aload_n hC.x hC.b dX6_most_224 rfl (lv_at hl 0 rfl) ?_
    refine lv_lload hC.x hC.b dX6_most_225 (lv_at hl 3 rfl) ?_
    refine lv_lload hC.x hC.b dX6_most_227 (lv_at hl 2 rfl) ?_
    refine lv_iload_n hC.x hC.b dX6_most_229 rfl (lv_at hl 1 rfl) ?_
    refine go_l (run_V (rest := []) hC (m6_fraction l hw1098) v6_6_fraction h6_fraction 0 5 gCl_X6 rfl rfl ⟨rfl, rfl, Nat.le_of_ble_eq_true rfl, Nat.le_of_ble_eq_true rfl⟩ ⟨Nat.le_refl _, Nat.le_refl _⟩ hP hD hS hl.1 (Nat.le_of_ble_eq_true rfl) dX6_most_230 rfl) hS (fun r16 S17 H locs hw1099 hP hD hS => ?_)
    exact rt_l hC hw1099 hP hD hS dX6_most_233
  · have hw1100 := hw.2 c15
    refine lv_lload hC.x hC.b dX6_most_206 (lv_at hl 3 rfl) ?_
    refine lv_aload_n hC.x hC.b dX6_most_208 rfl (lv_at hl 0 rfl) ?_
    refine gM_31 hC hP dX6_most_209 ?_
    refine lv_iload hC.x hC.b dX6_most_212 (lv_at hl 4 rfl) ?_
    obtain ⟨hin, hw1101⟩ := hw1100
    refine lM_11 hC hP hin rfl dX6_most_214 ?_
    refine lv_ladd hC.x hC.b dX6_most_215 ?_
    refine lv_lstore (lv' := [(6, .long (x6 + (S.2 11 x8.toNatClampNeg))), (0, .ref (ad 0)), (3, .int x3), (4, .long x4), (8, .int x8)]) hC.x hC.b dX6_most_216 hl (by decide) rfl (fun ls hl => ?_)
    refine lv_iinc (v := (x8 + 1)) (lv' := [(8, .int (x8 + 1)), (6, .long (x6 + (S.2 11 x8.toNatClampNeg))), (0, .ref (ad 0)), (3, .int x3), (4, .long x4)]) hC.x hC.b dX6_most_218 hl (k := 4) rfl rfl (by decide) rfl (fun ls hl => ?_)
    refine lv_goto (tgt := 199) hC.x hC.b dX6_most_221 (by decide) ?_
    exact hK199 ((x6 + (S.2 11 x8.toNatClampNeg)), (x8 + 1)) hw1101 H locs ls hP hD hS (lv_sub hl [2, 3, 4, 1, 0] rfl)
def f6_most_124 (K89 : (MS × Int64 × Int32) → Prop) (x4 : Int64) (x6 : Int32) (x7 : Int32) (K124 : (MS × Int32) → Prop) (S : MS) (x8 : Int32) : Prop :=
  ((x8 < 0 → (K89 (S, (x4 * 100), (x6 + 1)))) ∧ (¬ x8 < 0 → (vp_in x8 7 ∧ ((x8 ≤ 0 → (vp_in x8 7 ∧ (∀ S21, S21 = uL S 11 x8.toNatClampNeg (((S.2 11 x8.toNatClampNeg) * ((100 - x7).toInt64)) + 0) → (K124 (S21, (x8 + (-1))))))) ∧ (¬ x8 ≤ 0 → (vp_in (x8 - 1) 7 ∧ (vp_in x8 7 ∧ (∀ S22, S22 = uL S 11 x8.toNatClampNeg (((S.2 11 x8.toNatClampNeg) * ((100 - x7).toInt64)) + ((S.2 11 (x8 - 1).toNatClampNeg) * (x7.toInt64))) → (K124 (S22, (x8 + (-1))))))))))))
set_option maxHeartbeats 4000000 in
theorem k6_most_124 {post : Int64 → MS → Prop} {x1 : Int32} {x2 : Int32} {x3 : Int32} {x4 : Int64} {x6 : Int32} {x7 : Int32} {K89 : (MS × Int64 × Int32) → Prop} (hC : CX RX6 cX6_most 9 (some .long) D gCl nwG Z Hb A p s m args meth c) (hK89 : ∀ z : (MS × Int64 × Int32), K89 z → ∀ (H : Heap) (locs : List Loc) (ls : Array Slot), va_P D gCl (wM D ad none rdv (some t) z.1) H → va_D A (wM D ad none rdv (some t) z.1) → va_S A s.heap H locs → lv_has ls 9 [(0, .ref (ad 0)), (1, .int x1), (2, .int x2), (3, .int x3), (4, .long z.2.1), (6, .int z.2.2)] → W p l e ({ frames := 4, cells := 0, slots := 0, locals := 96 } : Room) s m args below meth c H locs 0 0 (MQ below (va_Ql post (BW D gCl A (fun u => (wM D ad none rdv (some t) u))) A) args s 0 0 A) (F0 m 89 ls [])) : ∀ z : (MS × Int32), lp (fun (K : (MS × Int32) → Prop) (z : (MS × Int32)) => f6_most_124 K89 x4 x6 x7 K z.1 z.2) z → ∀ (H : Heap) (locs : List Loc) (ls : Array Slot), va_P D gCl (wM D ad none rdv (some t) z.1) H → va_D A (wM D ad none rdv (some t) z.1) → va_S A s.heap H locs → lv_has ls 9 [(0, .ref (ad 0)), (1, .int x1), (2, .int x2), (3, .int x3), (4, .long x4), (6, .int x6), (7, .int x7), (8, .int z.2)] → W p l e ({ frames := 4, cells := 0, slots := 0, locals := 96 } : Room) s m args below meth c H locs 0 0 (MQ below (va_Ql post (BW D gCl A (fun u => (wM D ad none rdv (some t) u))) A) args s 0 0 A) (F0 m 124 ls []) := by
  refine lp_ind ?_
  rintro K124 ⟨S, x8⟩ hK124 hw H locs ls hP hD hS hl
  have hw : f6_most_124 K89 x4 x6 x7 K124 S x8 := hw
  unfold f6_most_124 at hw
  have hP : va_P D gCl (wM D ad none rdv (some t) S) H := hP
  have hD : va_D A (wM D ad none rdv (some t) S) := hD
  have hl : lv_has ls 9 [(0, .ref (ad 0)), (1, .int x1), (2, .int x2), (3, .int x3), (4, .long x4), (6, .int x6), (7, .int x7), (8, .int x8)] := hl
  refine lv_iload hC.x hC.b dX6_most_124 (lv_at hl 7 rfl) ?_
  refine lv_if_lt (tgt := 179) hC.x hC.b dX6_most_126 (by decide) (fun c19 => ?_) (fun c19 => ?_)
  · have hw1105 := hw.1 c19
    refine lv_lload hC.x hC.b dX6_most_179 (lv_at hl 4 rfl) ?_
    refine lv_ldc2 (v := 100) hC.x hC.b hC.ow (hC.ts _ q2100) dX6_most_181 ?_
    refine lv_lmul hC.x hC.b dX6_most_184 ?_
    refine lv_lstore (lv' := [(4, .long (x4 * 100)), (0, .ref (ad 0)), (1, .int x1), (2, .int x2), (3, .int x3), (6, .int x6), (7, .int x7), (8, .int x8)]) hC.x hC.b dX6_most_185 hl (by decide) rfl (fun ls hl => ?_)
    refine lv_iinc (v := (x6 + 1)) (lv' := [(6, .int (x6 + 1)), (4, .long (x4 * 100)), (0, .ref (ad 0)), (1, .int x1), (2, .int x2), (3, .int x3), (7, .int x7), (8, .int x8)]) hC.x hC.b dX6_most_187 hl (k := 5) rfl rfl (by decide) rfl (fun ls hl => ?_)
    refine lv_goto (tgt := 89) hC.x hC.b dX6_most_190 (by decide) ?_
    exact hK89 (S, (x4 * 100), (x6 + 1)) hw1105 H locs ls hP hD hS (lv_sub hl [2, 3, 4, 5, 1, 0] rfl)
  · have hw1106 := hw.2 c19
    refine lv_aload_n hC.x hC.b dX6_most_129 rfl (lv_at hl 0 rfl) ?_
    refine gM_31 hC hP dX6_most_130 ?_
    refine lv_iload hC.x hC.b dX6_most_133 (lv_at hl 7 rfl) ?_
    refine lv_aload_n hC.x hC.b dX6_most_135 rfl (lv_at hl 0 rfl) ?_
    refine gM_31 hC hP dX6_most_136 ?_
    refine lv_iload hC.x hC.b dX6_most_139 (lv_at hl 7 rfl) ?_
    obtain ⟨hin, hw1107⟩ := hw1106
    refine lM_11 hC hP hin rfl dX6_most_141 ?_
    refine lv_bipush (v := 100) hC.x hC.b dX6_most_142 (by decide) ?_
    refine lv_iload hC.x hC.b dX6_most_144 (lv_at hl 6 rfl) ?_
    refine lv_isub hC.x hC.b dX6_most_146 ?_
    refine lv_i2l (v := ((100 - x7).toInt64)) hC.x hC.b dX6_most_147 rfl ?_
    refine lv_lmul hC.x hC.b dX6_most_148 ?_
    refine lv_iload hC.x hC.b dX6_most_149 (lv_at hl 7 rfl) ?_
    refine lv_if_le (tgt := 170) hC.x hC.b dX6_most_151 (by decide) (fun c20 => ?_) (fun c20 => ?_)
    · have hw1108 := hw1107.1 c20
      refine lv_lconst (v := 0) hC.x hC.b dX6_most_170 rfl ?_
      refine lv_ladd hC.x hC.b dX6_most_171 ?_
      obtain ⟨hin, hw1109⟩ := hw1108
      refine sM_11 hC hP hD hS (v := (((S.2 11 x8.toNatClampNeg) * ((100 - x7).toInt64)) + 0)) hin rfl dX6_most_172 (fun S21 eS21 H locs hP hD hS => ?_)
      have hw1110 := hw1109 S21 eS21
      refine lv_iinc (v := (x8 + (-1))) (lv' := [(8, .int (x8 + (-1))), (0, .ref (ad 0)), (1, .int x1), (2, .int x2), (3, .int x3), (4, .long x4), (6, .int x6), (7, .int x7)]) hC.x hC.b dX6_most_173 hl (k := 7) rfl rfl (by decide) rfl (fun ls hl => ?_)
      refine lv_goto (tgt := 124) hC.x hC.b dX6_most_176 (by decide) ?_
      exact hK124 (S21, (x8 + (-1))) hw1110 H locs ls hP hD hS (lv_sub hl [1, 2, 3, 4, 5, 6, 7, 0] rfl)
    · have hw1111 := hw1107.2 c20
      refine lv_aload_n hC.x hC.b dX6_most_154 rfl (lv_at hl 0 rfl) ?_
      refine gM_31 hC hP dX6_most_155 ?_
      refine lv_iload hC.x hC.b dX6_most_158 (lv_at hl 7 rfl) ?_
      refine lv_iconst (v := 1) hC.x hC.b dX6_most_160 (by decide) ?_
      refine lv_isub hC.x hC.b dX6_most_161 ?_
      obtain ⟨hin, hw1112⟩ := hw1111
      refine lM_11 hC hP hin rfl dX6_most_162 ?_
      refine lv_iload hC.x hC.b dX6_most_163 (lv_at hl 6 rfl) ?_
      refine lv_i2l (v := (x7.toInt64)) hC.x hC.b dX6_most_165 rfl ?_
      refine lv_lmul hC.x hC.b dX6_most_166 ?_
      refine lv_goto (tgt := 171) hC.x hC.b dX6_most_167 (by decide) ?_
      refine lv_ladd hC.x hC.b dX6_most_171 ?_
      obtain ⟨hin, hw1113⟩ := hw1112
      refine sM_11 hC hP hD hS (v := (((S.2 11 x8.toNatClampNeg) * ((100 - x7).toInt64)) + ((S.2 11 (x8 - 1).toNatClampNeg) * (x7.toInt64)))) hin rfl dX6_most_172 (fun S22 eS22 H locs hP hD hS => ?_)
      have hw1114 := hw1113 S22 eS22
      refine lv_iinc (v := (x8 + (-1))) (lv' := [(8, .int (x8 + (-1))), (0, .ref (ad 0)), (1, .int x1), (2, .int x2), (3, .int x3), (4, .long x4), (6, .int x6), (7, .int x7)]) hC.x hC.b dX6_most_173 hl (k := 7) rfl rfl (by decide) rfl (fun ls hl => ?_)
      refine lv_goto (tgt := 124) hC.x hC.b dX6_most_176 (by decide) ?_
      exact hK124 (S22, (x8 + (-1))) hw1114 H locs ls hP hD hS (lv_sub hl [1, 2, 3, 4, 5, 6, 7, 0] rfl)
def f6_most_89 (post : Int64 → MS → Prop) (tw : Option (Nat → Nat)) (x1 : Int32) (x2 : Int32) (x3 : Int32) (K89 : (MS × Int64 × Int32) → Prop) (S : MS) (x4 : Int64) (x6 : Int32) : Prop :=
  (((S.1 20 3) ≤ x6 → (lp (fun (K : (Int64 × Int32) → Prop) (z : (Int64 × Int32)) => f6_most_199 post S x3 x4 K z.1 z.2) (0, x1))) ∧ (¬ (S.1 20 3) ≤ x6 → (vp_in x6 6 ∧ (w6_chance (fun r18 => (lp (fun (K : (MS × Int32) → Prop) (z : (MS × Int32)) => f6_most_124 K89 x4 x6 r18 K z.1 z.2) (S, 6))) tw S (S.1 24 x6.toNatClampNeg) x6 x2))))
set_option maxHeartbeats 4000000 in
theorem k6_most_89 {post : Int64 → MS → Prop} {x1 : Int32} {x2 : Int32} {x3 : Int32} (hC : CX RX6 cX6_most 9 (some .long) D gCl nwG Z Hb A p s m args meth c) : ∀ z : (MS × Int64 × Int32), lp (fun (K : (MS × Int64 × Int32) → Prop) (z : (MS × Int64 × Int32)) => f6_most_89 post (some t) x1 x2 x3 K z.1 z.2.1 z.2.2) z → ∀ (H : Heap) (locs : List Loc) (ls : Array Slot), va_P D gCl (wM D ad none rdv (some t) z.1) H → va_D A (wM D ad none rdv (some t) z.1) → va_S A s.heap H locs → lv_has ls 9 [(0, .ref (ad 0)), (1, .int x1), (2, .int x2), (3, .int x3), (4, .long z.2.1), (6, .int z.2.2)] → W p l e ({ frames := 4, cells := 0, slots := 0, locals := 96 } : Room) s m args below meth c H locs 0 0 (MQ below (va_Ql post (BW D gCl A (fun u => (wM D ad none rdv (some t) u))) A) args s 0 0 A) (F0 m 89 ls []) := by
  refine lp_ind ?_
  rintro K89 ⟨S, x4, x6⟩ hK89 hw H locs ls hP hD hS hl
  have hw : f6_most_89 post (some t) x1 x2 x3 K89 S x4 x6 := hw
  unfold f6_most_89 at hw
  have hP : va_P D gCl (wM D ad none rdv (some t) S) H := hP
  have hD : va_D A (wM D ad none rdv (some t) S) := hD
  have hl : lv_has ls 9 [(0, .ref (ad 0)), (1, .int x1), (2, .int x2), (3, .int x3), (4, .long x4), (6, .int x6)] := hl
  refine lv_iload hC.x hC.b dX6_most_89 (lv_at hl 5 rfl) ?_
  refine lv_aload_n hC.x hC.b dX6_most_91 rfl (lv_at hl 0 rfl) ?_
  refine gM_3 hC hP dX6_most_92 ?_
  refine gT_3 hC hP dX6_most_95 ?_
  refine lv_icmp_ge (tgt := 193) hC.x hC.b dX6_most_98 (by decide) (fun c14 => ?_) (fun c14 => ?_)
  · have hw1097 := hw.1 c14
    refine lv_lconst (v := 0) hC.x hC.b dX6_most_193 rfl ?_
    refine lv_lstore (lv' := [(6, .long 0), (0, .ref (ad 0)), (1, .int x1), (2, .int x2), (3, .int x3), (4, .long x4)]) hC.x hC.b dX6_most_194 hl (by decide) rfl (fun ls hl => ?_)
    refine lv_iload_n hC.x hC.b dX6_most_196 rfl (lv_at hl 2 rfl) ?_
    refine lv_istore (lv' := [(8, .int x1), (6, .long 0), (0, .ref (ad 0)), (1, .int x1), (2, .int x2), (3, .int x3), (4, .long x4)]) hC.x hC.b dX6_most_197 hl (by decide) rfl (fun ls hl => ?_)
    exact k6_most_199 hC (0, x1) hw1097 H locs ls hP hD hS (lv_sub hl [2, 5, 6, 1, 0] rfl)
  · have hw1102 := hw.2 c14
    refine lv_aload_n hC.x hC.b dX6_most_101 rfl (lv_at hl 0 rfl) ?_
    refine lv_aload_n hC.x hC.b dX6_most_102 rfl (lv_at hl 0 rfl) ?_
    refine gM_3 hC hP dX6_most_103 ?_
    refine gT_11 hC hP dX6_most_106 ?_
    refine lv_iload hC.x hC.b dX6_most_109 (lv_at hl 5 rfl) ?_
    obtain ⟨hin, hw1103⟩ := hw1102
    refine lT_4 hC hP hin rfl dX6_most_111 ?_
    refine lv_iload hC.x hC.b dX6_most_112 (lv_at hl 5 rfl) ?_
    refine lv_iload_n hC.x hC.b dX6_most_114 rfl (lv_at hl 2 rfl) ?_
    refine go_i (run_V (rest := []) hC (m6_chance l hw1103) v6_6_chance h6_chance 0 5 gCl_X6 rfl rfl ⟨rfl, rfl, Nat.le_of_ble_eq_true rfl, Nat.le_of_ble_eq_true rfl⟩ ⟨Nat.le_refl _, Nat.le_refl _⟩ hP hD hS hl.1 (Nat.le_of_ble_eq_true rfl) dX6_most_115 rfl) hS (fun r18 u H locs hw1104 hP hD hS => ?_)
    refine lv_istore (lv' := [(7, .int r18), (0, .ref (ad 0)), (1, .int x1), (2, .int x2), (3, .int x3), (4, .long x4), (6, .int x6)]) hC.x hC.b dX6_most_118 hl (by decide) rfl (fun ls hl => ?_)
    refine lv_bipush (v := 6) hC.x hC.b dX6_most_120 (by decide) ?_
    refine lv_istore (lv' := [(8, .int 6), (7, .int r18), (0, .ref (ad 0)), (1, .int x1), (2, .int x2), (3, .int x3), (4, .long x4), (6, .int x6)]) hC.x hC.b dX6_most_122 hl (by decide) rfl (fun ls hl => ?_)
    exact k6_most_124 hC hK89 (S, 6) hw1104 H locs ls hP hD hS (lv_sub hl [2, 3, 4, 5, 6, 7, 1, 0] rfl)
def f6_most_56 (post : Int64 → MS → Prop) (tw : Option (Nat → Nat)) (x1 : Int32) (x2 : Int32) (x3 : Int32) (x4 : Int64) (K56 : (MS × Int32) → Prop) (S : MS) (x6 : Int32) : Prop :=
  ((6 < x6 → (lp (fun (K : (MS × Int64 × Int32) → Prop) (z : (MS × Int64 × Int32)) => f6_most_89 post tw x1 x2 x3 K z.1 z.2.1 z.2.2) (S, x4, 0))) ∧ (¬ 6 < x6 → ((¬ x6 = 0 → (vp_in x6 7 ∧ (∀ S24, S24 = uL S 11 x6.toNatClampNeg 0 → (K56 (S24, (x6 + 1)))))) ∧ (x6 = 0 → (vp_in x6 7 ∧ (∀ S25, S25 = uL S 11 x6.toNatClampNeg 1 → (K56 (S25, (x6 + 1)))))))))
set_option maxHeartbeats 4000000 in
theorem k6_most_56 {post : Int64 → MS → Prop} {x1 : Int32} {x2 : Int32} {x3 : Int32} {x4 : Int64} (hC : CX RX6 cX6_most 9 (some .long) D gCl nwG Z Hb A p s m args meth c) : ∀ z : (MS × Int32), lp (fun (K : (MS × Int32) → Prop) (z : (MS × Int32)) => f6_most_56 post (some t) x1 x2 x3 x4 K z.1 z.2) z → ∀ (H : Heap) (locs : List Loc) (ls : Array Slot), va_P D gCl (wM D ad none rdv (some t) z.1) H → va_D A (wM D ad none rdv (some t) z.1) → va_S A s.heap H locs → lv_has ls 9 [(0, .ref (ad 0)), (1, .int x1), (2, .int x2), (3, .int x3), (4, .long x4), (6, .int z.2)] → W p l e ({ frames := 4, cells := 0, slots := 0, locals := 96 } : Room) s m args below meth c H locs 0 0 (MQ below (va_Ql post (BW D gCl A (fun u => (wM D ad none rdv (some t) u))) A) args s 0 0 A) (F0 m 56 ls []) := by
  refine lp_ind ?_
  rintro K56 ⟨S, x6⟩ hK56 hw H locs ls hP hD hS hl
  have hw : f6_most_56 post (some t) x1 x2 x3 x4 K56 S x6 := hw
  unfold f6_most_56 at hw
  have hP : va_P D gCl (wM D ad none rdv (some t) S) H := hP
  have hD : va_D A (wM D ad none rdv (some t) S) := hD
  have hl : lv_has ls 9 [(0, .ref (ad 0)), (1, .int x1), (2, .int x2), (3, .int x3), (4, .long x4), (6, .int x6)] := hl
  refine lv_iload hC.x hC.b dX6_most_56 (lv_at hl 5 rfl) ?_
  refine lv_bipush (v := 6) hC.x hC.b dX6_most_58 (by decide) ?_
  refine lv_icmp_gt (tgt := 86) hC.x hC.b dX6_most_60 (by decide) (fun c13 => ?_) (fun c13 => ?_)
  · have hw1096 := hw.1 c13
    refine lv_iconst (v := 0) hC.x hC.b dX6_most_86 (by decide) ?_
    refine lv_istore (lv' := [(6, .int 0), (0, .ref (ad 0)), (1, .int x1), (2, .int x2), (3, .int x3), (4, .long x4)]) hC.x hC.b dX6_most_87 hl (by decide) rfl (fun ls hl => ?_)
    exact k6_most_89 hC (S, x4, 0) hw1096 H locs ls hP hD hS (lv_sub hl [1, 2, 3, 4, 5, 0] rfl)
  · have hw1115 := hw.2 c13
    refine lv_aload_n hC.x hC.b dX6_most_63 rfl (lv_at hl 0 rfl) ?_
    refine gM_31 hC hP dX6_most_64 ?_
    refine lv_iload hC.x hC.b dX6_most_67 (lv_at hl 5 rfl) ?_
    refine lv_iload hC.x hC.b dX6_most_69 (lv_at hl 5 rfl) ?_
    refine lv_if_ne (tgt := 78) hC.x hC.b dX6_most_71 (by decide) (fun c23 => ?_) (fun c23 => ?_)
    · have hw1116 := hw1115.1 c23
      refine lv_lconst (v := 0) hC.x hC.b dX6_most_78 rfl ?_
      obtain ⟨hin, hw1117⟩ := hw1116
      refine sM_11 hC hP hD hS (v := 0) hin rfl dX6_most_79 (fun S24 eS24 H locs hP hD hS => ?_)
      have hw1118 := hw1117 S24 eS24
      refine lv_iinc (v := (x6 + 1)) (lv' := [(6, .int (x6 + 1)), (0, .ref (ad 0)), (1, .int x1), (2, .int x2), (3, .int x3), (4, .long x4)]) hC.x hC.b dX6_most_80 hl (k := 5) rfl rfl (by decide) rfl (fun ls hl => ?_)
      refine lv_goto (tgt := 56) hC.x hC.b dX6_most_83 (by decide) ?_
      exact hK56 (S24, (x6 + 1)) hw1118 H locs ls hP hD hS (lv_sub hl [1, 2, 3, 4, 5, 0] rfl)
    · have hw1119 := hw1115.2 c23
      refine lv_lconst (v := 1) hC.x hC.b dX6_most_74 rfl ?_
      refine lv_goto (tgt := 79) hC.x hC.b dX6_most_75 (by decide) ?_
      obtain ⟨hin, hw1120⟩ := hw1119
      refine sM_11 hC hP hD hS (v := 1) hin rfl dX6_most_79 (fun S25 eS25 H locs hP hD hS => ?_)
      have hw1121 := hw1120 S25 eS25
      refine lv_iinc (v := (x6 + 1)) (lv' := [(6, .int (x6 + 1)), (0, .ref (ad 0)), (1, .int x1), (2, .int x2), (3, .int x3), (4, .long x4)]) hC.x hC.b dX6_most_80 hl (k := 5) rfl rfl (by decide) rfl (fun ls hl => ?_)
      refine lv_goto (tgt := 56) hC.x hC.b dX6_most_83 (by decide) ?_
      exact hK56 (S25, (x6 + 1)) hw1121 H locs ls hP hD hS (lv_sub hl [1, 2, 3, 4, 5, 0] rfl)
def w6_most (post : Int64 → MS → Prop) (tw : Option (Nat → Nat)) (S : MS) (x1 : Int32) (x2 : Int32) (x3 : Int32) : Prop :=
  (∀ S1, S1 = uI S 0 0 0 → ((tw = none → (w6_refused (fun r3 S4 => (post (r3.toInt64) S4)) S1 1)) ∧ ((∃ t, tw = some t) → (w6_in (fun r5 => ((r5 = 0 → (w6_refused (fun r7 S8 => (post (r7.toInt64) S8)) S1 2)) ∧ (¬ r5 = 0 → (w6_in (fun r9 => ((¬ r9 = 0 → (w6_works (fun S12 => (lp (fun (K : (MS × Int32) → Prop) (z : (MS × Int32)) => f6_most_56 post tw x1 x2 x3 1 K z.1 z.2) (S12, 0))) S1)) ∧ (r9 = 0 → (w6_refused (fun r26 S27 => (post (r26.toInt64) S27)) S1 2)))) x2 0 99)))) x1 0 6))))
set_option maxHeartbeats 4000000 in
theorem m6_most (l : Launch) {post : Int64 → MS → Prop} {S : MS} {x1 : Int32} {x2 : Int32} {x3 : Int32} (hw : w6_most post tw S x1 x2 x3) : Met l yX6_most (ws_ yX6_most cX6_most 9 (some .long)) ({ frames := 4, cells := 0, slots := 0, locals := 96 } : Room) (va_Pc [.ref (ad 0), .int x1, .int x2, .int x3] (PcG D gCl nwG Z Hb A (wM D ad none rdv tw S))) (va_Ql post (BW D gCl A (fun u => (wM D ad none rdv tw u))) A) 0 0 A := by
  refine Met.ofG (by decide) (Nat.le_of_ble_eq_true rfl) ?_
  intro p e s m below meth c ls hC _ hP hD hS hl
  have hC : CX RX6 cX6_most 9 (some .long) D gCl nwG Z Hb A p s m _ meth c := hC
  have hl : lv_has ls 9 [(0, .ref (ad 0)), (1, .int x1), (2, .int x2), (3, .int x3)] := hl
  unfold w6_most at hw
  refine lv_aload_n hC.x hC.b dX6_most_0 rfl (lv_at hl 0 rfl) ?_
  refine lv_iconst (v := 0) hC.x hC.b dX6_most_1 (by decide) ?_
  refine pM_0 hC hP hD hS (v := 0) dX6_most_2 (fun S1 eS1 H locs hP hD hS => ?_)
  have hw1085 := hw S1 eS1
  refine lv_aload_n hC.x hC.b dX6_most_5 rfl (lv_at hl 0 rfl) ?_
  refine gM_3 hC hP dX6_most_6 ?_
  rcases va_o2 tw with c2 | ⟨t, c2⟩
  · have hw1086 := hw1085.1 c2
    subst c2
    refine lv_ifnonnullN hC.x hC.b dX6_most_9 ?_
    refine lv_aload_n hC.x hC.b dX6_most_12 rfl (lv_at hl 0 rfl) ?_
    refine lv_iconst (v := 1) hC.x hC.b dX6_most_13 (by decide) ?_
    refine go_i (run_V (rest := []) hC (m6_refused l hw1086) v6_6_refused h6_refused 0 5 gCl_X6 rfl rfl ⟨rfl, rfl, Nat.le_of_ble_eq_true rfl, Nat.le_of_ble_eq_true rfl⟩ ⟨Nat.le_refl _, Nat.le_refl _⟩ hP hD hS hl.1 (Nat.le_of_ble_eq_true rfl) dX6_most_14 rfl) hS (fun r3 S4 H locs hw1087 hP hD hS => ?_)
    refine lv_i2l (v := (r3.toInt64)) hC.x hC.b dX6_most_17 rfl ?_
    exact rt_l hC hw1087 hP hD hS dX6_most_18
  · have hw1088 := hw1085.2 ⟨t, c2⟩
    subst c2
    refine lv_ifnonnull (tgt := 19) hC.x hC.b dX6_most_9 (by decide) ?_
    refine lv_iload_n hC.x hC.b dX6_most_19 rfl (lv_at hl 1 rfl) ?_
    refine lv_iconst (v := 0) hC.x hC.b dX6_most_20 (by decide) ?_
    refine lv_bipush (v := 6) hC.x hC.b dX6_most_21 (by decide) ?_
    refine go_i (run_S (rest := []) hC (m6_in l hw1088) v6_6_in h6_in ⟨rfl, rfl, Nat.le_of_ble_eq_true rfl, Nat.le_of_ble_eq_true rfl⟩ ⟨Nat.le_refl _, Nat.le_refl _⟩ hP hD hS hl.1 (Nat.le_of_ble_eq_true rfl) dX6_most_23 rfl) hS (fun r5 u H locs hw1089 hP hD hS => ?_)
    refine lv_if_eq (tgt := 39) hC.x hC.b dX6_most_26 (by decide) (fun c6 => ?_) (fun c6 => ?_)
    · have hw1090 := hw1089.1 c6
      refine lv_aload_n hC.x hC.b dX6_most_39 rfl (lv_at hl 0 rfl) ?_
      refine lv_iconst (v := 2) hC.x hC.b dX6_most_40 (by decide) ?_
      refine go_i (run_V (rest := []) hC (m6_refused l hw1090) v6_6_refused h6_refused 0 5 gCl_X6 rfl rfl ⟨rfl, rfl, Nat.le_of_ble_eq_true rfl, Nat.le_of_ble_eq_true rfl⟩ ⟨Nat.le_refl _, Nat.le_refl _⟩ hP hD hS hl.1 (Nat.le_of_ble_eq_true rfl) dX6_most_41 rfl) hS (fun r7 S8 H locs hw1091 hP hD hS => ?_)
      refine lv_i2l (v := (r7.toInt64)) hC.x hC.b dX6_most_44 rfl ?_
      exact rt_l hC hw1091 hP hD hS dX6_most_45
    · have hw1092 := hw1089.2 c6
      refine lv_iload_n hC.x hC.b dX6_most_29 rfl (lv_at hl 2 rfl) ?_
      refine lv_iconst (v := 0) hC.x hC.b dX6_most_30 (by decide) ?_
      refine lv_bipush (v := 99) hC.x hC.b dX6_most_31 (by decide) ?_
      refine go_i (run_S (rest := []) hC (m6_in l hw1092) v6_6_in h6_in ⟨rfl, rfl, Nat.le_of_ble_eq_true rfl, Nat.le_of_ble_eq_true rfl⟩ ⟨Nat.le_refl _, Nat.le_refl _⟩ hP hD hS hl.1 (Nat.le_of_ble_eq_true rfl) dX6_most_33 rfl) hS (fun r9 u H locs hw1093 hP hD hS => ?_)
      refine lv_if_ne (tgt := 46) hC.x hC.b dX6_most_36 (by decide) (fun c10 => ?_) (fun c10 => ?_)
      · have hw1094 := hw1093.1 c10
        refine lv_aload_n hC.x hC.b dX6_most_46 rfl (lv_at hl 0 rfl) ?_
        refine go_v (run_V (rest := []) hC (m6_works l hw1094) v6_6_works h6_works 0 5 gCl_X6 rfl rfl ⟨rfl, rfl, Nat.le_of_ble_eq_true rfl, Nat.le_of_ble_eq_true rfl⟩ ⟨Nat.le_refl _, Nat.le_refl _⟩ hP hD hS hl.1 (Nat.le_of_ble_eq_true rfl) dX6_most_47 rfl) hS (fun S12 H locs hw1095 hP hD hS => ?_)
        refine lv_lconst (v := 1) hC.x hC.b dX6_most_50 rfl ?_
        refine lv_lstore (lv' := [(4, .long 1), (0, .ref (ad 0)), (1, .int x1), (2, .int x2), (3, .int x3)]) hC.x hC.b dX6_most_51 hl (by decide) rfl (fun ls hl => ?_)
        refine lv_iconst (v := 0) hC.x hC.b dX6_most_53 (by decide) ?_
        refine lv_istore (lv' := [(6, .int 0), (4, .long 1), (0, .ref (ad 0)), (1, .int x1), (2, .int x2), (3, .int x3)]) hC.x hC.b dX6_most_54 hl (by decide) rfl (fun ls hl => ?_)
        exact k6_most_56 hC (S12, 0) hw1095 H locs ls hP hD hS (lv_sub hl [2, 3, 4, 5, 1, 0] rfl)
      · have hw1122 := hw1093.2 c10
        refine lv_aload_n hC.x hC.b dX6_most_39 rfl (lv_at hl 0 rfl) ?_
        refine lv_iconst (v := 2) hC.x hC.b dX6_most_40 (by decide) ?_
        refine go_i (run_V (rest := []) hC (m6_refused l hw1122) v6_6_refused h6_refused 0 5 gCl_X6 rfl rfl ⟨rfl, rfl, Nat.le_of_ble_eq_true rfl, Nat.le_of_ble_eq_true rfl⟩ ⟨Nat.le_refl _, Nat.le_refl _⟩ hP hD hS hl.1 (Nat.le_of_ble_eq_true rfl) dX6_most_41 rfl) hS (fun r26 S27 H locs hw1123 hP hD hS => ?_)
        refine lv_i2l (v := (r26.toInt64)) hC.x hC.b dX6_most_44 rfl ?_
        exact rt_l hC hw1123 hP hD hS dX6_most_45
theorem h6_mean : yX6_mean.cls = RX6 ∧ yX6_mean.cls ≠ "java/lang/invoke/MethodHandle" ∧ yX6_mean.cls ≠ "java/lang/invoke/VarHandle" ∧ (parseMethodDescriptor yX6_mean.desc).map (fun d => d.parameters.length) = some 3 := by decide +kernel
def f6_mean_40 (post : Int64 → MS → Prop) (tw : Option (Nat → Nat)) (S : MS) (x1 : Int32) (x2 : Int32) (x3 : Int32) (K40 : (Int64 × Int32) → Prop) (x5 : Int64) (x7 : Int32) : Prop :=
  ((∃ t, tw = some t) ∧ (((S.1 20 3) ≤ x7 → (w6_fraction (fun r8 S9 => (post r8 S9)) S x5 100 x3)) ∧ (¬ (S.1 20 3) ≤ x7 → (w6_chance (fun r10 => (K40 ((x5 + (r10.toInt64)), (x7 + 1)))) tw S x1 x7 x2))))
set_option maxHeartbeats 4000000 in
theorem k6_mean_40 {post : Int64 → MS → Prop} {S : MS} {x1 : Int32} {x2 : Int32} {x3 : Int32} (hC : CX RX6 cX6_mean 8 (some .long) D gCl nwG Z Hb A p s m args meth c) : ∀ z : (Int64 × Int32), lp (fun (K : (Int64 × Int32) → Prop) (z : (Int64 × Int32)) => f6_mean_40 post tw S x1 x2 x3 K z.1 z.2) z → ∀ (H : Heap) (locs : List Loc) (ls : Array Slot), va_P D gCl (wM D ad none rdv tw S) H → va_D A (wM D ad none rdv tw S) → va_S A s.heap H locs → lv_has ls 8 [(0, .ref (ad 0)), (1, .int x1), (2, .int x2), (3, .int x3), (5, .long z.1), (7, .int z.2)] → W p l e ({ frames := 4, cells := 0, slots := 0, locals := 96 } : Room) s m args below meth c H locs 0 0 (MQ below (va_Ql post (BW D gCl A (fun u => (wM D ad none rdv tw u))) A) args s 0 0 A) (F0 m 40 ls []) := by
  refine lp_ind ?_
  rintro K40 ⟨x5, x7⟩ hK40 hw H locs ls hP hD hS hl
  have hw : f6_mean_40 post tw S x1 x2 x3 K40 x5 x7 := hw
  unfold f6_mean_40 at hw
  have hP : va_P D gCl (wM D ad none rdv tw S) H := hP
  have hD : va_D A (wM D ad none rdv tw S) := hD
  have hl : lv_has ls 8 [(0, .ref (ad 0)), (1, .int x1), (2, .int x2), (3, .int x3), (5, .long x5), (7, .int x7)] := hl
  refine lv_iload hC.x hC.b dX6_mean_40 (lv_at hl 5 rfl) ?_
  refine lv_aload_n hC.x hC.b dX6_mean_42 rfl (lv_at hl 0 rfl) ?_
  refine gM_3 hC hP dX6_mean_43 ?_
  obtain ⟨⟨t, rfl⟩, hw1129⟩ := hw
  refine gT_3 hC hP dX6_mean_46 ?_
  refine lv_icmp_ge (tgt := 72) hC.x hC.b dX6_mean_49 (by decide) (fun c7 => ?_) (fun c7 => ?_)
  · have hw1130 := hw1129.1 c7
    refine lv_aload_n hC.x hC.b dX6_mean_72 rfl (lv_at hl 0 rfl) ?_
    refine lv_lload hC.x hC.b dX6_mean_73 (lv_at hl 4 rfl) ?_
    refine lv_ldc2 (v := 100) hC.x hC.b hC.ow (hC.ts _ q2100) dX6_mean_75 ?_
    refine lv_iload_n hC.x hC.b dX6_mean_78 rfl (lv_at hl 3 rfl) ?_
    refine go_l (run_V (rest := []) hC (m6_fraction l hw1130) v6_6_fraction h6_fraction 0 5 gCl_X6 rfl rfl ⟨rfl, rfl, Nat.le_of_ble_eq_true rfl, Nat.le_of_ble_eq_true rfl⟩ ⟨Nat.le_refl _, Nat.le_refl _⟩ hP hD hS hl.1 (Nat.le_of_ble_eq_true rfl) dX6_mean_79 rfl) hS (fun r8 S9 H locs hw1131 hP hD hS => ?_)
    exact rt_l hC hw1131 hP hD hS dX6_mean_82
  · have hw1132 := hw1129.2 c7
    refine lv_lload hC.x hC.b dX6_mean_52 (lv_at hl 4 rfl) ?_
    refine lv_aload_n hC.x hC.b dX6_mean_54 rfl (lv_at hl 0 rfl) ?_
    refine lv_iload_n hC.x hC.b dX6_mean_55 rfl (lv_at hl 1 rfl) ?_
    refine lv_iload hC.x hC.b dX6_mean_56 (lv_at hl 5 rfl) ?_
    refine lv_iload_n hC.x hC.b dX6_mean_58 rfl (lv_at hl 2 rfl) ?_
    refine go_i (run_V (rest := [.long x5]) hC (m6_chance l hw1132) v6_6_chance h6_chance 0 5 gCl_X6 rfl rfl ⟨rfl, rfl, Nat.le_of_ble_eq_true rfl, Nat.le_of_ble_eq_true rfl⟩ ⟨Nat.le_refl _, Nat.le_refl _⟩ hP hD hS hl.1 (Nat.le_of_ble_eq_true rfl) dX6_mean_59 rfl) hS (fun r10 u H locs hw1133 hP hD hS => ?_)
    refine lv_i2l (v := (r10.toInt64)) hC.x hC.b dX6_mean_62 rfl ?_
    refine lv_ladd hC.x hC.b dX6_mean_63 ?_
    refine lv_lstore (lv' := [(5, .long (x5 + (r10.toInt64))), (0, .ref (ad 0)), (1, .int x1), (2, .int x2), (3, .int x3), (7, .int x7)]) hC.x hC.b dX6_mean_64 hl (by decide) rfl (fun ls hl => ?_)
    refine lv_iinc (v := (x7 + 1)) (lv' := [(7, .int (x7 + 1)), (5, .long (x5 + (r10.toInt64))), (0, .ref (ad 0)), (1, .int x1), (2, .int x2), (3, .int x3)]) hC.x hC.b dX6_mean_66 hl (k := 5) rfl rfl (by decide) rfl (fun ls hl => ?_)
    refine lv_goto (tgt := 40) hC.x hC.b dX6_mean_69 (by decide) ?_
    exact hK40 ((x5 + (r10.toInt64)), (x7 + 1)) hw1133 H locs ls hP hD hS (lv_sub hl [2, 3, 4, 5, 1, 0] rfl)
def w6_mean (post : Int64 → MS → Prop) (tw : Option (Nat → Nat)) (S : MS) (x1 : Int32) (x2 : Int32) (x3 : Int32) : Prop :=
  (∀ S1, S1 = uI S 0 0 0 → (w6_isPerson (fun r2 => (w6_refusesNight (fun r3 => ((r3 ≤ 0 → (w6_works (fun S6 => (lp (fun (K : (Int64 × Int32) → Prop) (z : (Int64 × Int32)) => f6_mean_40 post tw S6 x1 x2 x3 K z.1 z.2) (0, 0))) S1)) ∧ (¬ r3 ≤ 0 → (w6_refused (fun r11 S12 => (post (r11.toInt64) S12)) S1 r3)))) S1 r2 x2)) tw S1 x1))
set_option maxHeartbeats 4000000 in
theorem m6_mean (l : Launch) {post : Int64 → MS → Prop} {S : MS} {x1 : Int32} {x2 : Int32} {x3 : Int32} (hw : w6_mean post tw S x1 x2 x3) : Met l yX6_mean (ws_ yX6_mean cX6_mean 8 (some .long)) ({ frames := 4, cells := 0, slots := 0, locals := 96 } : Room) (va_Pc [.ref (ad 0), .int x1, .int x2, .int x3] (PcG D gCl nwG Z Hb A (wM D ad none rdv tw S))) (va_Ql post (BW D gCl A (fun u => (wM D ad none rdv tw u))) A) 0 0 A := by
  refine Met.ofG (by decide) (Nat.le_of_ble_eq_true rfl) ?_
  intro p e s m below meth c ls hC _ hP hD hS hl
  have hC : CX RX6 cX6_mean 8 (some .long) D gCl nwG Z Hb A p s m _ meth c := hC
  have hl : lv_has ls 8 [(0, .ref (ad 0)), (1, .int x1), (2, .int x2), (3, .int x3)] := hl
  unfold w6_mean at hw
  refine lv_aload_n hC.x hC.b dX6_mean_0 rfl (lv_at hl 0 rfl) ?_
  refine lv_iconst (v := 0) hC.x hC.b dX6_mean_1 (by decide) ?_
  refine pM_0 hC hP hD hS (v := 0) dX6_mean_2 (fun S1 eS1 H locs hP hD hS => ?_)
  have hw1124 := hw S1 eS1
  refine lv_aload_n hC.x hC.b dX6_mean_5 rfl (lv_at hl 0 rfl) ?_
  refine lv_aload_n hC.x hC.b dX6_mean_6 rfl (lv_at hl 0 rfl) ?_
  refine lv_iload_n hC.x hC.b dX6_mean_7 rfl (lv_at hl 1 rfl) ?_
  refine go_i (run_V (rest := [.ref (ad 0)]) hC (m6_isPerson l hw1124) v6_6_isPerson h6_isPerson 0 5 gCl_X6 rfl rfl ⟨rfl, rfl, Nat.le_of_ble_eq_true rfl, Nat.le_of_ble_eq_true rfl⟩ ⟨Nat.le_refl _, Nat.le_refl _⟩ hP hD hS hl.1 (Nat.le_of_ble_eq_true rfl) dX6_mean_8 rfl) hS (fun r2 u H locs hw1125 hP hD hS => ?_)
  refine lv_iload_n hC.x hC.b dX6_mean_11 rfl (lv_at hl 2 rfl) ?_
  refine go_i (run_V (rest := []) hC (m6_refusesNight l hw1125) v6_6_refusesNight h6_refusesNight 0 5 gCl_X6 rfl rfl ⟨rfl, rfl, Nat.le_of_ble_eq_true rfl, Nat.le_of_ble_eq_true rfl⟩ ⟨Nat.le_refl _, Nat.le_refl _⟩ hP hD hS hl.1 (Nat.le_of_ble_eq_true rfl) dX6_mean_12 rfl) hS (fun r3 u H locs hw1126 hP hD hS => ?_)
  refine lv_istore (lv' := [(4, .int r3), (0, .ref (ad 0)), (1, .int x1), (2, .int x2), (3, .int x3)]) hC.x hC.b dX6_mean_15 hl (by decide) rfl (fun ls hl => ?_)
  refine lv_iload hC.x hC.b dX6_mean_17 (lv_at hl 0 rfl) ?_
  refine lv_if_le (tgt := 30) hC.x hC.b dX6_mean_19 (by decide) (fun c4 => ?_) (fun c4 => ?_)
  · have hw1127 := hw1126.1 c4
    refine lv_aload_n hC.x hC.b dX6_mean_30 rfl (lv_at hl 1 rfl) ?_
    refine go_v (run_V (rest := []) hC (m6_works l hw1127) v6_6_works h6_works 0 5 gCl_X6 rfl rfl ⟨rfl, rfl, Nat.le_of_ble_eq_true rfl, Nat.le_of_ble_eq_true rfl⟩ ⟨Nat.le_refl _, Nat.le_refl _⟩ hP hD hS hl.1 (Nat.le_of_ble_eq_true rfl) dX6_mean_31 rfl) hS (fun S6 H locs hw1128 hP hD hS => ?_)
    refine lv_lconst (v := 0) hC.x hC.b dX6_mean_34 rfl ?_
    refine lv_lstore (lv' := [(5, .long 0), (4, .int r3), (0, .ref (ad 0)), (1, .int x1), (2, .int x2), (3, .int x3)]) hC.x hC.b dX6_mean_35 hl (by decide) rfl (fun ls hl => ?_)
    refine lv_iconst (v := 0) hC.x hC.b dX6_mean_37 (by decide) ?_
    refine lv_istore (lv' := [(7, .int 0), (5, .long 0), (4, .int r3), (0, .ref (ad 0)), (1, .int x1), (2, .int x2), (3, .int x3)]) hC.x hC.b dX6_mean_38 hl (by decide) rfl (fun ls hl => ?_)
    exact k6_mean_40 hC (0, 0) hw1128 H locs ls hP hD hS (lv_sub hl [3, 4, 5, 6, 1, 0] rfl)
  · have hw1134 := hw1126.2 c4
    refine lv_aload_n hC.x hC.b dX6_mean_22 rfl (lv_at hl 1 rfl) ?_
    refine lv_iload hC.x hC.b dX6_mean_23 (lv_at hl 0 rfl) ?_
    refine go_i (run_V (rest := []) hC (m6_refused l hw1134) v6_6_refused h6_refused 0 5 gCl_X6 rfl rfl ⟨rfl, rfl, Nat.le_of_ble_eq_true rfl, Nat.le_of_ble_eq_true rfl⟩ ⟨Nat.le_refl _, Nat.le_refl _⟩ hP hD hS hl.1 (Nat.le_of_ble_eq_true rfl) dX6_mean_25 rfl) hS (fun r11 S12 H locs hw1135 hP hD hS => ?_)
    refine lv_i2l (v := (r11.toInt64)) hC.x hC.b dX6_mean_28 rfl ?_
    exact rt_l hC hw1135 hP hD hS dX6_mean_29
theorem h6_further : yX6_further.cls = RX6 ∧ yX6_further.cls ≠ "java/lang/invoke/MethodHandle" ∧ yX6_further.cls ≠ "java/lang/invoke/VarHandle" ∧ (parseMethodDescriptor yX6_further.desc).map (fun d => d.parameters.length) = some 0 := by decide +kernel
def w6_further (post : Int32 → MS → Prop) (tw : Option (Nat → Nat)) (S : MS) : Prop :=
  (∀ S1, S1 = uI S 0 32 ((((75 * ((S.1 0 32).toInt64)) + 74) - ((75 * ((S.1 0 32).toInt64)) + 74) / 65537 * 65537).toInt32) → ((∃ t, tw = some t) ∧ (((S1.1 20 1) ≤ ((S1.1 0 32) - (S1.1 0 32) / 100 * 100) → (post 0 S1)) ∧ (¬ (S1.1 20 1) ≤ ((S1.1 0 32) - (S1.1 0 32) / 100 * 100) → (post 1 S1)))))
set_option maxHeartbeats 4000000 in
theorem m6_further (l : Launch) {post : Int32 → MS → Prop} {S : MS} (hw : w6_further post tw S) : Met l yX6_further (ws_ yX6_further cX6_further 1 (some .int)) ({ frames := 0, cells := 0, slots := 0, locals := 0 } : Room) (va_Pc [.ref (ad 0)] (PcG D gCl nwG Z Hb A (wM D ad none rdv tw S))) (va_Qi post (BW D gCl A (fun u => (wM D ad none rdv tw u))) A) 0 0 A := by
  refine Met.ofG (by decide) (Nat.le_of_ble_eq_true rfl) ?_
  intro p e s m below meth c ls hC _ hP hD hS hl
  have hC : CX RX6 cX6_further 1 (some .int) D gCl nwG Z Hb A p s m _ meth c := hC
  have hl : lv_has ls 1 [(0, .ref (ad 0))] := hl
  unfold w6_further at hw
  refine lv_aload_n hC.x hC.b dX6_further_0 rfl (lv_at hl 0 rfl) ?_
  refine lv_ldc2 (v := 75) hC.x hC.b hC.ow (hC.ts _ q2125) dX6_further_1 ?_
  refine lv_aload_n hC.x hC.b dX6_further_4 rfl (lv_at hl 0 rfl) ?_
  refine gM_32 hC hP dX6_further_5 ?_
  refine lv_i2l (v := ((S.1 0 32).toInt64)) hC.x hC.b dX6_further_8 rfl ?_
  refine lv_lmul hC.x hC.b dX6_further_9 ?_
  refine lv_ldc2 (v := 74) hC.x hC.b hC.ow (hC.ts _ q2126) dX6_further_10 ?_
  refine lv_ladd hC.x hC.b dX6_further_13 ?_
  refine lv_ldc2 (v := 65537) hC.x hC.b hC.ow (hC.ts _ q2127) dX6_further_14 ?_
  refine lv_lrem hC.x hC.b dX6_further_17 (by decide) ?_
  refine lv_l2i (v := ((((75 * ((S.1 0 32).toInt64)) + 74) - ((75 * ((S.1 0 32).toInt64)) + 74) / 65537 * 65537).toInt32)) hC.x hC.b dX6_further_18 rfl ?_
  refine pM_32 hC hP hD hS (v := ((((75 * ((S.1 0 32).toInt64)) + 74) - ((75 * ((S.1 0 32).toInt64)) + 74) / 65537 * 65537).toInt32)) dX6_further_19 (fun S1 eS1 H locs hP hD hS => ?_)
  have hw1136 := hw S1 eS1
  refine lv_aload_n hC.x hC.b dX6_further_22 rfl (lv_at hl 0 rfl) ?_
  refine gM_32 hC hP dX6_further_23 ?_
  refine lv_bipush (v := 100) hC.x hC.b dX6_further_26 (by decide) ?_
  refine lv_irem hC.x hC.b dX6_further_28 (by decide) ?_
  refine lv_aload_n hC.x hC.b dX6_further_29 rfl (lv_at hl 0 rfl) ?_
  refine gM_3 hC hP dX6_further_30 ?_
  obtain ⟨⟨t, rfl⟩, hw1137⟩ := hw1136
  refine gT_1 hC hP dX6_further_33 ?_
  refine lv_icmp_ge (tgt := 43) hC.x hC.b dX6_further_36 (by decide) (fun c2 => ?_) (fun c2 => ?_)
  · have hw1138 := hw1137.1 c2
    refine lv_iconst (v := 0) hC.x hC.b dX6_further_43 (by decide) ?_
    exact rt_i hC hw1138 hP hD hS dX6_further_44
  · have hw1139 := hw1137.2 c2
    refine lv_iconst (v := 1) hC.x hC.b dX6_further_39 (by decide) ?_
    refine lv_goto (tgt := 44) hC.x hC.b dX6_further_40 (by decide) ?_
    exact rt_i hC hw1139 hP hD hS dX6_further_44
theorem v6_6_further : GoodIn lw_all (wsV RX6 466 RX6 yX6_further (ws_ yX6_further cX6_further 1 (some .int))) := lw_V q2121 q2123 qs111 q126 q2124
theorem h6_heardBy : yX6_heardBy.cls = RX6 ∧ yX6_heardBy.cls ≠ "java/lang/invoke/MethodHandle" ∧ yX6_heardBy.cls ≠ "java/lang/invoke/VarHandle" ∧ (parseMethodDescriptor yX6_heardBy.desc).map (fun d => d.parameters.length) = some 3 := by decide +kernel
def f6_heardBy_71 (post : Int32 → MS → Prop) (tw : Option (Nat → Nat)) (x1 : Int32) (x3 : Int32) (K71 : (MS × Int32 × Int32) → Prop) (S : MS) (x4 : Int32) (x5 : Int32) : Prop :=
  ((x5 < 0 → (w6_hearerBy (fun r14 => (w6_good (fun r15 S16 => (post r15 S16)) S r14)) tw S x1 x3 x4)) ∧ (¬ x5 < 0 → (w6_further (fun r17 S18 => (K71 (S18, r17, (x5 + (-1))))) tw S)))
set_option maxHeartbeats 4000000 in
theorem k6_heardBy_71 {post : Int32 → MS → Prop} {x1 : Int32} {x3 : Int32} (hC : CX RX6 cX6_heardBy 6 (some .int) D gCl nwG Z Hb A p s m args meth c) : ∀ z : (MS × Int32 × Int32), lp (fun (K : (MS × Int32 × Int32) → Prop) (z : (MS × Int32 × Int32)) => f6_heardBy_71 post (some t) x1 x3 K z.1 z.2.1 z.2.2) z → ∀ (H : Heap) (locs : List Loc) (ls : Array Slot), va_P D gCl (wM D ad none rdv (some t) z.1) H → va_D A (wM D ad none rdv (some t) z.1) → va_S A s.heap H locs → lv_has ls 6 [(0, .ref (ad 0)), (1, .int x1), (3, .int x3), (4, .int z.2.1), (5, .int z.2.2)] → W p l e ({ frames := 3, cells := 0, slots := 0, locals := 73 } : Room) s m args below meth c H locs 0 0 (MQ below (va_Qi post (BW D gCl A (fun u => (wM D ad none rdv (some t) u))) A) args s 0 0 A) (F0 m 71 ls []) := by
  refine lp_ind ?_
  rintro K71 ⟨S, x4, x5⟩ hK71 hw H locs ls hP hD hS hl
  have hw : f6_heardBy_71 post (some t) x1 x3 K71 S x4 x5 := hw
  unfold f6_heardBy_71 at hw
  have hP : va_P D gCl (wM D ad none rdv (some t) S) H := hP
  have hD : va_D A (wM D ad none rdv (some t) S) := hD
  have hl : lv_has ls 6 [(0, .ref (ad 0)), (1, .int x1), (3, .int x3), (4, .int x4), (5, .int x5)] := hl
  refine lv_iload hC.x hC.b dX6_heardBy_71 (lv_at hl 4 rfl) ?_
  refine lv_if_lt (tgt := 88) hC.x hC.b dX6_heardBy_73 (by decide) (fun c13 => ?_) (fun c13 => ?_)
  · have hw1152 := hw.1 c13
    refine lv_aload_n hC.x hC.b dX6_heardBy_88 rfl (lv_at hl 0 rfl) ?_
    refine lv_aload_n hC.x hC.b dX6_heardBy_89 rfl (lv_at hl 0 rfl) ?_
    refine lv_iload_n hC.x hC.b dX6_heardBy_90 rfl (lv_at hl 1 rfl) ?_
    refine lv_iload_n hC.x hC.b dX6_heardBy_91 rfl (lv_at hl 2 rfl) ?_
    refine lv_iload hC.x hC.b dX6_heardBy_92 (lv_at hl 3 rfl) ?_
    refine go_i (run_V (rest := [.ref (ad 0)]) hC (m6_hearerBy l hw1152) v6_6_hearerBy h6_hearerBy 0 5 gCl_X6 rfl rfl ⟨rfl, rfl, Nat.le_of_ble_eq_true rfl, Nat.le_of_ble_eq_true rfl⟩ ⟨Nat.le_refl _, Nat.le_refl _⟩ hP hD hS hl.1 (Nat.le_of_ble_eq_true rfl) dX6_heardBy_94 rfl) hS (fun r14 u H locs hw1153 hP hD hS => ?_)
    refine go_i (run_V (rest := []) hC (m6_good l hw1153) v6_6_good h6_good 0 5 gCl_X6 rfl rfl ⟨rfl, rfl, Nat.le_of_ble_eq_true rfl, Nat.le_of_ble_eq_true rfl⟩ ⟨Nat.le_refl _, Nat.le_refl _⟩ hP hD hS hl.1 (Nat.le_of_ble_eq_true rfl) dX6_heardBy_97 rfl) hS (fun r15 S16 H locs hw1154 hP hD hS => ?_)
    exact rt_i hC hw1154 hP hD hS dX6_heardBy_100
  · have hw1155 := hw.2 c13
    refine lv_aload_n hC.x hC.b dX6_heardBy_76 rfl (lv_at hl 0 rfl) ?_
    refine go_i (run_V (rest := []) hC (m6_further l hw1155) v6_6_further h6_further 0 5 gCl_X6 rfl rfl ⟨rfl, rfl, Nat.le_of_ble_eq_true rfl, Nat.le_of_ble_eq_true rfl⟩ ⟨Nat.le_refl _, Nat.le_refl _⟩ hP hD hS hl.1 (Nat.le_of_ble_eq_true rfl) dX6_heardBy_77 rfl) hS (fun r17 S18 H locs hw1156 hP hD hS => ?_)
    refine lv_istore (lv' := [(4, .int r17), (0, .ref (ad 0)), (1, .int x1), (3, .int x3), (5, .int x5)]) hC.x hC.b dX6_heardBy_80 hl (by decide) rfl (fun ls hl => ?_)
    refine lv_iinc (v := (x5 + (-1))) (lv' := [(5, .int (x5 + (-1))), (4, .int r17), (0, .ref (ad 0)), (1, .int x1), (3, .int x3)]) hC.x hC.b dX6_heardBy_82 hl (k := 4) rfl rfl (by decide) rfl (fun ls hl => ?_)
    refine lv_goto (tgt := 71) hC.x hC.b dX6_heardBy_85 (by decide) ?_
    exact hK71 (S18, r17, (x5 + (-1))) hw1156 H locs ls hP hD hS (lv_sub hl [2, 3, 4, 1, 0] rfl)
def w6_heardBy (post : Int32 → MS → Prop) (tw : Option (Nat → Nat)) (S : MS) (x1 : Int32) (x2 : Int32) (x3 : Int32) : Prop :=
  (∀ S1, S1 = uI S 0 0 0 → (w6_isDead (fun r2 => ((¬ r2 = 0 → (w6_in (fun r4 => ((r4 = 0 → (w6_refused (fun r6 S7 => (post r6 S7)) S1 2)) ∧ (¬ r4 = 0 → (w6_in (fun r8 => ((¬ r8 = 0 → (w6_works (fun S11 => (∀ S12, S12 = uI S11 0 32 x2 → ((∃ t, tw = some t) ∧ (lp (fun (K : (MS × Int32 × Int32) → Prop) (z : (MS × Int32 × Int32)) => f6_heardBy_71 post tw x1 x3 K z.1 z.2.1 z.2.2) (S12, 0, ((x3 * (S12.1 20 3)) + x1)))))) S1)) ∧ (r8 = 0 → (w6_refused (fun r19 S20 => (post r19 S20)) S1 2)))) x3 0 99)))) x2 0 65536)) ∧ (r2 = 0 → (w6_refused (fun r21 S22 => (post r21 S22)) S1 1)))) tw S1 x1))
set_option maxHeartbeats 4000000 in
theorem m6_heardBy (l : Launch) {post : Int32 → MS → Prop} {S : MS} {x1 : Int32} {x2 : Int32} {x3 : Int32} (hw : w6_heardBy post tw S x1 x2 x3) : Met l yX6_heardBy (ws_ yX6_heardBy cX6_heardBy 6 (some .int)) ({ frames := 3, cells := 0, slots := 0, locals := 73 } : Room) (va_Pc [.ref (ad 0), .int x1, .int x2, .int x3] (PcG D gCl nwG Z Hb A (wM D ad none rdv tw S))) (va_Qi post (BW D gCl A (fun u => (wM D ad none rdv tw u))) A) 0 0 A := by
  refine Met.ofG (by decide) (Nat.le_of_ble_eq_true rfl) ?_
  intro p e s m below meth c ls hC _ hP hD hS hl
  have hC : CX RX6 cX6_heardBy 6 (some .int) D gCl nwG Z Hb A p s m _ meth c := hC
  have hl : lv_has ls 6 [(0, .ref (ad 0)), (1, .int x1), (2, .int x2), (3, .int x3)] := hl
  unfold w6_heardBy at hw
  refine lv_aload_n hC.x hC.b dX6_heardBy_0 rfl (lv_at hl 0 rfl) ?_
  refine lv_iconst (v := 0) hC.x hC.b dX6_heardBy_1 (by decide) ?_
  refine pM_0 hC hP hD hS (v := 0) dX6_heardBy_2 (fun S1 eS1 H locs hP hD hS => ?_)
  have hw1140 := hw S1 eS1
  refine lv_aload_n hC.x hC.b dX6_heardBy_5 rfl (lv_at hl 0 rfl) ?_
  refine lv_iload_n hC.x hC.b dX6_heardBy_6 rfl (lv_at hl 1 rfl) ?_
  refine go_i (run_V (rest := []) hC (m6_isDead l hw1140) v6_6_isDead h6_isDead 0 5 gCl_X6 rfl rfl ⟨rfl, rfl, Nat.le_of_ble_eq_true rfl, Nat.le_of_ble_eq_true rfl⟩ ⟨Nat.le_refl _, Nat.le_refl _⟩ hP hD hS hl.1 (Nat.le_of_ble_eq_true rfl) dX6_heardBy_7 rfl) hS (fun r2 u H locs hw1141 hP hD hS => ?_)
  refine lv_if_ne (tgt := 19) hC.x hC.b dX6_heardBy_10 (by decide) (fun c3 => ?_) (fun c3 => ?_)
  · have hw1142 := hw1141.1 c3
    refine lv_iload_n hC.x hC.b dX6_heardBy_19 rfl (lv_at hl 2 rfl) ?_
    refine lv_iconst (v := 0) hC.x hC.b dX6_heardBy_20 (by decide) ?_
    refine lv_ldcw (v := 65536) hC.x hC.b hC.ow (hC.ts _ q2120) dX6_heardBy_21 ?_
    refine go_i (run_S (rest := []) hC (m6_in l hw1142) v6_6_in h6_in ⟨rfl, rfl, Nat.le_of_ble_eq_true rfl, Nat.le_of_ble_eq_true rfl⟩ ⟨Nat.le_refl _, Nat.le_refl _⟩ hP hD hS hl.1 (Nat.le_of_ble_eq_true rfl) dX6_heardBy_24 rfl) hS (fun r4 u H locs hw1143 hP hD hS => ?_)
    refine lv_if_eq (tgt := 40) hC.x hC.b dX6_heardBy_27 (by decide) (fun c5 => ?_) (fun c5 => ?_)
    · have hw1144 := hw1143.1 c5
      refine lv_aload_n hC.x hC.b dX6_heardBy_40 rfl (lv_at hl 0 rfl) ?_
      refine lv_iconst (v := 2) hC.x hC.b dX6_heardBy_41 (by decide) ?_
      refine go_i (run_V (rest := []) hC (m6_refused l hw1144) v6_6_refused h6_refused 0 5 gCl_X6 rfl rfl ⟨rfl, rfl, Nat.le_of_ble_eq_true rfl, Nat.le_of_ble_eq_true rfl⟩ ⟨Nat.le_refl _, Nat.le_refl _⟩ hP hD hS hl.1 (Nat.le_of_ble_eq_true rfl) dX6_heardBy_42 rfl) hS (fun r6 S7 H locs hw1145 hP hD hS => ?_)
      exact rt_i hC hw1145 hP hD hS dX6_heardBy_45
    · have hw1146 := hw1143.2 c5
      refine lv_iload_n hC.x hC.b dX6_heardBy_30 rfl (lv_at hl 3 rfl) ?_
      refine lv_iconst (v := 0) hC.x hC.b dX6_heardBy_31 (by decide) ?_
      refine lv_bipush (v := 99) hC.x hC.b dX6_heardBy_32 (by decide) ?_
      refine go_i (run_S (rest := []) hC (m6_in l hw1146) v6_6_in h6_in ⟨rfl, rfl, Nat.le_of_ble_eq_true rfl, Nat.le_of_ble_eq_true rfl⟩ ⟨Nat.le_refl _, Nat.le_refl _⟩ hP hD hS hl.1 (Nat.le_of_ble_eq_true rfl) dX6_heardBy_34 rfl) hS (fun r8 u H locs hw1147 hP hD hS => ?_)
      refine lv_if_ne (tgt := 46) hC.x hC.b dX6_heardBy_37 (by decide) (fun c9 => ?_) (fun c9 => ?_)
      · have hw1148 := hw1147.1 c9
        refine lv_aload_n hC.x hC.b dX6_heardBy_46 rfl (lv_at hl 0 rfl) ?_
        refine go_v (run_V (rest := []) hC (m6_works l hw1148) v6_6_works h6_works 0 5 gCl_X6 rfl rfl ⟨rfl, rfl, Nat.le_of_ble_eq_true rfl, Nat.le_of_ble_eq_true rfl⟩ ⟨Nat.le_refl _, Nat.le_refl _⟩ hP hD hS hl.1 (Nat.le_of_ble_eq_true rfl) dX6_heardBy_47 rfl) hS (fun S11 H locs hw1149 hP hD hS => ?_)
        refine lv_aload_n hC.x hC.b dX6_heardBy_50 rfl (lv_at hl 0 rfl) ?_
        refine lv_iload_n hC.x hC.b dX6_heardBy_51 rfl (lv_at hl 2 rfl) ?_
        refine pM_32 hC hP hD hS (v := x2) dX6_heardBy_52 (fun S12 eS12 H locs hP hD hS => ?_)
        have hw1150 := hw1149 S12 eS12
        refine lv_iconst (v := 0) hC.x hC.b dX6_heardBy_55 (by decide) ?_
        refine lv_istore (lv' := [(4, .int 0), (0, .ref (ad 0)), (1, .int x1), (2, .int x2), (3, .int x3)]) hC.x hC.b dX6_heardBy_56 hl (by decide) rfl (fun ls hl => ?_)
        refine lv_iload_n hC.x hC.b dX6_heardBy_58 rfl (lv_at hl 4 rfl) ?_
        refine lv_aload_n hC.x hC.b dX6_heardBy_59 rfl (lv_at hl 1 rfl) ?_
        refine gM_3 hC hP dX6_heardBy_60 ?_
        obtain ⟨⟨t, rfl⟩, hw1151⟩ := hw1150
        refine gT_3 hC hP dX6_heardBy_63 ?_
        refine lv_imul hC.x hC.b dX6_heardBy_66 ?_
        refine lv_iload_n hC.x hC.b dX6_heardBy_67 rfl (lv_at hl 2 rfl) ?_
        refine lv_iadd hC.x hC.b dX6_heardBy_68 ?_
        refine lv_istore (lv' := [(5, .int ((x3 * (S12.1 20 3)) + x1)), (4, .int 0), (0, .ref (ad 0)), (1, .int x1), (2, .int x2), (3, .int x3)]) hC.x hC.b dX6_heardBy_69 hl (by decide) rfl (fun ls hl => ?_)
        exact k6_heardBy_71 hC (S12, 0, ((x3 * (S12.1 20 3)) + x1)) hw1151 H locs ls hP hD hS (lv_sub hl [2, 3, 5, 1, 0] rfl)
      · have hw1157 := hw1147.2 c9
        refine lv_aload_n hC.x hC.b dX6_heardBy_40 rfl (lv_at hl 0 rfl) ?_
        refine lv_iconst (v := 2) hC.x hC.b dX6_heardBy_41 (by decide) ?_
        refine go_i (run_V (rest := []) hC (m6_refused l hw1157) v6_6_refused h6_refused 0 5 gCl_X6 rfl rfl ⟨rfl, rfl, Nat.le_of_ble_eq_true rfl, Nat.le_of_ble_eq_true rfl⟩ ⟨Nat.le_refl _, Nat.le_refl _⟩ hP hD hS hl.1 (Nat.le_of_ble_eq_true rfl) dX6_heardBy_42 rfl) hS (fun r19 S20 H locs hw1158 hP hD hS => ?_)
        exact rt_i hC hw1158 hP hD hS dX6_heardBy_45
  · have hw1159 := hw1141.2 c3
    refine lv_aload_n hC.x hC.b dX6_heardBy_13 rfl (lv_at hl 0 rfl) ?_
    refine lv_iconst (v := 1) hC.x hC.b dX6_heardBy_14 (by decide) ?_
    refine go_i (run_V (rest := []) hC (m6_refused l hw1159) v6_6_refused h6_refused 0 5 gCl_X6 rfl rfl ⟨rfl, rfl, Nat.le_of_ble_eq_true rfl, Nat.le_of_ble_eq_true rfl⟩ ⟨Nat.le_refl _, Nat.le_refl _⟩ hP hD hS hl.1 (Nat.le_of_ble_eq_true rfl) dX6_heardBy_15 rfl) hS (fun r21 S22 H locs hw1160 hP hD hS => ?_)
    exact rt_i hC hw1160 hP hD hS dX6_heardBy_18
theorem h6_rights : yX6_rights.cls = RX6 ∧ yX6_rights.cls ≠ "java/lang/invoke/MethodHandle" ∧ yX6_rights.cls ≠ "java/lang/invoke/VarHandle" ∧ (parseMethodDescriptor yX6_rights.desc).map (fun d => d.parameters.length) = some 2 := by decide +kernel
def f6_rights_68 (tw : Option (Nat → Nat)) (K59 : (MS × Int32 × Int32) → Prop) (x4 : Int32) (K68 : (MS × Int32 × Int32) → Prop) (S : MS) (x3 : Int32) (x5 : Int32) : Prop :=
  (((S.1 20 3) ≤ x5 → (K59 (S, x3, (x4 + 1)))) ∧ (¬ (S.1 20 3) ≤ x5 → (w6_further (fun r18 S19 => (w6_hearerBy (fun r20 => (vp_in x5 6 ∧ ((¬ r20 = (S19.1 24 x5.toNatClampNeg) → (K68 (S19, (x3 + 0), (x5 + 1)))) ∧ (r20 = (S19.1 24 x5.toNatClampNeg) → (K68 (S19, (x3 + 1), (x5 + 1))))))) tw S19 x5 x4 r18)) tw S)))
set_option maxHeartbeats 4000000 in
theorem k6_rights_68 {post : Int32 → MS → Prop} {x2 : Int32} {x4 : Int32} {K59 : (MS × Int32 × Int32) → Prop} (hC : CX RX6 cX6_rights 6 (some .int) D gCl nwG Z Hb A p s m args meth c) (hK59 : ∀ z : (MS × Int32 × Int32), K59 z → ∀ (H : Heap) (locs : List Loc) (ls : Array Slot), va_P D gCl (wM D ad none rdv (some t) z.1) H → va_D A (wM D ad none rdv (some t) z.1) → va_S A s.heap H locs → lv_has ls 6 [(0, .ref (ad 0)), (2, .int x2), (3, .int z.2.1), (4, .int z.2.2)] → W p l e ({ frames := 3, cells := 0, slots := 0, locals := 73 } : Room) s m args below meth c H locs 0 0 (MQ below (va_Qi post (BW D gCl A (fun u => (wM D ad none rdv (some t) u))) A) args s 0 0 A) (F0 m 59 ls [])) : ∀ z : (MS × Int32 × Int32), lp (fun (K : (MS × Int32 × Int32) → Prop) (z : (MS × Int32 × Int32)) => f6_rights_68 (some t) K59 x4 K z.1 z.2.1 z.2.2) z → ∀ (H : Heap) (locs : List Loc) (ls : Array Slot), va_P D gCl (wM D ad none rdv (some t) z.1) H → va_D A (wM D ad none rdv (some t) z.1) → va_S A s.heap H locs → lv_has ls 6 [(0, .ref (ad 0)), (2, .int x2), (3, .int z.2.1), (4, .int x4), (5, .int z.2.2)] → W p l e ({ frames := 3, cells := 0, slots := 0, locals := 73 } : Room) s m args below meth c H locs 0 0 (MQ below (va_Qi post (BW D gCl A (fun u => (wM D ad none rdv (some t) u))) A) args s 0 0 A) (F0 m 68 ls []) := by
  refine lp_ind ?_
  rintro K68 ⟨S, x3, x5⟩ hK68 hw H locs ls hP hD hS hl
  have hw : f6_rights_68 (some t) K59 x4 K68 S x3 x5 := hw
  unfold f6_rights_68 at hw
  have hP : va_P D gCl (wM D ad none rdv (some t) S) H := hP
  have hD : va_D A (wM D ad none rdv (some t) S) := hD
  have hl : lv_has ls 6 [(0, .ref (ad 0)), (2, .int x2), (3, .int x3), (4, .int x4), (5, .int x5)] := hl
  refine lv_iload hC.x hC.b dX6_rights_68 (lv_at hl 4 rfl) ?_
  refine lv_aload_n hC.x hC.b dX6_rights_70 rfl (lv_at hl 0 rfl) ?_
  refine gM_3 hC hP dX6_rights_71 ?_
  refine gT_3 hC hP dX6_rights_74 ?_
  refine lv_icmp_ge (tgt := 119) hC.x hC.b dX6_rights_77 (by decide) (fun c17 => ?_) (fun c17 => ?_)
  · have hw1176 := hw.1 c17
    refine lv_iinc (v := (x4 + 1)) (lv' := [(4, .int (x4 + 1)), (0, .ref (ad 0)), (2, .int x2), (3, .int x3), (5, .int x5)]) hC.x hC.b dX6_rights_119 hl (k := 3) rfl rfl (by decide) rfl (fun ls hl => ?_)
    refine lv_goto (tgt := 59) hC.x hC.b dX6_rights_122 (by decide) ?_
    exact hK59 (S, x3, (x4 + 1)) hw1176 H locs ls hP hD hS (lv_sub hl [1, 2, 3, 0] rfl)
  · have hw1177 := hw.2 c17
    refine lv_iload_n hC.x hC.b dX6_rights_80 rfl (lv_at hl 2 rfl) ?_
    refine lv_aload_n hC.x hC.b dX6_rights_81 rfl (lv_at hl 0 rfl) ?_
    refine lv_iload hC.x hC.b dX6_rights_82 (lv_at hl 4 rfl) ?_
    refine lv_iload hC.x hC.b dX6_rights_84 (lv_at hl 3 rfl) ?_
    refine lv_aload_n hC.x hC.b dX6_rights_86 rfl (lv_at hl 0 rfl) ?_
    refine go_i (run_V (rest := [.int x4, .int x5, .ref (ad 0), .int x3]) hC (m6_further l hw1177) v6_6_further h6_further 0 5 gCl_X6 rfl rfl ⟨rfl, rfl, Nat.le_of_ble_eq_true rfl, Nat.le_of_ble_eq_true rfl⟩ ⟨Nat.le_refl _, Nat.le_refl _⟩ hP hD hS hl.1 (Nat.le_of_ble_eq_true rfl) dX6_rights_87 rfl) hS (fun r18 S19 H locs hw1178 hP hD hS => ?_)
    refine go_i (run_V (rest := [.int x3]) hC (m6_hearerBy l hw1178) v6_6_hearerBy h6_hearerBy 0 5 gCl_X6 rfl rfl ⟨rfl, rfl, Nat.le_of_ble_eq_true rfl, Nat.le_of_ble_eq_true rfl⟩ ⟨Nat.le_refl _, Nat.le_refl _⟩ hP hD hS hl.1 (Nat.le_of_ble_eq_true rfl) dX6_rights_90 rfl) hS (fun r20 u H locs hw1179 hP hD hS => ?_)
    refine lv_aload_n hC.x hC.b dX6_rights_93 rfl (lv_at hl 0 rfl) ?_
    refine gM_3 hC hP dX6_rights_94 ?_
    refine gT_11 hC hP dX6_rights_97 ?_
    refine lv_iload hC.x hC.b dX6_rights_100 (lv_at hl 4 rfl) ?_
    obtain ⟨hin, hw1180⟩ := hw1179
    refine lT_4 hC hP hin rfl dX6_rights_102 ?_
    refine lv_icmp_ne (tgt := 110) hC.x hC.b dX6_rights_103 (by decide) (fun c21 => ?_) (fun c21 => ?_)
    · have hw1181 := hw1180.1 c21
      refine lv_iconst (v := 0) hC.x hC.b dX6_rights_110 (by decide) ?_
      refine lv_iadd hC.x hC.b dX6_rights_111 ?_
      refine lv_istore_n (lv' := [(3, .int (x3 + 0)), (0, .ref (ad 0)), (2, .int x2), (4, .int x4), (5, .int x5)]) hC.x hC.b dX6_rights_112 rfl hl (by decide) rfl (fun ls hl => ?_)
      refine lv_iinc (v := (x5 + 1)) (lv' := [(5, .int (x5 + 1)), (3, .int (x3 + 0)), (0, .ref (ad 0)), (2, .int x2), (4, .int x4)]) hC.x hC.b dX6_rights_113 hl (k := 4) rfl rfl (by decide) rfl (fun ls hl => ?_)
      refine lv_goto (tgt := 68) hC.x hC.b dX6_rights_116 (by decide) ?_
      exact hK68 (S19, (x3 + 0), (x5 + 1)) hw1181 H locs ls hP hD hS (lv_sub hl [2, 3, 1, 4, 0] rfl)
    · have hw1182 := hw1180.2 c21
      refine lv_iconst (v := 1) hC.x hC.b dX6_rights_106 (by decide) ?_
      refine lv_goto (tgt := 111) hC.x hC.b dX6_rights_107 (by decide) ?_
      refine lv_iadd hC.x hC.b dX6_rights_111 ?_
      refine lv_istore_n (lv' := [(3, .int (x3 + 1)), (0, .ref (ad 0)), (2, .int x2), (4, .int x4), (5, .int x5)]) hC.x hC.b dX6_rights_112 rfl hl (by decide) rfl (fun ls hl => ?_)
      refine lv_iinc (v := (x5 + 1)) (lv' := [(5, .int (x5 + 1)), (3, .int (x3 + 1)), (0, .ref (ad 0)), (2, .int x2), (4, .int x4)]) hC.x hC.b dX6_rights_113 hl (k := 4) rfl rfl (by decide) rfl (fun ls hl => ?_)
      refine lv_goto (tgt := 68) hC.x hC.b dX6_rights_116 (by decide) ?_
      exact hK68 (S19, (x3 + 1), (x5 + 1)) hw1182 H locs ls hP hD hS (lv_sub hl [2, 3, 1, 4, 0] rfl)
def f6_rights_59 (post : Int32 → MS → Prop) (tw : Option (Nat → Nat)) (x2 : Int32) (K59 : (MS × Int32 × Int32) → Prop) (S : MS) (x3 : Int32) (x4 : Int32) : Prop :=
  ((x2 ≤ x4 → (w6_good (fun r15 S16 => (post r15 S16)) S x3)) ∧ (¬ x2 ≤ x4 → (lp (fun (K : (MS × Int32 × Int32) → Prop) (z : (MS × Int32 × Int32)) => f6_rights_68 tw K59 x4 K z.1 z.2.1 z.2.2) (S, x3, 0))))
set_option maxHeartbeats 4000000 in
theorem k6_rights_59 {post : Int32 → MS → Prop} {x2 : Int32} (hC : CX RX6 cX6_rights 6 (some .int) D gCl nwG Z Hb A p s m args meth c) : ∀ z : (MS × Int32 × Int32), lp (fun (K : (MS × Int32 × Int32) → Prop) (z : (MS × Int32 × Int32)) => f6_rights_59 post (some t) x2 K z.1 z.2.1 z.2.2) z → ∀ (H : Heap) (locs : List Loc) (ls : Array Slot), va_P D gCl (wM D ad none rdv (some t) z.1) H → va_D A (wM D ad none rdv (some t) z.1) → va_S A s.heap H locs → lv_has ls 6 [(0, .ref (ad 0)), (2, .int x2), (3, .int z.2.1), (4, .int z.2.2)] → W p l e ({ frames := 3, cells := 0, slots := 0, locals := 73 } : Room) s m args below meth c H locs 0 0 (MQ below (va_Qi post (BW D gCl A (fun u => (wM D ad none rdv (some t) u))) A) args s 0 0 A) (F0 m 59 ls []) := by
  refine lp_ind ?_
  rintro K59 ⟨S, x3, x4⟩ hK59 hw H locs ls hP hD hS hl
  have hw : f6_rights_59 post (some t) x2 K59 S x3 x4 := hw
  unfold f6_rights_59 at hw
  have hP : va_P D gCl (wM D ad none rdv (some t) S) H := hP
  have hD : va_D A (wM D ad none rdv (some t) S) := hD
  have hl : lv_has ls 6 [(0, .ref (ad 0)), (2, .int x2), (3, .int x3), (4, .int x4)] := hl
  refine lv_iload hC.x hC.b dX6_rights_59 (lv_at hl 3 rfl) ?_
  refine lv_iload_n hC.x hC.b dX6_rights_61 rfl (lv_at hl 1 rfl) ?_
  refine lv_icmp_ge (tgt := 125) hC.x hC.b dX6_rights_62 (by decide) (fun c14 => ?_) (fun c14 => ?_)
  · have hw1173 := hw.1 c14
    refine lv_aload_n hC.x hC.b dX6_rights_125 rfl (lv_at hl 0 rfl) ?_
    refine lv_iload_n hC.x hC.b dX6_rights_126 rfl (lv_at hl 2 rfl) ?_
    refine go_i (run_V (rest := []) hC (m6_good l hw1173) v6_6_good h6_good 0 5 gCl_X6 rfl rfl ⟨rfl, rfl, Nat.le_of_ble_eq_true rfl, Nat.le_of_ble_eq_true rfl⟩ ⟨Nat.le_refl _, Nat.le_refl _⟩ hP hD hS hl.1 (Nat.le_of_ble_eq_true rfl) dX6_rights_127 rfl) hS (fun r15 S16 H locs hw1174 hP hD hS => ?_)
    exact rt_i hC hw1174 hP hD hS dX6_rights_130
  · have hw1175 := hw.2 c14
    refine lv_iconst (v := 0) hC.x hC.b dX6_rights_65 (by decide) ?_
    refine lv_istore (lv' := [(5, .int 0), (0, .ref (ad 0)), (2, .int x2), (3, .int x3), (4, .int x4)]) hC.x hC.b dX6_rights_66 hl (by decide) rfl (fun ls hl => ?_)
    exact k6_rights_68 hC hK59 (S, x3, 0) hw1175 H locs ls hP hD hS (lv_sub hl [1, 2, 3, 4, 0] rfl)
def w6_rights (post : Int32 → MS → Prop) (tw : Option (Nat → Nat)) (S : MS) (x1 : Int32) (x2 : Int32) : Prop :=
  (∀ S1, S1 = uI S 0 0 0 → ((tw = none → (w6_refused (fun r3 S4 => (post r3 S4)) S1 1)) ∧ ((∃ t, tw = some t) → (w6_in (fun r5 => ((r5 = 0 → (w6_refused (fun r7 S8 => (post r7 S8)) S1 2)) ∧ (¬ r5 = 0 → (w6_in (fun r9 => ((¬ r9 = 0 → (w6_works (fun S12 => (∀ S13, S13 = uI S12 0 32 x1 → (lp (fun (K : (MS × Int32 × Int32) → Prop) (z : (MS × Int32 × Int32)) => f6_rights_59 post tw x2 K z.1 z.2.1 z.2.2) (S13, 0, 0)))) S1)) ∧ (r9 = 0 → (w6_refused (fun r22 S23 => (post r22 S23)) S1 2)))) x2 0 99)))) x1 0 65536))))
set_option maxHeartbeats 4000000 in
theorem m6_rights (l : Launch) {post : Int32 → MS → Prop} {S : MS} {x1 : Int32} {x2 : Int32} (hw : w6_rights post tw S x1 x2) : Met l yX6_rights (ws_ yX6_rights cX6_rights 6 (some .int)) ({ frames := 3, cells := 0, slots := 0, locals := 73 } : Room) (va_Pc [.ref (ad 0), .int x1, .int x2] (PcG D gCl nwG Z Hb A (wM D ad none rdv tw S))) (va_Qi post (BW D gCl A (fun u => (wM D ad none rdv tw u))) A) 0 0 A := by
  refine Met.ofG (by decide) (Nat.le_of_ble_eq_true rfl) ?_
  intro p e s m below meth c ls hC _ hP hD hS hl
  have hC : CX RX6 cX6_rights 6 (some .int) D gCl nwG Z Hb A p s m _ meth c := hC
  have hl : lv_has ls 6 [(0, .ref (ad 0)), (1, .int x1), (2, .int x2)] := hl
  unfold w6_rights at hw
  refine lv_aload_n hC.x hC.b dX6_rights_0 rfl (lv_at hl 0 rfl) ?_
  refine lv_iconst (v := 0) hC.x hC.b dX6_rights_1 (by decide) ?_
  refine pM_0 hC hP hD hS (v := 0) dX6_rights_2 (fun S1 eS1 H locs hP hD hS => ?_)
  have hw1161 := hw S1 eS1
  refine lv_aload_n hC.x hC.b dX6_rights_5 rfl (lv_at hl 0 rfl) ?_
  refine gM_3 hC hP dX6_rights_6 ?_
  rcases va_o2 tw with c2 | ⟨t, c2⟩
  · have hw1162 := hw1161.1 c2
    subst c2
    refine lv_ifnonnullN hC.x hC.b dX6_rights_9 ?_
    refine lv_aload_n hC.x hC.b dX6_rights_12 rfl (lv_at hl 0 rfl) ?_
    refine lv_iconst (v := 1) hC.x hC.b dX6_rights_13 (by decide) ?_
    refine go_i (run_V (rest := []) hC (m6_refused l hw1162) v6_6_refused h6_refused 0 5 gCl_X6 rfl rfl ⟨rfl, rfl, Nat.le_of_ble_eq_true rfl, Nat.le_of_ble_eq_true rfl⟩ ⟨Nat.le_refl _, Nat.le_refl _⟩ hP hD hS hl.1 (Nat.le_of_ble_eq_true rfl) dX6_rights_14 rfl) hS (fun r3 S4 H locs hw1163 hP hD hS => ?_)
    exact rt_i hC hw1163 hP hD hS dX6_rights_17
  · have hw1164 := hw1161.2 ⟨t, c2⟩
    subst c2
    refine lv_ifnonnull (tgt := 18) hC.x hC.b dX6_rights_9 (by decide) ?_
    refine lv_iload_n hC.x hC.b dX6_rights_18 rfl (lv_at hl 1 rfl) ?_
    refine lv_iconst (v := 0) hC.x hC.b dX6_rights_19 (by decide) ?_
    refine lv_ldcw (v := 65536) hC.x hC.b hC.ow (hC.ts _ q2120) dX6_rights_20 ?_
    refine go_i (run_S (rest := []) hC (m6_in l hw1164) v6_6_in h6_in ⟨rfl, rfl, Nat.le_of_ble_eq_true rfl, Nat.le_of_ble_eq_true rfl⟩ ⟨Nat.le_refl _, Nat.le_refl _⟩ hP hD hS hl.1 (Nat.le_of_ble_eq_true rfl) dX6_rights_23 rfl) hS (fun r5 u H locs hw1165 hP hD hS => ?_)
    refine lv_if_eq (tgt := 39) hC.x hC.b dX6_rights_26 (by decide) (fun c6 => ?_) (fun c6 => ?_)
    · have hw1166 := hw1165.1 c6
      refine lv_aload_n hC.x hC.b dX6_rights_39 rfl (lv_at hl 0 rfl) ?_
      refine lv_iconst (v := 2) hC.x hC.b dX6_rights_40 (by decide) ?_
      refine go_i (run_V (rest := []) hC (m6_refused l hw1166) v6_6_refused h6_refused 0 5 gCl_X6 rfl rfl ⟨rfl, rfl, Nat.le_of_ble_eq_true rfl, Nat.le_of_ble_eq_true rfl⟩ ⟨Nat.le_refl _, Nat.le_refl _⟩ hP hD hS hl.1 (Nat.le_of_ble_eq_true rfl) dX6_rights_41 rfl) hS (fun r7 S8 H locs hw1167 hP hD hS => ?_)
      exact rt_i hC hw1167 hP hD hS dX6_rights_44
    · have hw1168 := hw1165.2 c6
      refine lv_iload_n hC.x hC.b dX6_rights_29 rfl (lv_at hl 2 rfl) ?_
      refine lv_iconst (v := 0) hC.x hC.b dX6_rights_30 (by decide) ?_
      refine lv_bipush (v := 99) hC.x hC.b dX6_rights_31 (by decide) ?_
      refine go_i (run_S (rest := []) hC (m6_in l hw1168) v6_6_in h6_in ⟨rfl, rfl, Nat.le_of_ble_eq_true rfl, Nat.le_of_ble_eq_true rfl⟩ ⟨Nat.le_refl _, Nat.le_refl _⟩ hP hD hS hl.1 (Nat.le_of_ble_eq_true rfl) dX6_rights_33 rfl) hS (fun r9 u H locs hw1169 hP hD hS => ?_)
      refine lv_if_ne (tgt := 45) hC.x hC.b dX6_rights_36 (by decide) (fun c10 => ?_) (fun c10 => ?_)
      · have hw1170 := hw1169.1 c10
        refine lv_aload_n hC.x hC.b dX6_rights_45 rfl (lv_at hl 0 rfl) ?_
        refine go_v (run_V (rest := []) hC (m6_works l hw1170) v6_6_works h6_works 0 5 gCl_X6 rfl rfl ⟨rfl, rfl, Nat.le_of_ble_eq_true rfl, Nat.le_of_ble_eq_true rfl⟩ ⟨Nat.le_refl _, Nat.le_refl _⟩ hP hD hS hl.1 (Nat.le_of_ble_eq_true rfl) dX6_rights_46 rfl) hS (fun S12 H locs hw1171 hP hD hS => ?_)
        refine lv_aload_n hC.x hC.b dX6_rights_49 rfl (lv_at hl 0 rfl) ?_
        refine lv_iload_n hC.x hC.b dX6_rights_50 rfl (lv_at hl 1 rfl) ?_
        refine pM_32 hC hP hD hS (v := x1) dX6_rights_51 (fun S13 eS13 H locs hP hD hS => ?_)
        have hw1172 := hw1171 S13 eS13
        refine lv_iconst (v := 0) hC.x hC.b dX6_rights_54 (by decide) ?_
        refine lv_istore_n (lv' := [(3, .int 0), (0, .ref (ad 0)), (1, .int x1), (2, .int x2)]) hC.x hC.b dX6_rights_55 rfl hl (by decide) rfl (fun ls hl => ?_)
        refine lv_iconst (v := 0) hC.x hC.b dX6_rights_56 (by decide) ?_
        refine lv_istore (lv' := [(4, .int 0), (3, .int 0), (0, .ref (ad 0)), (1, .int x1), (2, .int x2)]) hC.x hC.b dX6_rights_57 hl (by decide) rfl (fun ls hl => ?_)
        exact k6_rights_59 hC (S13, 0, 0) hw1172 H locs ls hP hD hS (lv_sub hl [2, 4, 1, 0] rfl)
      · have hw1183 := hw1169.2 c10
        refine lv_aload_n hC.x hC.b dX6_rights_39 rfl (lv_at hl 0 rfl) ?_
        refine lv_iconst (v := 2) hC.x hC.b dX6_rights_40 (by decide) ?_
        refine go_i (run_V (rest := []) hC (m6_refused l hw1183) v6_6_refused h6_refused 0 5 gCl_X6 rfl rfl ⟨rfl, rfl, Nat.le_of_ble_eq_true rfl, Nat.le_of_ble_eq_true rfl⟩ ⟨Nat.le_refl _, Nat.le_refl _⟩ hP hD hS hl.1 (Nat.le_of_ble_eq_true rfl) dX6_rights_41 rfl) hS (fun r22 S23 H locs hw1184 hP hD hS => ?_)
        exact rt_i hC hw1184 hP hD hS dX6_rights_44
theorem h6_remembers : yX6_remembers.cls = RX6 ∧ yX6_remembers.cls ≠ "java/lang/invoke/MethodHandle" ∧ yX6_remembers.cls ≠ "java/lang/invoke/VarHandle" ∧ (parseMethodDescriptor yX6_remembers.desc).map (fun d => d.parameters.length) = some 0 := by decide +kernel
def f6_remembers_51 (post : MS → Prop) (K51 : (MS × Int32) → Prop) (S : MS) (x1 : Int32) : Prop :=
  ((19 ≤ x1 → (∀ S3, S3 = uI S 0 19 ((S.1 0 19) + 1) → (post S3))) ∧ (¬ 19 ≤ x1 → (vp_in x1 19 ∧ (vp_in ((19 * (S.1 0 19)) + x1) 304 ∧ (∀ S4, S4 = uI S 4 ((19 * (S.1 0 19)) + x1).toNatClampNeg (S.1 2 x1.toNatClampNeg) → (K51 (S4, (x1 + 1))))))))
set_option maxHeartbeats 4000000 in
theorem k6_remembers_51 {post : MS → Prop} (hC : CX RX6 cX6_remembers 2 none D gCl nwG Z Hb A p s m args meth c) : ∀ z : (MS × Int32), lp (fun (K : (MS × Int32) → Prop) (z : (MS × Int32)) => f6_remembers_51 post K z.1 z.2) z → ∀ (H : Heap) (locs : List Loc) (ls : Array Slot), va_P D gCl (wM D ad rd rdv tw z.1) H → va_D A (wM D ad rd rdv tw z.1) → va_S A s.heap H locs → lv_has ls 2 [(0, .ref (ad 0)), (1, .int z.2)] → W p l e ({ frames := 0, cells := 0, slots := 0, locals := 0 } : Room) s m args below meth c H locs 0 0 (MQ below (va_Qv post (BW D gCl A (fun u => (wM D ad rd rdv tw u))) A) args s 0 0 A) (F0 m 51 ls []) := by
  refine lp_ind ?_
  rintro K51 ⟨S, x1⟩ hK51 hw H locs ls hP hD hS hl
  have hw : f6_remembers_51 post K51 S x1 := hw
  unfold f6_remembers_51 at hw
  have hP : va_P D gCl (wM D ad rd rdv tw S) H := hP
  have hD : va_D A (wM D ad rd rdv tw S) := hD
  have hl : lv_has ls 2 [(0, .ref (ad 0)), (1, .int x1)] := hl
  refine lv_iload_n hC.x hC.b dX6_remembers_51 rfl (lv_at hl 1 rfl) ?_
  refine lv_bipush (v := 19) hC.x hC.b dX6_remembers_52 (by decide) ?_
  refine lv_icmp_ge (tgt := 83) hC.x hC.b dX6_remembers_54 (by decide) (fun c2 => ?_) (fun c2 => ?_)
  · have hw1186 := hw.1 c2
    refine lv_aload_n hC.x hC.b dX6_remembers_83 rfl (lv_at hl 0 rfl) ?_
    refine lv_dup hC.x hC.b dX6_remembers_84 rfl ?_
    refine gM_19 hC hP dX6_remembers_85 ?_
    refine lv_iconst (v := 1) hC.x hC.b dX6_remembers_88 (by decide) ?_
    refine lv_iadd hC.x hC.b dX6_remembers_89 ?_
    refine pM_19 hC hP hD hS (v := ((S.1 0 19) + 1)) dX6_remembers_90 (fun S3 eS3 H locs hP hD hS => ?_)
    have hw1187 := hw1186 S3 eS3
    exact rt_v hC hw1187 hP hD hS dX6_remembers_93
  · have hw1188 := hw.2 c2
    refine lv_aload_n hC.x hC.b dX6_remembers_57 rfl (lv_at hl 0 rfl) ?_
    refine gM_17 hC hP dX6_remembers_58 ?_
    refine lv_bipush (v := 19) hC.x hC.b dX6_remembers_61 (by decide) ?_
    refine lv_aload_n hC.x hC.b dX6_remembers_63 rfl (lv_at hl 0 rfl) ?_
    refine gM_19 hC hP dX6_remembers_64 ?_
    refine lv_imul hC.x hC.b dX6_remembers_67 ?_
    refine lv_iload_n hC.x hC.b dX6_remembers_68 rfl (lv_at hl 1 rfl) ?_
    refine lv_iadd hC.x hC.b dX6_remembers_69 ?_
    refine lv_aload_n hC.x hC.b dX6_remembers_70 rfl (lv_at hl 0 rfl) ?_
    refine gM_15 hC hP dX6_remembers_71 ?_
    refine lv_iload_n hC.x hC.b dX6_remembers_74 rfl (lv_at hl 1 rfl) ?_
    obtain ⟨hin, hw1189⟩ := hw1188
    refine lM_2 hC hP hin rfl dX6_remembers_75 ?_
    obtain ⟨hin, hw1190⟩ := hw1189
    refine sM_4 hC hP hD hS (v := (S.1 2 x1.toNatClampNeg)) hin rfl dX6_remembers_76 (fun S4 eS4 H locs hP hD hS => ?_)
    have hw1191 := hw1190 S4 eS4
    refine lv_iinc (v := (x1 + 1)) (lv' := [(1, .int (x1 + 1)), (0, .ref (ad 0))]) hC.x hC.b dX6_remembers_77 hl (k := 1) rfl rfl (by decide) rfl (fun ls hl => ?_)
    refine lv_goto (tgt := 51) hC.x hC.b dX6_remembers_80 (by decide) ?_
    exact hK51 (S4, (x1 + 1)) hw1191 H locs ls hP hD hS (lv_sub hl [1, 0] rfl)
def f6_remembers_11 (post : MS → Prop) (K11 : (MS × Int32) → Prop) (S : MS) (x1 : Int32) : Prop :=
  ((285 ≤ x1 → (∀ S6, S6 = uI S 0 19 ((S.1 0 19) - 1) → (lp (fun (K : (MS × Int32) → Prop) (z : (MS × Int32)) => f6_remembers_51 post K z.1 z.2) (S6, 0)))) ∧ (¬ 285 ≤ x1 → (vp_in (x1 + 19) 304 ∧ (vp_in x1 304 ∧ (∀ S7, S7 = uI S 4 x1.toNatClampNeg (S.1 4 (x1 + 19).toNatClampNeg) → (K11 (S7, (x1 + 1))))))))
set_option maxHeartbeats 4000000 in
theorem k6_remembers_11 {post : MS → Prop} (hC : CX RX6 cX6_remembers 2 none D gCl nwG Z Hb A p s m args meth c) : ∀ z : (MS × Int32), lp (fun (K : (MS × Int32) → Prop) (z : (MS × Int32)) => f6_remembers_11 post K z.1 z.2) z → ∀ (H : Heap) (locs : List Loc) (ls : Array Slot), va_P D gCl (wM D ad rd rdv tw z.1) H → va_D A (wM D ad rd rdv tw z.1) → va_S A s.heap H locs → lv_has ls 2 [(0, .ref (ad 0)), (1, .int z.2)] → W p l e ({ frames := 0, cells := 0, slots := 0, locals := 0 } : Room) s m args below meth c H locs 0 0 (MQ below (va_Qv post (BW D gCl A (fun u => (wM D ad rd rdv tw u))) A) args s 0 0 A) (F0 m 11 ls []) := by
  refine lp_ind ?_
  rintro K11 ⟨S, x1⟩ hK11 hw H locs ls hP hD hS hl
  have hw : f6_remembers_11 post K11 S x1 := hw
  unfold f6_remembers_11 at hw
  have hP : va_P D gCl (wM D ad rd rdv tw S) H := hP
  have hD : va_D A (wM D ad rd rdv tw S) := hD
  have hl : lv_has ls 2 [(0, .ref (ad 0)), (1, .int x1)] := hl
  refine lv_iload_n hC.x hC.b dX6_remembers_11 rfl (lv_at hl 1 rfl) ?_
  refine lv_sipush (v := 285) hC.x hC.b dX6_remembers_12 (by decide) ?_
  refine lv_icmp_ge (tgt := 39) hC.x hC.b dX6_remembers_15 (by decide) (fun c5 => ?_) (fun c5 => ?_)
  · have hw1193 := hw.1 c5
    refine lv_aload_n hC.x hC.b dX6_remembers_39 rfl (lv_at hl 0 rfl) ?_
    refine lv_dup hC.x hC.b dX6_remembers_40 rfl ?_
    refine gM_19 hC hP dX6_remembers_41 ?_
    refine lv_iconst (v := 1) hC.x hC.b dX6_remembers_44 (by decide) ?_
    refine lv_isub hC.x hC.b dX6_remembers_45 ?_
    refine pM_19 hC hP hD hS (v := ((S.1 0 19) - 1)) dX6_remembers_46 (fun S6 eS6 H locs hP hD hS => ?_)
    have hw1194 := hw1193 S6 eS6
    refine lv_iconst (v := 0) hC.x hC.b dX6_remembers_49 (by decide) ?_
    refine lv_istore_n (lv' := [(1, .int 0), (0, .ref (ad 0))]) hC.x hC.b dX6_remembers_50 rfl hl (by decide) rfl (fun ls hl => ?_)
    exact k6_remembers_51 hC (S6, 0) hw1194 H locs ls hP hD hS (lv_sub hl [1, 0] rfl)
  · have hw1195 := hw.2 c5
    refine lv_aload_n hC.x hC.b dX6_remembers_18 rfl (lv_at hl 0 rfl) ?_
    refine gM_17 hC hP dX6_remembers_19 ?_
    refine lv_iload_n hC.x hC.b dX6_remembers_22 rfl (lv_at hl 1 rfl) ?_
    refine lv_aload_n hC.x hC.b dX6_remembers_23 rfl (lv_at hl 0 rfl) ?_
    refine gM_17 hC hP dX6_remembers_24 ?_
    refine lv_iload_n hC.x hC.b dX6_remembers_27 rfl (lv_at hl 1 rfl) ?_
    refine lv_bipush (v := 19) hC.x hC.b dX6_remembers_28 (by decide) ?_
    refine lv_iadd hC.x hC.b dX6_remembers_30 ?_
    obtain ⟨hin, hw1196⟩ := hw1195
    refine lM_4 hC hP hin rfl dX6_remembers_31 ?_
    obtain ⟨hin, hw1197⟩ := hw1196
    refine sM_4 hC hP hD hS (v := (S.1 4 (x1 + 19).toNatClampNeg)) hin rfl dX6_remembers_32 (fun S7 eS7 H locs hP hD hS => ?_)
    have hw1198 := hw1197 S7 eS7
    refine lv_iinc (v := (x1 + 1)) (lv' := [(1, .int (x1 + 1)), (0, .ref (ad 0))]) hC.x hC.b dX6_remembers_33 hl (k := 1) rfl rfl (by decide) rfl (fun ls hl => ?_)
    refine lv_goto (tgt := 11) hC.x hC.b dX6_remembers_36 (by decide) ?_
    exact hK11 (S7, (x1 + 1)) hw1198 H locs ls hP hD hS (lv_sub hl [1, 0] rfl)
def w6_remembers (post : MS → Prop) (S : MS) : Prop :=
  ((¬ (S.1 0 19) = 16 → (lp (fun (K : (MS × Int32) → Prop) (z : (MS × Int32)) => f6_remembers_51 post K z.1 z.2) (S, 0))) ∧ ((S.1 0 19) = 16 → (lp (fun (K : (MS × Int32) → Prop) (z : (MS × Int32)) => f6_remembers_11 post K z.1 z.2) (S, 0))))
set_option maxHeartbeats 4000000 in
theorem m6_remembers (l : Launch) {post : MS → Prop} {S : MS} (hw : w6_remembers post S) : Met l yX6_remembers (ws_ yX6_remembers cX6_remembers 2 none) ({ frames := 0, cells := 0, slots := 0, locals := 0 } : Room) (va_Pc [.ref (ad 0)] (PcG D gCl nwG Z Hb A (wM D ad rd rdv tw S))) (va_Qv post (BW D gCl A (fun u => (wM D ad rd rdv tw u))) A) 0 0 A := by
  refine Met.ofG (by decide) (Nat.le_of_ble_eq_true rfl) ?_
  intro p e s m below meth c ls hC _ hP hD hS hl
  have hC : CX RX6 cX6_remembers 2 none D gCl nwG Z Hb A p s m _ meth c := hC
  have hl : lv_has ls 2 [(0, .ref (ad 0))] := hl
  unfold w6_remembers at hw
  refine lv_aload_n hC.x hC.b dX6_remembers_0 rfl (lv_at hl 0 rfl) ?_
  refine gM_19 hC hP dX6_remembers_1 ?_
  refine lv_bipush (v := 16) hC.x hC.b dX6_remembers_4 (by decide) ?_
  refine lv_icmp_ne (tgt := 49) hC.x hC.b dX6_remembers_6 (by decide) (fun c1 => ?_) (fun c1 => ?_)
  · have hw1185 := hw.1 c1
    refine lv_iconst (v := 0) hC.x hC.b dX6_remembers_49 (by decide) ?_
    refine lv_istore_n (lv' := [(1, .int 0), (0, .ref (ad 0))]) hC.x hC.b dX6_remembers_50 rfl hl (by decide) rfl (fun ls hl => ?_)
    exact k6_remembers_51 hC (S, 0) hw1185 s.heap [] ls hP hD hS (lv_sub hl [1, 0] rfl)
  · have hw1192 := hw.2 c1
    refine lv_iconst (v := 0) hC.x hC.b dX6_remembers_9 (by decide) ?_
    refine lv_istore_n (lv' := [(1, .int 0), (0, .ref (ad 0))]) hC.x hC.b dX6_remembers_10 rfl hl (by decide) rfl (fun ls hl => ?_)
    exact k6_remembers_11 hC (S, 0) hw1192 s.heap [] ls hP hD hS (lv_sub hl [1, 0] rfl)
theorem v6_6_remembers : GoodIn lw_all (wsV RX6 469 RX6 yX6_remembers (ws_ yX6_remembers cX6_remembers 2 none)) := lw_V q2136 q2138 qs112 q126 q2139
theorem h6_night : yX6_night.cls = RX6 ∧ yX6_night.cls ≠ "java/lang/invoke/MethodHandle" ∧ yX6_night.cls ≠ "java/lang/invoke/VarHandle" ∧ (parseMethodDescriptor yX6_night.desc).map (fun d => d.parameters.length) = some 0 := by decide +kernel
def w6_night (post : Int32 → MS → Prop) (tw : Option (Nat → Nat)) (S : MS) : Prop :=
  (∀ S1, S1 = uI S 0 0 0 → ((tw = none → (w6_refused (fun r3 S4 => (post r3 S4)) S1 1)) ∧ ((∃ t, tw = some t) → ((¬ (S1.1 2 18) = 99 → (w6_remembers (fun S7 => (∀ S8, S8 = uI S7 2 18 ((S7.1 2 18) + 1) → (w6_works (fun S10 => (w6_rightOn (fun r11 => (w6_good (fun r12 S13 => (post r12 S13)) S10 r11)) tw S10 (S10.1 2 18))) S8))) S1)) ∧ ((S1.1 2 18) = 99 → (w6_refused (fun r14 S15 => (post r14 S15)) S1 3))))))
set_option maxHeartbeats 4000000 in
theorem m6_night (l : Launch) {post : Int32 → MS → Prop} {S : MS} (hw : w6_night post tw S) : Met l yX6_night (ws_ yX6_night cX6_night 1 (some .int)) ({ frames := 5, cells := 0, slots := 0, locals := 117 } : Room) (va_Pc [.ref (ad 0)] (PcG D gCl nwG Z Hb A (wM D ad none rdv tw S))) (va_Qi post (BW D gCl A (fun u => (wM D ad none rdv tw u))) A) 0 0 A := by
  refine Met.ofG (by decide) (Nat.le_of_ble_eq_true rfl) ?_
  intro p e s m below meth c ls hC _ hP hD hS hl
  have hC : CX RX6 cX6_night 1 (some .int) D gCl nwG Z Hb A p s m _ meth c := hC
  have hl : lv_has ls 1 [(0, .ref (ad 0))] := hl
  unfold w6_night at hw
  refine lv_aload_n hC.x hC.b dX6_night_0 rfl (lv_at hl 0 rfl) ?_
  refine lv_iconst (v := 0) hC.x hC.b dX6_night_1 (by decide) ?_
  refine pM_0 hC hP hD hS (v := 0) dX6_night_2 (fun S1 eS1 H locs hP hD hS => ?_)
  have hw1199 := hw S1 eS1
  refine lv_aload_n hC.x hC.b dX6_night_5 rfl (lv_at hl 0 rfl) ?_
  refine gM_3 hC hP dX6_night_6 ?_
  rcases va_o2 tw with c2 | ⟨t, c2⟩
  · have hw1200 := hw1199.1 c2
    subst c2
    refine lv_ifnonnullN hC.x hC.b dX6_night_9 ?_
    refine lv_aload_n hC.x hC.b dX6_night_12 rfl (lv_at hl 0 rfl) ?_
    refine lv_iconst (v := 1) hC.x hC.b dX6_night_13 (by decide) ?_
    refine go_i (run_V (rest := []) hC (m6_refused l hw1200) v6_6_refused h6_refused 0 5 gCl_X6 rfl rfl ⟨rfl, rfl, Nat.le_of_ble_eq_true rfl, Nat.le_of_ble_eq_true rfl⟩ ⟨Nat.le_refl _, Nat.le_refl _⟩ hP hD hS hl.1 (Nat.le_of_ble_eq_true rfl) dX6_night_14 rfl) hS (fun r3 S4 H locs hw1201 hP hD hS => ?_)
    exact rt_i hC hw1201 hP hD hS dX6_night_17
  · have hw1202 := hw1199.2 ⟨t, c2⟩
    subst c2
    refine lv_ifnonnull (tgt := 18) hC.x hC.b dX6_night_9 (by decide) ?_
    refine lv_aload_n hC.x hC.b dX6_night_18 rfl (lv_at hl 0 rfl) ?_
    refine gM_15 hC hP dX6_night_19 ?_
    refine lv_bipush (v := 18) hC.x hC.b dX6_night_22 (by decide) ?_
    refine lM_2 hC hP (vp_lit rfl) (k := 18) rfl dX6_night_24 ?_
    refine lv_bipush (v := 99) hC.x hC.b dX6_night_25 (by decide) ?_
    refine lv_icmp_ne (tgt := 36) hC.x hC.b dX6_night_27 (by decide) (fun c5 => ?_) (fun c5 => ?_)
    · have hw1203 := hw1202.1 c5
      refine lv_aload_n hC.x hC.b dX6_night_36 rfl (lv_at hl 0 rfl) ?_
      refine go_v (run_V (rest := []) hC (m6_remembers l hw1203) v6_6_remembers h6_remembers 0 5 gCl_X6 rfl rfl ⟨rfl, rfl, Nat.le_of_ble_eq_true rfl, Nat.le_of_ble_eq_true rfl⟩ ⟨Nat.le_refl _, Nat.le_refl _⟩ hP hD hS hl.1 (Nat.le_of_ble_eq_true rfl) dX6_night_37 rfl) hS (fun S7 H locs hw1204 hP hD hS => ?_)
      refine lv_aload_n hC.x hC.b dX6_night_40 rfl (lv_at hl 0 rfl) ?_
      refine gM_15 hC hP dX6_night_41 ?_
      refine lv_bipush (v := 18) hC.x hC.b dX6_night_44 (by decide) ?_
      refine lv_dup2_11 hC.x hC.b dX6_night_46 rfl rfl ?_
      refine lM_2 hC hP (vp_lit rfl) (k := 18) rfl dX6_night_47 ?_
      refine lv_iconst (v := 1) hC.x hC.b dX6_night_48 (by decide) ?_
      refine lv_iadd hC.x hC.b dX6_night_49 ?_
      refine sM_2 hC hP hD hS (v := ((S7.1 2 18) + 1)) (vp_lit rfl) (k := 18) rfl dX6_night_50 (fun S8 eS8 H locs hP hD hS => ?_)
      have hw1205 := hw1204 S8 eS8
      refine lv_aload_n hC.x hC.b dX6_night_51 rfl (lv_at hl 0 rfl) ?_
      refine go_v (run_V (rest := []) hC (m6_works l hw1205) v6_6_works h6_works 0 5 gCl_X6 rfl rfl ⟨rfl, rfl, Nat.le_of_ble_eq_true rfl, Nat.le_of_ble_eq_true rfl⟩ ⟨Nat.le_refl _, Nat.le_refl _⟩ hP hD hS hl.1 (Nat.le_of_ble_eq_true rfl) dX6_night_52 rfl) hS (fun S10 H locs hw1206 hP hD hS => ?_)
      refine lv_aload_n hC.x hC.b dX6_night_55 rfl (lv_at hl 0 rfl) ?_
      refine lv_aload_n hC.x hC.b dX6_night_56 rfl (lv_at hl 0 rfl) ?_
      refine lv_aload_n hC.x hC.b dX6_night_57 rfl (lv_at hl 0 rfl) ?_
      refine gM_15 hC hP dX6_night_58 ?_
      refine lv_bipush (v := 18) hC.x hC.b dX6_night_61 (by decide) ?_
      refine lM_2 hC hP (vp_lit rfl) (k := 18) rfl dX6_night_63 ?_
      refine go_i (run_V (rest := [.ref (ad 0)]) hC (m6_rightOn l hw1206) v6_6_rightOn h6_rightOn 0 5 gCl_X6 rfl rfl ⟨rfl, rfl, Nat.le_of_ble_eq_true rfl, Nat.le_of_ble_eq_true rfl⟩ ⟨Nat.le_refl _, Nat.le_refl _⟩ hP hD hS hl.1 (Nat.le_of_ble_eq_true rfl) dX6_night_64 rfl) hS (fun r11 u H locs hw1207 hP hD hS => ?_)
      refine go_i (run_V (rest := []) hC (m6_good l hw1207) v6_6_good h6_good 0 5 gCl_X6 rfl rfl ⟨rfl, rfl, Nat.le_of_ble_eq_true rfl, Nat.le_of_ble_eq_true rfl⟩ ⟨Nat.le_refl _, Nat.le_refl _⟩ hP hD hS hl.1 (Nat.le_of_ble_eq_true rfl) dX6_night_67 rfl) hS (fun r12 S13 H locs hw1208 hP hD hS => ?_)
      exact rt_i hC hw1208 hP hD hS dX6_night_70
    · have hw1209 := hw1202.2 c5
      refine lv_aload_n hC.x hC.b dX6_night_30 rfl (lv_at hl 0 rfl) ?_
      refine lv_iconst (v := 3) hC.x hC.b dX6_night_31 (by decide) ?_
      refine go_i (run_V (rest := []) hC (m6_refused l hw1209) v6_6_refused h6_refused 0 5 gCl_X6 rfl rfl ⟨rfl, rfl, Nat.le_of_ble_eq_true rfl, Nat.le_of_ble_eq_true rfl⟩ ⟨Nat.le_refl _, Nat.le_refl _⟩ hP hD hS hl.1 (Nat.le_of_ble_eq_true rfl) dX6_night_32 rfl) hS (fun r14 S15 H locs hw1210 hP hD hS => ?_)
      exact rt_i hC hw1210 hP hD hS dX6_night_35
theorem h6_move : yX6_move.cls = RX6 ∧ yX6_move.cls ≠ "java/lang/invoke/MethodHandle" ∧ yX6_move.cls ≠ "java/lang/invoke/VarHandle" ∧ (parseMethodDescriptor yX6_move.desc).map (fun d => d.parameters.length) = some 2 := by decide +kernel
def w6_move (post : Int32 → MS → Prop) (tw : Option (Nat → Nat)) (S : MS) (x1 : Int32) (x2 : Int32) : Prop :=
  (∀ S1, S1 = uI S 0 0 0 → (w6_isPerson (fun r2 => ((r2 = 0 → (w6_refused (fun r4 S5 => (post r4 S5)) S1 1)) ∧ (¬ r2 = 0 → (w6_isHouse (fun r6 => ((¬ r6 = 0 → (w6_works (fun S9 => (w6_whoIn (fun r10 => ((r10 = (-2) → (w6_remembers (fun S13 => (vp_in x1 19 ∧ (∀ S14, S14 = uI S13 2 x1.toNatClampNeg x2 → (vp_in x1 19 ∧ (w6_good (fun r15 S16 => (post r15 S16)) S14 (S14.1 3 x1.toNatClampNeg)))))) S9)) ∧ (¬ r10 = (-2) → (w6_refused (fun r17 S18 => (post r17 S18)) S9 5)))) tw S9 x2)) S1)) ∧ (r6 = 0 → (w6_refused (fun r19 S20 => (post r19 S20)) S1 1)))) tw S1 x2)))) tw S1 x1))
set_option maxHeartbeats 4000000 in
theorem m6_move (l : Launch) {post : Int32 → MS → Prop} {S : MS} {x1 : Int32} {x2 : Int32} (hw : w6_move post tw S x1 x2) : Met l yX6_move (ws_ yX6_move cX6_move 3 (some .int)) ({ frames := 1, cells := 0, slots := 0, locals := 22 } : Room) (va_Pc [.ref (ad 0), .int x1, .int x2] (PcG D gCl nwG Z Hb A (wM D ad none rdv tw S))) (va_Qi post (BW D gCl A (fun u => (wM D ad none rdv tw u))) A) 0 0 A := by
  refine Met.ofG (by decide) (Nat.le_of_ble_eq_true rfl) ?_
  intro p e s m below meth c ls hC _ hP hD hS hl
  have hC : CX RX6 cX6_move 3 (some .int) D gCl nwG Z Hb A p s m _ meth c := hC
  have hl : lv_has ls 3 [(0, .ref (ad 0)), (1, .int x1), (2, .int x2)] := hl
  unfold w6_move at hw
  refine lv_aload_n hC.x hC.b dX6_move_0 rfl (lv_at hl 0 rfl) ?_
  refine lv_iconst (v := 0) hC.x hC.b dX6_move_1 (by decide) ?_
  refine pM_0 hC hP hD hS (v := 0) dX6_move_2 (fun S1 eS1 H locs hP hD hS => ?_)
  have hw1211 := hw S1 eS1
  refine lv_aload_n hC.x hC.b dX6_move_5 rfl (lv_at hl 0 rfl) ?_
  refine lv_iload_n hC.x hC.b dX6_move_6 rfl (lv_at hl 1 rfl) ?_
  refine go_i (run_V (rest := []) hC (m6_isPerson l hw1211) v6_6_isPerson h6_isPerson 0 5 gCl_X6 rfl rfl ⟨rfl, rfl, Nat.le_of_ble_eq_true rfl, Nat.le_of_ble_eq_true rfl⟩ ⟨Nat.le_refl _, Nat.le_refl _⟩ hP hD hS hl.1 (Nat.le_of_ble_eq_true rfl) dX6_move_7 rfl) hS (fun r2 u H locs hw1212 hP hD hS => ?_)
  refine lv_if_eq (tgt := 21) hC.x hC.b dX6_move_10 (by decide) (fun c3 => ?_) (fun c3 => ?_)
  · have hw1213 := hw1212.1 c3
    refine lv_aload_n hC.x hC.b dX6_move_21 rfl (lv_at hl 0 rfl) ?_
    refine lv_iconst (v := 1) hC.x hC.b dX6_move_22 (by decide) ?_
    refine go_i (run_V (rest := []) hC (m6_refused l hw1213) v6_6_refused h6_refused 0 5 gCl_X6 rfl rfl ⟨rfl, rfl, Nat.le_of_ble_eq_true rfl, Nat.le_of_ble_eq_true rfl⟩ ⟨Nat.le_refl _, Nat.le_refl _⟩ hP hD hS hl.1 (Nat.le_of_ble_eq_true rfl) dX6_move_23 rfl) hS (fun r4 S5 H locs hw1214 hP hD hS => ?_)
    exact rt_i hC hw1214 hP hD hS dX6_move_26
  · have hw1215 := hw1212.2 c3
    refine lv_aload_n hC.x hC.b dX6_move_13 rfl (lv_at hl 0 rfl) ?_
    refine lv_iload_n hC.x hC.b dX6_move_14 rfl (lv_at hl 2 rfl) ?_
    refine go_i (run_V (rest := []) hC (m6_isHouse l hw1215) v6_6_isHouse h6_isHouse 0 5 gCl_X6 rfl rfl ⟨rfl, rfl, Nat.le_of_ble_eq_true rfl, Nat.le_of_ble_eq_true rfl⟩ ⟨Nat.le_refl _, Nat.le_refl _⟩ hP hD hS hl.1 (Nat.le_of_ble_eq_true rfl) dX6_move_15 rfl) hS (fun r6 u H locs hw1216 hP hD hS => ?_)
    refine lv_if_ne (tgt := 27) hC.x hC.b dX6_move_18 (by decide) (fun c7 => ?_) (fun c7 => ?_)
    · have hw1217 := hw1216.1 c7
      refine lv_aload_n hC.x hC.b dX6_move_27 rfl (lv_at hl 0 rfl) ?_
      refine go_v (run_V (rest := []) hC (m6_works l hw1217) v6_6_works h6_works 0 5 gCl_X6 rfl rfl ⟨rfl, rfl, Nat.le_of_ble_eq_true rfl, Nat.le_of_ble_eq_true rfl⟩ ⟨Nat.le_refl _, Nat.le_refl _⟩ hP hD hS hl.1 (Nat.le_of_ble_eq_true rfl) dX6_move_28 rfl) hS (fun S9 H locs hw1218 hP hD hS => ?_)
      refine lv_aload_n hC.x hC.b dX6_move_31 rfl (lv_at hl 0 rfl) ?_
      refine lv_iload_n hC.x hC.b dX6_move_32 rfl (lv_at hl 2 rfl) ?_
      refine go_i (run_V (rest := []) hC (m6_whoIn l hw1218) v6_6_whoIn h6_whoIn 0 5 gCl_X6 rfl rfl ⟨rfl, rfl, Nat.le_of_ble_eq_true rfl, Nat.le_of_ble_eq_true rfl⟩ ⟨Nat.le_refl _, Nat.le_refl _⟩ hP hD hS hl.1 (Nat.le_of_ble_eq_true rfl) dX6_move_33 rfl) hS (fun r10 u H locs hw1219 hP hD hS => ?_)
      refine lv_bipush (v := (-2)) hC.x hC.b dX6_move_36 (by decide) ?_
      refine lv_icmp_eq (tgt := 47) hC.x hC.b dX6_move_38 (by decide) (fun c11 => ?_) (fun c11 => ?_)
      · have hw1220 := hw1219.1 c11
        refine lv_aload_n hC.x hC.b dX6_move_47 rfl (lv_at hl 0 rfl) ?_
        refine go_v (run_V (rest := []) hC (m6_remembers l hw1220) v6_6_remembers h6_remembers 0 5 gCl_X6 rfl rfl ⟨rfl, rfl, Nat.le_of_ble_eq_true rfl, Nat.le_of_ble_eq_true rfl⟩ ⟨Nat.le_refl _, Nat.le_refl _⟩ hP hD hS hl.1 (Nat.le_of_ble_eq_true rfl) dX6_move_48 rfl) hS (fun S13 H locs hw1221 hP hD hS => ?_)
        refine lv_aload_n hC.x hC.b dX6_move_51 rfl (lv_at hl 0 rfl) ?_
        refine gM_15 hC hP dX6_move_52 ?_
        refine lv_iload_n hC.x hC.b dX6_move_55 rfl (lv_at hl 1 rfl) ?_
        refine lv_iload_n hC.x hC.b dX6_move_56 rfl (lv_at hl 2 rfl) ?_
        obtain ⟨hin, hw1222⟩ := hw1221
        refine sM_2 hC hP hD hS (v := x2) hin rfl dX6_move_57 (fun S14 eS14 H locs hP hD hS => ?_)
        have hw1223 := hw1222 S14 eS14
        refine lv_aload_n hC.x hC.b dX6_move_58 rfl (lv_at hl 0 rfl) ?_
        refine lv_aload_n hC.x hC.b dX6_move_59 rfl (lv_at hl 0 rfl) ?_
        refine gM_16 hC hP dX6_move_60 ?_
        refine lv_iload_n hC.x hC.b dX6_move_63 rfl (lv_at hl 1 rfl) ?_
        obtain ⟨hin, hw1224⟩ := hw1223
        refine lM_3 hC hP hin rfl dX6_move_64 ?_
        refine go_i (run_V (rest := []) hC (m6_good l hw1224) v6_6_good h6_good 0 5 gCl_X6 rfl rfl ⟨rfl, rfl, Nat.le_of_ble_eq_true rfl, Nat.le_of_ble_eq_true rfl⟩ ⟨Nat.le_refl _, Nat.le_refl _⟩ hP hD hS hl.1 (Nat.le_of_ble_eq_true rfl) dX6_move_65 rfl) hS (fun r15 S16 H locs hw1225 hP hD hS => ?_)
        exact rt_i hC hw1225 hP hD hS dX6_move_68
      · have hw1226 := hw1219.2 c11
        refine lv_aload_n hC.x hC.b dX6_move_41 rfl (lv_at hl 0 rfl) ?_
        refine lv_iconst (v := 5) hC.x hC.b dX6_move_42 (by decide) ?_
        refine go_i (run_V (rest := []) hC (m6_refused l hw1226) v6_6_refused h6_refused 0 5 gCl_X6 rfl rfl ⟨rfl, rfl, Nat.le_of_ble_eq_true rfl, Nat.le_of_ble_eq_true rfl⟩ ⟨Nat.le_refl _, Nat.le_refl _⟩ hP hD hS hl.1 (Nat.le_of_ble_eq_true rfl) dX6_move_43 rfl) hS (fun r17 S18 H locs hw1227 hP hD hS => ?_)
        exact rt_i hC hw1227 hP hD hS dX6_move_46
    · have hw1228 := hw1216.2 c7
      refine lv_aload_n hC.x hC.b dX6_move_21 rfl (lv_at hl 0 rfl) ?_
      refine lv_iconst (v := 1) hC.x hC.b dX6_move_22 (by decide) ?_
      refine go_i (run_V (rest := []) hC (m6_refused l hw1228) v6_6_refused h6_refused 0 5 gCl_X6 rfl rfl ⟨rfl, rfl, Nat.le_of_ble_eq_true rfl, Nat.le_of_ble_eq_true rfl⟩ ⟨Nat.le_refl _, Nat.le_refl _⟩ hP hD hS hl.1 (Nat.le_of_ble_eq_true rfl) dX6_move_23 rfl) hS (fun r19 S20 H locs hw1229 hP hD hS => ?_)
      exact rt_i hC hw1229 hP hD hS dX6_move_26
theorem h6_denied : yX6_denied.cls = RX6 ∧ yX6_denied.cls ≠ "java/lang/invoke/MethodHandle" ∧ yX6_denied.cls ≠ "java/lang/invoke/VarHandle" ∧ (parseMethodDescriptor yX6_denied.desc).map (fun d => d.parameters.length) = some 1 := by decide +kernel
def w6_denied (post : Int32 → MS → Prop) (S : MS) (x1 : Int32) : Prop :=
  (w6_refused (fun r1 S2 => (post 0 S2)) S x1)
set_option maxHeartbeats 4000000 in
theorem m6_denied (l : Launch) {post : Int32 → MS → Prop} {S : MS} {x1 : Int32} (hw : w6_denied post S x1) : Met l yX6_denied (ws_ yX6_denied cX6_denied 2 (some .boolean)) ({ frames := 1, cells := 0, slots := 0, locals := 21 } : Room) (va_Pc [.ref (ad 0), .int x1] (PcG D gCl nwG Z Hb A (wM D ad rd rdv tw S))) (va_Qi post (BW D gCl A (fun u => (wM D ad rd rdv tw u))) A) 0 0 A := by
  refine Met.ofG (by decide) (Nat.le_of_ble_eq_true rfl) ?_
  intro p e s m below meth c ls hC _ hP hD hS hl
  have hC : CX RX6 cX6_denied 2 (some .boolean) D gCl nwG Z Hb A p s m _ meth c := hC
  have hl : lv_has ls 2 [(0, .ref (ad 0)), (1, .int x1)] := hl
  unfold w6_denied at hw
  refine lv_aload_n hC.x hC.b dX6_denied_0 rfl (lv_at hl 0 rfl) ?_
  refine lv_iload_n hC.x hC.b dX6_denied_1 rfl (lv_at hl 1 rfl) ?_
  refine go_i (run_V (rest := []) hC (m6_refused l hw) v6_6_refused h6_refused 0 5 gCl_X6 rfl rfl ⟨rfl, rfl, Nat.le_of_ble_eq_true rfl, Nat.le_of_ble_eq_true rfl⟩ ⟨Nat.le_refl _, Nat.le_refl _⟩ hP hD hS hl.1 (Nat.le_of_ble_eq_true rfl) dX6_denied_2 rfl) hS (fun r1 S2 H locs hw1230 hP hD hS => ?_)
  refine lv_pop hC.x hC.b dX6_denied_5 rfl ?_
  refine lv_iconst (v := 0) hC.x hC.b dX6_denied_6 (by decide) ?_
  exact rt_z hC (Or.inl rfl) hw1230 hP hD hS dX6_denied_7
theorem h6_granted : yX6_granted.cls = RX6 ∧ yX6_granted.cls ≠ "java/lang/invoke/MethodHandle" ∧ yX6_granted.cls ≠ "java/lang/invoke/VarHandle" ∧ (parseMethodDescriptor yX6_granted.desc).map (fun d => d.parameters.length) = some 0 := by decide +kernel
def w6_granted (post : Int32 → MS → Prop) (S : MS) : Prop :=
  (w6_good (fun r1 S2 => (post 1 S2)) S 0)
set_option maxHeartbeats 4000000 in
theorem m6_granted (l : Launch) {post : Int32 → MS → Prop} {S : MS} (hw : w6_granted post S) : Met l yX6_granted (ws_ yX6_granted cX6_granted 1 (some .boolean)) ({ frames := 1, cells := 0, slots := 0, locals := 21 } : Room) (va_Pc [.ref (ad 0)] (PcG D gCl nwG Z Hb A (wM D ad rd rdv tw S))) (va_Qi post (BW D gCl A (fun u => (wM D ad rd rdv tw u))) A) 0 0 A := by
  refine Met.ofG (by decide) (Nat.le_of_ble_eq_true rfl) ?_
  intro p e s m below meth c ls hC _ hP hD hS hl
  have hC : CX RX6 cX6_granted 1 (some .boolean) D gCl nwG Z Hb A p s m _ meth c := hC
  have hl : lv_has ls 1 [(0, .ref (ad 0))] := hl
  unfold w6_granted at hw
  refine lv_aload_n hC.x hC.b dX6_granted_0 rfl (lv_at hl 0 rfl) ?_
  refine lv_iconst (v := 0) hC.x hC.b dX6_granted_1 (by decide) ?_
  refine go_i (run_V (rest := []) hC (m6_good l hw) v6_6_good h6_good 0 5 gCl_X6 rfl rfl ⟨rfl, rfl, Nat.le_of_ble_eq_true rfl, Nat.le_of_ble_eq_true rfl⟩ ⟨Nat.le_refl _, Nat.le_refl _⟩ hP hD hS hl.1 (Nat.le_of_ble_eq_true rfl) dX6_granted_2 rfl) hS (fun r1 S2 H locs hw1231 hP hD hS => ?_)
  refine lv_pop hC.x hC.b dX6_granted_5 rfl ?_
  refine lv_iconst (v := 1) hC.x hC.b dX6_granted_6 (by decide) ?_
  exact rt_z hC (Or.inr rfl) hw1231 hP hD hS dX6_granted_7
theorem v6_6_denied : GoodIn lw_all (wsV RX6 472 RX6 yX6_denied (ws_ yX6_denied cX6_denied 2 (some .boolean))) := lw_V q2152 q2154 qs114 q126 q2155
theorem v6_6_granted : GoodIn lw_all (wsV RX6 475 RX6 yX6_granted (ws_ yX6_granted cX6_granted 1 (some .boolean))) := lw_V q2156 q2158 qs115 q126 q2159
theorem h6_hangs : yX6_hangs.cls = RX6 ∧ yX6_hangs.cls ≠ "java/lang/invoke/MethodHandle" ∧ yX6_hangs.cls ≠ "java/lang/invoke/VarHandle" ∧ (parseMethodDescriptor yX6_hangs.desc).map (fun d => d.parameters.length) = some 2 := by decide +kernel
def w6_hangs (post : Int32 → MS → Prop) (S : MS) (x1 : Int32) (x2 : Int32) : Prop :=
  (vp_in (12 + x1) 19 ∧ ((¬ (S.1 2 (12 + x1).toNatClampNeg) = x2 → (w6_remembers (fun S3 => (vp_in (12 + x1) 19 ∧ (∀ S4, S4 = uI S3 2 (12 + x1).toNatClampNeg x2 → (w6_granted (fun r5 S6 => ((r5 = 0 ∨ r5 = 1) ∧ post r5 S6)) S4)))) S)) ∧ ((S.1 2 (12 + x1).toNatClampNeg) = x2 → (w6_denied (fun r7 S8 => ((r7 = 0 ∨ r7 = 1) ∧ post r7 S8)) S 5))))
set_option maxHeartbeats 4000000 in
theorem m6_hangs (l : Launch) {post : Int32 → MS → Prop} {S : MS} {x1 : Int32} {x2 : Int32} (hw : w6_hangs post S x1 x2) : Met l yX6_hangs (ws_ yX6_hangs cX6_hangs 3 (some .boolean)) ({ frames := 2, cells := 0, slots := 0, locals := 42 } : Room) (va_Pc [.ref (ad 0), .int x1, .int x2] (PcG D gCl nwG Z Hb A (wM D ad rd rdv tw S))) (va_Qi post (BW D gCl A (fun u => (wM D ad rd rdv tw u))) A) 0 0 A := by
  refine Met.ofG (by decide) (Nat.le_of_ble_eq_true rfl) ?_
  intro p e s m below meth c ls hC _ hP hD hS hl
  have hC : CX RX6 cX6_hangs 3 (some .boolean) D gCl nwG Z Hb A p s m _ meth c := hC
  have hl : lv_has ls 3 [(0, .ref (ad 0)), (1, .int x1), (2, .int x2)] := hl
  unfold w6_hangs at hw
  refine lv_aload_n hC.x hC.b dX6_hangs_0 rfl (lv_at hl 0 rfl) ?_
  refine gM_15 hC hP dX6_hangs_1 ?_
  refine lv_bipush (v := 12) hC.x hC.b dX6_hangs_4 (by decide) ?_
  refine lv_iload_n hC.x hC.b dX6_hangs_6 rfl (lv_at hl 1 rfl) ?_
  refine lv_iadd hC.x hC.b dX6_hangs_7 ?_
  obtain ⟨hin, hw1232⟩ := hw
  refine lM_2 hC hP hin rfl dX6_hangs_8 ?_
  refine lv_iload_n hC.x hC.b dX6_hangs_9 rfl (lv_at hl 2 rfl) ?_
  refine lv_icmp_ne (tgt := 19) hC.x hC.b dX6_hangs_10 (by decide) (fun c1 => ?_) (fun c1 => ?_)
  · have hw1233 := hw1232.1 c1
    refine lv_aload_n hC.x hC.b dX6_hangs_19 rfl (lv_at hl 0 rfl) ?_
    refine go_v (run_V (rest := []) hC (m6_remembers l hw1233) v6_6_remembers h6_remembers 0 5 gCl_X6 rfl rfl ⟨rfl, rfl, Nat.le_of_ble_eq_true rfl, Nat.le_of_ble_eq_true rfl⟩ ⟨Nat.le_refl _, Nat.le_refl _⟩ hP hD hS hl.1 (Nat.le_of_ble_eq_true rfl) dX6_hangs_20 rfl) hS (fun S3 H locs hw1234 hP hD hS => ?_)
    refine lv_aload_n hC.x hC.b dX6_hangs_23 rfl (lv_at hl 0 rfl) ?_
    refine gM_15 hC hP dX6_hangs_24 ?_
    refine lv_bipush (v := 12) hC.x hC.b dX6_hangs_27 (by decide) ?_
    refine lv_iload_n hC.x hC.b dX6_hangs_29 rfl (lv_at hl 1 rfl) ?_
    refine lv_iadd hC.x hC.b dX6_hangs_30 ?_
    refine lv_iload_n hC.x hC.b dX6_hangs_31 rfl (lv_at hl 2 rfl) ?_
    obtain ⟨hin, hw1235⟩ := hw1234
    refine sM_2 hC hP hD hS (v := x2) hin rfl dX6_hangs_32 (fun S4 eS4 H locs hP hD hS => ?_)
    have hw1236 := hw1235 S4 eS4
    refine lv_aload_n hC.x hC.b dX6_hangs_33 rfl (lv_at hl 0 rfl) ?_
    refine go_i (run_V (rest := []) hC (m6_granted l hw1236) v6_6_granted h6_granted 0 5 gCl_X6 rfl rfl ⟨rfl, rfl, Nat.le_of_ble_eq_true rfl, Nat.le_of_ble_eq_true rfl⟩ ⟨Nat.le_refl _, Nat.le_refl _⟩ hP hD hS hl.1 (Nat.le_of_ble_eq_true rfl) dX6_hangs_34 rfl) hS (fun r5 S6 H locs hw1237 hP hD hS => ?_)
    exact rt_z hC hw1237.1 hw1237.2 hP hD hS dX6_hangs_37
  · have hw1238 := hw1232.2 c1
    refine lv_aload_n hC.x hC.b dX6_hangs_13 rfl (lv_at hl 0 rfl) ?_
    refine lv_iconst (v := 5) hC.x hC.b dX6_hangs_14 (by decide) ?_
    refine go_i (run_V (rest := []) hC (m6_denied l hw1238) v6_6_denied h6_denied 0 5 gCl_X6 rfl rfl ⟨rfl, rfl, Nat.le_of_ble_eq_true rfl, Nat.le_of_ble_eq_true rfl⟩ ⟨Nat.le_refl _, Nat.le_refl _⟩ hP hD hS hl.1 (Nat.le_of_ble_eq_true rfl) dX6_hangs_15 rfl) hS (fun r7 S8 H locs hw1239 hP hD hS => ?_)
    exact rt_z hC hw1239.1 hw1239.2 hP hD hS dX6_hangs_18
theorem v6_6_hangs : GoodIn lw_all (wsV RX6 478 RX6 yX6_hangs (ws_ yX6_hangs cX6_hangs 3 (some .boolean))) := lw_V q2148 q2150 qs113 q126 q2151
theorem h6_hang : yX6_hang.cls = RX6 ∧ yX6_hang.cls ≠ "java/lang/invoke/MethodHandle" ∧ yX6_hang.cls ≠ "java/lang/invoke/VarHandle" ∧ (parseMethodDescriptor yX6_hang.desc).map (fun d => d.parameters.length) = some 2 := by decide +kernel
def w6_hang (post : Int32 → MS → Prop) (tw : Option (Nat → Nat)) (S : MS) (x1 : Int32) (x2 : Int32) : Prop :=
  (∀ S1, S1 = uI S 0 0 0 → (w6_isDead (fun r2 => ((r2 = 0 → (w6_denied (fun r4 S5 => ((r4 = 0 ∨ r4 = 1) ∧ post r4 S5)) S1 1)) ∧ (¬ r2 = 0 → (w6_isHouse (fun r6 => ((r6 = 0 → (w6_denied (fun r8 S9 => ((r8 = 0 ∨ r8 = 1) ∧ post r8 S9)) S1 1)) ∧ (¬ r6 = 0 → (w6_hangs (fun r10 S11 => ((r10 = 0 ∨ r10 = 1) ∧ post r10 S11)) S1 x1 x2)))) tw S1 x2)))) tw S1 x1))
set_option maxHeartbeats 4000000 in
theorem m6_hang (l : Launch) {post : Int32 → MS → Prop} {S : MS} {x1 : Int32} {x2 : Int32} (hw : w6_hang post tw S x1 x2) : Met l yX6_hang (ws_ yX6_hang cX6_hang 3 (some .boolean)) ({ frames := 3, cells := 0, slots := 0, locals := 64 } : Room) (va_Pc [.ref (ad 0), .int x1, .int x2] (PcG D gCl nwG Z Hb A (wM D ad none rdv tw S))) (va_Qi post (BW D gCl A (fun u => (wM D ad none rdv tw u))) A) 0 0 A := by
  refine Met.ofG (by decide) (Nat.le_of_ble_eq_true rfl) ?_
  intro p e s m below meth c ls hC _ hP hD hS hl
  have hC : CX RX6 cX6_hang 3 (some .boolean) D gCl nwG Z Hb A p s m _ meth c := hC
  have hl : lv_has ls 3 [(0, .ref (ad 0)), (1, .int x1), (2, .int x2)] := hl
  unfold w6_hang at hw
  refine lv_aload_n hC.x hC.b dX6_hang_0 rfl (lv_at hl 0 rfl) ?_
  refine lv_iconst (v := 0) hC.x hC.b dX6_hang_1 (by decide) ?_
  refine pM_0 hC hP hD hS (v := 0) dX6_hang_2 (fun S1 eS1 H locs hP hD hS => ?_)
  have hw1240 := hw S1 eS1
  refine lv_aload_n hC.x hC.b dX6_hang_5 rfl (lv_at hl 0 rfl) ?_
  refine lv_iload_n hC.x hC.b dX6_hang_6 rfl (lv_at hl 1 rfl) ?_
  refine go_i (run_V (rest := []) hC (m6_isDead l hw1240) v6_6_isDead h6_isDead 0 5 gCl_X6 rfl rfl ⟨rfl, rfl, Nat.le_of_ble_eq_true rfl, Nat.le_of_ble_eq_true rfl⟩ ⟨Nat.le_refl _, Nat.le_refl _⟩ hP hD hS hl.1 (Nat.le_of_ble_eq_true rfl) dX6_hang_7 rfl) hS (fun r2 u H locs hw1241 hP hD hS => ?_)
  refine lv_if_eq (tgt := 30) hC.x hC.b dX6_hang_10 (by decide) (fun c3 => ?_) (fun c3 => ?_)
  · have hw1242 := hw1241.1 c3
    refine lv_aload_n hC.x hC.b dX6_hang_30 rfl (lv_at hl 0 rfl) ?_
    refine lv_iconst (v := 1) hC.x hC.b dX6_hang_31 (by decide) ?_
    refine go_i (run_V (rest := []) hC (m6_denied l hw1242) v6_6_denied h6_denied 0 5 gCl_X6 rfl rfl ⟨rfl, rfl, Nat.le_of_ble_eq_true rfl, Nat.le_of_ble_eq_true rfl⟩ ⟨Nat.le_refl _, Nat.le_refl _⟩ hP hD hS hl.1 (Nat.le_of_ble_eq_true rfl) dX6_hang_32 rfl) hS (fun r4 S5 H locs hw1243 hP hD hS => ?_)
    exact rt_z hC hw1243.1 hw1243.2 hP hD hS dX6_hang_35
  · have hw1244 := hw1241.2 c3
    refine lv_aload_n hC.x hC.b dX6_hang_13 rfl (lv_at hl 0 rfl) ?_
    refine lv_iload_n hC.x hC.b dX6_hang_14 rfl (lv_at hl 2 rfl) ?_
    refine go_i (run_V (rest := []) hC (m6_isHouse l hw1244) v6_6_isHouse h6_isHouse 0 5 gCl_X6 rfl rfl ⟨rfl, rfl, Nat.le_of_ble_eq_true rfl, Nat.le_of_ble_eq_true rfl⟩ ⟨Nat.le_refl _, Nat.le_refl _⟩ hP hD hS hl.1 (Nat.le_of_ble_eq_true rfl) dX6_hang_15 rfl) hS (fun r6 u H locs hw1245 hP hD hS => ?_)
    refine lv_if_eq (tgt := 30) hC.x hC.b dX6_hang_18 (by decide) (fun c7 => ?_) (fun c7 => ?_)
    · have hw1246 := hw1245.1 c7
      refine lv_aload_n hC.x hC.b dX6_hang_30 rfl (lv_at hl 0 rfl) ?_
      refine lv_iconst (v := 1) hC.x hC.b dX6_hang_31 (by decide) ?_
      refine go_i (run_V (rest := []) hC (m6_denied l hw1246) v6_6_denied h6_denied 0 5 gCl_X6 rfl rfl ⟨rfl, rfl, Nat.le_of_ble_eq_true rfl, Nat.le_of_ble_eq_true rfl⟩ ⟨Nat.le_refl _, Nat.le_refl _⟩ hP hD hS hl.1 (Nat.le_of_ble_eq_true rfl) dX6_hang_32 rfl) hS (fun r8 S9 H locs hw1247 hP hD hS => ?_)
      exact rt_z hC hw1247.1 hw1247.2 hP hD hS dX6_hang_35
    · have hw1248 := hw1245.2 c7
      refine lv_aload_n hC.x hC.b dX6_hang_21 rfl (lv_at hl 0 rfl) ?_
      refine lv_iload_n hC.x hC.b dX6_hang_22 rfl (lv_at hl 1 rfl) ?_
      refine lv_iload_n hC.x hC.b dX6_hang_23 rfl (lv_at hl 2 rfl) ?_
      refine go_i (run_V (rest := []) hC (m6_hangs l hw1248) v6_6_hangs h6_hangs 0 5 gCl_X6 rfl rfl ⟨rfl, rfl, Nat.le_of_ble_eq_true rfl, Nat.le_of_ble_eq_true rfl⟩ ⟨Nat.le_refl _, Nat.le_refl _⟩ hP hD hS hl.1 (Nat.le_of_ble_eq_true rfl) dX6_hang_24 rfl) hS (fun r10 S11 H locs hw1249 hP hD hS => ?_)
      refine lv_goto (tgt := 35) hC.x hC.b dX6_hang_27 (by decide) ?_
      exact rt_z hC hw1249.1 hw1249.2 hP hD hS dX6_hang_35
theorem h6_take : yX6_take.cls = RX6 ∧ yX6_take.cls ≠ "java/lang/invoke/MethodHandle" ∧ yX6_take.cls ≠ "java/lang/invoke/VarHandle" ∧ (parseMethodDescriptor yX6_take.desc).map (fun d => d.parameters.length) = some 1 := by decide +kernel
def w6_take (post : Int32 → MS → Prop) (tw : Option (Nat → Nat)) (S : MS) (x1 : Int32) : Prop :=
  (∀ S1, S1 = uI S 0 0 0 → (w6_isDead (fun r2 => ((r2 = 0 → (w6_denied (fun r4 S5 => ((r4 = 0 ∨ r4 = 1) ∧ post r4 S5)) S1 1)) ∧ (¬ r2 = 0 → (w6_hangs (fun r6 S7 => ((r6 = 0 ∨ r6 = 1) ∧ post r6 S7)) S1 x1 (-2))))) tw S1 x1))
set_option maxHeartbeats 4000000 in
theorem m6_take (l : Launch) {post : Int32 → MS → Prop} {S : MS} {x1 : Int32} (hw : w6_take post tw S x1) : Met l yX6_take (ws_ yX6_take cX6_take 2 (some .boolean)) ({ frames := 3, cells := 0, slots := 0, locals := 64 } : Room) (va_Pc [.ref (ad 0), .int x1] (PcG D gCl nwG Z Hb A (wM D ad none rdv tw S))) (va_Qi post (BW D gCl A (fun u => (wM D ad none rdv tw u))) A) 0 0 A := by
  refine Met.ofG (by decide) (Nat.le_of_ble_eq_true rfl) ?_
  intro p e s m below meth c ls hC _ hP hD hS hl
  have hC : CX RX6 cX6_take 2 (some .boolean) D gCl nwG Z Hb A p s m _ meth c := hC
  have hl : lv_has ls 2 [(0, .ref (ad 0)), (1, .int x1)] := hl
  unfold w6_take at hw
  refine lv_aload_n hC.x hC.b dX6_take_0 rfl (lv_at hl 0 rfl) ?_
  refine lv_iconst (v := 0) hC.x hC.b dX6_take_1 (by decide) ?_
  refine pM_0 hC hP hD hS (v := 0) dX6_take_2 (fun S1 eS1 H locs hP hD hS => ?_)
  have hw1250 := hw S1 eS1
  refine lv_aload_n hC.x hC.b dX6_take_5 rfl (lv_at hl 0 rfl) ?_
  refine lv_iload_n hC.x hC.b dX6_take_6 rfl (lv_at hl 1 rfl) ?_
  refine go_i (run_V (rest := []) hC (m6_isDead l hw1250) v6_6_isDead h6_isDead 0 5 gCl_X6 rfl rfl ⟨rfl, rfl, Nat.le_of_ble_eq_true rfl, Nat.le_of_ble_eq_true rfl⟩ ⟨Nat.le_refl _, Nat.le_refl _⟩ hP hD hS hl.1 (Nat.le_of_ble_eq_true rfl) dX6_take_7 rfl) hS (fun r2 u H locs hw1251 hP hD hS => ?_)
  refine lv_if_eq (tgt := 23) hC.x hC.b dX6_take_10 (by decide) (fun c3 => ?_) (fun c3 => ?_)
  · have hw1252 := hw1251.1 c3
    refine lv_aload_n hC.x hC.b dX6_take_23 rfl (lv_at hl 0 rfl) ?_
    refine lv_iconst (v := 1) hC.x hC.b dX6_take_24 (by decide) ?_
    refine go_i (run_V (rest := []) hC (m6_denied l hw1252) v6_6_denied h6_denied 0 5 gCl_X6 rfl rfl ⟨rfl, rfl, Nat.le_of_ble_eq_true rfl, Nat.le_of_ble_eq_true rfl⟩ ⟨Nat.le_refl _, Nat.le_refl _⟩ hP hD hS hl.1 (Nat.le_of_ble_eq_true rfl) dX6_take_25 rfl) hS (fun r4 S5 H locs hw1253 hP hD hS => ?_)
    exact rt_z hC hw1253.1 hw1253.2 hP hD hS dX6_take_28
  · have hw1254 := hw1251.2 c3
    refine lv_aload_n hC.x hC.b dX6_take_13 rfl (lv_at hl 0 rfl) ?_
    refine lv_iload_n hC.x hC.b dX6_take_14 rfl (lv_at hl 1 rfl) ?_
    refine lv_bipush (v := (-2)) hC.x hC.b dX6_take_15 (by decide) ?_
    refine go_i (run_V (rest := []) hC (m6_hangs l hw1254) v6_6_hangs h6_hangs 0 5 gCl_X6 rfl rfl ⟨rfl, rfl, Nat.le_of_ble_eq_true rfl, Nat.le_of_ble_eq_true rfl⟩ ⟨Nat.le_refl _, Nat.le_refl _⟩ hP hD hS hl.1 (Nat.le_of_ble_eq_true rfl) dX6_take_17 rfl) hS (fun r6 S7 H locs hw1255 hP hD hS => ?_)
    refine lv_goto (tgt := 28) hC.x hC.b dX6_take_20 (by decide) ?_
    exact rt_z hC hw1255.1 hw1255.2 hP hD hS dX6_take_28
theorem h6_teach : yX6_teach.cls = RX6 ∧ yX6_teach.cls ≠ "java/lang/invoke/MethodHandle" ∧ yX6_teach.cls ≠ "java/lang/invoke/VarHandle" ∧ (parseMethodDescriptor yX6_teach.desc).map (fun d => d.parameters.length) = some 2 := by decide +kernel
def w6_teach (post : Int32 → MS → Prop) (tw : Option (Nat → Nat)) (S : MS) (x1 : Int32) (x2 : Int32) : Prop :=
  (∀ S1, S1 = uI S 0 0 0 → (w6_isDead (fun r2 => ((¬ r2 = 0 → (w6_in (fun r4 => ((¬ r4 = 0 → (vp_in (6 + x1) 19 ∧ ((¬ (S1.1 2 (6 + x1).toNatClampNeg) = x2 → (w6_remembers (fun S8 => (vp_in (6 + x1) 19 ∧ (∀ S9, S9 = uI S8 2 (6 + x1).toNatClampNeg x2 → (w6_granted (fun r10 S11 => ((r10 = 0 ∨ r10 = 1) ∧ post r10 S11)) S9)))) S1)) ∧ ((S1.1 2 (6 + x1).toNatClampNeg) = x2 → (w6_denied (fun r12 S13 => ((r12 = 0 ∨ r12 = 1) ∧ post r12 S13)) S1 5))))) ∧ (r4 = 0 → (w6_denied (fun r14 S15 => ((r14 = 0 ∨ r14 = 1) ∧ post r14 S15)) S1 2)))) x2 0 39)) ∧ (r2 = 0 → (w6_denied (fun r16 S17 => ((r16 = 0 ∨ r16 = 1) ∧ post r16 S17)) S1 1)))) tw S1 x1))
set_option maxHeartbeats 4000000 in
theorem m6_teach (l : Launch) {post : Int32 → MS → Prop} {S : MS} {x1 : Int32} {x2 : Int32} (hw : w6_teach post tw S x1 x2) : Met l yX6_teach (ws_ yX6_teach cX6_teach 3 (some .boolean)) ({ frames := 2, cells := 0, slots := 0, locals := 42 } : Room) (va_Pc [.ref (ad 0), .int x1, .int x2] (PcG D gCl nwG Z Hb A (wM D ad none rdv tw S))) (va_Qi post (BW D gCl A (fun u => (wM D ad none rdv tw u))) A) 0 0 A := by
  refine Met.ofG (by decide) (Nat.le_of_ble_eq_true rfl) ?_
  intro p e s m below meth c ls hC _ hP hD hS hl
  have hC : CX RX6 cX6_teach 3 (some .boolean) D gCl nwG Z Hb A p s m _ meth c := hC
  have hl : lv_has ls 3 [(0, .ref (ad 0)), (1, .int x1), (2, .int x2)] := hl
  unfold w6_teach at hw
  refine lv_aload_n hC.x hC.b dX6_teach_0 rfl (lv_at hl 0 rfl) ?_
  refine lv_iconst (v := 0) hC.x hC.b dX6_teach_1 (by decide) ?_
  refine pM_0 hC hP hD hS (v := 0) dX6_teach_2 (fun S1 eS1 H locs hP hD hS => ?_)
  have hw1256 := hw S1 eS1
  refine lv_aload_n hC.x hC.b dX6_teach_5 rfl (lv_at hl 0 rfl) ?_
  refine lv_iload_n hC.x hC.b dX6_teach_6 rfl (lv_at hl 1 rfl) ?_
  refine go_i (run_V (rest := []) hC (m6_isDead l hw1256) v6_6_isDead h6_isDead 0 5 gCl_X6 rfl rfl ⟨rfl, rfl, Nat.le_of_ble_eq_true rfl, Nat.le_of_ble_eq_true rfl⟩ ⟨Nat.le_refl _, Nat.le_refl _⟩ hP hD hS hl.1 (Nat.le_of_ble_eq_true rfl) dX6_teach_7 rfl) hS (fun r2 u H locs hw1257 hP hD hS => ?_)
  refine lv_if_ne (tgt := 19) hC.x hC.b dX6_teach_10 (by decide) (fun c3 => ?_) (fun c3 => ?_)
  · have hw1258 := hw1257.1 c3
    refine lv_iload_n hC.x hC.b dX6_teach_19 rfl (lv_at hl 2 rfl) ?_
    refine lv_iconst (v := 0) hC.x hC.b dX6_teach_20 (by decide) ?_
    refine lv_bipush (v := 39) hC.x hC.b dX6_teach_21 (by decide) ?_
    refine go_i (run_S (rest := []) hC (m6_in l hw1258) v6_6_in h6_in ⟨rfl, rfl, Nat.le_of_ble_eq_true rfl, Nat.le_of_ble_eq_true rfl⟩ ⟨Nat.le_refl _, Nat.le_refl _⟩ hP hD hS hl.1 (Nat.le_of_ble_eq_true rfl) dX6_teach_23 rfl) hS (fun r4 u H locs hw1259 hP hD hS => ?_)
    refine lv_if_ne (tgt := 35) hC.x hC.b dX6_teach_26 (by decide) (fun c5 => ?_) (fun c5 => ?_)
    · have hw1260 := hw1259.1 c5
      refine lv_aload_n hC.x hC.b dX6_teach_35 rfl (lv_at hl 0 rfl) ?_
      refine gM_15 hC hP dX6_teach_36 ?_
      refine lv_bipush (v := 6) hC.x hC.b dX6_teach_39 (by decide) ?_
      refine lv_iload_n hC.x hC.b dX6_teach_41 rfl (lv_at hl 1 rfl) ?_
      refine lv_iadd hC.x hC.b dX6_teach_42 ?_
      obtain ⟨hin, hw1261⟩ := hw1260
      refine lM_2 hC hP hin rfl dX6_teach_43 ?_
      refine lv_iload_n hC.x hC.b dX6_teach_44 rfl (lv_at hl 2 rfl) ?_
      refine lv_icmp_ne (tgt := 54) hC.x hC.b dX6_teach_45 (by decide) (fun c6 => ?_) (fun c6 => ?_)
      · have hw1262 := hw1261.1 c6
        refine lv_aload_n hC.x hC.b dX6_teach_54 rfl (lv_at hl 0 rfl) ?_
        refine go_v (run_V (rest := []) hC (m6_remembers l hw1262) v6_6_remembers h6_remembers 0 5 gCl_X6 rfl rfl ⟨rfl, rfl, Nat.le_of_ble_eq_true rfl, Nat.le_of_ble_eq_true rfl⟩ ⟨Nat.le_refl _, Nat.le_refl _⟩ hP hD hS hl.1 (Nat.le_of_ble_eq_true rfl) dX6_teach_55 rfl) hS (fun S8 H locs hw1263 hP hD hS => ?_)
        refine lv_aload_n hC.x hC.b dX6_teach_58 rfl (lv_at hl 0 rfl) ?_
        refine gM_15 hC hP dX6_teach_59 ?_
        refine lv_bipush (v := 6) hC.x hC.b dX6_teach_62 (by decide) ?_
        refine lv_iload_n hC.x hC.b dX6_teach_64 rfl (lv_at hl 1 rfl) ?_
        refine lv_iadd hC.x hC.b dX6_teach_65 ?_
        refine lv_iload_n hC.x hC.b dX6_teach_66 rfl (lv_at hl 2 rfl) ?_
        obtain ⟨hin, hw1264⟩ := hw1263
        refine sM_2 hC hP hD hS (v := x2) hin rfl dX6_teach_67 (fun S9 eS9 H locs hP hD hS => ?_)
        have hw1265 := hw1264 S9 eS9
        refine lv_aload_n hC.x hC.b dX6_teach_68 rfl (lv_at hl 0 rfl) ?_
        refine go_i (run_V (rest := []) hC (m6_granted l hw1265) v6_6_granted h6_granted 0 5 gCl_X6 rfl rfl ⟨rfl, rfl, Nat.le_of_ble_eq_true rfl, Nat.le_of_ble_eq_true rfl⟩ ⟨Nat.le_refl _, Nat.le_refl _⟩ hP hD hS hl.1 (Nat.le_of_ble_eq_true rfl) dX6_teach_69 rfl) hS (fun r10 S11 H locs hw1266 hP hD hS => ?_)
        exact rt_z hC hw1266.1 hw1266.2 hP hD hS dX6_teach_72
      · have hw1267 := hw1261.2 c6
        refine lv_aload_n hC.x hC.b dX6_teach_48 rfl (lv_at hl 0 rfl) ?_
        refine lv_iconst (v := 5) hC.x hC.b dX6_teach_49 (by decide) ?_
        refine go_i (run_V (rest := []) hC (m6_denied l hw1267) v6_6_denied h6_denied 0 5 gCl_X6 rfl rfl ⟨rfl, rfl, Nat.le_of_ble_eq_true rfl, Nat.le_of_ble_eq_true rfl⟩ ⟨Nat.le_refl _, Nat.le_refl _⟩ hP hD hS hl.1 (Nat.le_of_ble_eq_true rfl) dX6_teach_50 rfl) hS (fun r12 S13 H locs hw1268 hP hD hS => ?_)
        exact rt_z hC hw1268.1 hw1268.2 hP hD hS dX6_teach_53
    · have hw1269 := hw1259.2 c5
      refine lv_aload_n hC.x hC.b dX6_teach_29 rfl (lv_at hl 0 rfl) ?_
      refine lv_iconst (v := 2) hC.x hC.b dX6_teach_30 (by decide) ?_
      refine go_i (run_V (rest := []) hC (m6_denied l hw1269) v6_6_denied h6_denied 0 5 gCl_X6 rfl rfl ⟨rfl, rfl, Nat.le_of_ble_eq_true rfl, Nat.le_of_ble_eq_true rfl⟩ ⟨Nat.le_refl _, Nat.le_refl _⟩ hP hD hS hl.1 (Nat.le_of_ble_eq_true rfl) dX6_teach_31 rfl) hS (fun r14 S15 H locs hw1270 hP hD hS => ?_)
      exact rt_z hC hw1270.1 hw1270.2 hP hD hS dX6_teach_34
  · have hw1271 := hw1257.2 c3
    refine lv_aload_n hC.x hC.b dX6_teach_13 rfl (lv_at hl 0 rfl) ?_
    refine lv_iconst (v := 1) hC.x hC.b dX6_teach_14 (by decide) ?_
    refine go_i (run_V (rest := []) hC (m6_denied l hw1271) v6_6_denied h6_denied 0 5 gCl_X6 rfl rfl ⟨rfl, rfl, Nat.le_of_ble_eq_true rfl, Nat.le_of_ble_eq_true rfl⟩ ⟨Nat.le_refl _, Nat.le_refl _⟩ hP hD hS hl.1 (Nat.le_of_ble_eq_true rfl) dX6_teach_15 rfl) hS (fun r16 S17 H locs hw1272 hP hD hS => ?_)
    exact rt_z hC hw1272.1 hw1272.2 hP hD hS dX6_teach_18
theorem h6_undo : yX6_undo.cls = RX6 ∧ yX6_undo.cls ≠ "java/lang/invoke/MethodHandle" ∧ yX6_undo.cls ≠ "java/lang/invoke/VarHandle" ∧ (parseMethodDescriptor yX6_undo.desc).map (fun d => d.parameters.length) = some 0 := by decide +kernel
def f6_undo_38 (post : Int32 → MS → Prop) (K38 : (MS × Int32) → Prop) (S : MS) (x1 : Int32) : Prop :=
  ((19 ≤ x1 → (w6_granted (fun r8 S9 => ((r8 = 0 ∨ r8 = 1) ∧ post r8 S9)) S)) ∧ (¬ 19 ≤ x1 → (vp_in ((19 * (S.1 0 19)) + x1) 304 ∧ (vp_in x1 19 ∧ (∀ S10, S10 = uI S 2 x1.toNatClampNeg (S.1 4 ((19 * (S.1 0 19)) + x1).toNatClampNeg) → (K38 (S10, (x1 + 1))))))))
set_option maxHeartbeats 4000000 in
theorem k6_undo_38 {post : Int32 → MS → Prop} (hC : CX RX6 cX6_undo 2 (some .boolean) D gCl nwG Z Hb A p s m args meth c) : ∀ z : (MS × Int32), lp (fun (K : (MS × Int32) → Prop) (z : (MS × Int32)) => f6_undo_38 post K z.1 z.2) z → ∀ (H : Heap) (locs : List Loc) (ls : Array Slot), va_P D gCl (wM D ad none rdv (some t) z.1) H → va_D A (wM D ad none rdv (some t) z.1) → va_S A s.heap H locs → lv_has ls 2 [(0, .ref (ad 0)), (1, .int z.2)] → W p l e ({ frames := 2, cells := 0, slots := 0, locals := 42 } : Room) s m args below meth c H locs 0 0 (MQ below (va_Qi post (BW D gCl A (fun u => (wM D ad none rdv (some t) u))) A) args s 0 0 A) (F0 m 38 ls []) := by
  refine lp_ind ?_
  rintro K38 ⟨S, x1⟩ hK38 hw H locs ls hP hD hS hl
  have hw : f6_undo_38 post K38 S x1 := hw
  unfold f6_undo_38 at hw
  have hP : va_P D gCl (wM D ad none rdv (some t) S) H := hP
  have hD : va_D A (wM D ad none rdv (some t) S) := hD
  have hl : lv_has ls 2 [(0, .ref (ad 0)), (1, .int x1)] := hl
  refine lv_iload_n hC.x hC.b dX6_undo_38 rfl (lv_at hl 1 rfl) ?_
  refine lv_bipush (v := 19) hC.x hC.b dX6_undo_39 (by decide) ?_
  refine lv_icmp_ge (tgt := 70) hC.x hC.b dX6_undo_41 (by decide) (fun c7 => ?_) (fun c7 => ?_)
  · have hw1279 := hw.1 c7
    refine lv_aload_n hC.x hC.b dX6_undo_70 rfl (lv_at hl 0 rfl) ?_
    refine go_i (run_V (rest := []) hC (m6_granted l hw1279) v6_6_granted h6_granted 0 5 gCl_X6 rfl rfl ⟨rfl, rfl, Nat.le_of_ble_eq_true rfl, Nat.le_of_ble_eq_true rfl⟩ ⟨Nat.le_refl _, Nat.le_refl _⟩ hP hD hS hl.1 (Nat.le_of_ble_eq_true rfl) dX6_undo_71 rfl) hS (fun r8 S9 H locs hw1280 hP hD hS => ?_)
    exact rt_z hC hw1280.1 hw1280.2 hP hD hS dX6_undo_74
  · have hw1281 := hw.2 c7
    refine lv_aload_n hC.x hC.b dX6_undo_44 rfl (lv_at hl 0 rfl) ?_
    refine gM_15 hC hP dX6_undo_45 ?_
    refine lv_iload_n hC.x hC.b dX6_undo_48 rfl (lv_at hl 1 rfl) ?_
    refine lv_aload_n hC.x hC.b dX6_undo_49 rfl (lv_at hl 0 rfl) ?_
    refine gM_17 hC hP dX6_undo_50 ?_
    refine lv_bipush (v := 19) hC.x hC.b dX6_undo_53 (by decide) ?_
    refine lv_aload_n hC.x hC.b dX6_undo_55 rfl (lv_at hl 0 rfl) ?_
    refine gM_19 hC hP dX6_undo_56 ?_
    refine lv_imul hC.x hC.b dX6_undo_59 ?_
    refine lv_iload_n hC.x hC.b dX6_undo_60 rfl (lv_at hl 1 rfl) ?_
    refine lv_iadd hC.x hC.b dX6_undo_61 ?_
    obtain ⟨hin, hw1282⟩ := hw1281
    refine lM_4 hC hP hin rfl dX6_undo_62 ?_
    obtain ⟨hin, hw1283⟩ := hw1282
    refine sM_2 hC hP hD hS (v := (S.1 4 ((19 * (S.1 0 19)) + x1).toNatClampNeg)) hin rfl dX6_undo_63 (fun S10 eS10 H locs hP hD hS => ?_)
    have hw1284 := hw1283 S10 eS10
    refine lv_iinc (v := (x1 + 1)) (lv' := [(1, .int (x1 + 1)), (0, .ref (ad 0))]) hC.x hC.b dX6_undo_64 hl (k := 1) rfl rfl (by decide) rfl (fun ls hl => ?_)
    refine lv_goto (tgt := 38) hC.x hC.b dX6_undo_67 (by decide) ?_
    exact hK38 (S10, (x1 + 1)) hw1284 H locs ls hP hD hS (lv_sub hl [1, 0] rfl)
def w6_undo (post : Int32 → MS → Prop) (tw : Option (Nat → Nat)) (S : MS) : Prop :=
  (∀ S1, S1 = uI S 0 0 0 → ((tw = none → (w6_denied (fun r3 S4 => ((r3 = 0 ∨ r3 = 1) ∧ post r3 S4)) S1 6)) ∧ ((∃ t, tw = some t) → ((¬ (S1.1 0 19) = 0 → (∀ S6, S6 = uI S1 0 19 ((S1.1 0 19) - 1) → (lp (fun (K : (MS × Int32) → Prop) (z : (MS × Int32)) => f6_undo_38 post K z.1 z.2) (S6, 0)))) ∧ ((S1.1 0 19) = 0 → (w6_denied (fun r11 S12 => ((r11 = 0 ∨ r11 = 1) ∧ post r11 S12)) S1 6))))))
set_option maxHeartbeats 4000000 in
theorem m6_undo (l : Launch) {post : Int32 → MS → Prop} {S : MS} (hw : w6_undo post tw S) : Met l yX6_undo (ws_ yX6_undo cX6_undo 2 (some .boolean)) ({ frames := 2, cells := 0, slots := 0, locals := 42 } : Room) (va_Pc [.ref (ad 0)] (PcG D gCl nwG Z Hb A (wM D ad none rdv tw S))) (va_Qi post (BW D gCl A (fun u => (wM D ad none rdv tw u))) A) 0 0 A := by
  refine Met.ofG (by decide) (Nat.le_of_ble_eq_true rfl) ?_
  intro p e s m below meth c ls hC _ hP hD hS hl
  have hC : CX RX6 cX6_undo 2 (some .boolean) D gCl nwG Z Hb A p s m _ meth c := hC
  have hl : lv_has ls 2 [(0, .ref (ad 0))] := hl
  unfold w6_undo at hw
  refine lv_aload_n hC.x hC.b dX6_undo_0 rfl (lv_at hl 0 rfl) ?_
  refine lv_iconst (v := 0) hC.x hC.b dX6_undo_1 (by decide) ?_
  refine pM_0 hC hP hD hS (v := 0) dX6_undo_2 (fun S1 eS1 H locs hP hD hS => ?_)
  have hw1273 := hw S1 eS1
  refine lv_aload_n hC.x hC.b dX6_undo_5 rfl (lv_at hl 0 rfl) ?_
  refine gM_3 hC hP dX6_undo_6 ?_
  rcases va_o2 tw with c2 | ⟨t, c2⟩
  · have hw1274 := hw1273.1 c2
    subst c2
    refine lv_ifnullN (tgt := 19) hC.x hC.b dX6_undo_9 (by decide) ?_
    refine lv_aload_n hC.x hC.b dX6_undo_19 rfl (lv_at hl 0 rfl) ?_
    refine lv_bipush (v := 6) hC.x hC.b dX6_undo_20 (by decide) ?_
    refine go_i (run_V (rest := []) hC (m6_denied l hw1274) v6_6_denied h6_denied 0 5 gCl_X6 rfl rfl ⟨rfl, rfl, Nat.le_of_ble_eq_true rfl, Nat.le_of_ble_eq_true rfl⟩ ⟨Nat.le_refl _, Nat.le_refl _⟩ hP hD hS hl.1 (Nat.le_of_ble_eq_true rfl) dX6_undo_22 rfl) hS (fun r3 S4 H locs hw1275 hP hD hS => ?_)
    exact rt_z hC hw1275.1 hw1275.2 hP hD hS dX6_undo_25
  · have hw1276 := hw1273.2 ⟨t, c2⟩
    subst c2
    refine lv_ifnull hC.x hC.b dX6_undo_9 ?_
    refine lv_aload_n hC.x hC.b dX6_undo_12 rfl (lv_at hl 0 rfl) ?_
    refine gM_19 hC hP dX6_undo_13 ?_
    refine lv_if_ne (tgt := 26) hC.x hC.b dX6_undo_16 (by decide) (fun c5 => ?_) (fun c5 => ?_)
    · have hw1277 := hw1276.1 c5
      refine lv_aload_n hC.x hC.b dX6_undo_26 rfl (lv_at hl 0 rfl) ?_
      refine lv_dup hC.x hC.b dX6_undo_27 rfl ?_
      refine gM_19 hC hP dX6_undo_28 ?_
      refine lv_iconst (v := 1) hC.x hC.b dX6_undo_31 (by decide) ?_
      refine lv_isub hC.x hC.b dX6_undo_32 ?_
      refine pM_19 hC hP hD hS (v := ((S1.1 0 19) - 1)) dX6_undo_33 (fun S6 eS6 H locs hP hD hS => ?_)
      have hw1278 := hw1277 S6 eS6
      refine lv_iconst (v := 0) hC.x hC.b dX6_undo_36 (by decide) ?_
      refine lv_istore_n (lv' := [(1, .int 0), (0, .ref (ad 0))]) hC.x hC.b dX6_undo_37 rfl hl (by decide) rfl (fun ls hl => ?_)
      exact k6_undo_38 hC (S6, 0) hw1278 H locs ls hP hD hS (lv_sub hl [1, 0] rfl)
    · have hw1285 := hw1276.2 c5
      refine lv_aload_n hC.x hC.b dX6_undo_19 rfl (lv_at hl 0 rfl) ?_
      refine lv_bipush (v := 6) hC.x hC.b dX6_undo_20 (by decide) ?_
      refine go_i (run_V (rest := []) hC (m6_denied l hw1285) v6_6_denied h6_denied 0 5 gCl_X6 rfl rfl ⟨rfl, rfl, Nat.le_of_ble_eq_true rfl, Nat.le_of_ble_eq_true rfl⟩ ⟨Nat.le_refl _, Nat.le_refl _⟩ hP hD hS hl.1 (Nat.le_of_ble_eq_true rfl) dX6_undo_22 rfl) hS (fun r11 S12 H locs hw1286 hP hD hS => ?_)
      exact rt_z hC hw1286.1 hw1286.2 hP hD hS dX6_undo_25
theorem h6_image : yX6_image.cls = RX6 ∧ yX6_image.cls ≠ "java/lang/invoke/MethodHandle" ∧ yX6_image.cls ≠ "java/lang/invoke/VarHandle" ∧ (parseMethodDescriptor yX6_image.desc).map (fun d => d.parameters.length) = some 0 := by decide +kernel
def f6_image_34 (post : Int32 → MS → Prop) (K34 : (MS × Int32) → Prop) (S : MS) (x1 : Int32) : Prop :=
  ((19 ≤ x1 → (∀ S7, S7 = uI S 0 20 ((S.1 0 20) + 1) → (w6_good (fun r8 S9 => (post r8 S9)) S7 ((S7.1 0 20) - 1)))) ∧ (¬ 19 ≤ x1 → (vp_in x1 19 ∧ (vp_in ((19 * (S.1 0 20)) + x1) 57 ∧ (∀ S10, S10 = uI S 5 ((19 * (S.1 0 20)) + x1).toNatClampNeg (S.1 2 x1.toNatClampNeg) → (K34 (S10, (x1 + 1))))))))
set_option maxHeartbeats 4000000 in
theorem k6_image_34 {post : Int32 → MS → Prop} (hC : CX RX6 cX6_image 2 (some .int) D gCl nwG Z Hb A p s m args meth c) : ∀ z : (MS × Int32), lp (fun (K : (MS × Int32) → Prop) (z : (MS × Int32)) => f6_image_34 post K z.1 z.2) z → ∀ (H : Heap) (locs : List Loc) (ls : Array Slot), va_P D gCl (wM D ad none rdv (some t) z.1) H → va_D A (wM D ad none rdv (some t) z.1) → va_S A s.heap H locs → lv_has ls 2 [(0, .ref (ad 0)), (1, .int z.2)] → W p l e ({ frames := 1, cells := 0, slots := 0, locals := 21 } : Room) s m args below meth c H locs 0 0 (MQ below (va_Qi post (BW D gCl A (fun u => (wM D ad none rdv (some t) u))) A) args s 0 0 A) (F0 m 34 ls []) := by
  refine lp_ind ?_
  rintro K34 ⟨S, x1⟩ hK34 hw H locs ls hP hD hS hl
  have hw : f6_image_34 post K34 S x1 := hw
  unfold f6_image_34 at hw
  have hP : va_P D gCl (wM D ad none rdv (some t) S) H := hP
  have hD : va_D A (wM D ad none rdv (some t) S) := hD
  have hl : lv_has ls 2 [(0, .ref (ad 0)), (1, .int x1)] := hl
  refine lv_iload_n hC.x hC.b dX6_image_34 rfl (lv_at hl 1 rfl) ?_
  refine lv_bipush (v := 19) hC.x hC.b dX6_image_35 (by decide) ?_
  refine lv_icmp_ge (tgt := 66) hC.x hC.b dX6_image_37 (by decide) (fun c6 => ?_) (fun c6 => ?_)
  · have hw1292 := hw.1 c6
    refine lv_aload_n hC.x hC.b dX6_image_66 rfl (lv_at hl 0 rfl) ?_
    refine lv_dup hC.x hC.b dX6_image_67 rfl ?_
    refine gM_20 hC hP dX6_image_68 ?_
    refine lv_iconst (v := 1) hC.x hC.b dX6_image_71 (by decide) ?_
    refine lv_iadd hC.x hC.b dX6_image_72 ?_
    refine pM_20 hC hP hD hS (v := ((S.1 0 20) + 1)) dX6_image_73 (fun S7 eS7 H locs hP hD hS => ?_)
    have hw1293 := hw1292 S7 eS7
    refine lv_aload_n hC.x hC.b dX6_image_76 rfl (lv_at hl 0 rfl) ?_
    refine lv_aload_n hC.x hC.b dX6_image_77 rfl (lv_at hl 0 rfl) ?_
    refine gM_20 hC hP dX6_image_78 ?_
    refine lv_iconst (v := 1) hC.x hC.b dX6_image_81 (by decide) ?_
    refine lv_isub hC.x hC.b dX6_image_82 ?_
    refine go_i (run_V (rest := []) hC (m6_good l hw1293) v6_6_good h6_good 0 5 gCl_X6 rfl rfl ⟨rfl, rfl, Nat.le_of_ble_eq_true rfl, Nat.le_of_ble_eq_true rfl⟩ ⟨Nat.le_refl _, Nat.le_refl _⟩ hP hD hS hl.1 (Nat.le_of_ble_eq_true rfl) dX6_image_83 rfl) hS (fun r8 S9 H locs hw1294 hP hD hS => ?_)
    exact rt_i hC hw1294 hP hD hS dX6_image_86
  · have hw1295 := hw.2 c6
    refine lv_aload_n hC.x hC.b dX6_image_40 rfl (lv_at hl 0 rfl) ?_
    refine gM_18 hC hP dX6_image_41 ?_
    refine lv_bipush (v := 19) hC.x hC.b dX6_image_44 (by decide) ?_
    refine lv_aload_n hC.x hC.b dX6_image_46 rfl (lv_at hl 0 rfl) ?_
    refine gM_20 hC hP dX6_image_47 ?_
    refine lv_imul hC.x hC.b dX6_image_50 ?_
    refine lv_iload_n hC.x hC.b dX6_image_51 rfl (lv_at hl 1 rfl) ?_
    refine lv_iadd hC.x hC.b dX6_image_52 ?_
    refine lv_aload_n hC.x hC.b dX6_image_53 rfl (lv_at hl 0 rfl) ?_
    refine gM_15 hC hP dX6_image_54 ?_
    refine lv_iload_n hC.x hC.b dX6_image_57 rfl (lv_at hl 1 rfl) ?_
    obtain ⟨hin, hw1296⟩ := hw1295
    refine lM_2 hC hP hin rfl dX6_image_58 ?_
    obtain ⟨hin, hw1297⟩ := hw1296
    refine sM_5 hC hP hD hS (v := (S.1 2 x1.toNatClampNeg)) hin rfl dX6_image_59 (fun S10 eS10 H locs hP hD hS => ?_)
    have hw1298 := hw1297 S10 eS10
    refine lv_iinc (v := (x1 + 1)) (lv' := [(1, .int (x1 + 1)), (0, .ref (ad 0))]) hC.x hC.b dX6_image_60 hl (k := 1) rfl rfl (by decide) rfl (fun ls hl => ?_)
    refine lv_goto (tgt := 34) hC.x hC.b dX6_image_63 (by decide) ?_
    exact hK34 (S10, (x1 + 1)) hw1298 H locs ls hP hD hS (lv_sub hl [1, 0] rfl)
def w6_image (post : Int32 → MS → Prop) (tw : Option (Nat → Nat)) (S : MS) : Prop :=
  (∀ S1, S1 = uI S 0 0 0 → ((tw = none → (w6_refused (fun r3 S4 => (post r3 S4)) S1 1)) ∧ ((∃ t, tw = some t) → ((¬ (S1.1 0 20) = 3 → (lp (fun (K : (MS × Int32) → Prop) (z : (MS × Int32)) => f6_image_34 post K z.1 z.2) (S1, 0))) ∧ ((S1.1 0 20) = 3 → (w6_refused (fun r11 S12 => (post r11 S12)) S1 3))))))
set_option maxHeartbeats 4000000 in
theorem m6_image (l : Launch) {post : Int32 → MS → Prop} {S : MS} (hw : w6_image post tw S) : Met l yX6_image (ws_ yX6_image cX6_image 2 (some .int)) ({ frames := 1, cells := 0, slots := 0, locals := 21 } : Room) (va_Pc [.ref (ad 0)] (PcG D gCl nwG Z Hb A (wM D ad none rdv tw S))) (va_Qi post (BW D gCl A (fun u => (wM D ad none rdv tw u))) A) 0 0 A := by
  refine Met.ofG (by decide) (Nat.le_of_ble_eq_true rfl) ?_
  intro p e s m below meth c ls hC _ hP hD hS hl
  have hC : CX RX6 cX6_image 2 (some .int) D gCl nwG Z Hb A p s m _ meth c := hC
  have hl : lv_has ls 2 [(0, .ref (ad 0))] := hl
  unfold w6_image at hw
  refine lv_aload_n hC.x hC.b dX6_image_0 rfl (lv_at hl 0 rfl) ?_
  refine lv_iconst (v := 0) hC.x hC.b dX6_image_1 (by decide) ?_
  refine pM_0 hC hP hD hS (v := 0) dX6_image_2 (fun S1 eS1 H locs hP hD hS => ?_)
  have hw1287 := hw S1 eS1
  refine lv_aload_n hC.x hC.b dX6_image_5 rfl (lv_at hl 0 rfl) ?_
  refine gM_3 hC hP dX6_image_6 ?_
  rcases va_o2 tw with c2 | ⟨t, c2⟩
  · have hw1288 := hw1287.1 c2
    subst c2
    refine lv_ifnonnullN hC.x hC.b dX6_image_9 ?_
    refine lv_aload_n hC.x hC.b dX6_image_12 rfl (lv_at hl 0 rfl) ?_
    refine lv_iconst (v := 1) hC.x hC.b dX6_image_13 (by decide) ?_
    refine go_i (run_V (rest := []) hC (m6_refused l hw1288) v6_6_refused h6_refused 0 5 gCl_X6 rfl rfl ⟨rfl, rfl, Nat.le_of_ble_eq_true rfl, Nat.le_of_ble_eq_true rfl⟩ ⟨Nat.le_refl _, Nat.le_refl _⟩ hP hD hS hl.1 (Nat.le_of_ble_eq_true rfl) dX6_image_14 rfl) hS (fun r3 S4 H locs hw1289 hP hD hS => ?_)
    exact rt_i hC hw1289 hP hD hS dX6_image_17
  · have hw1290 := hw1287.2 ⟨t, c2⟩
    subst c2
    refine lv_ifnonnull (tgt := 18) hC.x hC.b dX6_image_9 (by decide) ?_
    refine lv_aload_n hC.x hC.b dX6_image_18 rfl (lv_at hl 0 rfl) ?_
    refine gM_20 hC hP dX6_image_19 ?_
    refine lv_iconst (v := 3) hC.x hC.b dX6_image_22 (by decide) ?_
    refine lv_icmp_ne (tgt := 32) hC.x hC.b dX6_image_23 (by decide) (fun c5 => ?_) (fun c5 => ?_)
    · have hw1291 := hw1290.1 c5
      refine lv_iconst (v := 0) hC.x hC.b dX6_image_32 (by decide) ?_
      refine lv_istore_n (lv' := [(1, .int 0), (0, .ref (ad 0))]) hC.x hC.b dX6_image_33 rfl hl (by decide) rfl (fun ls hl => ?_)
      exact k6_image_34 hC (S1, 0) hw1291 H locs ls hP hD hS (lv_sub hl [1, 0] rfl)
    · have hw1299 := hw1290.2 c5
      refine lv_aload_n hC.x hC.b dX6_image_26 rfl (lv_at hl 0 rfl) ?_
      refine lv_iconst (v := 3) hC.x hC.b dX6_image_27 (by decide) ?_
      refine go_i (run_V (rest := []) hC (m6_refused l hw1299) v6_6_refused h6_refused 0 5 gCl_X6 rfl rfl ⟨rfl, rfl, Nat.le_of_ble_eq_true rfl, Nat.le_of_ble_eq_true rfl⟩ ⟨Nat.le_refl _, Nat.le_refl _⟩ hP hD hS hl.1 (Nat.le_of_ble_eq_true rfl) dX6_image_28 rfl) hS (fun r11 S12 H locs hw1300 hP hD hS => ?_)
      exact rt_i hC hw1300 hP hD hS dX6_image_31
theorem h6_back : yX6_back.cls = RX6 ∧ yX6_back.cls ≠ "java/lang/invoke/MethodHandle" ∧ yX6_back.cls ≠ "java/lang/invoke/VarHandle" ∧ (parseMethodDescriptor yX6_back.desc).map (fun d => d.parameters.length) = some 1 := by decide +kernel
def f6_back_32 (post : Int32 → MS → Prop) (x1 : Int32) (K32 : (MS × Int32) → Prop) (S : MS) (x2 : Int32) : Prop :=
  ((19 ≤ x2 → (∀ S10, S10 = uI S 0 19 0 → (w6_granted (fun r11 S12 => ((r11 = 0 ∨ r11 = 1) ∧ post r11 S12)) S10))) ∧ (¬ 19 ≤ x2 → (vp_in ((19 * x1) + x2) 57 ∧ (vp_in x2 19 ∧ (∀ S13, S13 = uI S 2 x2.toNatClampNeg (S.1 5 ((19 * x1) + x2).toNatClampNeg) → (K32 (S13, (x2 + 1))))))))
set_option maxHeartbeats 4000000 in
theorem k6_back_32 {post : Int32 → MS → Prop} {x1 : Int32} (hC : CX RX6 cX6_back 3 (some .boolean) D gCl nwG Z Hb A p s m args meth c) : ∀ z : (MS × Int32), lp (fun (K : (MS × Int32) → Prop) (z : (MS × Int32)) => f6_back_32 post x1 K z.1 z.2) z → ∀ (H : Heap) (locs : List Loc) (ls : Array Slot), va_P D gCl (wM D ad none rdv (some t) z.1) H → va_D A (wM D ad none rdv (some t) z.1) → va_S A s.heap H locs → lv_has ls 3 [(0, .ref (ad 0)), (1, .int x1), (2, .int z.2)] → W p l e ({ frames := 2, cells := 0, slots := 0, locals := 42 } : Room) s m args below meth c H locs 0 0 (MQ below (va_Qi post (BW D gCl A (fun u => (wM D ad none rdv (some t) u))) A) args s 0 0 A) (F0 m 32 ls []) := by
  refine lp_ind ?_
  rintro K32 ⟨S, x2⟩ hK32 hw H locs ls hP hD hS hl
  have hw : f6_back_32 post x1 K32 S x2 := hw
  unfold f6_back_32 at hw
  have hP : va_P D gCl (wM D ad none rdv (some t) S) H := hP
  have hD : va_D A (wM D ad none rdv (some t) S) := hD
  have hl : lv_has ls 3 [(0, .ref (ad 0)), (1, .int x1), (2, .int x2)] := hl
  refine lv_iload_n hC.x hC.b dX6_back_32 rfl (lv_at hl 2 rfl) ?_
  refine lv_bipush (v := 19) hC.x hC.b dX6_back_33 (by decide) ?_
  refine lv_icmp_ge (tgt := 61) hC.x hC.b dX6_back_35 (by decide) (fun c9 => ?_) (fun c9 => ?_)
  · have hw1309 := hw.1 c9
    refine lv_aload_n hC.x hC.b dX6_back_61 rfl (lv_at hl 0 rfl) ?_
    refine lv_iconst (v := 0) hC.x hC.b dX6_back_62 (by decide) ?_
    refine pM_19 hC hP hD hS (v := 0) dX6_back_63 (fun S10 eS10 H locs hP hD hS => ?_)
    have hw1310 := hw1309 S10 eS10
    refine lv_aload_n hC.x hC.b dX6_back_66 rfl (lv_at hl 0 rfl) ?_
    refine go_i (run_V (rest := []) hC (m6_granted l hw1310) v6_6_granted h6_granted 0 5 gCl_X6 rfl rfl ⟨rfl, rfl, Nat.le_of_ble_eq_true rfl, Nat.le_of_ble_eq_true rfl⟩ ⟨Nat.le_refl _, Nat.le_refl _⟩ hP hD hS hl.1 (Nat.le_of_ble_eq_true rfl) dX6_back_67 rfl) hS (fun r11 S12 H locs hw1311 hP hD hS => ?_)
    exact rt_z hC hw1311.1 hw1311.2 hP hD hS dX6_back_70
  · have hw1312 := hw.2 c9
    refine lv_aload_n hC.x hC.b dX6_back_38 rfl (lv_at hl 0 rfl) ?_
    refine gM_15 hC hP dX6_back_39 ?_
    refine lv_iload_n hC.x hC.b dX6_back_42 rfl (lv_at hl 2 rfl) ?_
    refine lv_aload_n hC.x hC.b dX6_back_43 rfl (lv_at hl 0 rfl) ?_
    refine gM_18 hC hP dX6_back_44 ?_
    refine lv_bipush (v := 19) hC.x hC.b dX6_back_47 (by decide) ?_
    refine lv_iload_n hC.x hC.b dX6_back_49 rfl (lv_at hl 1 rfl) ?_
    refine lv_imul hC.x hC.b dX6_back_50 ?_
    refine lv_iload_n hC.x hC.b dX6_back_51 rfl (lv_at hl 2 rfl) ?_
    refine lv_iadd hC.x hC.b dX6_back_52 ?_
    obtain ⟨hin, hw1313⟩ := hw1312
    refine lM_5 hC hP hin rfl dX6_back_53 ?_
    obtain ⟨hin, hw1314⟩ := hw1313
    refine sM_2 hC hP hD hS (v := (S.1 5 ((19 * x1) + x2).toNatClampNeg)) hin rfl dX6_back_54 (fun S13 eS13 H locs hP hD hS => ?_)
    have hw1315 := hw1314 S13 eS13
    refine lv_iinc (v := (x2 + 1)) (lv' := [(2, .int (x2 + 1)), (0, .ref (ad 0)), (1, .int x1)]) hC.x hC.b dX6_back_55 hl (k := 2) rfl rfl (by decide) rfl (fun ls hl => ?_)
    refine lv_goto (tgt := 32) hC.x hC.b dX6_back_58 (by decide) ?_
    exact hK32 (S13, (x2 + 1)) hw1315 H locs ls hP hD hS (lv_sub hl [1, 2, 0] rfl)
def w6_back (post : Int32 → MS → Prop) (tw : Option (Nat → Nat)) (S : MS) (x1 : Int32) : Prop :=
  (∀ S1, S1 = uI S 0 0 0 → ((tw = none → (w6_denied (fun r3 S4 => ((r3 = 0 ∨ r3 = 1) ∧ post r3 S4)) S1 1)) ∧ ((∃ t, tw = some t) → ((x1 < 0 → (w6_denied (fun r6 S7 => ((r6 = 0 ∨ r6 = 1) ∧ post r6 S7)) S1 1)) ∧ (¬ x1 < 0 → ((x1 < (S1.1 0 20) → (lp (fun (K : (MS × Int32) → Prop) (z : (MS × Int32)) => f6_back_32 post x1 K z.1 z.2) (S1, 0))) ∧ (¬ x1 < (S1.1 0 20) → (w6_denied (fun r14 S15 => ((r14 = 0 ∨ r14 = 1) ∧ post r14 S15)) S1 1))))))))
set_option maxHeartbeats 4000000 in
theorem m6_back (l : Launch) {post : Int32 → MS → Prop} {S : MS} {x1 : Int32} (hw : w6_back post tw S x1) : Met l yX6_back (ws_ yX6_back cX6_back 3 (some .boolean)) ({ frames := 2, cells := 0, slots := 0, locals := 42 } : Room) (va_Pc [.ref (ad 0), .int x1] (PcG D gCl nwG Z Hb A (wM D ad none rdv tw S))) (va_Qi post (BW D gCl A (fun u => (wM D ad none rdv tw u))) A) 0 0 A := by
  refine Met.ofG (by decide) (Nat.le_of_ble_eq_true rfl) ?_
  intro p e s m below meth c ls hC _ hP hD hS hl
  have hC : CX RX6 cX6_back 3 (some .boolean) D gCl nwG Z Hb A p s m _ meth c := hC
  have hl : lv_has ls 3 [(0, .ref (ad 0)), (1, .int x1)] := hl
  unfold w6_back at hw
  refine lv_aload_n hC.x hC.b dX6_back_0 rfl (lv_at hl 0 rfl) ?_
  refine lv_iconst (v := 0) hC.x hC.b dX6_back_1 (by decide) ?_
  refine pM_0 hC hP hD hS (v := 0) dX6_back_2 (fun S1 eS1 H locs hP hD hS => ?_)
  have hw1301 := hw S1 eS1
  refine lv_aload_n hC.x hC.b dX6_back_5 rfl (lv_at hl 0 rfl) ?_
  refine gM_3 hC hP dX6_back_6 ?_
  rcases va_o2 tw with c2 | ⟨t, c2⟩
  · have hw1302 := hw1301.1 c2
    subst c2
    refine lv_ifnullN (tgt := 24) hC.x hC.b dX6_back_9 (by decide) ?_
    refine lv_aload_n hC.x hC.b dX6_back_24 rfl (lv_at hl 0 rfl) ?_
    refine lv_iconst (v := 1) hC.x hC.b dX6_back_25 (by decide) ?_
    refine go_i (run_V (rest := []) hC (m6_denied l hw1302) v6_6_denied h6_denied 0 5 gCl_X6 rfl rfl ⟨rfl, rfl, Nat.le_of_ble_eq_true rfl, Nat.le_of_ble_eq_true rfl⟩ ⟨Nat.le_refl _, Nat.le_refl _⟩ hP hD hS hl.1 (Nat.le_of_ble_eq_true rfl) dX6_back_26 rfl) hS (fun r3 S4 H locs hw1303 hP hD hS => ?_)
    exact rt_z hC hw1303.1 hw1303.2 hP hD hS dX6_back_29
  · have hw1304 := hw1301.2 ⟨t, c2⟩
    subst c2
    refine lv_ifnull hC.x hC.b dX6_back_9 ?_
    refine lv_iload_n hC.x hC.b dX6_back_12 rfl (lv_at hl 1 rfl) ?_
    refine lv_if_lt (tgt := 24) hC.x hC.b dX6_back_13 (by decide) (fun c5 => ?_) (fun c5 => ?_)
    · have hw1305 := hw1304.1 c5
      refine lv_aload_n hC.x hC.b dX6_back_24 rfl (lv_at hl 0 rfl) ?_
      refine lv_iconst (v := 1) hC.x hC.b dX6_back_25 (by decide) ?_
      refine go_i (run_V (rest := []) hC (m6_denied l hw1305) v6_6_denied h6_denied 0 5 gCl_X6 rfl rfl ⟨rfl, rfl, Nat.le_of_ble_eq_true rfl, Nat.le_of_ble_eq_true rfl⟩ ⟨Nat.le_refl _, Nat.le_refl _⟩ hP hD hS hl.1 (Nat.le_of_ble_eq_true rfl) dX6_back_26 rfl) hS (fun r6 S7 H locs hw1306 hP hD hS => ?_)
      exact rt_z hC hw1306.1 hw1306.2 hP hD hS dX6_back_29
    · have hw1307 := hw1304.2 c5
      refine lv_iload_n hC.x hC.b dX6_back_16 rfl (lv_at hl 1 rfl) ?_
      refine lv_aload_n hC.x hC.b dX6_back_17 rfl (lv_at hl 0 rfl) ?_
      refine gM_20 hC hP dX6_back_18 ?_
      refine lv_icmp_lt (tgt := 30) hC.x hC.b dX6_back_21 (by decide) (fun c8 => ?_) (fun c8 => ?_)
      · have hw1308 := hw1307.1 c8
        refine lv_iconst (v := 0) hC.x hC.b dX6_back_30 (by decide) ?_
        refine lv_istore_n (lv' := [(2, .int 0), (0, .ref (ad 0)), (1, .int x1)]) hC.x hC.b dX6_back_31 rfl hl (by decide) rfl (fun ls hl => ?_)
        exact k6_back_32 hC (S1, 0) hw1308 H locs ls hP hD hS (lv_sub hl [1, 2, 0] rfl)
      · have hw1316 := hw1307.2 c8
        refine lv_aload_n hC.x hC.b dX6_back_24 rfl (lv_at hl 0 rfl) ?_
        refine lv_iconst (v := 1) hC.x hC.b dX6_back_25 (by decide) ?_
        refine go_i (run_V (rest := []) hC (m6_denied l hw1316) v6_6_denied h6_denied 0 5 gCl_X6 rfl rfl ⟨rfl, rfl, Nat.le_of_ble_eq_true rfl, Nat.le_of_ble_eq_true rfl⟩ ⟨Nat.le_refl _, Nat.le_refl _⟩ hP hD hS hl.1 (Nat.le_of_ble_eq_true rfl) dX6_back_26 rfl) hS (fun r14 S15 H locs hw1317 hP hD hS => ?_)
        exact rt_z hC hw1317.1 hw1317.2 hP hD hS dX6_back_29
theorem h6_led : yX6_led.cls = RX6 ∧ yX6_led.cls ≠ "java/lang/invoke/MethodHandle" ∧ yX6_led.cls ≠ "java/lang/invoke/VarHandle" ∧ (parseMethodDescriptor yX6_led.desc).map (fun d => d.parameters.length) = some 1 := by decide +kernel
def f6_led_20 (post : Int32 → MS → Prop) (S : MS) (K20 : (Int32 × Int32) → Prop) (x2 : Int32) (x3 : Int32) : Prop :=
  (∀ S3, S3 = uI S 0 0 1 → (post 0 S3))
set_option maxHeartbeats 4000000 in
theorem k6_led_20 {post : Int32 → MS → Prop} {S : MS} {x1 : Int32} (hC : CX RX6 cX6_led 4 (some .int) D gCl nwG Z Hb A p s m args meth c) : ∀ z : (Int32 × Int32), lp (fun (K : (Int32 × Int32) → Prop) (z : (Int32 × Int32)) => f6_led_20 post S K z.1 z.2) z → ∀ (H : Heap) (locs : List Loc) (ls : Array Slot), va_P D gCl (wM D ad none rdv none S) H → va_D A (wM D ad none rdv none S) → va_S A s.heap H locs → lv_has ls 4 [(0, .ref (ad 0)), (1, .int x1), (2, .int z.1), (3, .int z.2)] → W p l e ({ frames := 4, cells := 0, slots := 0, locals := 94 } : Room) s m args below meth c H locs 0 0 (MQ below (va_Qi post (BW D gCl A (fun u => (wM D ad none rdv none u))) A) args s 0 0 A) (F0 m 20 ls []) := by
  refine lp_ind ?_
  rintro K20 ⟨x2, x3⟩ hK20 hw H locs ls hP hD hS hl
  have hw : f6_led_20 post S K20 x2 x3 := hw
  unfold f6_led_20 at hw
  have hP : va_P D gCl (wM D ad none rdv none S) H := hP
  have hD : va_D A (wM D ad none rdv none S) := hD
  have hl : lv_has ls 4 [(0, .ref (ad 0)), (1, .int x1), (2, .int x2), (3, .int x3)] := hl
  refine lv_aload_n hC.x hC.b dX6_led_20 rfl (lv_at hl 0 rfl) ?_
  refine gM_3 hC hP dX6_led_21 ?_
  refine lv_ifnullN (tgt := 72) hC.x hC.b dX6_led_24 (by decide) ?_
  refine lv_aload_n hC.x hC.b dX6_led_72 rfl (lv_at hl 0 rfl) ?_
  refine lv_iconst (v := 1) hC.x hC.b dX6_led_73 (by decide) ?_
  refine pM_0 hC hP hD hS (v := 1) dX6_led_74 (fun S3 eS3 H locs hP hD hS => ?_)
  have hw1320 := hw S3 eS3
  refine lv_iconst (v := 0) hC.x hC.b dX6_led_77 (by decide) ?_
  exact rt_i hC hw1320 hP hD hS dX6_led_78
def f6_led_20b (post : Int32 → MS → Prop) (tw : Option (Nat → Nat)) (S : MS) (x1 : Int32) (K20 : (Int32 × Int32) → Prop) (x2 : Int32) (x3 : Int32) : Prop :=
  (((S.1 20 3) ≤ x3 → (∀ S7, S7 = uI S 0 0 1 → (post 0 S7))) ∧ (¬ (S.1 20 3) ≤ x3 → (w6_isRight (fun r8 => ((r8 = 0 → ((¬ x2 = x1 → (K20 ((x2 + 1), (x3 + 1)))) ∧ (x2 = x1 → (post x3 S)))) ∧ (¬ r8 = 0 → (K20 (x2, (x3 + 1)))))) tw S x3 (S.1 2 18))))
set_option maxHeartbeats 4000000 in
theorem k6_led_20b {post : Int32 → MS → Prop} {S : MS} {x1 : Int32} (hC : CX RX6 cX6_led 4 (some .int) D gCl nwG Z Hb A p s m args meth c) : ∀ z : (Int32 × Int32), lp (fun (K : (Int32 × Int32) → Prop) (z : (Int32 × Int32)) => f6_led_20b post (some t) S x1 K z.1 z.2) z → ∀ (H : Heap) (locs : List Loc) (ls : Array Slot), va_P D gCl (wM D ad none rdv (some t) S) H → va_D A (wM D ad none rdv (some t) S) → va_S A s.heap H locs → lv_has ls 4 [(0, .ref (ad 0)), (1, .int x1), (2, .int z.1), (3, .int z.2)] → W p l e ({ frames := 4, cells := 0, slots := 0, locals := 94 } : Room) s m args below meth c H locs 0 0 (MQ below (va_Qi post (BW D gCl A (fun u => (wM D ad none rdv (some t) u))) A) args s 0 0 A) (F0 m 20 ls []) := by
  refine lp_ind ?_
  rintro K20 ⟨x2, x3⟩ hK20 hw H locs ls hP hD hS hl
  have hw : f6_led_20b post (some t) S x1 K20 x2 x3 := hw
  unfold f6_led_20b at hw
  have hP : va_P D gCl (wM D ad none rdv (some t) S) H := hP
  have hD : va_D A (wM D ad none rdv (some t) S) := hD
  have hl : lv_has ls 4 [(0, .ref (ad 0)), (1, .int x1), (2, .int x2), (3, .int x3)] := hl
  refine lv_aload_n hC.x hC.b dX6_led_20 rfl (lv_at hl 0 rfl) ?_
  refine gM_3 hC hP dX6_led_21 ?_
  refine lv_ifnull hC.x hC.b dX6_led_24 ?_
  refine lv_iload_n hC.x hC.b dX6_led_27 rfl (lv_at hl 3 rfl) ?_
  refine lv_aload_n hC.x hC.b dX6_led_28 rfl (lv_at hl 0 rfl) ?_
  refine gM_3 hC hP dX6_led_29 ?_
  refine gT_3 hC hP dX6_led_32 ?_
  refine lv_icmp_ge (tgt := 72) hC.x hC.b dX6_led_35 (by decide) (fun c6 => ?_) (fun c6 => ?_)
  · have hw1323 := hw.1 c6
    refine lv_aload_n hC.x hC.b dX6_led_72 rfl (lv_at hl 0 rfl) ?_
    refine lv_iconst (v := 1) hC.x hC.b dX6_led_73 (by decide) ?_
    refine pM_0 hC hP hD hS (v := 1) dX6_led_74 (fun S7 eS7 H locs hP hD hS => ?_)
    have hw1324 := hw1323 S7 eS7
    refine lv_iconst (v := 0) hC.x hC.b dX6_led_77 (by decide) ?_
    exact rt_i hC hw1324 hP hD hS dX6_led_78
  · have hw1325 := hw.2 c6
    refine lv_aload_n hC.x hC.b dX6_led_38 rfl (lv_at hl 0 rfl) ?_
    refine lv_iload_n hC.x hC.b dX6_led_39 rfl (lv_at hl 3 rfl) ?_
    refine lv_aload_n hC.x hC.b dX6_led_40 rfl (lv_at hl 0 rfl) ?_
    refine gM_15 hC hP dX6_led_41 ?_
    refine lv_bipush (v := 18) hC.x hC.b dX6_led_44 (by decide) ?_
    refine lM_2 hC hP (vp_lit rfl) (k := 18) rfl dX6_led_46 ?_
    refine go_i (run_V (rest := []) hC (m6_isRight l hw1325) v6_6_isRight h6_isRight 0 5 gCl_X6 rfl rfl ⟨rfl, rfl, Nat.le_of_ble_eq_true rfl, Nat.le_of_ble_eq_true rfl⟩ ⟨Nat.le_refl _, Nat.le_refl _⟩ hP hD hS hl.1 (Nat.le_of_ble_eq_true rfl) dX6_led_47 rfl) hS (fun r8 u H locs hw1326 hP hD hS => ?_)
    refine lv_if_eq (tgt := 56) hC.x hC.b dX6_led_50 (by decide) (fun c9 => ?_) (fun c9 => ?_)
    · have hw1327 := hw1326.1 c9
      refine lv_iload_n hC.x hC.b dX6_led_56 rfl (lv_at hl 2 rfl) ?_
      refine lv_iload_n hC.x hC.b dX6_led_57 rfl (lv_at hl 1 rfl) ?_
      refine lv_icmp_ne (tgt := 63) hC.x hC.b dX6_led_58 (by decide) (fun c10 => ?_) (fun c10 => ?_)
      · have hw1328 := hw1327.1 c10
        refine lv_iinc (v := (x2 + 1)) (lv' := [(2, .int (x2 + 1)), (0, .ref (ad 0)), (1, .int x1), (3, .int x3)]) hC.x hC.b dX6_led_63 hl (k := 2) rfl rfl (by decide) rfl (fun ls hl => ?_)
        refine lv_iinc (v := (x3 + 1)) (lv' := [(3, .int (x3 + 1)), (2, .int (x2 + 1)), (0, .ref (ad 0)), (1, .int x1)]) hC.x hC.b dX6_led_66 hl (k := 3) rfl rfl (by decide) rfl (fun ls hl => ?_)
        refine lv_goto (tgt := 20) hC.x hC.b dX6_led_69 (by decide) ?_
        exact hK20 ((x2 + 1), (x3 + 1)) hw1328 H locs ls hP hD hS (lv_sub hl [2, 3, 1, 0] rfl)
      · have hw1329 := hw1327.2 c10
        refine lv_iload_n hC.x hC.b dX6_led_61 rfl (lv_at hl 3 rfl) ?_
        exact rt_i hC hw1329 hP hD hS dX6_led_62
    · have hw1330 := hw1326.2 c9
      refine lv_goto (tgt := 66) hC.x hC.b dX6_led_53 (by decide) ?_
      refine lv_iinc (v := (x3 + 1)) (lv' := [(3, .int (x3 + 1)), (0, .ref (ad 0)), (1, .int x1), (2, .int x2)]) hC.x hC.b dX6_led_66 hl (k := 3) rfl rfl (by decide) rfl (fun ls hl => ?_)
      refine lv_goto (tgt := 20) hC.x hC.b dX6_led_69 (by decide) ?_
      exact hK20 (x2, (x3 + 1)) hw1330 H locs ls hP hD hS (lv_sub hl [1, 2, 3, 0] rfl)
def w6_led (post : Int32 → MS → Prop) (tw : Option (Nat → Nat)) (S : MS) (x1 : Int32) : Prop :=
  (∀ S1, S1 = uI S 0 0 0 → ((tw = none → (lp (fun (K : (Int32 × Int32) → Prop) (z : (Int32 × Int32)) => f6_led_20 post S1 K z.1 z.2) (0, 0))) ∧ ((∃ t, tw = some t) → (w6_works (fun S5 => (lp (fun (K : (Int32 × Int32) → Prop) (z : (Int32 × Int32)) => f6_led_20b post tw S5 x1 K z.1 z.2) (0, 0))) S1))))
set_option maxHeartbeats 4000000 in
theorem m6_led (l : Launch) {post : Int32 → MS → Prop} {S : MS} {x1 : Int32} (hw : w6_led post tw S x1) : Met l yX6_led (ws_ yX6_led cX6_led 4 (some .int)) ({ frames := 4, cells := 0, slots := 0, locals := 94 } : Room) (va_Pc [.ref (ad 0), .int x1] (PcG D gCl nwG Z Hb A (wM D ad none rdv tw S))) (va_Qi post (BW D gCl A (fun u => (wM D ad none rdv tw u))) A) 0 0 A := by
  refine Met.ofG (by decide) (Nat.le_of_ble_eq_true rfl) ?_
  intro p e s m below meth c ls hC _ hP hD hS hl
  have hC : CX RX6 cX6_led 4 (some .int) D gCl nwG Z Hb A p s m _ meth c := hC
  have hl : lv_has ls 4 [(0, .ref (ad 0)), (1, .int x1)] := hl
  unfold w6_led at hw
  refine lv_aload_n hC.x hC.b dX6_led_0 rfl (lv_at hl 0 rfl) ?_
  refine lv_iconst (v := 0) hC.x hC.b dX6_led_1 (by decide) ?_
  refine pM_0 hC hP hD hS (v := 0) dX6_led_2 (fun S1 eS1 H locs hP hD hS => ?_)
  have hw1318 := hw S1 eS1
  refine lv_iconst (v := 0) hC.x hC.b dX6_led_5 (by decide) ?_
  refine lv_istore_n (lv' := [(2, .int 0), (0, .ref (ad 0)), (1, .int x1)]) hC.x hC.b dX6_led_6 rfl hl (by decide) rfl (fun ls hl => ?_)
  refine lv_aload_n hC.x hC.b dX6_led_7 rfl (lv_at hl 1 rfl) ?_
  refine gM_3 hC hP dX6_led_8 ?_
  rcases va_o2 tw with c2 | ⟨t, c2⟩
  · have hw1319 := hw1318.1 c2
    subst c2
    refine lv_ifnullN (tgt := 18) hC.x hC.b dX6_led_11 (by decide) ?_
    refine lv_iconst (v := 0) hC.x hC.b dX6_led_18 (by decide) ?_
    refine lv_istore_n (lv' := [(3, .int 0), (2, .int 0), (0, .ref (ad 0)), (1, .int x1)]) hC.x hC.b dX6_led_19 rfl hl (by decide) rfl (fun ls hl => ?_)
    exact k6_led_20 hC (0, 0) hw1319 H locs ls hP hD hS (lv_sub hl [2, 3, 1, 0] rfl)
  · have hw1321 := hw1318.2 ⟨t, c2⟩
    subst c2
    refine lv_ifnull hC.x hC.b dX6_led_11 ?_
    refine lv_aload_n hC.x hC.b dX6_led_14 rfl (lv_at hl 1 rfl) ?_
    refine go_v (run_V (rest := []) hC (m6_works l hw1321) v6_6_works h6_works 0 5 gCl_X6 rfl rfl ⟨rfl, rfl, Nat.le_of_ble_eq_true rfl, Nat.le_of_ble_eq_true rfl⟩ ⟨Nat.le_refl _, Nat.le_refl _⟩ hP hD hS hl.1 (Nat.le_of_ble_eq_true rfl) dX6_led_15 rfl) hS (fun S5 H locs hw1322 hP hD hS => ?_)
    refine lv_iconst (v := 0) hC.x hC.b dX6_led_18 (by decide) ?_
    refine lv_istore_n (lv' := [(3, .int 0), (2, .int 0), (0, .ref (ad 0)), (1, .int x1)]) hC.x hC.b dX6_led_19 rfl hl (by decide) rfl (fun ls hl => ?_)
    exact k6_led_20b hC (0, 0) hw1322 H locs ls hP hD hS (lv_sub hl [2, 3, 1, 0] rfl)
theorem h6_mirrorsNow : yX6_mirrorsNow.cls = RX6 ∧ yX6_mirrorsNow.cls ≠ "java/lang/invoke/MethodHandle" ∧ yX6_mirrorsNow.cls ≠ "java/lang/invoke/VarHandle" ∧ (parseMethodDescriptor yX6_mirrorsNow.desc).map (fun d => d.parameters.length) = some 0 := by decide +kernel
def f6_mirrorsNow_4 (post : Int32 → Prop) (tw : Option (Nat → Nat)) (S : MS) (K4 : (Int32 × Int32) → Prop) (x1 : Int32) (x2 : Int32) : Prop :=
  ((∃ t, tw = some t) ∧ (((S.1 20 3) ≤ x2 → (post x1)) ∧ (¬ (S.1 20 3) ≤ x2 → (vp_in (12 + x2) 19 ∧ ((¬ (S.1 2 (12 + x2).toNatClampNeg) = (-2) → (K4 ((x1 + 1), (x2 + 1)))) ∧ ((S.1 2 (12 + x2).toNatClampNeg) = (-2) → (K4 ((x1 + 0), (x2 + 1)))))))))
set_option maxHeartbeats 4000000 in
theorem k6_mirrorsNow_4 {post : Int32 → Prop} {S : MS} (hC : CX RX6 cX6_mirrorsNow 3 (some .int) D gCl nwG Z Hb A p s m args meth c) : ∀ z : (Int32 × Int32), lp (fun (K : (Int32 × Int32) → Prop) (z : (Int32 × Int32)) => f6_mirrorsNow_4 post tw S K z.1 z.2) z → ∀ (H : Heap) (locs : List Loc) (ls : Array Slot), va_P D gCl (wM D ad none rdv tw S) H → va_D A (wM D ad none rdv tw S) → va_S A s.heap H locs → lv_has ls 3 [(0, .ref (ad 0)), (1, .int z.1), (2, .int z.2)] → W p l e ({ frames := 0, cells := 0, slots := 0, locals := 0 } : Room) s m args below meth c H locs 0 0 (MQ below (va_Qi (fun r (_ : Unit) => post r) (BW D gCl A (fun _ => (wM D ad none rdv tw S))) A) args s 0 0 A) (F0 m 4 ls []) := by
  refine lp_ind ?_
  rintro K4 ⟨x1, x2⟩ hK4 hw H locs ls hP hD hS hl
  have hw : f6_mirrorsNow_4 post tw S K4 x1 x2 := hw
  unfold f6_mirrorsNow_4 at hw
  have hP : va_P D gCl (wM D ad none rdv tw S) H := hP
  have hD : va_D A (wM D ad none rdv tw S) := hD
  have hl : lv_has ls 3 [(0, .ref (ad 0)), (1, .int x1), (2, .int x2)] := hl
  refine lv_iload_n hC.x hC.b dX6_mirrorsNow_4 rfl (lv_at hl 2 rfl) ?_
  refine lv_aload_n hC.x hC.b dX6_mirrorsNow_5 rfl (lv_at hl 0 rfl) ?_
  refine gM_3 hC hP dX6_mirrorsNow_6 ?_
  obtain ⟨⟨t, rfl⟩, hw1331⟩ := hw
  refine gT_3 hC hP dX6_mirrorsNow_9 ?_
  refine lv_icmp_ge (tgt := 43) hC.x hC.b dX6_mirrorsNow_12 (by decide) (fun c1 => ?_) (fun c1 => ?_)
  · have hw1332 := hw1331.1 c1
    refine lv_iload_n hC.x hC.b dX6_mirrorsNow_43 rfl (lv_at hl 1 rfl) ?_
    exact rt_i (u := ()) hC hw1332 hP hD hS dX6_mirrorsNow_44
  · have hw1333 := hw1331.2 c1
    refine lv_iload_n hC.x hC.b dX6_mirrorsNow_15 rfl (lv_at hl 1 rfl) ?_
    refine lv_aload_n hC.x hC.b dX6_mirrorsNow_16 rfl (lv_at hl 0 rfl) ?_
    refine gM_15 hC hP dX6_mirrorsNow_17 ?_
    refine lv_bipush (v := 12) hC.x hC.b dX6_mirrorsNow_20 (by decide) ?_
    refine lv_iload_n hC.x hC.b dX6_mirrorsNow_22 rfl (lv_at hl 2 rfl) ?_
    refine lv_iadd hC.x hC.b dX6_mirrorsNow_23 ?_
    obtain ⟨hin, hw1334⟩ := hw1333
    refine lM_2 hC hP hin rfl dX6_mirrorsNow_24 ?_
    refine lv_bipush (v := (-2)) hC.x hC.b dX6_mirrorsNow_25 (by decide) ?_
    refine lv_icmp_ne (tgt := 34) hC.x hC.b dX6_mirrorsNow_27 (by decide) (fun c2 => ?_) (fun c2 => ?_)
    · have hw1335 := hw1334.1 c2
      refine lv_iconst (v := 1) hC.x hC.b dX6_mirrorsNow_34 (by decide) ?_
      refine lv_iadd hC.x hC.b dX6_mirrorsNow_35 ?_
      refine lv_istore_n (lv' := [(1, .int (x1 + 1)), (0, .ref (ad 0)), (2, .int x2)]) hC.x hC.b dX6_mirrorsNow_36 rfl hl (by decide) rfl (fun ls hl => ?_)
      refine lv_iinc (v := (x2 + 1)) (lv' := [(2, .int (x2 + 1)), (1, .int (x1 + 1)), (0, .ref (ad 0))]) hC.x hC.b dX6_mirrorsNow_37 hl (k := 2) rfl rfl (by decide) rfl (fun ls hl => ?_)
      refine lv_goto (tgt := 4) hC.x hC.b dX6_mirrorsNow_40 (by decide) ?_
      exact hK4 ((x1 + 1), (x2 + 1)) hw1335 H locs ls hP hD hS (lv_sub hl [2, 1, 0] rfl)
    · have hw1336 := hw1334.2 c2
      refine lv_iconst (v := 0) hC.x hC.b dX6_mirrorsNow_30 (by decide) ?_
      refine lv_goto (tgt := 35) hC.x hC.b dX6_mirrorsNow_31 (by decide) ?_
      refine lv_iadd hC.x hC.b dX6_mirrorsNow_35 ?_
      refine lv_istore_n (lv' := [(1, .int (x1 + 0)), (0, .ref (ad 0)), (2, .int x2)]) hC.x hC.b dX6_mirrorsNow_36 rfl hl (by decide) rfl (fun ls hl => ?_)
      refine lv_iinc (v := (x2 + 1)) (lv' := [(2, .int (x2 + 1)), (1, .int (x1 + 0)), (0, .ref (ad 0))]) hC.x hC.b dX6_mirrorsNow_37 hl (k := 2) rfl rfl (by decide) rfl (fun ls hl => ?_)
      refine lv_goto (tgt := 4) hC.x hC.b dX6_mirrorsNow_40 (by decide) ?_
      exact hK4 ((x1 + 0), (x2 + 1)) hw1336 H locs ls hP hD hS (lv_sub hl [2, 1, 0] rfl)
def w6_mirrorsNow (post : Int32 → Prop) (tw : Option (Nat → Nat)) (S : MS) : Prop :=
  (lp (fun (K : (Int32 × Int32) → Prop) (z : (Int32 × Int32)) => f6_mirrorsNow_4 post tw S K z.1 z.2) (0, 0))
set_option maxHeartbeats 4000000 in
theorem m6_mirrorsNow (l : Launch) {post : Int32 → Prop} {S : MS} (hw : w6_mirrorsNow post tw S) : Met l yX6_mirrorsNow (ws_ yX6_mirrorsNow cX6_mirrorsNow 3 (some .int)) ({ frames := 0, cells := 0, slots := 0, locals := 0 } : Room) (va_Pc [.ref (ad 0)] (PcG D gCl nwG Z Hb A (wM D ad none rdv tw S))) (va_Qi (fun r (_ : Unit) => post r) (BW D gCl A (fun _ => (wM D ad none rdv tw S))) A) 0 0 A := by
  refine Met.ofG (by decide) (Nat.le_of_ble_eq_true rfl) ?_
  intro p e s m below meth c ls hC _ hP hD hS hl
  have hC : CX RX6 cX6_mirrorsNow 3 (some .int) D gCl nwG Z Hb A p s m _ meth c := hC
  have hl : lv_has ls 3 [(0, .ref (ad 0))] := hl
  unfold w6_mirrorsNow at hw
  refine lv_iconst (v := 0) hC.x hC.b dX6_mirrorsNow_0 (by decide) ?_
  refine lv_istore_n (lv' := [(1, .int 0), (0, .ref (ad 0))]) hC.x hC.b dX6_mirrorsNow_1 rfl hl (by decide) rfl (fun ls hl => ?_)
  refine lv_iconst (v := 0) hC.x hC.b dX6_mirrorsNow_2 (by decide) ?_
  refine lv_istore_n (lv' := [(2, .int 0), (1, .int 0), (0, .ref (ad 0))]) hC.x hC.b dX6_mirrorsNow_3 rfl hl (by decide) rfl (fun ls hl => ?_)
  exact k6_mirrorsNow_4 hC (0, 0) hw s.heap [] ls hP hD hS (lv_sub hl [2, 1, 0] rfl)
theorem v6_6_mirrorsNow : GoodIn lw_all (wsV RX6 481 RX6 yX6_mirrorsNow (ws_ yX6_mirrorsNow cX6_mirrorsNow 3 (some .int))) := lw_V q2188 q2190 qs116 q126 q2191
theorem h6_size : yX6_size.cls = RX6 ∧ yX6_size.cls ≠ "java/lang/invoke/MethodHandle" ∧ yX6_size.cls ≠ "java/lang/invoke/VarHandle" ∧ (parseMethodDescriptor yX6_size.desc).map (fun d => d.parameters.length) = some 1 := by decide +kernel
def w6_size (post : Int32 → MS → Prop) (tw : Option (Nat → Nat)) (S : MS) (x1 : Int32) : Prop :=
  (∀ S1, S1 = uI S 0 0 0 → ((¬ x1 = 10 → (w6_in (fun r3 => ((¬ r3 = 0 → ((tw = none → (post 0 S1)) ∧ ((∃ t, tw = some t) → ((x1 = 0 → (post (S1.1 20 0) S1)) ∧ (¬ x1 = 0 → ((x1 = 1 → (post (S1.1 20 1) S1)) ∧ (¬ x1 = 1 → ((x1 = 2 → (post (S1.1 20 2) S1)) ∧ (¬ x1 = 2 → ((x1 = 3 → (post (S1.1 20 3) S1)) ∧ (¬ x1 = 3 → ((x1 = 4 → (w6_mirrorsNow (fun r11 => (post r11 S1)) tw S1)) ∧ (¬ x1 = 4 → ((x1 = 5 → (post (S1.1 20 5) S1)) ∧ (¬ x1 = 5 → ((x1 = 6 → (post (S1.1 20 6) S1)) ∧ (¬ x1 = 6 → ((x1 = 7 → (post (S1.1 2 18) S1)) ∧ (¬ x1 = 7 → ((x1 = 8 → (post (S1.1 0 19) S1)) ∧ (¬ x1 = 8 → (post (S1.1 0 20) S1)))))))))))))))))))))) ∧ (r3 = 0 → (post (-1) S1)))) x1 0 9)) ∧ (x1 = 10 → (post (S1.1 0 6) S1))))
set_option maxHeartbeats 4000000 in
theorem m6_size (l : Launch) {post : Int32 → MS → Prop} {S : MS} {x1 : Int32} (hw : w6_size post tw S x1) : Met l yX6_size (ws_ yX6_size cX6_size 2 (some .int)) ({ frames := 1, cells := 0, slots := 0, locals := 22 } : Room) (va_Pc [.ref (ad 0), .int x1] (PcG D gCl nwG Z Hb A (wM D ad none rdv tw S))) (va_Qi post (BW D gCl A (fun u => (wM D ad none rdv tw u))) A) 0 0 A := by
  refine Met.ofG (by decide) (Nat.le_of_ble_eq_true rfl) ?_
  intro p e s m below meth c ls hC _ hP hD hS hl
  have hC : CX RX6 cX6_size 2 (some .int) D gCl nwG Z Hb A p s m _ meth c := hC
  have hl : lv_has ls 2 [(0, .ref (ad 0)), (1, .int x1)] := hl
  unfold w6_size at hw
  refine lv_aload_n hC.x hC.b dX6_size_0 rfl (lv_at hl 0 rfl) ?_
  refine lv_iconst (v := 0) hC.x hC.b dX6_size_1 (by decide) ?_
  refine pM_0 hC hP hD hS (v := 0) dX6_size_2 (fun S1 eS1 H locs hP hD hS => ?_)
  have hw1337 := hw S1 eS1
  refine lv_iload_n hC.x hC.b dX6_size_5 rfl (lv_at hl 1 rfl) ?_
  refine lv_bipush (v := 10) hC.x hC.b dX6_size_6 (by decide) ?_
  refine lv_icmp_ne (tgt := 16) hC.x hC.b dX6_size_8 (by decide) (fun c2 => ?_) (fun c2 => ?_)
  · have hw1338 := hw1337.1 c2
    refine lv_iload_n hC.x hC.b dX6_size_16 rfl (lv_at hl 1 rfl) ?_
    refine lv_iconst (v := 0) hC.x hC.b dX6_size_17 (by decide) ?_
    refine lv_bipush (v := 9) hC.x hC.b dX6_size_18 (by decide) ?_
    refine go_i (run_S (rest := []) hC (m6_in l hw1338) v6_6_in h6_in ⟨rfl, rfl, Nat.le_of_ble_eq_true rfl, Nat.le_of_ble_eq_true rfl⟩ ⟨Nat.le_refl _, Nat.le_refl _⟩ hP hD hS hl.1 (Nat.le_of_ble_eq_true rfl) dX6_size_20 rfl) hS (fun r3 u H locs hw1339 hP hD hS => ?_)
    refine lv_if_ne (tgt := 28) hC.x hC.b dX6_size_23 (by decide) (fun c4 => ?_) (fun c4 => ?_)
    · have hw1340 := hw1339.1 c4
      refine lv_aload_n hC.x hC.b dX6_size_28 rfl (lv_at hl 0 rfl) ?_
      refine gM_3 hC hP dX6_size_29 ?_
      rcases va_o2 tw with c5 | ⟨t, c5⟩
      · have hw1341 := hw1340.1 c5
        subst c5
        refine lv_ifnonnullN hC.x hC.b dX6_size_32 ?_
        refine lv_iconst (v := 0) hC.x hC.b dX6_size_35 (by decide) ?_
        exact rt_i hC hw1341 hP hD hS dX6_size_36
      · have hw1342 := hw1340.2 ⟨t, c5⟩
        subst c5
        refine lv_ifnonnull (tgt := 37) hC.x hC.b dX6_size_32 (by decide) ?_
        refine lv_iload_n hC.x hC.b dX6_size_37 rfl (lv_at hl 1 rfl) ?_
        by_cases c6 : x1 = 0
        · have hw1343 := hw1342.1 c6
          refine lv_tableIn (off := 50) (tgt := 88) hC.x hC.b dX6_size_38 (by rw [c6]; decide) (by rw [c6]; decide) (by rw [c6]; rfl) (by decide) ?_
          refine lv_aload_n hC.x hC.b dX6_size_88 rfl (lv_at hl 0 rfl) ?_
          refine gM_3 hC hP dX6_size_89 ?_
          refine gT_0 hC hP dX6_size_92 ?_
          exact rt_i hC hw1343 hP hD hS dX6_size_95
        · have hw1344 := hw1342.2 c6
          by_cases c7 : x1 = 1
          · have hw1345 := hw1344.1 c7
            refine lv_tableIn (off := 58) (tgt := 96) hC.x hC.b dX6_size_38 (by rw [c7]; decide) (by rw [c7]; decide) (by rw [c7]; rfl) (by decide) ?_
            refine lv_aload_n hC.x hC.b dX6_size_96 rfl (lv_at hl 0 rfl) ?_
            refine gM_3 hC hP dX6_size_97 ?_
            refine gT_1 hC hP dX6_size_100 ?_
            exact rt_i hC hw1345 hP hD hS dX6_size_103
          · have hw1346 := hw1344.2 c7
            by_cases c8 : x1 = 2
            · have hw1347 := hw1346.1 c8
              refine lv_tableIn (off := 66) (tgt := 104) hC.x hC.b dX6_size_38 (by rw [c8]; decide) (by rw [c8]; decide) (by rw [c8]; rfl) (by decide) ?_
              refine lv_aload_n hC.x hC.b dX6_size_104 rfl (lv_at hl 0 rfl) ?_
              refine gM_3 hC hP dX6_size_105 ?_
              refine gT_2 hC hP dX6_size_108 ?_
              exact rt_i hC hw1347 hP hD hS dX6_size_111
            · have hw1348 := hw1346.2 c8
              by_cases c9 : x1 = 3
              · have hw1349 := hw1348.1 c9
                refine lv_tableIn (off := 74) (tgt := 112) hC.x hC.b dX6_size_38 (by rw [c9]; decide) (by rw [c9]; decide) (by rw [c9]; rfl) (by decide) ?_
                refine lv_aload_n hC.x hC.b dX6_size_112 rfl (lv_at hl 0 rfl) ?_
                refine gM_3 hC hP dX6_size_113 ?_
                refine gT_3 hC hP dX6_size_116 ?_
                exact rt_i hC hw1349 hP hD hS dX6_size_119
              · have hw1350 := hw1348.2 c9
                by_cases c10 : x1 = 4
                · have hw1351 := hw1350.1 c10
                  refine lv_tableIn (off := 82) (tgt := 120) hC.x hC.b dX6_size_38 (by rw [c10]; decide) (by rw [c10]; decide) (by rw [c10]; rfl) (by decide) ?_
                  refine lv_aload_n hC.x hC.b dX6_size_120 rfl (lv_at hl 0 rfl) ?_
                  refine go_i (run_V (rest := []) hC (m6_mirrorsNow l hw1351) v6_6_mirrorsNow h6_mirrorsNow 0 5 gCl_X6 rfl rfl ⟨rfl, rfl, Nat.le_of_ble_eq_true rfl, Nat.le_of_ble_eq_true rfl⟩ ⟨Nat.le_refl _, Nat.le_refl _⟩ hP hD hS hl.1 (Nat.le_of_ble_eq_true rfl) dX6_size_121 rfl) hS (fun r11 u H locs hw1352 hP hD hS => ?_)
                  exact rt_i hC hw1352 hP hD hS dX6_size_124
                · have hw1353 := hw1350.2 c10
                  by_cases c12 : x1 = 5
                  · have hw1354 := hw1353.1 c12
                    refine lv_tableIn (off := 87) (tgt := 125) hC.x hC.b dX6_size_38 (by rw [c12]; decide) (by rw [c12]; decide) (by rw [c12]; rfl) (by decide) ?_
                    refine lv_aload_n hC.x hC.b dX6_size_125 rfl (lv_at hl 0 rfl) ?_
                    refine gM_3 hC hP dX6_size_126 ?_
                    refine gT_5 hC hP dX6_size_129 ?_
                    exact rt_i hC hw1354 hP hD hS dX6_size_132
                  · have hw1355 := hw1353.2 c12
                    by_cases c13 : x1 = 6
                    · have hw1356 := hw1355.1 c13
                      refine lv_tableIn (off := 95) (tgt := 133) hC.x hC.b dX6_size_38 (by rw [c13]; decide) (by rw [c13]; decide) (by rw [c13]; rfl) (by decide) ?_
                      refine lv_aload_n hC.x hC.b dX6_size_133 rfl (lv_at hl 0 rfl) ?_
                      refine gM_3 hC hP dX6_size_134 ?_
                      refine gT_6 hC hP dX6_size_137 ?_
                      exact rt_i hC hw1356 hP hD hS dX6_size_140
                    · have hw1357 := hw1355.2 c13
                      by_cases c14 : x1 = 7
                      · have hw1358 := hw1357.1 c14
                        refine lv_tableIn (off := 103) (tgt := 141) hC.x hC.b dX6_size_38 (by rw [c14]; decide) (by rw [c14]; decide) (by rw [c14]; rfl) (by decide) ?_
                        refine lv_aload_n hC.x hC.b dX6_size_141 rfl (lv_at hl 0 rfl) ?_
                        refine gM_15 hC hP dX6_size_142 ?_
                        refine lv_bipush (v := 18) hC.x hC.b dX6_size_145 (by decide) ?_
                        refine lM_2 hC hP (vp_lit rfl) (k := 18) rfl dX6_size_147 ?_
                        exact rt_i hC hw1358 hP hD hS dX6_size_148
                      · have hw1359 := hw1357.2 c14
                        by_cases c15 : x1 = 8
                        · have hw1360 := hw1359.1 c15
                          refine lv_tableIn (off := 111) (tgt := 149) hC.x hC.b dX6_size_38 (by rw [c15]; decide) (by rw [c15]; decide) (by rw [c15]; rfl) (by decide) ?_
                          refine lv_aload_n hC.x hC.b dX6_size_149 rfl (lv_at hl 0 rfl) ?_
                          refine gM_19 hC hP dX6_size_150 ?_
                          exact rt_i hC hw1360 hP hD hS dX6_size_153
                        · have hw1361 := hw1359.2 c15
                          refine lv_tableOut (tgt := 154) hC.x hC.b dX6_size_38 (by have q0 := lv_neT c6 (a := 0) rfl; have q1 := lv_neT c7 (a := 1) rfl; have q2 := lv_neT c8 (a := 2) rfl; have q3 := lv_neT c9 (a := 3) rfl; have q4 := lv_neT c10 (a := 4) rfl; have q5 := lv_neT c12 (a := 5) rfl; have q6 := lv_neT c13 (a := 6) rfl; have q7 := lv_neT c14 (a := 7) rfl; have q8 := lv_neT c15 (a := 8) rfl;  omega) (by decide) ?_
                          refine lv_aload_n hC.x hC.b dX6_size_154 rfl (lv_at hl 0 rfl) ?_
                          refine gM_20 hC hP dX6_size_155 ?_
                          exact rt_i hC hw1361 hP hD hS dX6_size_158
    · have hw1362 := hw1339.2 c4
      refine lv_iconst (v := (-1)) hC.x hC.b dX6_size_26 (by decide) ?_
      exact rt_i hC hw1362 hP hD hS dX6_size_27
  · have hw1363 := hw1337.2 c2
    refine lv_aload_n hC.x hC.b dX6_size_11 rfl (lv_at hl 0 rfl) ?_
    refine gM_6 hC hP dX6_size_12 ?_
    exact rt_i hC hw1363 hP hD hS dX6_size_15
theorem h6_trouble : yX6_trouble.cls = RX6 ∧ yX6_trouble.cls ≠ "java/lang/invoke/MethodHandle" ∧ yX6_trouble.cls ≠ "java/lang/invoke/VarHandle" ∧ (parseMethodDescriptor yX6_trouble.desc).map (fun d => d.parameters.length) = some 0 := by decide +kernel
def w6_trouble (post : Int32 → MS → Prop) (S : MS) : Prop :=
  (∀ S1, S1 = uI S 0 0 0 → (post (S1.1 0 1) S1))
set_option maxHeartbeats 4000000 in
theorem m6_trouble (l : Launch) {post : Int32 → MS → Prop} {S : MS} (hw : w6_trouble post S) : Met l yX6_trouble (ws_ yX6_trouble cX6_trouble 1 (some .int)) ({ frames := 0, cells := 0, slots := 0, locals := 0 } : Room) (va_Pc [.ref (ad 0)] (PcG D gCl nwG Z Hb A (wM D ad rd rdv tw S))) (va_Qi post (BW D gCl A (fun u => (wM D ad rd rdv tw u))) A) 0 0 A := by
  refine Met.ofG (by decide) (Nat.le_of_ble_eq_true rfl) ?_
  intro p e s m below meth c ls hC _ hP hD hS hl
  have hC : CX RX6 cX6_trouble 1 (some .int) D gCl nwG Z Hb A p s m _ meth c := hC
  have hl : lv_has ls 1 [(0, .ref (ad 0))] := hl
  unfold w6_trouble at hw
  refine lv_aload_n hC.x hC.b dX6_trouble_0 rfl (lv_at hl 0 rfl) ?_
  refine lv_iconst (v := 0) hC.x hC.b dX6_trouble_1 (by decide) ?_
  refine pM_0 hC hP hD hS (v := 0) dX6_trouble_2 (fun S1 eS1 H locs hP hD hS => ?_)
  have hw1364 := hw S1 eS1
  refine lv_aload_n hC.x hC.b dX6_trouble_5 rfl (lv_at hl 0 rfl) ?_
  refine gM_1 hC hP dX6_trouble_6 ?_
  exact rt_i hC hw1364 hP hD hS dX6_trouble_9
end MWm3
