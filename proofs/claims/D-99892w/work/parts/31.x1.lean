set_option maxRecDepth 100000
section XWa
variable {p : Program} {l : Launch} {e : Env} {s : State} {m : MethodId} {args : Array Value} {below : List Frame} {meth : Method} {c : Code} {D : va_G} {Z : State → Prop} {Hb : Heap} {A : Nat → Prop} {ad : Nat → Nat} {rf : Nat → Value} {tw : Option TD} {F : va_W}
theorem h2_see : yX2_see.cls = RX2 ∧ yX2_see.cls ≠ "java/lang/invoke/MethodHandle" ∧ yX2_see.cls ≠ "java/lang/invoke/VarHandle" ∧ (parseMethodDescriptor yX2_see.desc).map (fun d => d.parameters.length) = some 1 := by decide +kernel
def w2_see (post : Int32 → Prop) (tau : TD) (S : XS) (x1 : Int32) : Prop :=
  (((S.1.1.1 14 3) ≤ x1 → (post (-1))) ∧ (¬ (S.1.1.1 14 3) ≤ x1 → (vp_in x1 800 ∧ (post ((S.1.1.1 1 x1.toNatClampNeg) &&& 255)))))
set_option maxHeartbeats 8000000 in
theorem m2_see (l : Launch) {F : va_W} {post : Int32 → Prop} {tau : TD} {S : XS} {x1 : Int32} {adK adV : Nat → Nat} (hZ : ∀ U, Z U → zS adK adV A Hb U) (hw : w2_see post tau S x1) : Met l yX2_see (ws_ yX2_see cX2_see 2 (some .int)) ({ frames := 0, cells := 0, slots := 0, locals := 0 } : Room) (va_Pc [.ref (ad 14), .int x1] (PcG D gCl nwG Z Hb A (wX D ad rf tw F tau S))) (va_Qi (fun r (_ : Unit) => post r) (BW D gCl A (fun _ => wX D ad rf tw F tau S)) A) 0 0 A := by
  refine Met.ofG (by decide) (Nat.le_of_ble_eq_true rfl) ?_
  intro p e s m below meth c ls hC _ hP hD hS hl
  have hC : CX RX2 cX2_see 2 (some .int) D gCl nwG Z Hb A p s m _ meth c := hC
  have hl : lv_has ls 2 [(0, .ref (ad 14)), (1, .int x1)] := hl
  unfold w2_see at hw
  refine lv_iload_n hC.x hC.b dX2_see_0 rfl (lv_at hl 1 rfl) ?_
  refine lv_aload_n hC.x hC.b dX2_see_1 rfl (lv_at hl 0 rfl) ?_
  refine gXS_3 hC hP dX2_see_2 ?_
  refine lv_icmp_ge (tgt := 21) hC.x hC.b dX2_see_5 (by decide) (fun c1 => ?_) (fun c1 => ?_)
  · have hw45 := hw.1 c1
    refine lv_iconst (v := (-1)) hC.x hC.b dX2_see_21 (by decide) ?_
    refine W.widen (k := 0) (n := 0) (Nat.le_of_ble_eq_true rfl) (Nat.le_of_ble_eq_true rfl) ?_
    exact rt_i (u := ()) hC hw45 hP hD hS dX2_see_22
  · have hw46 := hw.2 c1
    refine lv_aload_n hC.x hC.b dX2_see_8 rfl (lv_at hl 0 rfl) ?_
    refine gXS_1 hC hP dX2_see_9 ?_
    refine lv_iload_n hC.x hC.b dX2_see_12 rfl (lv_at hl 1 rfl) ?_
    obtain ⟨hin2, hw47⟩ := hw46
    refine lXtape hC hP hin2 rfl dX2_see_13 ?_
    refine lv_sipush (v := 255) hC.x hC.b dX2_see_14 (by decide) ?_
    refine lv_iand hC.x hC.b dX2_see_17 ?_
    refine lv_goto (tgt := 22) hC.x hC.b dX2_see_18 (by decide) ?_
    refine W.widen (k := 0) (n := 0) (Nat.le_of_ble_eq_true rfl) (Nat.le_of_ble_eq_true rfl) ?_
    exact rt_i (u := ()) hC hw47 hP hD hS dX2_see_22
theorem h3_at : yX3_at.cls = RX3 ∧ yX3_at.cls ≠ "java/lang/invoke/MethodHandle" ∧ yX3_at.cls ≠ "java/lang/invoke/VarHandle" ∧ (parseMethodDescriptor yX3_at.desc).map (fun d => d.parameters.length) = some 2 := by decide +kernel
def w3_at (post : XS → Prop) (tau : TD) (S : XS) (x1 : Int32) (x2 : Int32) : Prop :=
  (∀ S1, S1 = xC S 15 6 x1 → (∀ S2, S2 = xC S1 15 7 x2 → (post S2)))
set_option maxHeartbeats 8000000 in
theorem m3_at (l : Launch) {F : va_W} {post : XS → Prop} {tau : TD} {S : XS} {x1 : Int32} {x2 : Int32} (hw : w3_at post tau S x1 x2) : Met l yX3_at (ws_ yX3_at cX3_at 3 (some (.object "SeanceStreet$Refused"))) ({ frames := 0, cells := 0, slots := 0, locals := 0 } : Room) (va_Pc [.ref (ad 15), .int x1, .int x2] (PcG D gCl nwG Z Hb A (wX D ad rf tw F tau S))) (va_Qr (fun _ => True) (fun (u : XS) x t => (x = ad 15 ∧ post u) ∧ BW D gCl A (fun u => wX D ad rf tw F tau u) u t) A) 0 0 A := by
  refine Met.ofG (by decide) (Nat.le_of_ble_eq_true rfl) ?_
  intro p e s m below meth c ls hC _ hP hD hS hl
  have hC : CX RX3 cX3_at 3 (some (.object "SeanceStreet$Refused")) D gCl nwG Z Hb A p s m _ meth c := hC
  have hl : lv_has ls 3 [(0, .ref (ad 15)), (1, .int x1), (2, .int x2)] := hl
  unfold w3_at at hw
  refine lv_aload_n hC.x hC.b dX3_at_0 rfl (lv_at hl 0 rfl) ?_
  refine lv_iload_n hC.x hC.b dX3_at_1 rfl (lv_at hl 1 rfl) ?_
  refine pXR_6 hC hP hD hS (v := x1) dX3_at_2 (fun S1 eS1 H locs hP hD hS => ?_)
  have hw48 := hw S1 eS1
  refine lv_aload_n hC.x hC.b dX3_at_5 rfl (lv_at hl 0 rfl) ?_
  refine lv_iload_n hC.x hC.b dX3_at_6 rfl (lv_at hl 2 rfl) ?_
  refine pXR_7 hC hP hD hS (v := x2) dX3_at_7 (fun S2 eS2 H locs hP hD hS => ?_)
  have hw49 := hw48 S2 eS2
  refine lv_aload_n hC.x hC.b dX3_at_10 rfl (lv_at hl 0 rfl) ?_
  refine W.widen (k := 0) (n := 0) (Nat.le_of_ble_eq_true rfl) (Nat.le_of_ble_eq_true rfl) ?_
  exact rx_r (u := S2) (post := fun x u => x = ad 15 ∧ post u) hC ⟨_, rfl⟩ ⟨rfl, hw49⟩ hP hD hS dX3_at_11
theorem vX2_3_at : GoodIn lw_all (wsV RX2 30 RX3 yX3_at (ws_ yX3_at cX3_at 3 (some (.object "SeanceStreet$Refused")))) := lw_V q619 q620 q621 q123 q622
theorem h2_fail : yX2_fail.cls = RX2 ∧ yX2_fail.cls ≠ "java/lang/invoke/MethodHandle" ∧ yX2_fail.cls ≠ "java/lang/invoke/VarHandle" ∧ (parseMethodDescriptor yX2_fail.desc).map (fun d => d.parameters.length) = some 1 := by decide +kernel
def w2_fail (post : XS → Prop) (tau : TD) (S : XS) (x1 : Int32) : Prop :=
  (w3_at (fun S1 => (post S1)) tau S x1 (S.1.1.1 14 6))
set_option maxHeartbeats 8000000 in
theorem m2_fail (l : Launch) {F : va_W} {post : XS → Prop} {tau : TD} {S : XS} {x1 : Int32} {adK adV : Nat → Nat} (hZ : ∀ U, Z U → zS adK adV A Hb U) (hw : w2_fail post tau S x1) : Met l yX2_fail (ws_ yX2_fail cX2_fail 2 (some (.object "SeanceStreet$Refused"))) ({ frames := 1, cells := 0, slots := 0, locals := 22 } : Room) (va_Pc [.ref (ad 14), .int x1] (PcG D gCl nwG Z Hb A (wX D ad rf tw F tau S))) (va_Qr (fun _ => True) (fun (u : XS) x t => (x = ad 15 ∧ post u) ∧ BW D gCl A (fun u => wX D ad rf tw F tau u) u t) A) 0 0 A := by
  refine Met.ofG (by decide) (Nat.le_of_ble_eq_true rfl) ?_
  intro p e s m below meth c ls hC _ hP hD hS hl
  have hC : CX RX2 cX2_fail 2 (some (.object "SeanceStreet$Refused")) D gCl nwG Z Hb A p s m _ meth c := hC
  have hl : lv_has ls 2 [(0, .ref (ad 14)), (1, .int x1)] := hl
  unfold w2_fail at hw
  refine lv_aload_n hC.x hC.b dX2_fail_0 rfl (lv_at hl 0 rfl) ?_
  refine gXS_0 hC hP dX2_fail_1 ?_
  refine lv_iload_n hC.x hC.b dX2_fail_4 rfl (lv_at hl 1 rfl) ?_
  refine lv_aload_n hC.x hC.b dX2_fail_5 rfl (lv_at hl 0 rfl) ?_
  refine gXS_6 hC hP dX2_fail_6 ?_
  refine go_rr (run_V (rm := ({ frames := 0, cells := 0, slots := 0, locals := 0 } : Room)) (mc := 0) (ms := 0) (rest := []) (As := [.int x1, .int (S.1.1.1 14 6)]) hC (m3_at (F := F) (tau := tau) l hw) vX2_3_at h3_at ((F : va_W).length + 15) 2 gCl_X3 (wX_c (xc_f (by omega) rfl)) rfl ⟨rfl, rfl, Nat.le_of_ble_eq_true rfl, Nat.le_of_ble_eq_true rfl⟩ ⟨Nat.le_of_ble_eq_true rfl, Nat.le_of_ble_eq_true rfl⟩ hP hD hS hl.1 (Nat.le_of_ble_eq_true rfl) dX2_fail_9 rfl) hS (fun r2 S1 H locs hw50 hP hD hS => ?_)
  obtain ⟨rfl, hw50⟩ := hw50
  refine W.widen (k := 0) (n := 0) (Nat.le_of_ble_eq_true rfl) (Nat.le_of_ble_eq_true rfl) ?_
  exact rx_r (u := S1) (post := fun x u => x = ad 15 ∧ post u) hC ⟨_, rfl⟩ ⟨rfl, hw50⟩ hP hD hS dX2_fail_12
theorem h2_isSmall : yX2_isSmall.cls ≠ "java/lang/invoke/MethodHandle" ∧ yX2_isSmall.cls ≠ "java/lang/invoke/VarHandle" ∧ (parseMethodDescriptor yX2_isSmall.desc).map (fun d => d.parameters.length) = some 1 := by decide +kernel
def w2_isSmall (post : Int32 → Prop) (tau : TD) (S : XS) (x0 : Int32) : Prop :=
  (w1_in (fun r1 => ((r1 = 0 ∨ r1 = 1) ∧ post r1)) x0 97 122)
set_option maxHeartbeats 8000000 in
theorem m2_isSmall (l : Launch) {F : va_W} {post : Int32 → Prop} {tau : TD} {S : XS} {x0 : Int32} {adK adV : Nat → Nat} (hZ : ∀ U, Z U → zS adK adV A Hb U) (hw : w2_isSmall post tau S x0) : Met l yX2_isSmall (ws_ yX2_isSmall cX2_isSmall 1 (some .boolean)) ({ frames := 1, cells := 0, slots := 0, locals := 22 } : Room) (va_Pc [.int x0] (PcG D gCl nwG Z Hb A (wX D ad rf tw F tau S))) (va_Qi (fun r (_ : Unit) => post r) (BW D gCl A (fun _ => wX D ad rf tw F tau S)) A) 0 0 A := by
  refine Met.ofG (by decide) (Nat.le_of_ble_eq_true rfl) ?_
  intro p e s m below meth c ls hC _ hP hD hS hl
  have hC : CX RX2 cX2_isSmall 1 (some .boolean) D gCl nwG Z Hb A p s m _ meth c := hC
  have hl : lv_has ls 1 [(0, .int x0)] := hl
  unfold w2_isSmall at hw
  refine lv_iload_n hC.x hC.b dX2_isSmall_0 rfl (lv_at hl 0 rfl) ?_
  refine lv_bipush (v := 97) hC.x hC.b dX2_isSmall_1 (by decide) ?_
  refine lv_bipush (v := 122) hC.x hC.b dX2_isSmall_3 (by decide) ?_
  refine go_i (run_SN (rest := []) hC (m1_in l hw) (hC.K.use 6 rfl) ⟨q434, q118, q433⟩ h1_in ⟨rfl, rfl, Nat.le_of_ble_eq_true rfl, Nat.le_of_ble_eq_true rfl⟩ ⟨Nat.le_of_ble_eq_true rfl, Nat.le_of_ble_eq_true rfl⟩ hP hD hS hl.1 (Nat.le_of_ble_eq_true rfl) dX2_isSmall_5 rfl) hS (fun r1 u H locs hw51 hP hD hS => ?_)
  refine W.widen (k := 0) (n := 0) (Nat.le_of_ble_eq_true rfl) (Nat.le_of_ble_eq_true rfl) ?_
  exact rt_z (u := ()) hC hw51.1 hw51.2 hP hD hS dX2_isSmall_8
theorem h2_isDigit : yX2_isDigit.cls ≠ "java/lang/invoke/MethodHandle" ∧ yX2_isDigit.cls ≠ "java/lang/invoke/VarHandle" ∧ (parseMethodDescriptor yX2_isDigit.desc).map (fun d => d.parameters.length) = some 1 := by decide +kernel
def w2_isDigit (post : Int32 → Prop) (tau : TD) (S : XS) (x0 : Int32) : Prop :=
  (w1_in (fun r1 => ((r1 = 0 ∨ r1 = 1) ∧ post r1)) x0 48 57)
set_option maxHeartbeats 8000000 in
theorem m2_isDigit (l : Launch) {F : va_W} {post : Int32 → Prop} {tau : TD} {S : XS} {x0 : Int32} {adK adV : Nat → Nat} (hZ : ∀ U, Z U → zS adK adV A Hb U) (hw : w2_isDigit post tau S x0) : Met l yX2_isDigit (ws_ yX2_isDigit cX2_isDigit 1 (some .boolean)) ({ frames := 1, cells := 0, slots := 0, locals := 22 } : Room) (va_Pc [.int x0] (PcG D gCl nwG Z Hb A (wX D ad rf tw F tau S))) (va_Qi (fun r (_ : Unit) => post r) (BW D gCl A (fun _ => wX D ad rf tw F tau S)) A) 0 0 A := by
  refine Met.ofG (by decide) (Nat.le_of_ble_eq_true rfl) ?_
  intro p e s m below meth c ls hC _ hP hD hS hl
  have hC : CX RX2 cX2_isDigit 1 (some .boolean) D gCl nwG Z Hb A p s m _ meth c := hC
  have hl : lv_has ls 1 [(0, .int x0)] := hl
  unfold w2_isDigit at hw
  refine lv_iload_n hC.x hC.b dX2_isDigit_0 rfl (lv_at hl 0 rfl) ?_
  refine lv_bipush (v := 48) hC.x hC.b dX2_isDigit_1 (by decide) ?_
  refine lv_bipush (v := 57) hC.x hC.b dX2_isDigit_3 (by decide) ?_
  refine go_i (run_SN (rest := []) hC (m1_in l hw) (hC.K.use 6 rfl) ⟨q434, q118, q433⟩ h1_in ⟨rfl, rfl, Nat.le_of_ble_eq_true rfl, Nat.le_of_ble_eq_true rfl⟩ ⟨Nat.le_of_ble_eq_true rfl, Nat.le_of_ble_eq_true rfl⟩ hP hD hS hl.1 (Nat.le_of_ble_eq_true rfl) dX2_isDigit_5 rfl) hS (fun r1 u H locs hw52 hP hD hS => ?_)
  refine W.widen (k := 0) (n := 0) (Nat.le_of_ble_eq_true rfl) (Nat.le_of_ble_eq_true rfl) ?_
  exact rt_z (u := ()) hC hw52.1 hw52.2 hP hD hS dX2_isDigit_8
theorem vX2_2_isSmall : GoodIn lw_all (va_wsS RX2 50 yX2_isSmall (ws_ yX2_isSmall cX2_isSmall 1 (some .boolean))) := lw_S q525 q526 q119 q527
theorem vX2_2_isDigit : GoodIn lw_all (va_wsS RX2 65 yX2_isDigit (ws_ yX2_isDigit cX2_isDigit 1 (some .boolean))) := lw_S q608 q609 q119 q610
theorem vX2_2_see : GoodIn lw_all (wsV RX2 43 RX2 yX2_see (ws_ yX2_see cX2_see 2 (some .int))) := lw_V q521 q523 qs5 q119 q524
theorem h2_step : yX2_step.cls = RX2 ∧ yX2_step.cls ≠ "java/lang/invoke/MethodHandle" ∧ yX2_step.cls ≠ "java/lang/invoke/VarHandle" ∧ (parseMethodDescriptor yX2_step.desc).map (fun d => d.parameters.length) = some 0 := by decide +kernel
def f2_step_202 (post : XS → Prop) (tau : TD) (x1 : Int32) (K202 : XS → Prop) (S : XS) : Prop :=
  (w2_see (fun r21 => (w2_isDigit (fun r23 => ((r23 = 0 → ((((S.1.1.1 14 4) - x1) ≤ 3 → (∀ S26, S26 = xC S 14 5 3 → (post S26))) ∧ (¬ ((S.1.1.1 14 4) - x1) ≤ 3 → (∀ S27, S27 = xC S 14 5 1 → (post S27))))) ∧ (¬ r23 = 0 → ((3 ≤ ((S.1.1.1 14 4) - x1) → (∀ S29, S29 = xC S 14 4 ((S.1.1.1 14 4) + 1) → (K202 S29))) ∧ (¬ 3 ≤ ((S.1.1.1 14 4) - x1) → (w2_see (fun r31 => (∀ S32, S32 = xC S 14 7 (((10 * (S.1.1.1 14 7)) + r31) - 48) → (∀ S33, S33 = xC S32 14 4 ((S32.1.1.1 14 4) + 1) → (K202 S33)))) tau S (S.1.1.1 14 4))))))) tau S r21)) tau S (S.1.1.1 14 4))
set_option maxHeartbeats 4000000 in
theorem k2_step_202 {post : XS → Prop} {tau : TD} {x1 : Int32} (hC : CX RX2 cX2_step 3 none D gCl nwG Z Hb A p s m args meth c) {adK adV : Nat → Nat} (hZ : ∀ U, Z U → zS adK adV A Hb U) : ∀ z : XS, lp (fun (K : XS → Prop) (z : XS) => f2_step_202 post tau x1 K z) z → ∀ (H : Heap) (locs : List Loc) (ls : Array Slot), va_P D gCl (wX D ad rf tw F tau z) H → va_D A (wX D ad rf tw F tau z) → va_S A s.heap H locs → lv_has ls 3 [(0, .ref (ad 14)), (1, .int x1)] → W p l e ({ frames := 4, cells := 2, slots := 12, locals := 203 } : Room) s m args below meth c H locs 0 0 (MQ below (va_Qv post (BW D gCl A (fun u => wX D ad rf tw F tau u)) A) args s 2 12 A) (F0 m 202 ls []) := by
  refine lp_ind ?_
  rintro K202 S hK202 hw H locs ls hP hD hS hl
  have hw : f2_step_202 post tau x1 K202 S := hw
  unfold f2_step_202 at hw
  have hP : va_P D gCl (wX D ad rf tw F tau S) H := hP
  have hD : va_D A (wX D ad rf tw F tau S) := hD
  have hl : lv_has ls 3 [(0, .ref (ad 14)), (1, .int x1)] := hl
  refine lv_aload_n hC.x hC.b dX2_step_202 rfl (lv_at hl 0 rfl) ?_
  refine lv_aload_n hC.x hC.b dX2_step_203 rfl (lv_at hl 0 rfl) ?_
  refine gXS_4 hC hP dX2_step_204 ?_
  refine go_i (run_V (rm := ({ frames := 0, cells := 0, slots := 0, locals := 0 } : Room)) (mc := 0) (ms := 0) (rest := []) (As := [.int (S.1.1.1 14 4)]) hC (m2_see l hZ hw) vX2_2_see h2_see ((F : va_W).length + 14) 1 gCl_X2 (wX_c (xc_f (by omega) rfl)) rfl ⟨rfl, rfl, Nat.le_of_ble_eq_true rfl, Nat.le_of_ble_eq_true rfl⟩ ⟨Nat.le_of_ble_eq_true rfl, Nat.le_of_ble_eq_true rfl⟩ hP hD hS hl.1 (Nat.le_of_ble_eq_true rfl) dX2_step_207 rfl) hS (fun r21 u H locs hw70 hP hD hS => ?_)
  refine go_i (run_S (rest := []) hC (m2_isDigit l hZ hw70) vX2_2_isDigit h2_isDigit ⟨rfl, rfl, Nat.le_of_ble_eq_true rfl, Nat.le_of_ble_eq_true rfl⟩ ⟨Nat.le_of_ble_eq_true rfl, Nat.le_of_ble_eq_true rfl⟩ hP hD hS hl.1 (Nat.le_of_ble_eq_true rfl) dX2_step_210 rfl) hS (fun r23 u H locs hw71 hP hD hS => ?_)
  refine lv_if_eq (tgt := 262) hC.x hC.b dX2_step_213 (by decide) (fun c24 => ?_) (fun c24 => ?_)
  · have hw72 := hw71.1 c24
    refine lv_aload_n hC.x hC.b dX2_step_262 rfl (lv_at hl 0 rfl) ?_
    refine lv_aload_n hC.x hC.b dX2_step_263 rfl (lv_at hl 0 rfl) ?_
    refine gXS_4 hC hP dX2_step_264 ?_
    refine lv_iload_n hC.x hC.b dX2_step_267 rfl (lv_at hl 1 rfl) ?_
    refine lv_isub hC.x hC.b dX2_step_268 ?_
    refine lv_iconst (v := 3) hC.x hC.b dX2_step_269 (by decide) ?_
    refine lv_icmp_le (tgt := 277) hC.x hC.b dX2_step_270 (by decide) (fun c25 => ?_) (fun c25 => ?_)
    · have hw73 := hw72.1 c25
      refine lv_iconst (v := 3) hC.x hC.b dX2_step_277 (by decide) ?_
      refine pXS_5 hC hP hD hS (v := 3) dX2_step_278 (fun S26 eS26 H locs hP hD hS => ?_)
      have hw74 := hw73 S26 eS26
      refine lv_goto (tgt := 299) hC.x hC.b dX2_step_281 (by decide) ?_
      refine W.widen (k := 2) (n := 12) (Nat.le_of_ble_eq_true rfl) (Nat.le_of_ble_eq_true rfl) ?_
      exact rt_v hC hw74 hP hD hS dX2_step_299
    · have hw75 := hw72.2 c25
      refine lv_iconst (v := 1) hC.x hC.b dX2_step_273 (by decide) ?_
      refine lv_goto (tgt := 278) hC.x hC.b dX2_step_274 (by decide) ?_
      refine pXS_5 hC hP hD hS (v := 1) dX2_step_278 (fun S27 eS27 H locs hP hD hS => ?_)
      have hw76 := hw75 S27 eS27
      refine lv_goto (tgt := 299) hC.x hC.b dX2_step_281 (by decide) ?_
      refine W.widen (k := 2) (n := 12) (Nat.le_of_ble_eq_true rfl) (Nat.le_of_ble_eq_true rfl) ?_
      exact rt_v hC hw76 hP hD hS dX2_step_299
  · have hw77 := hw71.2 c24
    refine lv_aload_n hC.x hC.b dX2_step_216 rfl (lv_at hl 0 rfl) ?_
    refine gXS_4 hC hP dX2_step_217 ?_
    refine lv_iload_n hC.x hC.b dX2_step_220 rfl (lv_at hl 1 rfl) ?_
    refine lv_isub hC.x hC.b dX2_step_221 ?_
    refine lv_iconst (v := 3) hC.x hC.b dX2_step_222 (by decide) ?_
    refine lv_icmp_ge (tgt := 249) hC.x hC.b dX2_step_223 (by decide) (fun c28 => ?_) (fun c28 => ?_)
    · have hw78 := hw77.1 c28
      refine lv_aload_n hC.x hC.b dX2_step_249 rfl (lv_at hl 0 rfl) ?_
      refine lv_dup hC.x hC.b dX2_step_250 rfl ?_
      refine gXS_4 hC hP dX2_step_251 ?_
      refine lv_iconst (v := 1) hC.x hC.b dX2_step_254 (by decide) ?_
      refine lv_iadd hC.x hC.b dX2_step_255 ?_
      refine pXS_4 hC hP hD hS (v := ((S.1.1.1 14 4) + 1)) dX2_step_256 (fun S29 eS29 H locs hP hD hS => ?_)
      have hw79 := hw78 S29 eS29
      refine lv_goto (tgt := 202) hC.x hC.b dX2_step_259 (by decide) ?_
      exact hK202 S29 hw79 H locs ls hP hD hS (lv_sub hl [0, 1] rfl)
    · have hw80 := hw77.2 c28
      refine lv_aload_n hC.x hC.b dX2_step_226 rfl (lv_at hl 0 rfl) ?_
      refine lv_bipush (v := 10) hC.x hC.b dX2_step_227 (by decide) ?_
      refine lv_aload_n hC.x hC.b dX2_step_229 rfl (lv_at hl 0 rfl) ?_
      refine gXS_7 hC hP dX2_step_230 ?_
      refine lv_imul hC.x hC.b dX2_step_233 ?_
      refine lv_aload_n hC.x hC.b dX2_step_234 rfl (lv_at hl 0 rfl) ?_
      refine lv_aload_n hC.x hC.b dX2_step_235 rfl (lv_at hl 0 rfl) ?_
      refine gXS_4 hC hP dX2_step_236 ?_
      refine go_i (run_V (rm := ({ frames := 0, cells := 0, slots := 0, locals := 0 } : Room)) (mc := 0) (ms := 0) (rest := [.int (10 * (S.1.1.1 14 7)), .ref (ad 14)]) (As := [.int (S.1.1.1 14 4)]) hC (m2_see l hZ hw80) vX2_2_see h2_see ((F : va_W).length + 14) 1 gCl_X2 (wX_c (xc_f (by omega) rfl)) rfl ⟨rfl, rfl, Nat.le_of_ble_eq_true rfl, Nat.le_of_ble_eq_true rfl⟩ ⟨Nat.le_of_ble_eq_true rfl, Nat.le_of_ble_eq_true rfl⟩ hP hD hS hl.1 (Nat.le_of_ble_eq_true rfl) dX2_step_239 rfl) hS (fun r31 u H locs hw81 hP hD hS => ?_)
      refine lv_iadd hC.x hC.b dX2_step_242 ?_
      refine lv_bipush (v := 48) hC.x hC.b dX2_step_243 (by decide) ?_
      refine lv_isub hC.x hC.b dX2_step_245 ?_
      refine pXS_7 hC hP hD hS (v := (((10 * (S.1.1.1 14 7)) + r31) - 48)) dX2_step_246 (fun S32 eS32 H locs hP hD hS => ?_)
      have hw82 := hw81 S32 eS32
      refine lv_aload_n hC.x hC.b dX2_step_249 rfl (lv_at hl 0 rfl) ?_
      refine lv_dup hC.x hC.b dX2_step_250 rfl ?_
      refine gXS_4 hC hP dX2_step_251 ?_
      refine lv_iconst (v := 1) hC.x hC.b dX2_step_254 (by decide) ?_
      refine lv_iadd hC.x hC.b dX2_step_255 ?_
      refine pXS_4 hC hP hD hS (v := ((S32.1.1.1 14 4) + 1)) dX2_step_256 (fun S33 eS33 H locs hP hD hS => ?_)
      have hw83 := hw82 S33 eS33
      refine lv_goto (tgt := 202) hC.x hC.b dX2_step_259 (by decide) ?_
      exact hK202 S33 hw83 H locs ls hP hD hS (lv_sub hl [0, 1] rfl)
def j2_step_144 (post : XS → Prop) (S : XS) (x1 : Int32) (y1 : Int32) : Prop :=
  (∀ S41, S41 = xC S 14 5 y1 → ((¬ (S41.1.1.1 14 5) = 2 → (∀ k43 : Nat, (∀ S44, S44 = xW S41 (some k43) → (post S44)))) ∧ ((S41.1.1.1 14 5) = 2 → (∀ q45 : Nat, (∃ n46 : Nat, ((S41.1.1.1 14 4) - x1) = nI n46 ∧ 1 ≤ n46 ∧ n46 ≤ 8 ∧ (∀ j, j < n46 → ∃ k : Nat, k < 128 ∧ S41.1.1.1 16 j = nI k) ∧ ∀ b51 : Nat, ∀ S52, S52 = xL S41 (S41.2.2.2 ++ [(q45, b51, bsOf (S41.1.1.1 16) n46, false)]) → (∀ S53, S53 = xW S52 (some q45) → (post S53)))))))
set_option maxHeartbeats 4000000 in
theorem k2_step_144 {post : XS → Prop} {tau : TD} {S : XS} {x1 : Int32} {y1 : Int32} (hC : CX RX2 cX2_step 3 none D gCl nwG Z Hb A p s m args meth c) {adK adV : Nat → Nat} (hZ : ∀ U, Z U → zS adK adV A Hb U) (hw : j2_step_144 post S x1 y1) : ∀ (H : Heap) (locs : List Loc) (ls : Array Slot), va_P D gCl (wX D ad rf tw F tau S) H → va_D A (wX D ad rf tw F tau S) → va_S A s.heap H locs → lv_has ls 3 [(0, .ref (ad 14)), (1, .int x1)] → W p l e ({ frames := 4, cells := 2, slots := 12, locals := 203 } : Room) s m args below meth c H locs 0 0 (MQ below (va_Qv post (BW D gCl A (fun u => wX D ad rf tw F tau u)) A) args s 2 12 A) (F0 m 144 ls [.int y1, .ref (ad 14)]) := by
  intro H locs ls hP hD hS hl
  unfold j2_step_144 at hw
  refine pXS_5 hC hP hD hS (v := y1) dX2_step_144 (fun S41 eS41 H locs hP hD hS => ?_)
  have hw90 := hw S41 eS41
  refine lv_aload_n hC.x hC.b dX2_step_147 rfl (lv_at hl 0 rfl) ?_
  refine lv_aload_n hC.x hC.b dX2_step_148 rfl (lv_at hl 0 rfl) ?_
  refine gXS_5 hC hP dX2_step_149 ?_
  refine lv_iconst (v := 2) hC.x hC.b dX2_step_152 (by decide) ?_
  refine lv_icmp_ne (tgt := 177) hC.x hC.b dX2_step_153 (by decide) (fun c42 => ?_) (fun c42 => ?_)
  · have hw91 := hw90.1 c42
    refine va_ldcS hC.x hC.b hC.ow ((hZ s hC.K.2.2.2).2.2.2.1 0 _ rfl).1 dX2_step_177 ?_
    obtain ⟨k43, ek43⟩ : ∃ z : Nat, z = adK 0 := ⟨_, rfl⟩
    rw [← ek43]
    have hw92 := hw91 k43
    refine pXS_8 hC hP hD hS (v := some k43) dX2_step_179 (fun S44 eS44 H locs hP hD hS => ?_)
    have hw93 := hw92 S44 eS44
    refine lv_goto (tgt := 299) hC.x hC.b dX2_step_182 (by decide) ?_
    refine W.widen (k := 2) (n := 12) (Nat.le_of_ble_eq_true rfl) (Nat.le_of_ble_eq_true rfl) ?_
    exact rt_v hC hw93 hP hD hS dX2_step_299
  · have hw94 := hw90.2 c42
    refine va_new (ci := 13) (fs := [.null, .int 0, .int 0, .int 0]) (C := RJ3) (T := TJ3) (N := 4) hC.x hC.b hC.ts in_J3 tyJ3 tyJ3_ok hC.ow (hC.ts _ q529) (hC.ts _ q530) (hC.ts _ q128) hC.K.1 hP hD hS hC.aA gCl_J3 (fun j hj => by rcases nle4 j hj with rfl | rfl | rfl | rfl <;> rfl) (Nat.le_of_ble_eq_true rfl) (Nat.le_of_ble_eq_true rfl) dX2_step_156 (fun q45 H hP hD hS => ?_)
    have hP : va_P D gCl (wX D ad rf tw ((q45, .inr (13, [.null, .int 0, .int 0, .int 0])) :: F) tau S41) H := rot_P hP
    have hD : va_D A (wX D ad rf tw ((q45, .inr (13, [.null, .int 0, .int 0, .int 0])) :: F) tau S41) := rot_D hD
    have hw95 := hw94 q45
    refine lv_dup hC.x hC.b dX2_step_159 rfl ?_
    refine lv_aload_n hC.x hC.b dX2_step_160 rfl (lv_at hl 0 rfl) ?_
    refine gXS_2 hC hP dX2_step_161 ?_
    refine lv_iconst (v := 0) hC.x hC.b dX2_step_164 (by decide) ?_
    refine lv_aload_n hC.x hC.b dX2_step_165 rfl (lv_at hl 0 rfl) ?_
    refine gXS_4 hC hP dX2_step_166 ?_
    refine lv_iload_n hC.x hC.b dX2_step_169 rfl (lv_at hl 1 rfl) ?_
    refine lv_isub hC.x hC.b dX2_step_170 ?_
    obtain ⟨n46, en47, g48, g49, g50, hw96⟩ := hw95
    rw [en47]
    have hP : va_P D gCl ((wX D ad rf tw F tau S41) ++ [(q45, .inr (13, [.null, .int 0, .int 0, .int 0]))]) H := rotb_P hP
    have hD : va_D A ((wX D ad rf tw F tau S41) ++ [(q45, .inr (13, [.null, .int 0, .int 0, .int 0]))]) := rotb_D hD
    refine go_v (run_I (rest := [.ref q45, .ref (ad 14)]) hC (mJ3_init (w := (wX D ad rf tw F tau S41)) l hZ (q := F.length + 16) (nC := 8) (cf := S41.1.1.1 16) (n := n46) (List.getElem?_eq_some_iff.mp (wX_c (xc_f (by omega) rfl) : ((wX D ad rf tw F tau S41))[F.length + 16]? = some (ad 16, .inl (D.1 103, 8, .inl (S41.1.1.1 16))))).1 (wX_c (xc_f (by omega) rfl)) g48 g49 (Nat.le_refl _) g50) q531 ⟨q533, q128, q532⟩ hJ3_init rfl ⟨rfl, rfl, Nat.le_of_ble_eq_true rfl, Nat.le_of_ble_eq_true rfl⟩ ⟨Nat.le_of_ble_eq_true rfl, Nat.le_of_ble_eq_true rfl⟩ hP hD hS hl.1 (Nat.le_of_ble_eq_true rfl) dX2_step_171 rfl) hS (fun b51 H locs _ hP hD hS => ?_)
    rw [wX_str] at hP hD
    obtain ⟨S52, eS52⟩ : ∃ z, z = xL S41 (S41.2.2.2 ++ [(q45, b51, bsOf (S41.1.1.1 16) n46, false)]) := ⟨_, rfl⟩
    rw [← eS52] at hP hD
    have hw97 := hw96 b51 S52 eS52
    refine lv_goto (tgt := 179) hC.x hC.b dX2_step_174 (by decide) ?_
    refine pXS_8 hC hP hD hS (v := some q45) dX2_step_179 (fun S53 eS53 H locs hP hD hS => ?_)
    have hw98 := hw97 S53 eS53
    refine lv_goto (tgt := 299) hC.x hC.b dX2_step_182 (by decide) ?_
    refine W.widen (k := 2) (n := 12) (Nat.le_of_ble_eq_true rfl) (Nat.le_of_ble_eq_true rfl) ?_
    exact rt_v hC hw98 hP hD hS dX2_step_299
def f2_step_69 (post : XS → Prop) (tau : TD) (x1 : Int32) (K69 : XS → Prop) (S : XS) : Prop :=
  (w2_see (fun r36 => (w2_isSmall (fun r38 => ((r38 = 0 → ((((S.1.1.1 14 4) - x1) ≤ 8 → (j2_step_144 post S x1 2)) ∧ (¬ ((S.1.1.1 14 4) - x1) ≤ 8 → (j2_step_144 post S x1 1)))) ∧ (¬ r38 = 0 → ((8 ≤ ((S.1.1.1 14 4) - x1) → (∀ S55, S55 = xC S 14 4 ((S.1.1.1 14 4) + 1) → (K69 S55))) ∧ (¬ 8 ≤ ((S.1.1.1 14 4) - x1) → (w2_see (fun r57 => (vp_in ((S.1.1.1 14 4) - x1) 8 ∧ (∀ S59, S59 = xC S 16 ((S.1.1.1 14 4) - x1).toNatClampNeg (vp_nar .char ((r57.toUInt32 % 65536).toInt32)) → (∀ S60, S60 = xC S59 14 4 ((S59.1.1.1 14 4) + 1) → (K69 S60))))) tau S (S.1.1.1 14 4))))))) tau S r36)) tau S (S.1.1.1 14 4))
set_option maxHeartbeats 4000000 in
theorem k2_step_69 {post : XS → Prop} {tau : TD} {x1 : Int32} (hC : CX RX2 cX2_step 3 none D gCl nwG Z Hb A p s m args meth c) {adK adV : Nat → Nat} (hZ : ∀ U, Z U → zS adK adV A Hb U) : ∀ z : XS, lp (fun (K : XS → Prop) (z : XS) => f2_step_69 post tau x1 K z) z → ∀ (H : Heap) (locs : List Loc) (ls : Array Slot), va_P D gCl (wX D ad rf tw F tau z) H → va_D A (wX D ad rf tw F tau z) → va_S A s.heap H locs → lv_has ls 3 [(0, .ref (ad 14)), (1, .int x1)] → W p l e ({ frames := 4, cells := 2, slots := 12, locals := 203 } : Room) s m args below meth c H locs 0 0 (MQ below (va_Qv post (BW D gCl A (fun u => wX D ad rf tw F tau u)) A) args s 2 12 A) (F0 m 69 ls []) := by
  refine lp_ind ?_
  rintro K69 S hK69 hw H locs ls hP hD hS hl
  have hw : f2_step_69 post tau x1 K69 S := hw
  unfold f2_step_69 at hw
  have hP : va_P D gCl (wX D ad rf tw F tau S) H := hP
  have hD : va_D A (wX D ad rf tw F tau S) := hD
  have hl : lv_has ls 3 [(0, .ref (ad 14)), (1, .int x1)] := hl
  refine lv_aload_n hC.x hC.b dX2_step_69 rfl (lv_at hl 0 rfl) ?_
  refine lv_aload_n hC.x hC.b dX2_step_70 rfl (lv_at hl 0 rfl) ?_
  refine gXS_4 hC hP dX2_step_71 ?_
  refine go_i (run_V (rm := ({ frames := 0, cells := 0, slots := 0, locals := 0 } : Room)) (mc := 0) (ms := 0) (rest := []) (As := [.int (S.1.1.1 14 4)]) hC (m2_see l hZ hw) vX2_2_see h2_see ((F : va_W).length + 14) 1 gCl_X2 (wX_c (xc_f (by omega) rfl)) rfl ⟨rfl, rfl, Nat.le_of_ble_eq_true rfl, Nat.le_of_ble_eq_true rfl⟩ ⟨Nat.le_of_ble_eq_true rfl, Nat.le_of_ble_eq_true rfl⟩ hP hD hS hl.1 (Nat.le_of_ble_eq_true rfl) dX2_step_74 rfl) hS (fun r36 u H locs hw86 hP hD hS => ?_)
  refine go_i (run_S (rest := []) hC (m2_isSmall l hZ hw86) vX2_2_isSmall h2_isSmall ⟨rfl, rfl, Nat.le_of_ble_eq_true rfl, Nat.le_of_ble_eq_true rfl⟩ ⟨Nat.le_of_ble_eq_true rfl, Nat.le_of_ble_eq_true rfl⟩ hP hD hS hl.1 (Nat.le_of_ble_eq_true rfl) dX2_step_77 rfl) hS (fun r38 u H locs hw87 hP hD hS => ?_)
  refine lv_if_eq (tgt := 127) hC.x hC.b dX2_step_80 (by decide) (fun c39 => ?_) (fun c39 => ?_)
  · have hw88 := hw87.1 c39
    refine lv_aload_n hC.x hC.b dX2_step_127 rfl (lv_at hl 0 rfl) ?_
    refine lv_aload_n hC.x hC.b dX2_step_128 rfl (lv_at hl 0 rfl) ?_
    refine gXS_4 hC hP dX2_step_129 ?_
    refine lv_iload_n hC.x hC.b dX2_step_132 rfl (lv_at hl 1 rfl) ?_
    refine lv_isub hC.x hC.b dX2_step_133 ?_
    refine lv_bipush (v := 8) hC.x hC.b dX2_step_134 (by decide) ?_
    refine lv_icmp_le (tgt := 143) hC.x hC.b dX2_step_136 (by decide) (fun c40 => ?_) (fun c40 => ?_)
    · have hw89 := hw88.1 c40
      refine lv_iconst (v := 2) hC.x hC.b dX2_step_143 (by decide) ?_
      exact k2_step_144 hC hZ hw89 H locs ls hP hD hS (lv_sub hl [0, 1] rfl)
    · have hw99 := hw88.2 c40
      refine lv_iconst (v := 1) hC.x hC.b dX2_step_139 (by decide) ?_
      refine lv_goto (tgt := 144) hC.x hC.b dX2_step_140 (by decide) ?_
      exact k2_step_144 hC hZ hw99 H locs ls hP hD hS (lv_sub hl [0, 1] rfl)
  · have hw100 := hw87.2 c39
    refine lv_aload_n hC.x hC.b dX2_step_83 rfl (lv_at hl 0 rfl) ?_
    refine gXS_4 hC hP dX2_step_84 ?_
    refine lv_iload_n hC.x hC.b dX2_step_87 rfl (lv_at hl 1 rfl) ?_
    refine lv_isub hC.x hC.b dX2_step_88 ?_
    refine lv_bipush (v := 8) hC.x hC.b dX2_step_89 (by decide) ?_
    refine lv_icmp_ge (tgt := 114) hC.x hC.b dX2_step_91 (by decide) (fun c54 => ?_) (fun c54 => ?_)
    · have hw101 := hw100.1 c54
      refine lv_aload_n hC.x hC.b dX2_step_114 rfl (lv_at hl 0 rfl) ?_
      refine lv_dup hC.x hC.b dX2_step_115 rfl ?_
      refine gXS_4 hC hP dX2_step_116 ?_
      refine lv_iconst (v := 1) hC.x hC.b dX2_step_119 (by decide) ?_
      refine lv_iadd hC.x hC.b dX2_step_120 ?_
      refine pXS_4 hC hP hD hS (v := ((S.1.1.1 14 4) + 1)) dX2_step_121 (fun S55 eS55 H locs hP hD hS => ?_)
      have hw102 := hw101 S55 eS55
      refine lv_goto (tgt := 69) hC.x hC.b dX2_step_124 (by decide) ?_
      exact hK69 S55 hw102 H locs ls hP hD hS (lv_sub hl [0, 1] rfl)
    · have hw103 := hw100.2 c54
      refine lv_aload_n hC.x hC.b dX2_step_94 rfl (lv_at hl 0 rfl) ?_
      refine gXS_2 hC hP dX2_step_95 ?_
      refine lv_aload_n hC.x hC.b dX2_step_98 rfl (lv_at hl 0 rfl) ?_
      refine gXS_4 hC hP dX2_step_99 ?_
      refine lv_iload_n hC.x hC.b dX2_step_102 rfl (lv_at hl 1 rfl) ?_
      refine lv_isub hC.x hC.b dX2_step_103 ?_
      refine lv_aload_n hC.x hC.b dX2_step_104 rfl (lv_at hl 0 rfl) ?_
      refine lv_aload_n hC.x hC.b dX2_step_105 rfl (lv_at hl 0 rfl) ?_
      refine gXS_4 hC hP dX2_step_106 ?_
      refine go_i (run_V (rm := ({ frames := 0, cells := 0, slots := 0, locals := 0 } : Room)) (mc := 0) (ms := 0) (rest := [.int ((S.1.1.1 14 4) - x1), .ref (ad 16)]) (As := [.int (S.1.1.1 14 4)]) hC (m2_see l hZ hw103) vX2_2_see h2_see ((F : va_W).length + 14) 1 gCl_X2 (wX_c (xc_f (by omega) rfl)) rfl ⟨rfl, rfl, Nat.le_of_ble_eq_true rfl, Nat.le_of_ble_eq_true rfl⟩ ⟨Nat.le_of_ble_eq_true rfl, Nat.le_of_ble_eq_true rfl⟩ hP hD hS hl.1 (Nat.le_of_ble_eq_true rfl) dX2_step_109 rfl) hS (fun r57 u H locs hw104 hP hD hS => ?_)
      refine lv_i2c (v := ((r57.toUInt32 % 65536).toInt32)) hC.x hC.b dX2_step_112 rfl ?_
      obtain ⟨hin58, hw105⟩ := hw104
      refine sXlet hC hP hD hS (v := ((r57.toUInt32 % 65536).toInt32)) hin58 rfl dX2_step_113 (fun S59 eS59 H locs hP hD hS => ?_)
      have hw106 := hw105 S59 eS59
      refine lv_aload_n hC.x hC.b dX2_step_114 rfl (lv_at hl 0 rfl) ?_
      refine lv_dup hC.x hC.b dX2_step_115 rfl ?_
      refine gXS_4 hC hP dX2_step_116 ?_
      refine lv_iconst (v := 1) hC.x hC.b dX2_step_119 (by decide) ?_
      refine lv_iadd hC.x hC.b dX2_step_120 ?_
      refine pXS_4 hC hP hD hS (v := ((S59.1.1.1 14 4) + 1)) dX2_step_121 (fun S60 eS60 H locs hP hD hS => ?_)
      have hw107 := hw106 S60 eS60
      refine lv_goto (tgt := 69) hC.x hC.b dX2_step_124 (by decide) ?_
      exact hK69 S60 hw107 H locs ls hP hD hS (lv_sub hl [0, 1] rfl)
def f2_step_5 (post : XS → Prop) (tau : TD) (S : XS) (K5 : Int32 → Prop) (x1 : Int32) : Prop :=
  (w2_see (fun r2 => ((¬ r2 = 32 → (∀ S4, S4 = xC S 14 6 x1 → (∀ S5, S5 = xC S4 14 4 (x1 + 1) → (w2_see (fun r7 => ((¬ r7 = (-1) → (w2_isSmall (fun r10 => ((r10 = 0 → (w2_isDigit (fun r13 => ((r13 = 0 → ((¬ r7 = 59 → (∀ S16, S16 = xC S5 14 5 1 → (post S16))) ∧ (r7 = 59 → (∀ S17, S17 = xC S5 14 5 r7 → (post S17))))) ∧ (¬ r13 = 0 → (∀ S18, S18 = xC S5 14 7 0 → (∀ S19, S19 = xC S18 14 4 x1 → (lp (fun (K : XS → Prop) (z : XS) => f2_step_202 post tau x1 K z) S19)))))) tau S5 r7)) ∧ (¬ r10 = 0 → (∀ S34, S34 = xC S5 14 4 x1 → (lp (fun (K : XS → Prop) (z : XS) => f2_step_69 post tau x1 K z) S34))))) tau S5 r7)) ∧ (r7 = (-1) → (∀ S61, S61 = xC S5 14 5 0 → (∀ S62, S62 = xC S61 14 4 x1 → (post S62)))))) tau S5 x1)))) ∧ (r2 = 32 → (K5 (x1 + 1))))) tau S x1)
set_option maxHeartbeats 4000000 in
theorem k2_step_5 {post : XS → Prop} {tau : TD} {S : XS} (hC : CX RX2 cX2_step 3 none D gCl nwG Z Hb A p s m args meth c) {adK adV : Nat → Nat} (hZ : ∀ U, Z U → zS adK adV A Hb U) : ∀ z : Int32, lp (fun (K : Int32 → Prop) (z : Int32) => f2_step_5 post tau S K z) z → ∀ (H : Heap) (locs : List Loc) (ls : Array Slot), va_P D gCl (wX D ad rf tw F tau S) H → va_D A (wX D ad rf tw F tau S) → va_S A s.heap H locs → lv_has ls 3 [(0, .ref (ad 14)), (1, .int z)] → W p l e ({ frames := 4, cells := 2, slots := 12, locals := 203 } : Room) s m args below meth c H locs 0 0 (MQ below (va_Qv post (BW D gCl A (fun u => wX D ad rf tw F tau u)) A) args s 2 12 A) (F0 m 5 ls []) := by
  refine lp_ind ?_
  rintro K5 x1 hK5 hw H locs ls hP hD hS hl
  have hw : f2_step_5 post tau S K5 x1 := hw
  unfold f2_step_5 at hw
  have hP : va_P D gCl (wX D ad rf tw F tau S) H := hP
  have hD : va_D A (wX D ad rf tw F tau S) := hD
  have hl : lv_has ls 3 [(0, .ref (ad 14)), (1, .int x1)] := hl
  refine lv_aload_n hC.x hC.b dX2_step_5 rfl (lv_at hl 0 rfl) ?_
  refine lv_iload_n hC.x hC.b dX2_step_6 rfl (lv_at hl 1 rfl) ?_
  refine go_i (run_V (rm := ({ frames := 0, cells := 0, slots := 0, locals := 0 } : Room)) (mc := 0) (ms := 0) (rest := []) (As := [.int x1]) hC (m2_see l hZ hw) vX2_2_see h2_see ((F : va_W).length + 14) 1 gCl_X2 (wX_c (xc_f (by omega) rfl)) rfl ⟨rfl, rfl, Nat.le_of_ble_eq_true rfl, Nat.le_of_ble_eq_true rfl⟩ ⟨Nat.le_of_ble_eq_true rfl, Nat.le_of_ble_eq_true rfl⟩ hP hD hS hl.1 (Nat.le_of_ble_eq_true rfl) dX2_step_7 rfl) hS (fun r2 u H locs hw53 hP hD hS => ?_)
  refine lv_bipush (v := 32) hC.x hC.b dX2_step_10 (by decide) ?_
  refine lv_icmp_ne (tgt := 21) hC.x hC.b dX2_step_12 (by decide) (fun c3 => ?_) (fun c3 => ?_)
  · have hw54 := hw53.1 c3
    refine lv_aload_n hC.x hC.b dX2_step_21 rfl (lv_at hl 0 rfl) ?_
    refine lv_iload_n hC.x hC.b dX2_step_22 rfl (lv_at hl 1 rfl) ?_
    refine pXS_6 hC hP hD hS (v := x1) dX2_step_23 (fun S4 eS4 H locs hP hD hS => ?_)
    have hw55 := hw54 S4 eS4
    refine lv_aload_n hC.x hC.b dX2_step_26 rfl (lv_at hl 0 rfl) ?_
    refine lv_iload_n hC.x hC.b dX2_step_27 rfl (lv_at hl 1 rfl) ?_
    refine lv_iconst (v := 1) hC.x hC.b dX2_step_28 (by decide) ?_
    refine lv_iadd hC.x hC.b dX2_step_29 ?_
    refine pXS_4 hC hP hD hS (v := (x1 + 1)) dX2_step_30 (fun S5 eS5 H locs hP hD hS => ?_)
    have hw56 := hw55 S5 eS5
    refine lv_aload_n hC.x hC.b dX2_step_33 rfl (lv_at hl 0 rfl) ?_
    refine lv_iload_n hC.x hC.b dX2_step_34 rfl (lv_at hl 1 rfl) ?_
    refine go_i (run_V (rm := ({ frames := 0, cells := 0, slots := 0, locals := 0 } : Room)) (mc := 0) (ms := 0) (rest := []) (As := [.int x1]) hC (m2_see l hZ hw56) vX2_2_see h2_see ((F : va_W).length + 14) 1 gCl_X2 (wX_c (xc_f (by omega) rfl)) rfl ⟨rfl, rfl, Nat.le_of_ble_eq_true rfl, Nat.le_of_ble_eq_true rfl⟩ ⟨Nat.le_of_ble_eq_true rfl, Nat.le_of_ble_eq_true rfl⟩ hP hD hS hl.1 (Nat.le_of_ble_eq_true rfl) dX2_step_35 rfl) hS (fun r7 u H locs hw57 hP hD hS => ?_)
    refine lv_istore_n (lv' := [(2, .int r7), (0, .ref (ad 14)), (1, .int x1)]) hC.x hC.b dX2_step_38 rfl hl (by decide) rfl (fun ls hl => ?_)
    refine lv_iload_n hC.x hC.b dX2_step_39 rfl (lv_at hl 0 rfl) ?_
    refine lv_iconst (v := (-1)) hC.x hC.b dX2_step_40 (by decide) ?_
    refine lv_icmp_ne (tgt := 57) hC.x hC.b dX2_step_41 (by decide) (fun c8 => ?_) (fun c8 => ?_)
    · have hw58 := hw57.1 c8
      refine lv_iload_n hC.x hC.b dX2_step_57 rfl (lv_at hl 0 rfl) ?_
      refine go_i (run_S (rest := []) hC (m2_isSmall l hZ hw58) vX2_2_isSmall h2_isSmall ⟨rfl, rfl, Nat.le_of_ble_eq_true rfl, Nat.le_of_ble_eq_true rfl⟩ ⟨Nat.le_of_ble_eq_true rfl, Nat.le_of_ble_eq_true rfl⟩ hP hD hS hl.1 (Nat.le_of_ble_eq_true rfl) dX2_step_58 rfl) hS (fun r10 u H locs hw59 hP hD hS => ?_)
      refine lv_if_eq (tgt := 185) hC.x hC.b dX2_step_61 (by decide) (fun c11 => ?_) (fun c11 => ?_)
      · have hw60 := hw59.1 c11
        refine lv_iload_n hC.x hC.b dX2_step_185 rfl (lv_at hl 0 rfl) ?_
        refine go_i (run_S (rest := []) hC (m2_isDigit l hZ hw60) vX2_2_isDigit h2_isDigit ⟨rfl, rfl, Nat.le_of_ble_eq_true rfl, Nat.le_of_ble_eq_true rfl⟩ ⟨Nat.le_of_ble_eq_true rfl, Nat.le_of_ble_eq_true rfl⟩ hP hD hS hl.1 (Nat.le_of_ble_eq_true rfl) dX2_step_186 rfl) hS (fun r13 u H locs hw61 hP hD hS => ?_)
        refine lv_if_eq (tgt := 284) hC.x hC.b dX2_step_189 (by decide) (fun c14 => ?_) (fun c14 => ?_)
        · have hw62 := hw61.1 c14
          refine lv_aload_n hC.x hC.b dX2_step_284 rfl (lv_at hl 1 rfl) ?_
          refine lv_iload_n hC.x hC.b dX2_step_285 rfl (lv_at hl 0 rfl) ?_
          refine lv_bipush (v := 59) hC.x hC.b dX2_step_286 (by decide) ?_
          refine lv_icmp_ne (tgt := 295) hC.x hC.b dX2_step_288 (by decide) (fun c15 => ?_) (fun c15 => ?_)
          · have hw63 := hw62.1 c15
            refine lv_iconst (v := 1) hC.x hC.b dX2_step_295 (by decide) ?_
            refine pXS_5 hC hP hD hS (v := 1) dX2_step_296 (fun S16 eS16 H locs hP hD hS => ?_)
            have hw64 := hw63 S16 eS16
            refine W.widen (k := 2) (n := 12) (Nat.le_of_ble_eq_true rfl) (Nat.le_of_ble_eq_true rfl) ?_
            exact rt_v hC hw64 hP hD hS dX2_step_299
          · have hw65 := hw62.2 c15
            refine lv_iload_n hC.x hC.b dX2_step_291 rfl (lv_at hl 0 rfl) ?_
            refine lv_goto (tgt := 296) hC.x hC.b dX2_step_292 (by decide) ?_
            refine pXS_5 hC hP hD hS (v := r7) dX2_step_296 (fun S17 eS17 H locs hP hD hS => ?_)
            have hw66 := hw65 S17 eS17
            refine W.widen (k := 2) (n := 12) (Nat.le_of_ble_eq_true rfl) (Nat.le_of_ble_eq_true rfl) ?_
            exact rt_v hC hw66 hP hD hS dX2_step_299
        · have hw67 := hw61.2 c14
          refine lv_aload_n hC.x hC.b dX2_step_192 rfl (lv_at hl 1 rfl) ?_
          refine lv_iconst (v := 0) hC.x hC.b dX2_step_193 (by decide) ?_
          refine pXS_7 hC hP hD hS (v := 0) dX2_step_194 (fun S18 eS18 H locs hP hD hS => ?_)
          have hw68 := hw67 S18 eS18
          refine lv_aload_n hC.x hC.b dX2_step_197 rfl (lv_at hl 1 rfl) ?_
          refine lv_iload_n hC.x hC.b dX2_step_198 rfl (lv_at hl 2 rfl) ?_
          refine pXS_4 hC hP hD hS (v := x1) dX2_step_199 (fun S19 eS19 H locs hP hD hS => ?_)
          have hw69 := hw68 S19 eS19
          exact k2_step_202 hC hZ S19 hw69 H locs ls hP hD hS (lv_sub hl [1, 2] rfl)
      · have hw84 := hw59.2 c11
        refine lv_aload_n hC.x hC.b dX2_step_64 rfl (lv_at hl 1 rfl) ?_
        refine lv_iload_n hC.x hC.b dX2_step_65 rfl (lv_at hl 2 rfl) ?_
        refine pXS_4 hC hP hD hS (v := x1) dX2_step_66 (fun S34 eS34 H locs hP hD hS => ?_)
        have hw85 := hw84 S34 eS34
        exact k2_step_69 hC hZ S34 hw85 H locs ls hP hD hS (lv_sub hl [1, 2] rfl)
    · have hw108 := hw57.2 c8
      refine lv_aload_n hC.x hC.b dX2_step_44 rfl (lv_at hl 1 rfl) ?_
      refine lv_iconst (v := 0) hC.x hC.b dX2_step_45 (by decide) ?_
      refine pXS_5 hC hP hD hS (v := 0) dX2_step_46 (fun S61 eS61 H locs hP hD hS => ?_)
      have hw109 := hw108 S61 eS61
      refine lv_aload_n hC.x hC.b dX2_step_49 rfl (lv_at hl 1 rfl) ?_
      refine lv_iload_n hC.x hC.b dX2_step_50 rfl (lv_at hl 2 rfl) ?_
      refine pXS_4 hC hP hD hS (v := x1) dX2_step_51 (fun S62 eS62 H locs hP hD hS => ?_)
      have hw110 := hw109 S62 eS62
      refine lv_goto (tgt := 299) hC.x hC.b dX2_step_54 (by decide) ?_
      refine W.widen (k := 2) (n := 12) (Nat.le_of_ble_eq_true rfl) (Nat.le_of_ble_eq_true rfl) ?_
      exact rt_v hC hw110 hP hD hS dX2_step_299
  · have hw111 := hw53.2 c3
    refine lv_iinc (v := (x1 + 1)) (lv' := [(1, .int (x1 + 1)), (0, .ref (ad 14))]) hC.x hC.b dX2_step_15 hl (k := 1) rfl rfl (by decide) rfl (fun ls hl => ?_)
    refine lv_goto (tgt := 5) hC.x hC.b dX2_step_18 (by decide) ?_
    exact hK5 (x1 + 1) hw111 H locs ls hP hD hS (lv_sub hl [1, 0] rfl)
def w2_step (post : XS → Prop) (tau : TD) (S : XS) : Prop :=
  (lp (fun (K : Int32 → Prop) (z : Int32) => f2_step_5 post tau S K z) (S.1.1.1 14 4))
set_option maxHeartbeats 8000000 in
theorem m2_step (l : Launch) {F : va_W} {post : XS → Prop} {tau : TD} {S : XS} {adK adV : Nat → Nat} (hZ : ∀ U, Z U → zS adK adV A Hb U) (hw : w2_step post tau S) : Met l yX2_step (ws_ yX2_step cX2_step 3 none) ({ frames := 4, cells := 2, slots := 12, locals := 203 } : Room) (va_Pc [.ref (ad 14)] (PcG D gCl nwG Z Hb A (wX D ad rf tw F tau S))) (va_Qv post (BW D gCl A (fun u => wX D ad rf tw F tau u)) A) 2 12 A := by
  refine Met.ofG (by decide) (Nat.le_of_ble_eq_true rfl) ?_
  intro p e s m below meth c ls hC _ hP hD hS hl
  have hC : CX RX2 cX2_step 3 none D gCl nwG Z Hb A p s m _ meth c := hC
  have hl : lv_has ls 3 [(0, .ref (ad 14))] := hl
  unfold w2_step at hw
  refine lv_aload_n hC.x hC.b dX2_step_0 rfl (lv_at hl 0 rfl) ?_
  refine gXS_4 hC hP dX2_step_1 ?_
  refine lv_istore_n (lv' := [(1, .int (S.1.1.1 14 4)), (0, .ref (ad 14))]) hC.x hC.b dX2_step_4 rfl hl (by decide) rfl (fun ls hl => ?_)
  exact k2_step_5 hC hZ (S.1.1.1 14 4) hw s.heap [] ls hP hD hS (lv_sub hl [1, 0] rfl)
theorem vX2_J3_equals : GoodIn lw_all (wsV RX2 71 RJ3 yJ3_equals (ws_ yJ3_equals cJ3_equals 3 (some .boolean))) := lw_V q677 q678 q679 q128 q680
theorem vX2_2_step : GoodIn lw_all (wsV RX2 75 RX2 yX2_step (ws_ yX2_step cX2_step 3 none)) := lw_V q517 q519 qs4 q119 q520
theorem h2_takes : yX2_takes.cls = RX2 ∧ yX2_takes.cls ≠ "java/lang/invoke/MethodHandle" ∧ yX2_takes.cls ≠ "java/lang/invoke/VarHandle" ∧ (parseMethodDescriptor yX2_takes.desc).map (fun d => d.parameters.length) = some 1 := by decide +kernel
def w2_takes (post : Int32 → XS → Prop) (tau : TD) (S : XS) (B1 : List Int32) : Prop :=
  ((¬ (S.1.1.1 14 5) = 2 → (post 0 S)) ∧ ((S.1.1.1 14 5) = 2 → (∃ a2 : Nat, S.2.1 = some a2 ∧ (∃ bs3, strAt S a2 bs3 ∧ wJ3_equals (fun r5 => ((¬ r5 = 0 → (w2_step (fun S7 => (post 1 S7)) tau S)) ∧ (r5 = 0 → (post 0 S)))) bs3 B1))))
set_option maxHeartbeats 8000000 in
theorem m2_takes (l : Launch) {F : va_W} {post : Int32 → XS → Prop} {tau : TD} {S : XS} {x1 : Nat} {B1 : List Int32} {adK adV : Nat → Nat} (hZ : ∀ U, Z U → zS adK adV A Hb U) (h_x1 : CStr A Hb Z x1 B1) (hw : w2_takes post tau S B1) : Met l yX2_takes (ws_ yX2_takes cX2_takes 2 (some .boolean)) ({ frames := 5, cells := 2, slots := 12, locals := 225 } : Room) (va_Pc [.ref (ad 14), .ref x1] (PcG D gCl nwG Z Hb A (wX D ad rf tw F tau S))) (va_Qi post (BW D gCl A (fun u => wX D ad rf tw F tau u)) A) 2 12 A := by
  refine Met.ofG (by decide) (Nat.le_of_ble_eq_true rfl) ?_
  intro p e s m below meth c ls hC _ hP hD hS hl
  have hC : CX RX2 cX2_takes 2 (some .boolean) D gCl nwG Z Hb A p s m _ meth c := hC
  have hl : lv_has ls 2 [(0, .ref (ad 14)), (1, .ref x1)] := hl
  unfold w2_takes at hw
  refine lv_aload_n hC.x hC.b dX2_takes_0 rfl (lv_at hl 0 rfl) ?_
  refine gXS_5 hC hP dX2_takes_1 ?_
  refine lv_iconst (v := 2) hC.x hC.b dX2_takes_4 (by decide) ?_
  refine lv_icmp_ne (tgt := 19) hC.x hC.b dX2_takes_5 (by decide) (fun c1 => ?_) (fun c1 => ?_)
  · have hw112 := hw.1 c1
    refine lv_iconst (v := 0) hC.x hC.b dX2_takes_19 (by decide) ?_
    refine W.widen (k := 2) (n := 12) (Nat.le_of_ble_eq_true rfl) (Nat.le_of_ble_eq_true rfl) ?_
    exact rt_z hC (Or.inl rfl) hw112 hP hD hS dX2_takes_20
  · have hw113 := hw.2 c1
    refine lv_aload_n hC.x hC.b dX2_takes_8 rfl (lv_at hl 0 rfl) ?_
    refine gXS_8 hC hP dX2_takes_9 ?_
    obtain ⟨a2, ea2, hw114⟩ := hw113
    rw [ea2]
    refine lv_aload_n hC.x hC.b dX2_takes_12 rfl (lv_at hl 1 rfl) ?_
    obtain ⟨bs3, hs4, hw115⟩ := hw114
    refine go_i (run_Vc (rest := []) hC (mJ3_equals l hZ (strP hs4) (Or.inr h_x1) hw115) vX2_J3_equals hJ3_equals (s_cell hC hP hS (Or.inl (strP hs4))) ⟨rfl, rfl, Nat.le_of_ble_eq_true rfl, Nat.le_of_ble_eq_true rfl⟩ ⟨Nat.le_of_ble_eq_true rfl, Nat.le_of_ble_eq_true rfl⟩ hP hD hS hl.1 (Nat.le_of_ble_eq_true rfl) dX2_takes_13 rfl) hS (fun r5 u H locs hw116 hP hD hS => ?_)
    refine lv_if_ne (tgt := 21) hC.x hC.b dX2_takes_16 (by decide) (fun c6 => ?_) (fun c6 => ?_)
    · have hw117 := hw116.1 c6
      refine lv_aload_n hC.x hC.b dX2_takes_21 rfl (lv_at hl 0 rfl) ?_
      refine go_v (run_V (rm := ({ frames := 4, cells := 2, slots := 12, locals := 203 } : Room)) (mc := 2) (ms := 12) (rest := []) (As := []) hC (m2_step l hZ hw117) vX2_2_step h2_step ((F : va_W).length + 14) 1 gCl_X2 (wX_c (xc_f (by omega) rfl)) rfl ⟨rfl, rfl, Nat.le_of_ble_eq_true rfl, Nat.le_of_ble_eq_true rfl⟩ ⟨Nat.le_of_ble_eq_true rfl, Nat.le_of_ble_eq_true rfl⟩ hP hD hS hl.1 (Nat.le_of_ble_eq_true rfl) dX2_takes_22 rfl) hS (fun S7 H locs hw118 hP hD hS => ?_)
      refine lv_iconst (v := 1) hC.x hC.b dX2_takes_25 (by decide) ?_
      refine W.widen (k := 2) (n := 12) (Nat.le_of_ble_eq_true rfl) (Nat.le_of_ble_eq_true rfl) ?_
      exact rt_z hC (Or.inr rfl) hw118 hP hD hS dX2_takes_26
    · have hw119 := hw116.2 c6
      refine lv_iconst (v := 0) hC.x hC.b dX2_takes_19 (by decide) ?_
      refine W.widen (k := 2) (n := 12) (Nat.le_of_ble_eq_true rfl) (Nat.le_of_ble_eq_true rfl) ?_
      exact rt_z hC (Or.inl rfl) hw119 hP hD hS dX2_takes_20
theorem vX2_2_takes : GoodIn lw_all (wsV RX2 78 RX2 yX2_takes (ws_ yX2_takes cX2_takes 2 (some .boolean))) := lw_V q703 q705 qs11 q119 q706
theorem vX2_2_fail : GoodIn lw_all (wsV RX2 82 RX2 yX2_fail (ws_ yX2_fail cX2_fail 2 (some (.object "SeanceStreet$Refused")))) := lw_V q615 q617 qs7 q119 q618
theorem h2_must : yX2_must.cls = RX2 ∧ yX2_must.cls ≠ "java/lang/invoke/MethodHandle" ∧ yX2_must.cls ≠ "java/lang/invoke/VarHandle" ∧ (parseMethodDescriptor yX2_must.desc).map (fun d => d.parameters.length) = some 1 := by decide +kernel
def w2_must (post : XS → Prop) (xpost : CS × Option Nat × Option Nat → Prop) (tau : TD) (S : XS) (B1 : List Int32) : Prop :=
  (w2_takes (fun r2 S1 => ((¬ r2 = 0 → (post S1)) ∧ (r2 = 0 → (w2_fail (fun S4 => (xpost (S4.1, S4.2.1, some (tau.1 0)))) tau S1 1)))) tau S B1)
set_option maxHeartbeats 8000000 in
theorem m2_must (l : Launch) {F : va_W} {post : XS → Prop} {xpost : CS × Option Nat × Option Nat → Prop} {tau : TD} {S : XS} {x1 : Nat} {B1 : List Int32} {adK adV : Nat → Nat} (hZ : ∀ U, Z U → zS adK adV A Hb U) (h_x1 : CStr A Hb Z x1 B1) (hw : w2_must post xpost tau S B1) : tx_Met l yX2_must (ws_ yX2_must cX2_must 2 none) ({ frames := 6, cells := 2, slots := 12, locals := 246 } : Room) (va_Pc [.ref (ad 14), .ref x1] (PcG D gCl nwG Z Hb A (wX D ad rf tw F tau S))) (va_Qv post (BW D gCl A (fun u => wX D ad rf tw F tau u)) A) (tx_X xpost (XB D ad rf tw A) A) 2 12 A := by
  refine tx_ofG (by decide) (Nat.le_of_ble_eq_true rfl) ?_
  intro p e s m below meth c ls hC hout hP hD hS hl
  have hC : CX RX2 cX2_must 2 none D gCl nwG Z Hb A p s m _ meth c := hC
  have hl : lv_has ls 2 [(0, .ref (ad 14)), (1, .ref x1)] := hl
  unfold w2_must at hw
  refine lv_aload_n hC.x hC.b dX2_must_0 rfl (lv_at hl 0 rfl) ?_
  refine lv_aload_n hC.x hC.b dX2_must_1 rfl (lv_at hl 1 rfl) ?_
  refine go_i (run_V (rm := ({ frames := 5, cells := 2, slots := 12, locals := 225 } : Room)) (mc := 2) (ms := 12) (rest := []) (As := [.ref x1]) hC (m2_takes l hZ h_x1 hw) vX2_2_takes h2_takes ((F : va_W).length + 14) 1 gCl_X2 (wX_c (xc_f (by omega) rfl)) rfl ⟨rfl, rfl, Nat.le_of_ble_eq_true rfl, Nat.le_of_ble_eq_true rfl⟩ ⟨Nat.le_of_ble_eq_true rfl, Nat.le_of_ble_eq_true rfl⟩ hP hD hS hl.1 (Nat.le_of_ble_eq_true rfl) dX2_must_2 rfl) hS (fun r2 S1 H locs hw120 hP hD hS => ?_)
  refine lv_if_ne (tgt := 14) hC.x hC.b dX2_must_5 (by decide) (fun c3 => ?_) (fun c3 => ?_)
  · have hw121 := hw120.1 c3
    refine tx_ret ?_
    refine W.widen (k := 2) (n := 12) (Nat.le_of_ble_eq_true rfl) (Nat.le_of_ble_eq_true rfl) ?_
    exact rt_v hC hw121 hP hD hS dX2_must_14
  · have hw122 := hw120.2 c3
    refine lv_aload_n hC.x hC.b dX2_must_8 rfl (lv_at hl 0 rfl) ?_
    refine lv_iconst (v := 1) hC.x hC.b dX2_must_9 (by decide) ?_
    refine go_rr (run_V (rm := ({ frames := 1, cells := 0, slots := 0, locals := 22 } : Room)) (mc := 0) (ms := 0) (rest := []) (As := [.int 1]) hC (m2_fail l hZ hw122) vX2_2_fail h2_fail ((F : va_W).length + 14) 1 gCl_X2 (wX_c (xc_f (by omega) rfl)) rfl ⟨rfl, rfl, Nat.le_of_ble_eq_true rfl, Nat.le_of_ble_eq_true rfl⟩ ⟨Nat.le_of_ble_eq_true rfl, Nat.le_of_ble_eq_true rfl⟩ hP hD hS hl.1 (Nat.le_of_ble_eq_true rfl) dX2_must_10 rfl) hS (fun r5 S4 H locs hw123 hP hD hS => ?_)
    obtain ⟨rfl, hw123⟩ := hw123
    exact gx_throw hC hout hw123 hP hD hS (Nat.le_of_ble_eq_true rfl) (Nat.le_of_ble_eq_true rfl) dX2_must_13
theorem vX2_J3_hashCode : GoodIn lw_all (wsV RX2 86 RJ3 yJ3_hashCode (ws_ yJ3_hashCode cJ3_hashCode 2 (some .int))) := lw_V q623 q624 q625 q128 q626
theorem h2_mustName : yX2_mustName.cls = RX2 ∧ yX2_mustName.cls ≠ "java/lang/invoke/MethodHandle" ∧ yX2_mustName.cls ≠ "java/lang/invoke/VarHandle" ∧ (parseMethodDescriptor yX2_mustName.desc).map (fun d => d.parameters.length) = some 0 := by decide +kernel
def w2_mustName (post : XS → Prop) (xpost : CS × Option Nat × Option Nat → Prop) (tau : TD) (S : XS) : Prop :=
  (((S.1.1.1 14 5) = 2 → (∃ a2 : Nat, S.2.1 = some a2 ∧ (∃ i3 x4, S.2.2.2[i3]? = some x4 ∧ x4.1 = a2 ∧ x4.2.2.1.length < 1000 ∧ wJ6_hashCode (fun r => r = hB x4.2.2.1) x4.2.2.1 ∧ ∀ S9, S9 = xH S i3 x4 → (((hB x4.2.2.1) = (-1073910849) → (∃ bs12, strAt S9 a2 bs12 ∧ wJ3_equals (fun r14 => ((r14 = 0 → (post S9)) ∧ (¬ r14 = 0 → (w2_fail (fun S16 => (xpost (S16.1, S16.2.1, some (tau.1 0)))) tau S9 1)))) bs12 (kB 4))) ∧ (¬ (hB x4.2.2.1) = (-1073910849) → (((hB x4.2.2.1) = (-991716523) → (∃ bs19, strAt S9 a2 bs19 ∧ wJ3_equals (fun r21 => ((r21 = 0 → (post S9)) ∧ (¬ r21 = 0 → (w2_fail (fun S23 => (xpost (S23.1, S23.2.1, some (tau.1 0)))) tau S9 1)))) bs19 (kB 2))) ∧ (¬ (hB x4.2.2.1) = (-991716523) → (((hB x4.2.2.1) = (-840227282) → (∃ bs26, strAt S9 a2 bs26 ∧ wJ3_equals (fun r28 => ((r28 = 0 → (post S9)) ∧ (¬ r28 = 0 → (w2_fail (fun S30 => (xpost (S30.1, S30.2.1, some (tau.1 0)))) tau S9 1)))) bs26 (kB 5))) ∧ (¬ (hB x4.2.2.1) = (-840227282) → (((hB x4.2.2.1) = 3079268 → (∃ bs33, strAt S9 a2 bs33 ∧ wJ3_equals (fun r35 => ((r35 = 0 → (post S9)) ∧ (¬ r35 = 0 → (w2_fail (fun S37 => (xpost (S37.1, S37.2.1, some (tau.1 0)))) tau S9 1)))) bs33 (kB 3))) ∧ (¬ (hB x4.2.2.1) = 3079268 → (((hB x4.2.2.1) = 3566226 → (∃ bs40, strAt S9 a2 bs40 ∧ wJ3_equals (fun r42 => ((r42 = 0 → (post S9)) ∧ (¬ r42 = 0 → (w2_fail (fun S44 => (xpost (S44.1, S44.2.1, some (tau.1 0)))) tau S9 1)))) bs40 (kB 1))) ∧ (¬ (hB x4.2.2.1) = 3566226 → (((hB x4.2.2.1) = 99151926 → (∃ bs47, strAt S9 a2 bs47 ∧ wJ3_equals (fun r49 => ((r49 = 0 → (post S9)) ∧ (¬ r49 = 0 → (w2_fail (fun S51 => (xpost (S51.1, S51.2.1, some (tau.1 0)))) tau S9 1)))) bs47 (kB 6))) ∧ (¬ (hB x4.2.2.1) = 99151926 → (post S9)))))))))))))))) ∧ (¬ (S.1.1.1 14 5) = 2 → (w2_fail (fun S53 => (xpost (S53.1, S53.2.1, some (tau.1 0)))) tau S 1)))
set_option maxHeartbeats 8000000 in
theorem m2_mustName (l : Launch) {F : va_W} {post : XS → Prop} {xpost : CS × Option Nat × Option Nat → Prop} {tau : TD} {S : XS} {adK adV : Nat → Nat} (hZ : ∀ U, Z U → zS adK adV A Hb U) (hw : w2_mustName post xpost tau S) : tx_Met l yX2_mustName (ws_ yX2_mustName cX2_mustName 3 none) ({ frames := 5, cells := 0, slots := 0, locals := 221 } : Room) (va_Pc [.ref (ad 14)] (PcG D gCl nwG Z Hb A (wX D ad rf tw F tau S))) (va_Qv post (BW D gCl A (fun u => wX D ad rf tw F tau u)) A) (tx_X xpost (XB D ad rf tw A) A) 0 0 A := by
  refine tx_ofG (by decide) (Nat.le_of_ble_eq_true rfl) ?_
  intro p e s m below meth c ls hC hout hP hD hS hl
  have hC : CX RX2 cX2_mustName 3 none D gCl nwG Z Hb A p s m _ meth c := hC
  have hl : lv_has ls 3 [(0, .ref (ad 14))] := hl
  unfold w2_mustName at hw
  refine lv_aload_n hC.x hC.b dX2_mustName_0 rfl (lv_at hl 0 rfl) ?_
  refine gXS_5 hC hP dX2_mustName_1 ?_
  refine lv_iconst (v := 2) hC.x hC.b dX2_mustName_4 (by decide) ?_
  refine lv_icmp_eq (tgt := 14) hC.x hC.b dX2_mustName_5 (by decide) (fun c1 => ?_) (fun c1 => ?_)
  · have hw124 := hw.1 c1
    refine lv_aload_n hC.x hC.b dX2_mustName_14 rfl (lv_at hl 0 rfl) ?_
    refine gXS_8 hC hP dX2_mustName_15 ?_
    obtain ⟨a2, ea2, hw125⟩ := hw124
    rw [ea2]
    refine lv_astore_n (lv' := [(1, .ref a2), (0, .ref (ad 14))]) hC.x hC.b dX2_mustName_18 rfl hl (by decide) rfl (fun ls hl => ?_)
    refine lv_iconst (v := (-1)) hC.x hC.b dX2_mustName_19 (by decide) ?_
    refine lv_istore_n (lv' := [(2, .int (-1)), (1, .ref a2), (0, .ref (ad 14))]) hC.x hC.b dX2_mustName_20 rfl hl (by decide) rfl (fun ls hl => ?_)
    refine lv_aload_n hC.x hC.b dX2_mustName_21 rfl (lv_at hl 1 rfl) ?_
    obtain ⟨i3, x4, hh5, hh6, hh7, hh8, hw126⟩ := hw125
    refine go_i (run_Vc (rest := []) hC (mX_hash l hZ hh5 hh6 hh7 hh8) vX2_J3_hashCode hJ3_hashCode (s_cell hC hP hS (Or.inl (strP ⟨i3, x4, hh5, hh6, rfl, hh7⟩))) ⟨rfl, rfl, Nat.le_of_ble_eq_true rfl, Nat.le_of_ble_eq_true rfl⟩ ⟨Nat.le_of_ble_eq_true rfl, Nat.le_of_ble_eq_true rfl⟩ hP hD hS hl.1 (Nat.le_of_ble_eq_true rfl) dX2_mustName_22 rfl) hS (fun r10 u H locs er10 hP hD hS => ?_)
    subst er10
    obtain ⟨S9, eS9⟩ : ∃ z, z = xH S i3 x4 := ⟨_, rfl⟩
    rw [← eS9] at hP hD
    have hw127 := hw126 S9 eS9
    by_cases c11 : (hB x4.2.2.1) = (-1073910849)
    · have hw128 := hw127.1 c11
      refine lv_lookup (off := 101) (tgt := 126) hC.x hC.b dX2_mustName_25 (by decide +kernel) (by rw [c11]; decide +kernel) (by decide) ?_
      refine lv_aload_n hC.x hC.b dX2_mustName_126 rfl (lv_at hl 1 rfl) ?_
      refine va_ldcS hC.x hC.b hC.ow ((hZ s hC.K.2.2.2).2.2.2.1 4 _ rfl).1 dX2_mustName_127 ?_
      obtain ⟨bs12, hs13, hw129⟩ := hw128
      refine go_i (run_Vc (rest := []) hC (mJ3_equals l hZ (strP hs13) (Or.inr (kCs hZ 4 (by decide))) hw129) vX2_J3_equals hJ3_equals (s_cell hC hP hS (Or.inl (strP hs13))) ⟨rfl, rfl, Nat.le_of_ble_eq_true rfl, Nat.le_of_ble_eq_true rfl⟩ ⟨Nat.le_of_ble_eq_true rfl, Nat.le_of_ble_eq_true rfl⟩ hP hD hS hl.1 (Nat.le_of_ble_eq_true rfl) dX2_mustName_129 rfl) hS (fun r14 u H locs hw130 hP hD hS => ?_)
      refine lv_if_eq (tgt := 165) hC.x hC.b dX2_mustName_132 (by decide) (fun c15 => ?_) (fun c15 => ?_)
      · have hw131 := hw130.1 c15
        refine lv_iload_n hC.x hC.b dX2_mustName_165 rfl (lv_at hl 0 rfl) ?_
        refine lv_tableOut (tgt := 210) hC.x hC.b dX2_mustName_166 (by decide) (by decide) ?_
        refine tx_ret ?_
        refine W.widen (k := 0) (n := 0) (Nat.le_of_ble_eq_true rfl) (Nat.le_of_ble_eq_true rfl) ?_
        exact rt_v hC hw131 hP hD hS dX2_mustName_210
      · have hw132 := hw130.2 c15
        refine lv_iconst (v := 3) hC.x hC.b dX2_mustName_135 (by decide) ?_
        refine lv_istore_n (lv' := [(2, .int 3), (1, .ref a2), (0, .ref (ad 14))]) hC.x hC.b dX2_mustName_136 rfl hl (by decide) rfl (fun ls hl => ?_)
        refine lv_goto (tgt := 165) hC.x hC.b dX2_mustName_137 (by decide) ?_
        refine lv_iload_n hC.x hC.b dX2_mustName_165 rfl (lv_at hl 0 rfl) ?_
        refine lv_tableIn (off := 38) (tgt := 204) hC.x hC.b dX2_mustName_166 (by decide) (by decide) rfl (by decide) ?_
        refine lv_aload_n hC.x hC.b dX2_mustName_204 rfl (lv_at hl 2 rfl) ?_
        refine lv_iconst (v := 1) hC.x hC.b dX2_mustName_205 (by decide) ?_
        refine go_rr (run_V (rm := ({ frames := 1, cells := 0, slots := 0, locals := 22 } : Room)) (mc := 0) (ms := 0) (rest := []) (As := [.int 1]) hC (m2_fail l hZ hw132) vX2_2_fail h2_fail ((F : va_W).length + 14) 1 gCl_X2 (wX_c (xc_f (by omega) rfl)) rfl ⟨rfl, rfl, Nat.le_of_ble_eq_true rfl, Nat.le_of_ble_eq_true rfl⟩ ⟨Nat.le_of_ble_eq_true rfl, Nat.le_of_ble_eq_true rfl⟩ hP hD hS hl.1 (Nat.le_of_ble_eq_true rfl) dX2_mustName_206 rfl) hS (fun r17 S16 H locs hw133 hP hD hS => ?_)
        obtain ⟨rfl, hw133⟩ := hw133
        exact gx_throw hC hout hw133 hP hD hS (Nat.le_of_ble_eq_true rfl) (Nat.le_of_ble_eq_true rfl) dX2_mustName_209
    · have hw134 := hw127.2 c11
      by_cases c18 : (hB x4.2.2.1) = (-991716523)
      · have hw135 := hw134.1 c18
        refine lv_lookup (off := 73) (tgt := 98) hC.x hC.b dX2_mustName_25 (by decide +kernel) (by rw [c18]; decide +kernel) (by decide) ?_
        refine lv_aload_n hC.x hC.b dX2_mustName_98 rfl (lv_at hl 1 rfl) ?_
        refine va_ldcS hC.x hC.b hC.ow ((hZ s hC.K.2.2.2).2.2.2.1 2 _ rfl).1 dX2_mustName_99 ?_
        obtain ⟨bs19, hs20, hw136⟩ := hw135
        refine go_i (run_Vc (rest := []) hC (mJ3_equals l hZ (strP hs20) (Or.inr (kCs hZ 2 (by decide))) hw136) vX2_J3_equals hJ3_equals (s_cell hC hP hS (Or.inl (strP hs20))) ⟨rfl, rfl, Nat.le_of_ble_eq_true rfl, Nat.le_of_ble_eq_true rfl⟩ ⟨Nat.le_of_ble_eq_true rfl, Nat.le_of_ble_eq_true rfl⟩ hP hD hS hl.1 (Nat.le_of_ble_eq_true rfl) dX2_mustName_101 rfl) hS (fun r21 u H locs hw137 hP hD hS => ?_)
        refine lv_if_eq (tgt := 165) hC.x hC.b dX2_mustName_104 (by decide) (fun c22 => ?_) (fun c22 => ?_)
        · have hw138 := hw137.1 c22
          refine lv_iload_n hC.x hC.b dX2_mustName_165 rfl (lv_at hl 0 rfl) ?_
          refine lv_tableOut (tgt := 210) hC.x hC.b dX2_mustName_166 (by decide) (by decide) ?_
          refine tx_ret ?_
          refine W.widen (k := 0) (n := 0) (Nat.le_of_ble_eq_true rfl) (Nat.le_of_ble_eq_true rfl) ?_
          exact rt_v hC hw138 hP hD hS dX2_mustName_210
        · have hw139 := hw137.2 c22
          refine lv_iconst (v := 1) hC.x hC.b dX2_mustName_107 (by decide) ?_
          refine lv_istore_n (lv' := [(2, .int 1), (1, .ref a2), (0, .ref (ad 14))]) hC.x hC.b dX2_mustName_108 rfl hl (by decide) rfl (fun ls hl => ?_)
          refine lv_goto (tgt := 165) hC.x hC.b dX2_mustName_109 (by decide) ?_
          refine lv_iload_n hC.x hC.b dX2_mustName_165 rfl (lv_at hl 0 rfl) ?_
          refine lv_tableIn (off := 38) (tgt := 204) hC.x hC.b dX2_mustName_166 (by decide) (by decide) rfl (by decide) ?_
          refine lv_aload_n hC.x hC.b dX2_mustName_204 rfl (lv_at hl 2 rfl) ?_
          refine lv_iconst (v := 1) hC.x hC.b dX2_mustName_205 (by decide) ?_
          refine go_rr (run_V (rm := ({ frames := 1, cells := 0, slots := 0, locals := 22 } : Room)) (mc := 0) (ms := 0) (rest := []) (As := [.int 1]) hC (m2_fail l hZ hw139) vX2_2_fail h2_fail ((F : va_W).length + 14) 1 gCl_X2 (wX_c (xc_f (by omega) rfl)) rfl ⟨rfl, rfl, Nat.le_of_ble_eq_true rfl, Nat.le_of_ble_eq_true rfl⟩ ⟨Nat.le_of_ble_eq_true rfl, Nat.le_of_ble_eq_true rfl⟩ hP hD hS hl.1 (Nat.le_of_ble_eq_true rfl) dX2_mustName_206 rfl) hS (fun r24 S23 H locs hw140 hP hD hS => ?_)
          obtain ⟨rfl, hw140⟩ := hw140
          exact gx_throw hC hout hw140 hP hD hS (Nat.le_of_ble_eq_true rfl) (Nat.le_of_ble_eq_true rfl) dX2_mustName_209
      · have hw141 := hw134.2 c18
        by_cases c25 : (hB x4.2.2.1) = (-840227282)
        · have hw142 := hw141.1 c25
          refine lv_lookup (off := 115) (tgt := 140) hC.x hC.b dX2_mustName_25 (by decide +kernel) (by rw [c25]; decide +kernel) (by decide) ?_
          refine lv_aload_n hC.x hC.b dX2_mustName_140 rfl (lv_at hl 1 rfl) ?_
          refine va_ldcS hC.x hC.b hC.ow ((hZ s hC.K.2.2.2).2.2.2.1 5 _ rfl).1 dX2_mustName_141 ?_
          obtain ⟨bs26, hs27, hw143⟩ := hw142
          refine go_i (run_Vc (rest := []) hC (mJ3_equals l hZ (strP hs27) (Or.inr (kCs hZ 5 (by decide))) hw143) vX2_J3_equals hJ3_equals (s_cell hC hP hS (Or.inl (strP hs27))) ⟨rfl, rfl, Nat.le_of_ble_eq_true rfl, Nat.le_of_ble_eq_true rfl⟩ ⟨Nat.le_of_ble_eq_true rfl, Nat.le_of_ble_eq_true rfl⟩ hP hD hS hl.1 (Nat.le_of_ble_eq_true rfl) dX2_mustName_143 rfl) hS (fun r28 u H locs hw144 hP hD hS => ?_)
          refine lv_if_eq (tgt := 165) hC.x hC.b dX2_mustName_146 (by decide) (fun c29 => ?_) (fun c29 => ?_)
          · have hw145 := hw144.1 c29
            refine lv_iload_n hC.x hC.b dX2_mustName_165 rfl (lv_at hl 0 rfl) ?_
            refine lv_tableOut (tgt := 210) hC.x hC.b dX2_mustName_166 (by decide) (by decide) ?_
            refine tx_ret ?_
            refine W.widen (k := 0) (n := 0) (Nat.le_of_ble_eq_true rfl) (Nat.le_of_ble_eq_true rfl) ?_
            exact rt_v hC hw145 hP hD hS dX2_mustName_210
          · have hw146 := hw144.2 c29
            refine lv_iconst (v := 4) hC.x hC.b dX2_mustName_149 (by decide) ?_
            refine lv_istore_n (lv' := [(2, .int 4), (1, .ref a2), (0, .ref (ad 14))]) hC.x hC.b dX2_mustName_150 rfl hl (by decide) rfl (fun ls hl => ?_)
            refine lv_goto (tgt := 165) hC.x hC.b dX2_mustName_151 (by decide) ?_
            refine lv_iload_n hC.x hC.b dX2_mustName_165 rfl (lv_at hl 0 rfl) ?_
            refine lv_tableIn (off := 38) (tgt := 204) hC.x hC.b dX2_mustName_166 (by decide) (by decide) rfl (by decide) ?_
            refine lv_aload_n hC.x hC.b dX2_mustName_204 rfl (lv_at hl 2 rfl) ?_
            refine lv_iconst (v := 1) hC.x hC.b dX2_mustName_205 (by decide) ?_
            refine go_rr (run_V (rm := ({ frames := 1, cells := 0, slots := 0, locals := 22 } : Room)) (mc := 0) (ms := 0) (rest := []) (As := [.int 1]) hC (m2_fail l hZ hw146) vX2_2_fail h2_fail ((F : va_W).length + 14) 1 gCl_X2 (wX_c (xc_f (by omega) rfl)) rfl ⟨rfl, rfl, Nat.le_of_ble_eq_true rfl, Nat.le_of_ble_eq_true rfl⟩ ⟨Nat.le_of_ble_eq_true rfl, Nat.le_of_ble_eq_true rfl⟩ hP hD hS hl.1 (Nat.le_of_ble_eq_true rfl) dX2_mustName_206 rfl) hS (fun r31 S30 H locs hw147 hP hD hS => ?_)
            obtain ⟨rfl, hw147⟩ := hw147
            exact gx_throw hC hout hw147 hP hD hS (Nat.le_of_ble_eq_true rfl) (Nat.le_of_ble_eq_true rfl) dX2_mustName_209
        · have hw148 := hw141.2 c25
          by_cases c32 : (hB x4.2.2.1) = 3079268
          · have hw149 := hw148.1 c32
            refine lv_lookup (off := 87) (tgt := 112) hC.x hC.b dX2_mustName_25 (by decide +kernel) (by rw [c32]; decide +kernel) (by decide) ?_
            refine lv_aload_n hC.x hC.b dX2_mustName_112 rfl (lv_at hl 1 rfl) ?_
            refine va_ldcS hC.x hC.b hC.ow ((hZ s hC.K.2.2.2).2.2.2.1 3 _ rfl).1 dX2_mustName_113 ?_
            obtain ⟨bs33, hs34, hw150⟩ := hw149
            refine go_i (run_Vc (rest := []) hC (mJ3_equals l hZ (strP hs34) (Or.inr (kCs hZ 3 (by decide))) hw150) vX2_J3_equals hJ3_equals (s_cell hC hP hS (Or.inl (strP hs34))) ⟨rfl, rfl, Nat.le_of_ble_eq_true rfl, Nat.le_of_ble_eq_true rfl⟩ ⟨Nat.le_of_ble_eq_true rfl, Nat.le_of_ble_eq_true rfl⟩ hP hD hS hl.1 (Nat.le_of_ble_eq_true rfl) dX2_mustName_115 rfl) hS (fun r35 u H locs hw151 hP hD hS => ?_)
            refine lv_if_eq (tgt := 165) hC.x hC.b dX2_mustName_118 (by decide) (fun c36 => ?_) (fun c36 => ?_)
            · have hw152 := hw151.1 c36
              refine lv_iload_n hC.x hC.b dX2_mustName_165 rfl (lv_at hl 0 rfl) ?_
              refine lv_tableOut (tgt := 210) hC.x hC.b dX2_mustName_166 (by decide) (by decide) ?_
              refine tx_ret ?_
              refine W.widen (k := 0) (n := 0) (Nat.le_of_ble_eq_true rfl) (Nat.le_of_ble_eq_true rfl) ?_
              exact rt_v hC hw152 hP hD hS dX2_mustName_210
            · have hw153 := hw151.2 c36
              refine lv_iconst (v := 2) hC.x hC.b dX2_mustName_121 (by decide) ?_
              refine lv_istore_n (lv' := [(2, .int 2), (1, .ref a2), (0, .ref (ad 14))]) hC.x hC.b dX2_mustName_122 rfl hl (by decide) rfl (fun ls hl => ?_)
              refine lv_goto (tgt := 165) hC.x hC.b dX2_mustName_123 (by decide) ?_
              refine lv_iload_n hC.x hC.b dX2_mustName_165 rfl (lv_at hl 0 rfl) ?_
              refine lv_tableIn (off := 38) (tgt := 204) hC.x hC.b dX2_mustName_166 (by decide) (by decide) rfl (by decide) ?_
              refine lv_aload_n hC.x hC.b dX2_mustName_204 rfl (lv_at hl 2 rfl) ?_
              refine lv_iconst (v := 1) hC.x hC.b dX2_mustName_205 (by decide) ?_
              refine go_rr (run_V (rm := ({ frames := 1, cells := 0, slots := 0, locals := 22 } : Room)) (mc := 0) (ms := 0) (rest := []) (As := [.int 1]) hC (m2_fail l hZ hw153) vX2_2_fail h2_fail ((F : va_W).length + 14) 1 gCl_X2 (wX_c (xc_f (by omega) rfl)) rfl ⟨rfl, rfl, Nat.le_of_ble_eq_true rfl, Nat.le_of_ble_eq_true rfl⟩ ⟨Nat.le_of_ble_eq_true rfl, Nat.le_of_ble_eq_true rfl⟩ hP hD hS hl.1 (Nat.le_of_ble_eq_true rfl) dX2_mustName_206 rfl) hS (fun r38 S37 H locs hw154 hP hD hS => ?_)
              obtain ⟨rfl, hw154⟩ := hw154
              exact gx_throw hC hout hw154 hP hD hS (Nat.le_of_ble_eq_true rfl) (Nat.le_of_ble_eq_true rfl) dX2_mustName_209
          · have hw155 := hw148.2 c32
            by_cases c39 : (hB x4.2.2.1) = 3566226
            · have hw156 := hw155.1 c39
              refine lv_lookup (off := 59) (tgt := 84) hC.x hC.b dX2_mustName_25 (by decide +kernel) (by rw [c39]; decide +kernel) (by decide) ?_
              refine lv_aload_n hC.x hC.b dX2_mustName_84 rfl (lv_at hl 1 rfl) ?_
              refine va_ldcS hC.x hC.b hC.ow ((hZ s hC.K.2.2.2).2.2.2.1 1 _ rfl).1 dX2_mustName_85 ?_
              obtain ⟨bs40, hs41, hw157⟩ := hw156
              refine go_i (run_Vc (rest := []) hC (mJ3_equals l hZ (strP hs41) (Or.inr (kCs hZ 1 (by decide))) hw157) vX2_J3_equals hJ3_equals (s_cell hC hP hS (Or.inl (strP hs41))) ⟨rfl, rfl, Nat.le_of_ble_eq_true rfl, Nat.le_of_ble_eq_true rfl⟩ ⟨Nat.le_of_ble_eq_true rfl, Nat.le_of_ble_eq_true rfl⟩ hP hD hS hl.1 (Nat.le_of_ble_eq_true rfl) dX2_mustName_87 rfl) hS (fun r42 u H locs hw158 hP hD hS => ?_)
              refine lv_if_eq (tgt := 165) hC.x hC.b dX2_mustName_90 (by decide) (fun c43 => ?_) (fun c43 => ?_)
              · have hw159 := hw158.1 c43
                refine lv_iload_n hC.x hC.b dX2_mustName_165 rfl (lv_at hl 0 rfl) ?_
                refine lv_tableOut (tgt := 210) hC.x hC.b dX2_mustName_166 (by decide) (by decide) ?_
                refine tx_ret ?_
                refine W.widen (k := 0) (n := 0) (Nat.le_of_ble_eq_true rfl) (Nat.le_of_ble_eq_true rfl) ?_
                exact rt_v hC hw159 hP hD hS dX2_mustName_210
              · have hw160 := hw158.2 c43
                refine lv_iconst (v := 0) hC.x hC.b dX2_mustName_93 (by decide) ?_
                refine lv_istore_n (lv' := [(2, .int 0), (1, .ref a2), (0, .ref (ad 14))]) hC.x hC.b dX2_mustName_94 rfl hl (by decide) rfl (fun ls hl => ?_)
                refine lv_goto (tgt := 165) hC.x hC.b dX2_mustName_95 (by decide) ?_
                refine lv_iload_n hC.x hC.b dX2_mustName_165 rfl (lv_at hl 0 rfl) ?_
                refine lv_tableIn (off := 38) (tgt := 204) hC.x hC.b dX2_mustName_166 (by decide) (by decide) rfl (by decide) ?_
                refine lv_aload_n hC.x hC.b dX2_mustName_204 rfl (lv_at hl 2 rfl) ?_
                refine lv_iconst (v := 1) hC.x hC.b dX2_mustName_205 (by decide) ?_
                refine go_rr (run_V (rm := ({ frames := 1, cells := 0, slots := 0, locals := 22 } : Room)) (mc := 0) (ms := 0) (rest := []) (As := [.int 1]) hC (m2_fail l hZ hw160) vX2_2_fail h2_fail ((F : va_W).length + 14) 1 gCl_X2 (wX_c (xc_f (by omega) rfl)) rfl ⟨rfl, rfl, Nat.le_of_ble_eq_true rfl, Nat.le_of_ble_eq_true rfl⟩ ⟨Nat.le_of_ble_eq_true rfl, Nat.le_of_ble_eq_true rfl⟩ hP hD hS hl.1 (Nat.le_of_ble_eq_true rfl) dX2_mustName_206 rfl) hS (fun r45 S44 H locs hw161 hP hD hS => ?_)
                obtain ⟨rfl, hw161⟩ := hw161
                exact gx_throw hC hout hw161 hP hD hS (Nat.le_of_ble_eq_true rfl) (Nat.le_of_ble_eq_true rfl) dX2_mustName_209
            · have hw162 := hw155.2 c39
              by_cases c46 : (hB x4.2.2.1) = 99151926
              · have hw163 := hw162.1 c46
                refine lv_lookup (off := 129) (tgt := 154) hC.x hC.b dX2_mustName_25 (by decide +kernel) (by rw [c46]; decide +kernel) (by decide) ?_
                refine lv_aload_n hC.x hC.b dX2_mustName_154 rfl (lv_at hl 1 rfl) ?_
                refine va_ldcS hC.x hC.b hC.ow ((hZ s hC.K.2.2.2).2.2.2.1 6 _ rfl).1 dX2_mustName_155 ?_
                obtain ⟨bs47, hs48, hw164⟩ := hw163
                refine go_i (run_Vc (rest := []) hC (mJ3_equals l hZ (strP hs48) (Or.inr (kCs hZ 6 (by decide))) hw164) vX2_J3_equals hJ3_equals (s_cell hC hP hS (Or.inl (strP hs48))) ⟨rfl, rfl, Nat.le_of_ble_eq_true rfl, Nat.le_of_ble_eq_true rfl⟩ ⟨Nat.le_of_ble_eq_true rfl, Nat.le_of_ble_eq_true rfl⟩ hP hD hS hl.1 (Nat.le_of_ble_eq_true rfl) dX2_mustName_157 rfl) hS (fun r49 u H locs hw165 hP hD hS => ?_)
                refine lv_if_eq (tgt := 165) hC.x hC.b dX2_mustName_160 (by decide) (fun c50 => ?_) (fun c50 => ?_)
                · have hw166 := hw165.1 c50
                  refine lv_iload_n hC.x hC.b dX2_mustName_165 rfl (lv_at hl 0 rfl) ?_
                  refine lv_tableOut (tgt := 210) hC.x hC.b dX2_mustName_166 (by decide) (by decide) ?_
                  refine tx_ret ?_
                  refine W.widen (k := 0) (n := 0) (Nat.le_of_ble_eq_true rfl) (Nat.le_of_ble_eq_true rfl) ?_
                  exact rt_v hC hw166 hP hD hS dX2_mustName_210
                · have hw167 := hw165.2 c50
                  refine lv_iconst (v := 5) hC.x hC.b dX2_mustName_163 (by decide) ?_
                  refine lv_istore_n (lv' := [(2, .int 5), (1, .ref a2), (0, .ref (ad 14))]) hC.x hC.b dX2_mustName_164 rfl hl (by decide) rfl (fun ls hl => ?_)
                  refine lv_iload_n hC.x hC.b dX2_mustName_165 rfl (lv_at hl 0 rfl) ?_
                  refine lv_tableIn (off := 38) (tgt := 204) hC.x hC.b dX2_mustName_166 (by decide) (by decide) rfl (by decide) ?_
                  refine lv_aload_n hC.x hC.b dX2_mustName_204 rfl (lv_at hl 2 rfl) ?_
                  refine lv_iconst (v := 1) hC.x hC.b dX2_mustName_205 (by decide) ?_
                  refine go_rr (run_V (rm := ({ frames := 1, cells := 0, slots := 0, locals := 22 } : Room)) (mc := 0) (ms := 0) (rest := []) (As := [.int 1]) hC (m2_fail l hZ hw167) vX2_2_fail h2_fail ((F : va_W).length + 14) 1 gCl_X2 (wX_c (xc_f (by omega) rfl)) rfl ⟨rfl, rfl, Nat.le_of_ble_eq_true rfl, Nat.le_of_ble_eq_true rfl⟩ ⟨Nat.le_of_ble_eq_true rfl, Nat.le_of_ble_eq_true rfl⟩ hP hD hS hl.1 (Nat.le_of_ble_eq_true rfl) dX2_mustName_206 rfl) hS (fun r52 S51 H locs hw168 hP hD hS => ?_)
                  obtain ⟨rfl, hw168⟩ := hw168
                  exact gx_throw hC hout hw168 hP hD hS (Nat.le_of_ble_eq_true rfl) (Nat.le_of_ble_eq_true rfl) dX2_mustName_209
              · have hw169 := hw162.2 c46
                refine lv_lookup (off := 140) (tgt := 165) hC.x hC.b dX2_mustName_25 (by decide +kernel) (by show Op.lookupswitch.offset [(-1073910849, 101), (-991716523, 73), (-840227282, 115), (3079268, 87), (3566226, 59), (99151926, 129)] (140) _ = (140); rw [Op.lookupswitch.offset_cons, if_neg (fun q => lv_neT c11 (a := -1073910849) rfl q.symm)]; rw [Op.lookupswitch.offset_cons, if_neg (fun q => lv_neT c18 (a := -991716523) rfl q.symm)]; rw [Op.lookupswitch.offset_cons, if_neg (fun q => lv_neT c25 (a := -840227282) rfl q.symm)]; rw [Op.lookupswitch.offset_cons, if_neg (fun q => lv_neT c32 (a := 3079268) rfl q.symm)]; rw [Op.lookupswitch.offset_cons, if_neg (fun q => lv_neT c39 (a := 3566226) rfl q.symm)]; rw [Op.lookupswitch.offset_cons, if_neg (fun q => lv_neT c46 (a := 99151926) rfl q.symm)]; rfl) (by decide) ?_
                refine lv_iload_n hC.x hC.b dX2_mustName_165 rfl (lv_at hl 0 rfl) ?_
                refine lv_tableOut (tgt := 210) hC.x hC.b dX2_mustName_166 (by decide) (by decide) ?_
                refine tx_ret ?_
                refine W.widen (k := 0) (n := 0) (Nat.le_of_ble_eq_true rfl) (Nat.le_of_ble_eq_true rfl) ?_
                exact rt_v hC hw169 hP hD hS dX2_mustName_210
  · have hw170 := hw.2 c1
    refine lv_aload_n hC.x hC.b dX2_mustName_8 rfl (lv_at hl 0 rfl) ?_
    refine lv_iconst (v := 1) hC.x hC.b dX2_mustName_9 (by decide) ?_
    refine go_rr (run_V (rm := ({ frames := 1, cells := 0, slots := 0, locals := 22 } : Room)) (mc := 0) (ms := 0) (rest := []) (As := [.int 1]) hC (m2_fail l hZ hw170) vX2_2_fail h2_fail ((F : va_W).length + 14) 1 gCl_X2 (wX_c (xc_f (by omega) rfl)) rfl ⟨rfl, rfl, Nat.le_of_ble_eq_true rfl, Nat.le_of_ble_eq_true rfl⟩ ⟨Nat.le_of_ble_eq_true rfl, Nat.le_of_ble_eq_true rfl⟩ hP hD hS hl.1 (Nat.le_of_ble_eq_true rfl) dX2_mustName_10 rfl) hS (fun r54 S53 H locs hw171 hP hD hS => ?_)
    obtain ⟨rfl, hw171⟩ := hw171
    exact gx_throw hC hout hw171 hP hD hS (Nat.le_of_ble_eq_true rfl) (Nat.le_of_ble_eq_true rfl) dX2_mustName_13
theorem vX7_J3_equals : GoodIn lw_all (wsV RX7 42 RJ3 yJ3_equals (ws_ yJ3_equals cJ3_equals 3 (some .boolean))) := lw_V q741 q678 q679 q128 q680
theorem h7_among : yX7_among.cls ≠ "java/lang/invoke/MethodHandle" ∧ yX7_among.cls ≠ "java/lang/invoke/VarHandle" ∧ (parseMethodDescriptor yX7_among.desc).map (fun d => d.parameters.length) = some 3 := by decide +kernel
def f7_amongP_2 (post : Option (Bool × Nat) → Prop) (tau : TD) (S : XS) (x1 : Int32) (x2 : Nat) (K2 : Int32 → Prop) (x3 : Int32) : Prop :=
  ((x1 ≤ x3 → (post none)) ∧ (¬ x1 ≤ x3 → (vp_in x3 6 ∧ (x3.toNatClampNeg < tau.2.2.1 ∧ (x3.toNatClampNeg < tau.2.2.1 ∧ (∃ bs5 bs7, strAt S (tau.2.1 (10 + x3.toNatClampNeg)) bs5 ∧ strAt S x2 bs7 ∧ wJ3_equals (fun r9 => ((r9 = 0 → (K2 (x3 + 1))) ∧ (¬ r9 = 0 → (vp_in x3 6 ∧ (x3.toNatClampNeg < tau.2.2.1 ∧ (post (some (true, x3.toNatClampNeg)))))))) bs5 bs7))))))
set_option maxHeartbeats 4000000 in
theorem k7_amongP_2 {post : Option (Bool × Nat) → Prop} {tau : TD} {S : XS} {x1 : Int32} {x2 : Nat} (hC : CX RX7 cX7_among 4 (some (.object "SeanceStreet$Named")) D gCl nwG Z Hb A p s m args meth c) {adK adV : Nat → Nat} (hZ : ∀ U, Z U → zS adK adV A Hb U) : ∀ z : Int32, lp (fun (K : Int32 → Prop) (z : Int32) => f7_amongP_2 post tau S x1 x2 K z) z → ∀ (H : Heap) (locs : List Loc) (ls : Array Slot), va_P D gCl (wX D ad rf tw F tau S) H → va_D A (wX D ad rf tw F tau S) → va_S A s.heap H locs → lv_has ls 4 [(0, .ref (tau.1 1)), (1, .int x1), (2, .ref x2), (3, .int z)] → W p l e ({ frames := 2, cells := 0, slots := 0, locals := 44 } : Room) s m args below meth c H locs 0 0 (MQ below (va_Qo (fun ro (_ : Unit) => ∃ r, ro = fA tau r ∧ post r) (BW D gCl A (fun _ => wX D ad rf tw F tau S)) A) args s 0 0 A) (F0 m 2 ls []) := by
  refine lp_ind ?_
  rintro K2 x3 hK2 hw H locs ls hP hD hS hl
  have hw : f7_amongP_2 post tau S x1 x2 K2 x3 := hw
  unfold f7_amongP_2 at hw
  have hP : va_P D gCl (wX D ad rf tw F tau S) H := hP
  have hD : va_D A (wX D ad rf tw F tau S) := hD
  have hl : lv_has ls 4 [(0, .ref (tau.1 1)), (1, .int x1), (2, .ref x2), (3, .int x3)] := hl
  refine lv_iload_n hC.x hC.b dX7_among_2 rfl (lv_at hl 3 rfl) ?_
  refine lv_iload_n hC.x hC.b dX7_among_3 rfl (lv_at hl 1 rfl) ?_
  refine lv_icmp_ge (tgt := 30) hC.x hC.b dX7_among_4 (by decide) (fun c1 => ?_) (fun c1 => ?_)
  · have hw172 := hw.1 c1
    refine lv_null hC.x hC.b dX7_among_30 ?_
    refine W.widen (k := 0) (n := 0) (Nat.le_of_ble_eq_true rfl) (Nat.le_of_ble_eq_true rfl) ?_
    exact rt_o (u := ()) (r := none) hC (Or.inl ⟨_, rfl⟩) ⟨none, rfl, hw172⟩ hP hD hS dX7_among_31
  · have hw173 := hw.2 c1
    refine lv_aload_n hC.x hC.b dX7_among_7 rfl (lv_at hl 0 rfl) ?_
    refine lv_iload_n hC.x hC.b dX7_among_8 rfl (lv_at hl 3 rfl) ?_
    obtain ⟨hin2, hw174⟩ := hw173
    obtain ⟨hg3, hw175⟩ := hw174
    refine lXPe hC hP hin2 rfl hg3 dX7_among_9 ?_
    obtain ⟨hg4, hw176⟩ := hw175
    refine gXPn (i := x3.toNatClampNeg) hg4 hC hP dX7_among_10 ?_
    refine lv_aload_n hC.x hC.b dX7_among_13 rfl (lv_at hl 2 rfl) ?_
    obtain ⟨bs5, bs7, hs6, hs8, hw177⟩ := hw176
    refine go_i (run_Vc (rest := []) hC (mJ3_equals l hZ (strP hs6) (Or.inl (strP hs8)) hw177) vX7_J3_equals hJ3_equals (s_cell hC hP hS (Or.inl (strP hs6))) ⟨rfl, rfl, Nat.le_of_ble_eq_true rfl, Nat.le_of_ble_eq_true rfl⟩ ⟨Nat.le_of_ble_eq_true rfl, Nat.le_of_ble_eq_true rfl⟩ hP hD hS hl.1 (Nat.le_of_ble_eq_true rfl) dX7_among_14 rfl) hS (fun r9 u H locs hw178 hP hD hS => ?_)
    refine lv_if_eq (tgt := 24) hC.x hC.b dX7_among_17 (by decide) (fun c10 => ?_) (fun c10 => ?_)
    · have hw179 := hw178.1 c10
      refine lv_iinc (v := (x3 + 1)) (lv' := [(3, .int (x3 + 1)), (0, .ref (tau.1 1)), (1, .int x1), (2, .ref x2)]) hC.x hC.b dX7_among_24 hl (k := 3) rfl rfl (by decide) rfl (fun ls hl => ?_)
      refine lv_goto (tgt := 2) hC.x hC.b dX7_among_27 (by decide) ?_
      exact hK2 (x3 + 1) hw179 H locs ls hP hD hS (lv_sub hl [1, 2, 3, 0] rfl)
    · have hw180 := hw178.2 c10
      refine lv_aload_n hC.x hC.b dX7_among_20 rfl (lv_at hl 0 rfl) ?_
      refine lv_iload_n hC.x hC.b dX7_among_21 rfl (lv_at hl 3 rfl) ?_
      obtain ⟨hin11, hw181⟩ := hw180
      obtain ⟨hg12, hw182⟩ := hw181
      refine lXPe hC hP hin11 rfl hg12 dX7_among_22 ?_
      refine W.widen (k := 0) (n := 0) (Nat.le_of_ble_eq_true rfl) (Nat.le_of_ble_eq_true rfl) ?_
      exact rt_o (u := ()) (r := some (tau.1 (10 + x3.toNatClampNeg))) hC (Or.inl ⟨_, rfl⟩) ⟨some (true, x3.toNatClampNeg), rfl, hw182⟩ hP hD hS dX7_among_23
def w7_amongP (post : Option (Bool × Nat) → Prop) (tau : TD) (S : XS) (x1 : Int32) (x2 : Nat) : Prop :=
  (lp (fun (K : Int32 → Prop) (z : Int32) => f7_amongP_2 post tau S x1 x2 K z) 0)
set_option maxHeartbeats 8000000 in
theorem m7_amongP (l : Launch) {F : va_W} {post : Option (Bool × Nat) → Prop} {tau : TD} {S : XS} {x1 : Int32} {x2 : Nat} {adK adV : Nat → Nat} (hZ : ∀ U, Z U → zS adK adV A Hb U) (hw : w7_amongP post tau S x1 x2) : Met l yX7_among (ws_ yX7_among cX7_among 4 (some (.object "SeanceStreet$Named"))) ({ frames := 2, cells := 0, slots := 0, locals := 44 } : Room) (va_Pc [.ref (tau.1 1), .int x1, .ref x2] (PcG D gCl nwG Z Hb A (wX D ad rf tw F tau S))) (va_Qo (fun ro (_ : Unit) => ∃ r, ro = fA tau r ∧ post r) (BW D gCl A (fun _ => wX D ad rf tw F tau S)) A) 0 0 A := by
  refine Met.ofG (by decide) (Nat.le_of_ble_eq_true rfl) ?_
  intro p e s m below meth c ls hC _ hP hD hS hl
  have hC : CX RX7 cX7_among 4 (some (.object "SeanceStreet$Named")) D gCl nwG Z Hb A p s m _ meth c := hC
  have hl : lv_has ls 4 [(0, .ref (tau.1 1)), (1, .int x1), (2, .ref x2)] := hl
  unfold w7_amongP at hw
  refine lv_iconst (v := 0) hC.x hC.b dX7_among_0 (by decide) ?_
  refine lv_istore_n (lv' := [(3, .int 0), (0, .ref (tau.1 1)), (1, .int x1), (2, .ref x2)]) hC.x hC.b dX7_among_1 rfl hl (by decide) rfl (fun ls hl => ?_)
  exact k7_amongP_2 hC hZ 0 hw s.heap [] ls hP hD hS (lv_sub hl [1, 2, 3, 0] rfl)
def f7_amongG_2 (post : Option (Bool × Nat) → Prop) (tau : TD) (S : XS) (x1 : Int32) (x2 : Nat) (K2 : Int32 → Prop) (x3 : Int32) : Prop :=
  ((x1 ≤ x3 → (post none)) ∧ (¬ x1 ≤ x3 → (vp_in x3 6 ∧ (x3.toNatClampNeg < tau.2.2.2.1 ∧ (x3.toNatClampNeg < tau.2.2.2.1 ∧ tau.2.2.2.2 x3.toNatClampNeg < 4 ∧ (∃ bs6 bs8, strAt S (tau.2.1 (20 + x3.toNatClampNeg)) bs6 ∧ strAt S x2 bs8 ∧ wJ3_equals (fun r10 => ((r10 = 0 → (K2 (x3 + 1))) ∧ (¬ r10 = 0 → (vp_in x3 6 ∧ (x3.toNatClampNeg < tau.2.2.2.1 ∧ (post (some (false, x3.toNatClampNeg)))))))) bs6 bs8))))))
set_option maxHeartbeats 4000000 in
theorem k7_amongG_2 {post : Option (Bool × Nat) → Prop} {tau : TD} {S : XS} {x1 : Int32} {x2 : Nat} (hC : CX RX7 cX7_among 4 (some (.object "SeanceStreet$Named")) D gCl nwG Z Hb A p s m args meth c) {adK adV : Nat → Nat} (hZ : ∀ U, Z U → zS adK adV A Hb U) : ∀ z : Int32, lp (fun (K : Int32 → Prop) (z : Int32) => f7_amongG_2 post tau S x1 x2 K z) z → ∀ (H : Heap) (locs : List Loc) (ls : Array Slot), va_P D gCl (wX D ad rf tw F tau S) H → va_D A (wX D ad rf tw F tau S) → va_S A s.heap H locs → lv_has ls 4 [(0, .ref (tau.1 2)), (1, .int x1), (2, .ref x2), (3, .int z)] → W p l e ({ frames := 2, cells := 0, slots := 0, locals := 44 } : Room) s m args below meth c H locs 0 0 (MQ below (va_Qo (fun ro (_ : Unit) => ∃ r, ro = fA tau r ∧ post r) (BW D gCl A (fun _ => wX D ad rf tw F tau S)) A) args s 0 0 A) (F0 m 2 ls []) := by
  refine lp_ind ?_
  rintro K2 x3 hK2 hw H locs ls hP hD hS hl
  have hw : f7_amongG_2 post tau S x1 x2 K2 x3 := hw
  unfold f7_amongG_2 at hw
  have hP : va_P D gCl (wX D ad rf tw F tau S) H := hP
  have hD : va_D A (wX D ad rf tw F tau S) := hD
  have hl : lv_has ls 4 [(0, .ref (tau.1 2)), (1, .int x1), (2, .ref x2), (3, .int x3)] := hl
  refine lv_iload_n hC.x hC.b dX7_among_2 rfl (lv_at hl 3 rfl) ?_
  refine lv_iload_n hC.x hC.b dX7_among_3 rfl (lv_at hl 1 rfl) ?_
  refine lv_icmp_ge (tgt := 30) hC.x hC.b dX7_among_4 (by decide) (fun c1 => ?_) (fun c1 => ?_)
  · have hw183 := hw.1 c1
    refine lv_null hC.x hC.b dX7_among_30 ?_
    refine W.widen (k := 0) (n := 0) (Nat.le_of_ble_eq_true rfl) (Nat.le_of_ble_eq_true rfl) ?_
    exact rt_o (u := ()) (r := none) hC (Or.inl ⟨_, rfl⟩) ⟨none, rfl, hw183⟩ hP hD hS dX7_among_31
  · have hw184 := hw.2 c1
    refine lv_aload_n hC.x hC.b dX7_among_7 rfl (lv_at hl 0 rfl) ?_
    refine lv_iload_n hC.x hC.b dX7_among_8 rfl (lv_at hl 3 rfl) ?_
    obtain ⟨hin2, hw185⟩ := hw184
    obtain ⟨hg3, hw186⟩ := hw185
    refine lXGh hC hP hin2 rfl hg3 dX7_among_9 ?_
    obtain ⟨hg4, hlw5, hw187⟩ := hw186
    refine gXGn (i := x3.toNatClampNeg) hg4 hlw5 hC hP dX7_among_10 ?_
    refine lv_aload_n hC.x hC.b dX7_among_13 rfl (lv_at hl 2 rfl) ?_
    obtain ⟨bs6, bs8, hs7, hs9, hw188⟩ := hw187
    refine go_i (run_Vc (rest := []) hC (mJ3_equals l hZ (strP hs7) (Or.inl (strP hs9)) hw188) vX7_J3_equals hJ3_equals (s_cell hC hP hS (Or.inl (strP hs7))) ⟨rfl, rfl, Nat.le_of_ble_eq_true rfl, Nat.le_of_ble_eq_true rfl⟩ ⟨Nat.le_of_ble_eq_true rfl, Nat.le_of_ble_eq_true rfl⟩ hP hD hS hl.1 (Nat.le_of_ble_eq_true rfl) dX7_among_14 rfl) hS (fun r10 u H locs hw189 hP hD hS => ?_)
    refine lv_if_eq (tgt := 24) hC.x hC.b dX7_among_17 (by decide) (fun c11 => ?_) (fun c11 => ?_)
    · have hw190 := hw189.1 c11
      refine lv_iinc (v := (x3 + 1)) (lv' := [(3, .int (x3 + 1)), (0, .ref (tau.1 2)), (1, .int x1), (2, .ref x2)]) hC.x hC.b dX7_among_24 hl (k := 3) rfl rfl (by decide) rfl (fun ls hl => ?_)
      refine lv_goto (tgt := 2) hC.x hC.b dX7_among_27 (by decide) ?_
      exact hK2 (x3 + 1) hw190 H locs ls hP hD hS (lv_sub hl [1, 2, 3, 0] rfl)
    · have hw191 := hw189.2 c11
      refine lv_aload_n hC.x hC.b dX7_among_20 rfl (lv_at hl 0 rfl) ?_
      refine lv_iload_n hC.x hC.b dX7_among_21 rfl (lv_at hl 3 rfl) ?_
      obtain ⟨hin12, hw192⟩ := hw191
      obtain ⟨hg13, hw193⟩ := hw192
      refine lXGh hC hP hin12 rfl hg13 dX7_among_22 ?_
      refine W.widen (k := 0) (n := 0) (Nat.le_of_ble_eq_true rfl) (Nat.le_of_ble_eq_true rfl) ?_
      exact rt_o (u := ()) (r := some (tau.1 (20 + x3.toNatClampNeg))) hC (Or.inl ⟨_, rfl⟩) ⟨some (false, x3.toNatClampNeg), rfl, hw193⟩ hP hD hS dX7_among_23
def w7_amongG (post : Option (Bool × Nat) → Prop) (tau : TD) (S : XS) (x1 : Int32) (x2 : Nat) : Prop :=
  (lp (fun (K : Int32 → Prop) (z : Int32) => f7_amongG_2 post tau S x1 x2 K z) 0)
set_option maxHeartbeats 8000000 in
theorem m7_amongG (l : Launch) {F : va_W} {post : Option (Bool × Nat) → Prop} {tau : TD} {S : XS} {x1 : Int32} {x2 : Nat} {adK adV : Nat → Nat} (hZ : ∀ U, Z U → zS adK adV A Hb U) (hw : w7_amongG post tau S x1 x2) : Met l yX7_among (ws_ yX7_among cX7_among 4 (some (.object "SeanceStreet$Named"))) ({ frames := 2, cells := 0, slots := 0, locals := 44 } : Room) (va_Pc [.ref (tau.1 2), .int x1, .ref x2] (PcG D gCl nwG Z Hb A (wX D ad rf tw F tau S))) (va_Qo (fun ro (_ : Unit) => ∃ r, ro = fA tau r ∧ post r) (BW D gCl A (fun _ => wX D ad rf tw F tau S)) A) 0 0 A := by
  refine Met.ofG (by decide) (Nat.le_of_ble_eq_true rfl) ?_
  intro p e s m below meth c ls hC _ hP hD hS hl
  have hC : CX RX7 cX7_among 4 (some (.object "SeanceStreet$Named")) D gCl nwG Z Hb A p s m _ meth c := hC
  have hl : lv_has ls 4 [(0, .ref (tau.1 2)), (1, .int x1), (2, .ref x2)] := hl
  unfold w7_amongG at hw
  refine lv_iconst (v := 0) hC.x hC.b dX7_among_0 (by decide) ?_
  refine lv_istore_n (lv' := [(3, .int 0), (0, .ref (tau.1 2)), (1, .int x1), (2, .ref x2)]) hC.x hC.b dX7_among_1 rfl hl (by decide) rfl (fun ls hl => ?_)
  exact k7_amongG_2 hC hZ 0 hw s.heap [] ls hP hD hS (lv_sub hl [1, 2, 3, 0] rfl)
theorem vX7_7_among : GoodIn lw_all (va_wsS RX7 52 yX7_among (ws_ yX7_among cX7_among 4 (some (.object "SeanceStreet$Named")))) := lw_S q738 q739 q127 q740
theorem h7_find : yX7_find.cls = RX7 ∧ yX7_find.cls ≠ "java/lang/invoke/MethodHandle" ∧ yX7_find.cls ≠ "java/lang/invoke/VarHandle" ∧ (parseMethodDescriptor yX7_find.desc).map (fun d => d.parameters.length) = some 1 := by decide +kernel
def w7_find (post : Option (Bool × Nat) → Prop) (tau : TD) (S : XS) (x1 : Nat) : Prop :=
  (w7_amongP (fun r3 => ((r3 = none → (w7_amongG (fun r8 => (post r8)) tau S (S.2.2.1.1.1 50 9) x1)) ∧ (∀ i4, r3 = some (true, i4) → (post (some (true, i4)))) ∧ (∀ i4, r3 = some (false, i4) → (post (some (false, i4)))))) tau S (S.2.2.1.1.1 50 8) x1)
set_option maxHeartbeats 8000000 in
theorem m7_find (l : Launch) {F : va_W} {post : Option (Bool × Nat) → Prop} {tau : TD} {S : XS} {x1 : Nat} {adK adV : Nat → Nat} (hZ : ∀ U, Z U → zS adK adV A Hb U) (hw : w7_find post tau S x1) : Met l yX7_find (ws_ yX7_find cX7_find 3 (some (.object "SeanceStreet$Named"))) ({ frames := 3, cells := 0, slots := 0, locals := 67 } : Room) (va_Pc [.ref (tau.1 0), .ref x1] (PcG D gCl nwG Z Hb A (wX D ad rf tw F tau S))) (va_Qo (fun ro (_ : Unit) => ∃ r, ro = fA tau r ∧ post r) (BW D gCl A (fun _ => wX D ad rf tw F tau S)) A) 0 0 A := by
  refine Met.ofG (by decide) (Nat.le_of_ble_eq_true rfl) ?_
  intro p e s m below meth c ls hC _ hP hD hS hl
  have hC : CX RX7 cX7_find 3 (some (.object "SeanceStreet$Named")) D gCl nwG Z Hb A p s m _ meth c := hC
  have hl : lv_has ls 3 [(0, .ref (tau.1 0)), (1, .ref x1)] := hl
  unfold w7_find at hw
  refine lv_aload_n hC.x hC.b dX7_find_0 rfl (lv_at hl 0 rfl) ?_
  refine gXTX7_0 hC hP dX7_find_1 ?_
  refine lv_aload_n hC.x hC.b dX7_find_4 rfl (lv_at hl 0 rfl) ?_
  refine gXTX7_8 hC hP dX7_find_5 ?_
  refine lv_aload_n hC.x hC.b dX7_find_8 rfl (lv_at hl 1 rfl) ?_
  refine go_o (run_S (rest := []) hC (m7_amongP l hZ hw) vX7_7_among h7_among ⟨rfl, rfl, Nat.le_of_ble_eq_true rfl, Nat.le_of_ble_eq_true rfl⟩ ⟨Nat.le_of_ble_eq_true rfl, Nat.le_of_ble_eq_true rfl⟩ hP hD hS hl.1 (Nat.le_of_ble_eq_true rfl) dX7_find_9 rfl) hS (fun ro2 u H locs hw194 hP hD hS => ?_)
  obtain ⟨r3, rfl, hw194⟩ := hw194
  refine sto_n (lv' := [(2, va_rf (fA tau r3)), (0, .ref (tau.1 0)), (1, .ref x1)]) hC dX7_find_12 rfl hl (by decide) rfl (fun ls hl => ?_)
  refine lod_n hC dX7_find_13 rfl (lv_at hl 0 rfl) ?_
  rcases r3 with _ | ⟨_ | _, i4⟩
  · have hw195 := hw194.1 rfl
    have hl : lv_has ls 3 [(2, .null), (0, .ref (tau.1 0)), (1, .ref x1)] := hl
    refine lv_ifnonnullN hC.x hC.b dX7_find_14 ?_
    refine lv_aload_n hC.x hC.b dX7_find_17 rfl (lv_at hl 1 rfl) ?_
    refine gXTX7_1 hC hP dX7_find_18 ?_
    refine lv_aload_n hC.x hC.b dX7_find_21 rfl (lv_at hl 1 rfl) ?_
    refine gXTX7_9 hC hP dX7_find_22 ?_
    refine lv_aload_n hC.x hC.b dX7_find_25 rfl (lv_at hl 2 rfl) ?_
    refine go_o (run_S (rest := []) hC (m7_amongG l hZ hw195) vX7_7_among h7_among ⟨rfl, rfl, Nat.le_of_ble_eq_true rfl, Nat.le_of_ble_eq_true rfl⟩ ⟨Nat.le_of_ble_eq_true rfl, Nat.le_of_ble_eq_true rfl⟩ hP hD hS hl.1 (Nat.le_of_ble_eq_true rfl) dX7_find_26 rfl) hS (fun ro7 u H locs hw196 hP hD hS => ?_)
    obtain ⟨r8, rfl, hw196⟩ := hw196
    refine lv_goto (tgt := 33) hC.x hC.b dX7_find_29 (by decide) ?_
    refine W.widen (k := 0) (n := 0) (Nat.le_of_ble_eq_true rfl) (Nat.le_of_ble_eq_true rfl) ?_
    exact rt_o (u := ()) hC (Or.inl ⟨_, rfl⟩) ⟨r8, rfl, hw196⟩ hP hD hS dX7_find_33
  · have hw197 := hw194.2.2 i4 rfl
    have hl : lv_has ls 3 [(2, .ref (tau.1 (20 + i4))), (0, .ref (tau.1 0)), (1, .ref x1)] := hl
    refine lv_ifnonnull (tgt := 32) hC.x hC.b dX7_find_14 (by decide) ?_
    refine lv_aload_n hC.x hC.b dX7_find_32 rfl (lv_at hl 0 rfl) ?_
    refine W.widen (k := 0) (n := 0) (Nat.le_of_ble_eq_true rfl) (Nat.le_of_ble_eq_true rfl) ?_
    exact rt_o (u := ()) (r := some (tau.1 (20 + i4))) hC (Or.inl ⟨_, rfl⟩) ⟨some (false, i4), rfl, hw197⟩ hP hD hS dX7_find_33
  · have hw198 := hw194.2.1 i4 rfl
    have hl : lv_has ls 3 [(2, .ref (tau.1 (10 + i4))), (0, .ref (tau.1 0)), (1, .ref x1)] := hl
    refine lv_ifnonnull (tgt := 32) hC.x hC.b dX7_find_14 (by decide) ?_
    refine lv_aload_n hC.x hC.b dX7_find_32 rfl (lv_at hl 0 rfl) ?_
    refine W.widen (k := 0) (n := 0) (Nat.le_of_ble_eq_true rfl) (Nat.le_of_ble_eq_true rfl) ?_
    exact rt_o (u := ()) (r := some (tau.1 (10 + i4))) hC (Or.inl ⟨_, rfl⟩) ⟨some (true, i4), rfl, hw198⟩ hP hD hS dX7_find_33
theorem vX2_2_mustName : GoodIn lw_all (wsV RX2 102 RX2 yX2_mustName (ws_ yX2_mustName cX2_mustName 3 none)) := lw_V q730 q732 qs17 q119 q733
theorem vX2_7_find : GoodIn lw_all (wsV RX2 108 RX7 yX7_find (ws_ yX7_find cX7_find 3 (some (.object "SeanceStreet$Named")))) := lw_V q734 q735 q736 q127 q737
theorem h2_newName : yX2_newName.cls = RX2 ∧ yX2_newName.cls ≠ "java/lang/invoke/MethodHandle" ∧ yX2_newName.cls ≠ "java/lang/invoke/VarHandle" ∧ (parseMethodDescriptor yX2_newName.desc).map (fun d => d.parameters.length) = some 0 := by decide +kernel
def w2_newName (post : Nat → XS → Prop) (xpost : CS × Option Nat × Option Nat → Prop) (tau : TD) (S : XS) : Prop :=
  (w2_mustName (fun S1 => (∃ a2 : Nat, S1.2.1 = some a2 ∧ (w7_find (fun r5 => ((r5 = none → (∃ a8 : Nat, S1.2.1 = some a8 ∧ (w2_step (fun S9 => (post a8 S9)) tau S1))) ∧ (∀ i6, r5 = some (true, i6) → (w2_fail (fun S12 => (xpost (S12.1, S12.2.1, some (tau.1 0)))) tau S1 3)) ∧ (∀ i6, r5 = some (false, i6) → (w2_fail (fun S10 => (xpost (S10.1, S10.2.1, some (tau.1 0)))) tau S1 3)))) tau S1 a2))) xpost tau S)
set_option maxHeartbeats 8000000 in
theorem m2_newName (l : Launch) {F : va_W} {post : Nat → XS → Prop} {xpost : CS × Option Nat × Option Nat → Prop} {tau : TD} {S : XS} {adK adV : Nat → Nat} (hZ : ∀ U, Z U → zS adK adV A Hb U) (hw : w2_newName post xpost tau S) : tx_Met l yX2_newName (ws_ yX2_newName cX2_newName 2 (some (.object "java/lang/String"))) ({ frames := 6, cells := 2, slots := 12, locals := 243 } : Room) (va_Pc [.ref (ad 14)] (PcG D gCl nwG Z Hb A (wX D ad rf tw F tau S))) (va_Qr (fun _ => True) (fun (u : XS) x t => post x u ∧ BW D gCl A (fun u => wX D ad rf tw F tau u) u t) A) (tx_X xpost (XB D ad rf tw A) A) 2 12 A := by
  refine tx_ofG (by decide) (Nat.le_of_ble_eq_true rfl) ?_
  intro p e s m below meth c ls hC hout hP hD hS hl
  have hC : CX RX2 cX2_newName 2 (some (.object "java/lang/String")) D gCl nwG Z Hb A p s m _ meth c := hC
  have hl : lv_has ls 2 [(0, .ref (ad 14))] := hl
  unfold w2_newName at hw
  refine lv_aload_n hC.x hC.b dX2_newName_0 rfl (lv_at hl 0 rfl) ?_
  refine gx_v hC hout (run_VX (rm := ({ frames := 5, cells := 0, slots := 0, locals := 221 } : Room)) (mc := 0) (ms := 0) (rest := []) (As := []) hC (m2_mustName l hZ hw) vX2_2_mustName h2_mustName ((F : va_W).length + 14) 1 gCl_X2 (wX_c (xc_f (by omega) rfl)) rfl ⟨rfl, rfl, Nat.le_of_ble_eq_true rfl, Nat.le_of_ble_eq_true rfl⟩ ⟨Nat.le_of_ble_eq_true rfl, Nat.le_of_ble_eq_true rfl⟩ hP hD hS hl.1 (Nat.le_of_ble_eq_true rfl) dX2_newName_1 rfl) (Nat.le_of_ble_eq_true rfl) (Nat.le_of_ble_eq_true rfl) hS (fun S1 H locs hw199 hP hD hS => ?_)
  refine lv_aload_n hC.x hC.b dX2_newName_4 rfl (lv_at hl 0 rfl) ?_
  refine gXS_9 hC hP dX2_newName_5 ?_
  refine lv_aload_n hC.x hC.b dX2_newName_8 rfl (lv_at hl 0 rfl) ?_
  refine gXS_8 hC hP dX2_newName_9 ?_
  obtain ⟨a2, ea2, hw200⟩ := hw199
  rw [ea2]
  refine go_o (run_V (rm := ({ frames := 3, cells := 0, slots := 0, locals := 67 } : Room)) (mc := 0) (ms := 0) (rest := []) (As := [.ref a2]) hC (m7_find l hZ hw200) vX2_7_find h7_find ((F : va_W).length + ((xc D ad rf tw tau S1).length + 0)) 6 gCl_X7 (wX_t (xt_f (by omega) rfl)) rfl ⟨rfl, rfl, Nat.le_of_ble_eq_true rfl, Nat.le_of_ble_eq_true rfl⟩ ⟨Nat.le_of_ble_eq_true rfl, Nat.le_of_ble_eq_true rfl⟩ hP hD hS hl.1 (Nat.le_of_ble_eq_true rfl) dX2_newName_12 rfl) hS (fun ro4 u H locs hw201 hP hD hS => ?_)
  obtain ⟨r5, rfl, hw201⟩ := hw201
  rcases r5 with _ | ⟨_ | _, i6⟩
  · have hw202 := hw201.1 rfl
    have hl : lv_has ls 2 [(0, .ref (ad 14))] := hl
    refine lv_ifnullN (tgt := 24) hC.x hC.b dX2_newName_15 (by decide) ?_
    refine lv_aload_n hC.x hC.b dX2_newName_24 rfl (lv_at hl 0 rfl) ?_
    refine gXS_8 hC hP dX2_newName_25 ?_
    obtain ⟨a8, ea8, hw203⟩ := hw202
    rw [ea8]
    refine lv_astore_n (lv' := [(1, .ref a8), (0, .ref (ad 14))]) hC.x hC.b dX2_newName_28 rfl hl (by decide) rfl (fun ls hl => ?_)
    refine lv_aload_n hC.x hC.b dX2_newName_29 rfl (lv_at hl 1 rfl) ?_
    refine go_v (run_V (rm := ({ frames := 4, cells := 2, slots := 12, locals := 203 } : Room)) (mc := 2) (ms := 12) (rest := []) (As := []) hC (m2_step l hZ hw203) vX2_2_step h2_step ((F : va_W).length + 14) 1 gCl_X2 (wX_c (xc_f (by omega) rfl)) rfl ⟨rfl, rfl, Nat.le_of_ble_eq_true rfl, Nat.le_of_ble_eq_true rfl⟩ ⟨Nat.le_of_ble_eq_true rfl, Nat.le_of_ble_eq_true rfl⟩ hP hD hS hl.1 (Nat.le_of_ble_eq_true rfl) dX2_newName_30 rfl) hS (fun S9 H locs hw204 hP hD hS => ?_)
    refine lv_aload_n hC.x hC.b dX2_newName_33 rfl (lv_at hl 0 rfl) ?_
    refine tx_ret ?_
    refine W.widen (k := 2) (n := 12) (Nat.le_of_ble_eq_true rfl) (Nat.le_of_ble_eq_true rfl) ?_
    exact rx_r (u := S9) hC ⟨_, rfl⟩ hw204 hP hD hS dX2_newName_34
  · have hw205 := hw201.2.2 i6 rfl
    have hl : lv_has ls 2 [(0, .ref (ad 14))] := hl
    refine lv_ifnull hC.x hC.b dX2_newName_15 ?_
    refine lv_aload_n hC.x hC.b dX2_newName_18 rfl (lv_at hl 0 rfl) ?_
    refine lv_iconst (v := 3) hC.x hC.b dX2_newName_19 (by decide) ?_
    refine go_rr (run_V (rm := ({ frames := 1, cells := 0, slots := 0, locals := 22 } : Room)) (mc := 0) (ms := 0) (rest := []) (As := [.int 3]) hC (m2_fail l hZ hw205) vX2_2_fail h2_fail ((F : va_W).length + 14) 1 gCl_X2 (wX_c (xc_f (by omega) rfl)) rfl ⟨rfl, rfl, Nat.le_of_ble_eq_true rfl, Nat.le_of_ble_eq_true rfl⟩ ⟨Nat.le_of_ble_eq_true rfl, Nat.le_of_ble_eq_true rfl⟩ hP hD hS hl.1 (Nat.le_of_ble_eq_true rfl) dX2_newName_20 rfl) hS (fun r11 S10 H locs hw206 hP hD hS => ?_)
    obtain ⟨rfl, hw206⟩ := hw206
    exact gx_throw hC hout hw206 hP hD hS (Nat.le_of_ble_eq_true rfl) (Nat.le_of_ble_eq_true rfl) dX2_newName_23
  · have hw207 := hw201.2.1 i6 rfl
    have hl : lv_has ls 2 [(0, .ref (ad 14))] := hl
    refine lv_ifnull hC.x hC.b dX2_newName_15 ?_
    refine lv_aload_n hC.x hC.b dX2_newName_18 rfl (lv_at hl 0 rfl) ?_
    refine lv_iconst (v := 3) hC.x hC.b dX2_newName_19 (by decide) ?_
    refine go_rr (run_V (rm := ({ frames := 1, cells := 0, slots := 0, locals := 22 } : Room)) (mc := 0) (ms := 0) (rest := []) (As := [.int 3]) hC (m2_fail l hZ hw207) vX2_2_fail h2_fail ((F : va_W).length + 14) 1 gCl_X2 (wX_c (xc_f (by omega) rfl)) rfl ⟨rfl, rfl, Nat.le_of_ble_eq_true rfl, Nat.le_of_ble_eq_true rfl⟩ ⟨Nat.le_of_ble_eq_true rfl, Nat.le_of_ble_eq_true rfl⟩ hP hD hS hl.1 (Nat.le_of_ble_eq_true rfl) dX2_newName_20 rfl) hS (fun r13 S12 H locs hw208 hP hD hS => ?_)
    obtain ⟨rfl, hw208⟩ := hw208
    exact gx_throw hC hout hw208 hP hD hS (Nat.le_of_ble_eq_true rfl) (Nat.le_of_ble_eq_true rfl) dX2_newName_23
theorem h2_personPassed : yX2_personPassed.cls = RX2 ∧ yX2_personPassed.cls ≠ "java/lang/invoke/MethodHandle" ∧ yX2_personPassed.cls ≠ "java/lang/invoke/VarHandle" ∧ (parseMethodDescriptor yX2_personPassed.desc).map (fun d => d.parameters.length) = some 0 := by decide +kernel
def w2_personPassed (post : Nat → XS → Prop) (xpost : CS × Option Nat × Option Nat → Prop) (tau : TD) (S : XS) : Prop :=
  (w2_mustName (fun S1 => (∃ a2 : Nat, S1.2.1 = some a2 ∧ (w7_find (fun r5 => ((r5 = none → (w2_fail (fun S7 => (xpost (S7.1, S7.2.1, some (tau.1 0)))) tau S1 2)) ∧ (∀ i6, r5 = some (true, i6) → (i6 < tau.2.2.1 ∧ (w2_step (fun S14 => (i6 < tau.2.2.1 ∧ (post i6 S14))) tau S1))) ∧ (∀ i6, r5 = some (false, i6) → (i6 < tau.2.2.2.1 ∧ tau.2.2.2.2 i6 < 4 ∧ (w2_fail (fun S11 => (xpost (S11.1, S11.2.1, some (tau.1 0)))) tau S1 2))))) tau S1 a2))) xpost tau S)
set_option maxHeartbeats 8000000 in
theorem m2_personPassed (l : Launch) {F : va_W} {post : Nat → XS → Prop} {xpost : CS × Option Nat × Option Nat → Prop} {tau : TD} {S : XS} {adK adV : Nat → Nat} (hZ : ∀ U, Z U → zS adK adV A Hb U) (hw : w2_personPassed post xpost tau S) : tx_Met l yX2_personPassed (ws_ yX2_personPassed cX2_personPassed 2 (some (.object "SeanceStreet$Person"))) ({ frames := 6, cells := 2, slots := 12, locals := 243 } : Room) (va_Pc [.ref (ad 14)] (PcG D gCl nwG Z Hb A (wX D ad rf tw F tau S))) (va_Qr (fun _ => True) (fun (u : XS) x t => (∃ i, x = tau.1 (10 + i) ∧ post i u) ∧ BW D gCl A (fun u => wX D ad rf tw F tau u) u t) A) (tx_X xpost (XB D ad rf tw A) A) 2 12 A := by
  refine tx_ofG (by decide) (Nat.le_of_ble_eq_true rfl) ?_
  intro p e s m below meth c ls hC hout hP hD hS hl
  have hC : CX RX2 cX2_personPassed 2 (some (.object "SeanceStreet$Person")) D gCl nwG Z Hb A p s m _ meth c := hC
  have hl : lv_has ls 2 [(0, .ref (ad 14))] := hl
  unfold w2_personPassed at hw
  refine lv_aload_n hC.x hC.b dX2_personPassed_0 rfl (lv_at hl 0 rfl) ?_
  refine gx_v hC hout (run_VX (rm := ({ frames := 5, cells := 0, slots := 0, locals := 221 } : Room)) (mc := 0) (ms := 0) (rest := []) (As := []) hC (m2_mustName l hZ hw) vX2_2_mustName h2_mustName ((F : va_W).length + 14) 1 gCl_X2 (wX_c (xc_f (by omega) rfl)) rfl ⟨rfl, rfl, Nat.le_of_ble_eq_true rfl, Nat.le_of_ble_eq_true rfl⟩ ⟨Nat.le_of_ble_eq_true rfl, Nat.le_of_ble_eq_true rfl⟩ hP hD hS hl.1 (Nat.le_of_ble_eq_true rfl) dX2_personPassed_1 rfl) (Nat.le_of_ble_eq_true rfl) (Nat.le_of_ble_eq_true rfl) hS (fun S1 H locs hw209 hP hD hS => ?_)
  refine lv_aload_n hC.x hC.b dX2_personPassed_4 rfl (lv_at hl 0 rfl) ?_
  refine gXS_9 hC hP dX2_personPassed_5 ?_
  refine lv_aload_n hC.x hC.b dX2_personPassed_8 rfl (lv_at hl 0 rfl) ?_
  refine gXS_8 hC hP dX2_personPassed_9 ?_
  obtain ⟨a2, ea2, hw210⟩ := hw209
  rw [ea2]
  refine go_o (run_V (rm := ({ frames := 3, cells := 0, slots := 0, locals := 67 } : Room)) (mc := 0) (ms := 0) (rest := []) (As := [.ref a2]) hC (m7_find l hZ hw210) vX2_7_find h7_find ((F : va_W).length + ((xc D ad rf tw tau S1).length + 0)) 6 gCl_X7 (wX_t (xt_f (by omega) rfl)) rfl ⟨rfl, rfl, Nat.le_of_ble_eq_true rfl, Nat.le_of_ble_eq_true rfl⟩ ⟨Nat.le_of_ble_eq_true rfl, Nat.le_of_ble_eq_true rfl⟩ hP hD hS hl.1 (Nat.le_of_ble_eq_true rfl) dX2_personPassed_12 rfl) hS (fun ro4 u H locs hw211 hP hD hS => ?_)
  obtain ⟨r5, rfl, hw211⟩ := hw211
  refine sto_n (lv' := [(1, va_rf (fA tau r5)), (0, .ref (ad 14))]) hC dX2_personPassed_15 rfl hl (by decide) rfl (fun ls hl => ?_)
  refine lod_n hC dX2_personPassed_16 rfl (lv_at hl 0 rfl) ?_
  rcases r5 with _ | ⟨_ | _, i6⟩
  · have hw212 := hw211.1 rfl
    have hl : lv_has ls 2 [(1, .null), (0, .ref (ad 14))] := hl
    refine lv_instN hC.x hC.b dX2_personPassed_17 ?_
    refine lv_if_ne (tgt := 29) hC.x hC.b dX2_personPassed_20 (by decide) (fun c => absurd (by decide) c) (fun _ => ?_)
    refine lv_aload_n hC.x hC.b dX2_personPassed_23 rfl (lv_at hl 1 rfl) ?_
    refine lv_iconst (v := 2) hC.x hC.b dX2_personPassed_24 (by decide) ?_
    refine go_rr (run_V (rm := ({ frames := 1, cells := 0, slots := 0, locals := 22 } : Room)) (mc := 0) (ms := 0) (rest := []) (As := [.int 2]) hC (m2_fail l hZ hw212) vX2_2_fail h2_fail ((F : va_W).length + 14) 1 gCl_X2 (wX_c (xc_f (by omega) rfl)) rfl ⟨rfl, rfl, Nat.le_of_ble_eq_true rfl, Nat.le_of_ble_eq_true rfl⟩ ⟨Nat.le_of_ble_eq_true rfl, Nat.le_of_ble_eq_true rfl⟩ hP hD hS hl.1 (Nat.le_of_ble_eq_true rfl) dX2_personPassed_25 rfl) hS (fun r8 S7 H locs hw213 hP hD hS => ?_)
    obtain ⟨rfl, hw213⟩ := hw213
    exact gx_throw hC hout hw213 hP hD hS (Nat.le_of_ble_eq_true rfl) (Nat.le_of_ble_eq_true rfl) dX2_personPassed_28
  · have hw214 := hw211.2.2 i6 rfl
    have hl : lv_has ls 2 [(1, .ref (tau.1 (20 + i6))), (0, .ref (ad 14))] := hl
    obtain ⟨hg9, hlw10, hw215⟩ := hw214
    refine instGP hC hZ (hC.ts _ q724) hg9 hlw10 hP dX2_personPassed_17 ?_
    refine lv_if_ne (tgt := 29) hC.x hC.b dX2_personPassed_20 (by decide) (fun c => absurd (by decide) c) (fun _ => ?_)
    refine lv_aload_n hC.x hC.b dX2_personPassed_23 rfl (lv_at hl 1 rfl) ?_
    refine lv_iconst (v := 2) hC.x hC.b dX2_personPassed_24 (by decide) ?_
    refine go_rr (run_V (rm := ({ frames := 1, cells := 0, slots := 0, locals := 22 } : Room)) (mc := 0) (ms := 0) (rest := []) (As := [.int 2]) hC (m2_fail l hZ hw215) vX2_2_fail h2_fail ((F : va_W).length + 14) 1 gCl_X2 (wX_c (xc_f (by omega) rfl)) rfl ⟨rfl, rfl, Nat.le_of_ble_eq_true rfl, Nat.le_of_ble_eq_true rfl⟩ ⟨Nat.le_of_ble_eq_true rfl, Nat.le_of_ble_eq_true rfl⟩ hP hD hS hl.1 (Nat.le_of_ble_eq_true rfl) dX2_personPassed_25 rfl) hS (fun r12 S11 H locs hw216 hP hD hS => ?_)
    obtain ⟨rfl, hw216⟩ := hw216
    exact gx_throw hC hout hw216 hP hD hS (Nat.le_of_ble_eq_true rfl) (Nat.le_of_ble_eq_true rfl) dX2_personPassed_28
  · have hw217 := hw211.2.1 i6 rfl
    have hl : lv_has ls 2 [(1, .ref (tau.1 (10 + i6))), (0, .ref (ad 14))] := hl
    obtain ⟨hg13, hw218⟩ := hw217
    refine va_instS hC.x hC.b hC.ow (hC.ts _ q724) (hC.K.1.1 7 _ gCl_X9).2 (va_recv hC.K.1 hP gCl_X9 (wX_t (xt_p hg13))) dX2_personPassed_17 ?_
    refine lv_if_ne (tgt := 29) hC.x hC.b dX2_personPassed_20 (by decide) (fun _ => ?_) (fun c => absurd c (by decide))
    refine lv_aload_n hC.x hC.b dX2_personPassed_29 rfl (lv_at hl 1 rfl) ?_
    refine go_v (run_V (rm := ({ frames := 4, cells := 2, slots := 12, locals := 203 } : Room)) (mc := 2) (ms := 12) (rest := []) (As := []) hC (m2_step l hZ hw218) vX2_2_step h2_step ((F : va_W).length + 14) 1 gCl_X2 (wX_c (xc_f (by omega) rfl)) rfl ⟨rfl, rfl, Nat.le_of_ble_eq_true rfl, Nat.le_of_ble_eq_true rfl⟩ ⟨Nat.le_of_ble_eq_true rfl, Nat.le_of_ble_eq_true rfl⟩ hP hD hS hl.1 (Nat.le_of_ble_eq_true rfl) dX2_personPassed_30 rfl) hS (fun S14 H locs hw219 hP hD hS => ?_)
    refine lv_aload_n hC.x hC.b dX2_personPassed_33 rfl (lv_at hl 0 rfl) ?_
    obtain ⟨hg15, hw220⟩ := hw219
    refine va_castS hC.x hC.b hC.ow (hC.ts _ q724) (hC.K.1.1 7 _ gCl_X9).2 (va_recv hC.K.1 hP gCl_X9 (wX_t (xt_p hg15))) dX2_personPassed_34 ?_
    refine tx_ret ?_
    refine W.widen (k := 2) (n := 12) (Nat.le_of_ble_eq_true rfl) (Nat.le_of_ble_eq_true rfl) ?_
    exact rx_r (u := S14) (post := fun x u => ∃ i, x = tau.1 (10 + i) ∧ post i u) hC ⟨_, rfl⟩ ⟨i6, rfl, hw220⟩ hP hD hS dX2_personPassed_37
theorem h2_ghostHere : yX2_ghostHere.cls = RX2 ∧ yX2_ghostHere.cls ≠ "java/lang/invoke/MethodHandle" ∧ yX2_ghostHere.cls ≠ "java/lang/invoke/VarHandle" ∧ (parseMethodDescriptor yX2_ghostHere.desc).map (fun d => d.parameters.length) = some 0 := by decide +kernel
def w2_ghostHere (post : Nat → XS → Prop) (xpost : CS × Option Nat × Option Nat → Prop) (tau : TD) (S : XS) : Prop :=
  (w2_mustName (fun S1 => (∃ a2 : Nat, S1.2.1 = some a2 ∧ (w7_find (fun r5 => ((r5 = none → (w2_fail (fun S7 => (xpost (S7.1, S7.2.1, some (tau.1 0)))) tau S1 2)) ∧ (∀ i6, r5 = some (true, i6) → (i6 < tau.2.2.1 ∧ (w2_fail (fun S14 => (xpost (S14.1, S14.2.1, some (tau.1 0)))) tau S1 2))) ∧ (∀ i6, r5 = some (false, i6) → (i6 < tau.2.2.2.1 ∧ tau.2.2.2.2 i6 < 4 ∧ (i6 < tau.2.2.2.1 ∧ tau.2.2.2.2 i6 < 4 ∧ (post i6 S1)))))) tau S1 a2))) xpost tau S)
set_option maxHeartbeats 8000000 in
theorem m2_ghostHere (l : Launch) {F : va_W} {post : Nat → XS → Prop} {xpost : CS × Option Nat × Option Nat → Prop} {tau : TD} {S : XS} {adK adV : Nat → Nat} (hZ : ∀ U, Z U → zS adK adV A Hb U) (hw : w2_ghostHere post xpost tau S) : tx_Met l yX2_ghostHere (ws_ yX2_ghostHere cX2_ghostHere 2 (some (.object "SeanceStreet$Ghost"))) ({ frames := 6, cells := 0, slots := 0, locals := 243 } : Room) (va_Pc [.ref (ad 14)] (PcG D gCl nwG Z Hb A (wX D ad rf tw F tau S))) (va_Qr (fun _ => True) (fun (u : XS) x t => (∃ i, x = tau.1 (20 + i) ∧ post i u) ∧ BW D gCl A (fun u => wX D ad rf tw F tau u) u t) A) (tx_X xpost (XB D ad rf tw A) A) 0 0 A := by
  refine tx_ofG (by decide) (Nat.le_of_ble_eq_true rfl) ?_
  intro p e s m below meth c ls hC hout hP hD hS hl
  have hC : CX RX2 cX2_ghostHere 2 (some (.object "SeanceStreet$Ghost")) D gCl nwG Z Hb A p s m _ meth c := hC
  have hl : lv_has ls 2 [(0, .ref (ad 14))] := hl
  unfold w2_ghostHere at hw
  refine lv_aload_n hC.x hC.b dX2_ghostHere_0 rfl (lv_at hl 0 rfl) ?_
  refine gx_v hC hout (run_VX (rm := ({ frames := 5, cells := 0, slots := 0, locals := 221 } : Room)) (mc := 0) (ms := 0) (rest := []) (As := []) hC (m2_mustName l hZ hw) vX2_2_mustName h2_mustName ((F : va_W).length + 14) 1 gCl_X2 (wX_c (xc_f (by omega) rfl)) rfl ⟨rfl, rfl, Nat.le_of_ble_eq_true rfl, Nat.le_of_ble_eq_true rfl⟩ ⟨Nat.le_of_ble_eq_true rfl, Nat.le_of_ble_eq_true rfl⟩ hP hD hS hl.1 (Nat.le_of_ble_eq_true rfl) dX2_ghostHere_1 rfl) (Nat.le_of_ble_eq_true rfl) (Nat.le_of_ble_eq_true rfl) hS (fun S1 H locs hw221 hP hD hS => ?_)
  refine lv_aload_n hC.x hC.b dX2_ghostHere_4 rfl (lv_at hl 0 rfl) ?_
  refine gXS_9 hC hP dX2_ghostHere_5 ?_
  refine lv_aload_n hC.x hC.b dX2_ghostHere_8 rfl (lv_at hl 0 rfl) ?_
  refine gXS_8 hC hP dX2_ghostHere_9 ?_
  obtain ⟨a2, ea2, hw222⟩ := hw221
  rw [ea2]
  refine go_o (run_V (rm := ({ frames := 3, cells := 0, slots := 0, locals := 67 } : Room)) (mc := 0) (ms := 0) (rest := []) (As := [.ref a2]) hC (m7_find l hZ hw222) vX2_7_find h7_find ((F : va_W).length + ((xc D ad rf tw tau S1).length + 0)) 6 gCl_X7 (wX_t (xt_f (by omega) rfl)) rfl ⟨rfl, rfl, Nat.le_of_ble_eq_true rfl, Nat.le_of_ble_eq_true rfl⟩ ⟨Nat.le_of_ble_eq_true rfl, Nat.le_of_ble_eq_true rfl⟩ hP hD hS hl.1 (Nat.le_of_ble_eq_true rfl) dX2_ghostHere_12 rfl) hS (fun ro4 u H locs hw223 hP hD hS => ?_)
  obtain ⟨r5, rfl, hw223⟩ := hw223
  refine sto_n (lv' := [(1, va_rf (fA tau r5)), (0, .ref (ad 14))]) hC dX2_ghostHere_15 rfl hl (by decide) rfl (fun ls hl => ?_)
  refine lod_n hC dX2_ghostHere_16 rfl (lv_at hl 0 rfl) ?_
  rcases r5 with _ | ⟨_ | _, i6⟩
  · have hw224 := hw223.1 rfl
    have hl : lv_has ls 2 [(1, .null), (0, .ref (ad 14))] := hl
    refine lv_instN hC.x hC.b dX2_ghostHere_17 ?_
    refine lv_if_ne (tgt := 29) hC.x hC.b dX2_ghostHere_20 (by decide) (fun c => absurd (by decide) c) (fun _ => ?_)
    refine lv_aload_n hC.x hC.b dX2_ghostHere_23 rfl (lv_at hl 1 rfl) ?_
    refine lv_iconst (v := 2) hC.x hC.b dX2_ghostHere_24 (by decide) ?_
    refine go_rr (run_V (rm := ({ frames := 1, cells := 0, slots := 0, locals := 22 } : Room)) (mc := 0) (ms := 0) (rest := []) (As := [.int 2]) hC (m2_fail l hZ hw224) vX2_2_fail h2_fail ((F : va_W).length + 14) 1 gCl_X2 (wX_c (xc_f (by omega) rfl)) rfl ⟨rfl, rfl, Nat.le_of_ble_eq_true rfl, Nat.le_of_ble_eq_true rfl⟩ ⟨Nat.le_of_ble_eq_true rfl, Nat.le_of_ble_eq_true rfl⟩ hP hD hS hl.1 (Nat.le_of_ble_eq_true rfl) dX2_ghostHere_25 rfl) hS (fun r8 S7 H locs hw225 hP hD hS => ?_)
    obtain ⟨rfl, hw225⟩ := hw225
    exact gx_throw hC hout hw225 hP hD hS (Nat.le_of_ble_eq_true rfl) (Nat.le_of_ble_eq_true rfl) dX2_ghostHere_28
  · have hw226 := hw223.2.2 i6 rfl
    have hl : lv_has ls 2 [(1, .ref (tau.1 (20 + i6))), (0, .ref (ad 14))] := hl
    obtain ⟨hg9, hlw10, hw227⟩ := hw226
    refine instGG hC hZ (hC.ts _ q863) hg9 hlw10 hP dX2_ghostHere_17 ?_
    refine lv_if_ne (tgt := 29) hC.x hC.b dX2_ghostHere_20 (by decide) (fun _ => ?_) (fun c => absurd c (by decide))
    refine lv_aload_n hC.x hC.b dX2_ghostHere_29 rfl (lv_at hl 0 rfl) ?_
    obtain ⟨hg11, hlw12, hw228⟩ := hw227
    refine castG hC hZ (hC.ts _ q863) hg11 hlw12 hP dX2_ghostHere_30 ?_
    refine tx_ret ?_
    refine W.widen (k := 0) (n := 0) (Nat.le_of_ble_eq_true rfl) (Nat.le_of_ble_eq_true rfl) ?_
    exact rx_r (u := S1) (post := fun x u => ∃ i, x = tau.1 (20 + i) ∧ post i u) hC ⟨_, rfl⟩ ⟨i6, rfl, hw228⟩ hP hD hS dX2_ghostHere_33
  · have hw229 := hw223.2.1 i6 rfl
    have hl : lv_has ls 2 [(1, .ref (tau.1 (10 + i6))), (0, .ref (ad 14))] := hl
    obtain ⟨hg13, hw230⟩ := hw229
    refine va_instNo hC.x hC.b hC.ow (hC.ts _ q863) (hZ s hC.K.2.2.2).2.2.2.2.1 (va_recv hC.K.1 hP gCl_X9 (wX_t (xt_p hg13))) dX2_ghostHere_17 ?_
    refine lv_if_ne (tgt := 29) hC.x hC.b dX2_ghostHere_20 (by decide) (fun c => absurd (by decide) c) (fun _ => ?_)
    refine lv_aload_n hC.x hC.b dX2_ghostHere_23 rfl (lv_at hl 1 rfl) ?_
    refine lv_iconst (v := 2) hC.x hC.b dX2_ghostHere_24 (by decide) ?_
    refine go_rr (run_V (rm := ({ frames := 1, cells := 0, slots := 0, locals := 22 } : Room)) (mc := 0) (ms := 0) (rest := []) (As := [.int 2]) hC (m2_fail l hZ hw230) vX2_2_fail h2_fail ((F : va_W).length + 14) 1 gCl_X2 (wX_c (xc_f (by omega) rfl)) rfl ⟨rfl, rfl, Nat.le_of_ble_eq_true rfl, Nat.le_of_ble_eq_true rfl⟩ ⟨Nat.le_of_ble_eq_true rfl, Nat.le_of_ble_eq_true rfl⟩ hP hD hS hl.1 (Nat.le_of_ble_eq_true rfl) dX2_ghostHere_25 rfl) hS (fun r15 S14 H locs hw231 hP hD hS => ?_)
    obtain ⟨rfl, hw231⟩ := hw231
    exact gx_throw hC hout hw231 hP hD hS (Nat.le_of_ble_eq_true rfl) (Nat.le_of_ble_eq_true rfl) dX2_ghostHere_28
theorem h2_wholeHere : yX2_wholeHere.cls = RX2 ∧ yX2_wholeHere.cls ≠ "java/lang/invoke/MethodHandle" ∧ yX2_wholeHere.cls ≠ "java/lang/invoke/VarHandle" ∧ (parseMethodDescriptor yX2_wholeHere.desc).map (fun d => d.parameters.length) = some 2 := by decide +kernel
def w2_wholeHere (post : Int32 → XS → Prop) (xpost : CS × Option Nat × Option Nat → Prop) (tau : TD) (S : XS) (x1 : Int32) (x2 : Int32) : Prop :=
  (((S.1.1.1 14 5) = 3 → (w1_in (fun r2 => ((¬ r2 = 0 → (post (S.1.1.1 14 7) S)) ∧ (r2 = 0 → (w2_fail (fun S4 => (xpost (S4.1, S4.2.1, some (tau.1 0)))) tau S 4)))) (S.1.1.1 14 7) x1 x2)) ∧ (¬ (S.1.1.1 14 5) = 3 → (w2_fail (fun S6 => (xpost (S6.1, S6.2.1, some (tau.1 0)))) tau S 1)))
set_option maxHeartbeats 8000000 in
theorem m2_wholeHere (l : Launch) {F : va_W} {post : Int32 → XS → Prop} {xpost : CS × Option Nat × Option Nat → Prop} {tau : TD} {S : XS} {x1 : Int32} {x2 : Int32} {adK adV : Nat → Nat} (hZ : ∀ U, Z U → zS adK adV A Hb U) (hw : w2_wholeHere post xpost tau S x1 x2) : tx_Met l yX2_wholeHere (ws_ yX2_wholeHere cX2_wholeHere 3 (some .int)) ({ frames := 2, cells := 0, slots := 0, locals := 43 } : Room) (va_Pc [.ref (ad 14), .int x1, .int x2] (PcG D gCl nwG Z Hb A (wX D ad rf tw F tau S))) (va_Qi post (BW D gCl A (fun u => wX D ad rf tw F tau u)) A) (tx_X xpost (XB D ad rf tw A) A) 0 0 A := by
  refine tx_ofG (by decide) (Nat.le_of_ble_eq_true rfl) ?_
  intro p e s m below meth c ls hC hout hP hD hS hl
  have hC : CX RX2 cX2_wholeHere 3 (some .int) D gCl nwG Z Hb A p s m _ meth c := hC
  have hl : lv_has ls 3 [(0, .ref (ad 14)), (1, .int x1), (2, .int x2)] := hl
  unfold w2_wholeHere at hw
  refine lv_aload_n hC.x hC.b dX2_wholeHere_0 rfl (lv_at hl 0 rfl) ?_
  refine gXS_5 hC hP dX2_wholeHere_1 ?_
  refine lv_iconst (v := 3) hC.x hC.b dX2_wholeHere_4 (by decide) ?_
  refine lv_icmp_eq (tgt := 14) hC.x hC.b dX2_wholeHere_5 (by decide) (fun c1 => ?_) (fun c1 => ?_)
  · have hw232 := hw.1 c1
    refine lv_aload_n hC.x hC.b dX2_wholeHere_14 rfl (lv_at hl 0 rfl) ?_
    refine gXS_7 hC hP dX2_wholeHere_15 ?_
    refine lv_iload_n hC.x hC.b dX2_wholeHere_18 rfl (lv_at hl 1 rfl) ?_
    refine lv_iload_n hC.x hC.b dX2_wholeHere_19 rfl (lv_at hl 2 rfl) ?_
    refine go_i (run_SN (rest := []) hC (m1_in l hw232) (hC.K.use 6 rfl) ⟨q434, q118, q433⟩ h1_in ⟨rfl, rfl, Nat.le_of_ble_eq_true rfl, Nat.le_of_ble_eq_true rfl⟩ ⟨Nat.le_of_ble_eq_true rfl, Nat.le_of_ble_eq_true rfl⟩ hP hD hS hl.1 (Nat.le_of_ble_eq_true rfl) dX2_wholeHere_20 rfl) hS (fun r2 u H locs hw233 hP hD hS => ?_)
    refine lv_if_ne (tgt := 32) hC.x hC.b dX2_wholeHere_23 (by decide) (fun c3 => ?_) (fun c3 => ?_)
    · have hw234 := hw233.1 c3
      refine lv_aload_n hC.x hC.b dX2_wholeHere_32 rfl (lv_at hl 0 rfl) ?_
      refine gXS_7 hC hP dX2_wholeHere_33 ?_
      refine tx_ret ?_
      refine W.widen (k := 0) (n := 0) (Nat.le_of_ble_eq_true rfl) (Nat.le_of_ble_eq_true rfl) ?_
      exact rt_i hC hw234 hP hD hS dX2_wholeHere_36
    · have hw235 := hw233.2 c3
      refine lv_aload_n hC.x hC.b dX2_wholeHere_26 rfl (lv_at hl 0 rfl) ?_
      refine lv_iconst (v := 4) hC.x hC.b dX2_wholeHere_27 (by decide) ?_
      refine go_rr (run_V (rm := ({ frames := 1, cells := 0, slots := 0, locals := 22 } : Room)) (mc := 0) (ms := 0) (rest := []) (As := [.int 4]) hC (m2_fail l hZ hw235) vX2_2_fail h2_fail ((F : va_W).length + 14) 1 gCl_X2 (wX_c (xc_f (by omega) rfl)) rfl ⟨rfl, rfl, Nat.le_of_ble_eq_true rfl, Nat.le_of_ble_eq_true rfl⟩ ⟨Nat.le_of_ble_eq_true rfl, Nat.le_of_ble_eq_true rfl⟩ hP hD hS hl.1 (Nat.le_of_ble_eq_true rfl) dX2_wholeHere_28 rfl) hS (fun r5 S4 H locs hw236 hP hD hS => ?_)
      obtain ⟨rfl, hw236⟩ := hw236
      exact gx_throw hC hout hw236 hP hD hS (Nat.le_of_ble_eq_true rfl) (Nat.le_of_ble_eq_true rfl) dX2_wholeHere_31
  · have hw237 := hw.2 c1
    refine lv_aload_n hC.x hC.b dX2_wholeHere_8 rfl (lv_at hl 0 rfl) ?_
    refine lv_iconst (v := 1) hC.x hC.b dX2_wholeHere_9 (by decide) ?_
    refine go_rr (run_V (rm := ({ frames := 1, cells := 0, slots := 0, locals := 22 } : Room)) (mc := 0) (ms := 0) (rest := []) (As := [.int 1]) hC (m2_fail l hZ hw237) vX2_2_fail h2_fail ((F : va_W).length + 14) 1 gCl_X2 (wX_c (xc_f (by omega) rfl)) rfl ⟨rfl, rfl, Nat.le_of_ble_eq_true rfl, Nat.le_of_ble_eq_true rfl⟩ ⟨Nat.le_of_ble_eq_true rfl, Nat.le_of_ble_eq_true rfl⟩ hP hD hS hl.1 (Nat.le_of_ble_eq_true rfl) dX2_wholeHere_10 rfl) hS (fun r7 S6 H locs hw238 hP hD hS => ?_)
    obtain ⟨rfl, hw238⟩ := hw238
    exact gx_throw hC hout hw238 hP hD hS (Nat.le_of_ble_eq_true rfl) (Nat.le_of_ble_eq_true rfl) dX2_wholeHere_13
theorem vX2_2_wholeHere : GoodIn lw_all (wsV RX2 118 RX2 yX2_wholeHere (ws_ yX2_wholeHere cX2_wholeHere 3 (some .int))) := lw_V q711 q713 qs13 q119 q714
theorem h2_number : yX2_number.cls = RX2 ∧ yX2_number.cls ≠ "java/lang/invoke/MethodHandle" ∧ yX2_number.cls ≠ "java/lang/invoke/VarHandle" ∧ (parseMethodDescriptor yX2_number.desc).map (fun d => d.parameters.length) = some 2 := by decide +kernel
def w2_number (post : Int32 → XS → Prop) (xpost : CS × Option Nat × Option Nat → Prop) (tau : TD) (S : XS) (x1 : Int32) (x2 : Int32) : Prop :=
  (w2_wholeHere (fun r2 S1 => (w2_step (fun S3 => (post r2 S3)) tau S1)) xpost tau S x1 x2)
set_option maxHeartbeats 8000000 in
theorem m2_number (l : Launch) {F : va_W} {post : Int32 → XS → Prop} {xpost : CS × Option Nat × Option Nat → Prop} {tau : TD} {S : XS} {x1 : Int32} {x2 : Int32} {adK adV : Nat → Nat} (hZ : ∀ U, Z U → zS adK adV A Hb U) (hw : w2_number post xpost tau S x1 x2) : tx_Met l yX2_number (ws_ yX2_number cX2_number 4 (some .int)) ({ frames := 5, cells := 2, slots := 12, locals := 225 } : Room) (va_Pc [.ref (ad 14), .int x1, .int x2] (PcG D gCl nwG Z Hb A (wX D ad rf tw F tau S))) (va_Qi post (BW D gCl A (fun u => wX D ad rf tw F tau u)) A) (tx_X xpost (XB D ad rf tw A) A) 2 12 A := by
  refine tx_ofG (by decide) (Nat.le_of_ble_eq_true rfl) ?_
  intro p e s m below meth c ls hC hout hP hD hS hl
  have hC : CX RX2 cX2_number 4 (some .int) D gCl nwG Z Hb A p s m _ meth c := hC
  have hl : lv_has ls 4 [(0, .ref (ad 14)), (1, .int x1), (2, .int x2)] := hl
  unfold w2_number at hw
  refine lv_aload_n hC.x hC.b dX2_number_0 rfl (lv_at hl 0 rfl) ?_
  refine lv_iload_n hC.x hC.b dX2_number_1 rfl (lv_at hl 1 rfl) ?_
  refine lv_iload_n hC.x hC.b dX2_number_2 rfl (lv_at hl 2 rfl) ?_
  refine gx_i hC hout (run_VX (rm := ({ frames := 2, cells := 0, slots := 0, locals := 43 } : Room)) (mc := 0) (ms := 0) (rest := []) (As := [.int x1, .int x2]) hC (m2_wholeHere l hZ hw) vX2_2_wholeHere h2_wholeHere ((F : va_W).length + 14) 1 gCl_X2 (wX_c (xc_f (by omega) rfl)) rfl ⟨rfl, rfl, Nat.le_of_ble_eq_true rfl, Nat.le_of_ble_eq_true rfl⟩ ⟨Nat.le_of_ble_eq_true rfl, Nat.le_of_ble_eq_true rfl⟩ hP hD hS hl.1 (Nat.le_of_ble_eq_true rfl) dX2_number_3 rfl) (Nat.le_of_ble_eq_true rfl) (Nat.le_of_ble_eq_true rfl) hS (fun r2 S1 H locs hw239 hP hD hS => ?_)
  refine lv_istore_n (lv' := [(3, .int r2), (0, .ref (ad 14)), (1, .int x1), (2, .int x2)]) hC.x hC.b dX2_number_6 rfl hl (by decide) rfl (fun ls hl => ?_)
  refine lv_aload_n hC.x hC.b dX2_number_7 rfl (lv_at hl 1 rfl) ?_
  refine go_v (run_V (rm := ({ frames := 4, cells := 2, slots := 12, locals := 203 } : Room)) (mc := 2) (ms := 12) (rest := []) (As := []) hC (m2_step l hZ hw239) vX2_2_step h2_step ((F : va_W).length + 14) 1 gCl_X2 (wX_c (xc_f (by omega) rfl)) rfl ⟨rfl, rfl, Nat.le_of_ble_eq_true rfl, Nat.le_of_ble_eq_true rfl⟩ ⟨Nat.le_of_ble_eq_true rfl, Nat.le_of_ble_eq_true rfl⟩ hP hD hS hl.1 (Nat.le_of_ble_eq_true rfl) dX2_number_8 rfl) hS (fun S3 H locs hw240 hP hD hS => ?_)
  refine lv_iload_n hC.x hC.b dX2_number_11 rfl (lv_at hl 0 rfl) ?_
  refine tx_ret ?_
  refine W.widen (k := 2) (n := 12) (Nat.le_of_ble_eq_true rfl) (Nat.le_of_ble_eq_true rfl) ?_
  exact rt_i hC hw240 hP hD hS dX2_number_12
theorem vX2_2_must : GoodIn lw_all (wsV RX2 122 RX2 yX2_must (ws_ yX2_must cX2_must 2 none)) := lw_V q699 q701 qs10 q119 q702
theorem vX2_2_number : GoodIn lw_all (wsV RX2 126 RX2 yX2_number (ws_ yX2_number cX2_number 4 (some .int))) := lw_V q707 q709 qs12 q119 q710
theorem h2_after : yX2_after.cls = RX2 ∧ yX2_after.cls ≠ "java/lang/invoke/MethodHandle" ∧ yX2_after.cls ≠ "java/lang/invoke/VarHandle" ∧ (parseMethodDescriptor yX2_after.desc).map (fun d => d.parameters.length) = some 3 := by decide +kernel
def w2_after (post : Int32 → XS → Prop) (xpost : CS × Option Nat × Option Nat → Prop) (tau : TD) (S : XS) (B1 : List Int32) (x2 : Int32) (x3 : Int32) : Prop :=
  (w2_must (fun S1 => (w2_number (fun r3 S2 => (post r3 S2)) xpost tau S1 x2 x3)) xpost tau S B1)
set_option maxHeartbeats 8000000 in
theorem m2_after (l : Launch) {F : va_W} {post : Int32 → XS → Prop} {xpost : CS × Option Nat × Option Nat → Prop} {tau : TD} {S : XS} {x1 : Nat} {B1 : List Int32} {x2 : Int32} {x3 : Int32} {adK adV : Nat → Nat} (hZ : ∀ U, Z U → zS adK adV A Hb U) (h_x1 : CStr A Hb Z x1 B1) (hw : w2_after post xpost tau S B1 x2 x3) : tx_Met l yX2_after (ws_ yX2_after cX2_after 4 (some .int)) ({ frames := 7, cells := 4, slots := 24, locals := 267 } : Room) (va_Pc [.ref (ad 14), .ref x1, .int x2, .int x3] (PcG D gCl nwG Z Hb A (wX D ad rf tw F tau S))) (va_Qi post (BW D gCl A (fun u => wX D ad rf tw F tau u)) A) (tx_X xpost (XB D ad rf tw A) A) 4 24 A := by
  refine tx_ofG (by decide) (Nat.le_of_ble_eq_true rfl) ?_
  intro p e s m below meth c ls hC hout hP hD hS hl
  have hC : CX RX2 cX2_after 4 (some .int) D gCl nwG Z Hb A p s m _ meth c := hC
  have hl : lv_has ls 4 [(0, .ref (ad 14)), (1, .ref x1), (2, .int x2), (3, .int x3)] := hl
  unfold w2_after at hw
  refine lv_aload_n hC.x hC.b dX2_after_0 rfl (lv_at hl 0 rfl) ?_
  refine lv_aload_n hC.x hC.b dX2_after_1 rfl (lv_at hl 1 rfl) ?_
  refine gx_v hC hout (run_VX (rm := ({ frames := 6, cells := 2, slots := 12, locals := 246 } : Room)) (mc := 2) (ms := 12) (rest := []) (As := [.ref x1]) hC (m2_must l hZ h_x1 hw) vX2_2_must h2_must ((F : va_W).length + 14) 1 gCl_X2 (wX_c (xc_f (by omega) rfl)) rfl ⟨rfl, rfl, Nat.le_of_ble_eq_true rfl, Nat.le_of_ble_eq_true rfl⟩ ⟨Nat.le_of_ble_eq_true rfl, Nat.le_of_ble_eq_true rfl⟩ hP hD hS hl.1 (Nat.le_of_ble_eq_true rfl) dX2_after_2 rfl) (Nat.le_of_ble_eq_true rfl) (Nat.le_of_ble_eq_true rfl) hS (fun S1 H locs hw241 hP hD hS => ?_)
  refine lv_aload_n hC.x hC.b dX2_after_5 rfl (lv_at hl 0 rfl) ?_
  refine lv_iload_n hC.x hC.b dX2_after_6 rfl (lv_at hl 2 rfl) ?_
  refine lv_iload_n hC.x hC.b dX2_after_7 rfl (lv_at hl 3 rfl) ?_
  refine gx_i hC hout (run_VX (rm := ({ frames := 5, cells := 2, slots := 12, locals := 225 } : Room)) (mc := 2) (ms := 12) (rest := []) (As := [.int x2, .int x3]) hC (m2_number l hZ hw241) vX2_2_number h2_number ((F : va_W).length + 14) 1 gCl_X2 (wX_c (xc_f (by omega) rfl)) rfl ⟨rfl, rfl, Nat.le_of_ble_eq_true rfl, Nat.le_of_ble_eq_true rfl⟩ ⟨Nat.le_of_ble_eq_true rfl, Nat.le_of_ble_eq_true rfl⟩ hP hD hS hl.1 (Nat.le_of_ble_eq_true rfl) dX2_after_8 rfl) (Nat.le_of_ble_eq_true rfl) (Nat.le_of_ble_eq_true rfl) hS (fun r3 S2 H locs hw242 hP hD hS => ?_)
  refine tx_ret ?_
  refine W.widen (k := 4) (n := 24) (Nat.le_of_ble_eq_true rfl) (Nat.le_of_ble_eq_true rfl) ?_
  exact rt_i hC hw242 hP hD hS dX2_after_11
theorem h2_begins : yX2_begins.cls = RX2 ∧ yX2_begins.cls ≠ "java/lang/invoke/MethodHandle" ∧ yX2_begins.cls ≠ "java/lang/invoke/VarHandle" ∧ (parseMethodDescriptor yX2_begins.desc).map (fun d => d.parameters.length) = some 1 := by decide +kernel
def w2_begins (post : XS → Prop) (xpost : CS × Option Nat × Option Nat → Prop) (tau : TD) (S : XS) (x1 : Int32) : Prop :=
  ((¬ x1 = 0 → ((¬ (S.2.2.1.1.1 50 6) = 0 → (w2_step (fun S3 => (post S3)) tau S)) ∧ ((S.2.2.1.1.1 50 6) = 0 → (w2_fail (fun S4 => (xpost (S4.1, S4.2.1, some (tau.1 0)))) tau S 6)))) ∧ (x1 = 0 → (w2_fail (fun S6 => (xpost (S6.1, S6.2.1, some (tau.1 0)))) tau S 5)))
set_option maxHeartbeats 8000000 in
theorem m2_begins (l : Launch) {F : va_W} {post : XS → Prop} {xpost : CS × Option Nat × Option Nat → Prop} {tau : TD} {S : XS} {x1 : Int32} {adK adV : Nat → Nat} (hZ : ∀ U, Z U → zS adK adV A Hb U) (hw : w2_begins post xpost tau S x1) : tx_Met l yX2_begins (ws_ yX2_begins cX2_begins 2 none) ({ frames := 5, cells := 2, slots := 12, locals := 225 } : Room) (va_Pc [.ref (ad 14), .int x1] (PcG D gCl nwG Z Hb A (wX D ad rf tw F tau S))) (va_Qv post (BW D gCl A (fun u => wX D ad rf tw F tau u)) A) (tx_X xpost (XB D ad rf tw A) A) 2 12 A := by
  refine tx_ofG (by decide) (Nat.le_of_ble_eq_true rfl) ?_
  intro p e s m below meth c ls hC hout hP hD hS hl
  have hC : CX RX2 cX2_begins 2 none D gCl nwG Z Hb A p s m _ meth c := hC
  have hl : lv_has ls 2 [(0, .ref (ad 14)), (1, .int x1)] := hl
  unfold w2_begins at hw
  refine lv_iload_n hC.x hC.b dX2_begins_0 rfl (lv_at hl 1 rfl) ?_
  refine lv_if_ne (tgt := 10) hC.x hC.b dX2_begins_1 (by decide) (fun c1 => ?_) (fun c1 => ?_)
  · have hw243 := hw.1 c1
    refine lv_aload_n hC.x hC.b dX2_begins_10 rfl (lv_at hl 0 rfl) ?_
    refine gXS_9 hC hP dX2_begins_11 ?_
    refine gXTX2_6 hC hP dX2_begins_14 ?_
    refine lv_if_ne (tgt := 27) hC.x hC.b dX2_begins_17 (by decide) (fun c2 => ?_) (fun c2 => ?_)
    · have hw244 := hw243.1 c2
      refine lv_aload_n hC.x hC.b dX2_begins_27 rfl (lv_at hl 0 rfl) ?_
      refine go_v (run_V (rm := ({ frames := 4, cells := 2, slots := 12, locals := 203 } : Room)) (mc := 2) (ms := 12) (rest := []) (As := []) hC (m2_step l hZ hw244) vX2_2_step h2_step ((F : va_W).length + 14) 1 gCl_X2 (wX_c (xc_f (by omega) rfl)) rfl ⟨rfl, rfl, Nat.le_of_ble_eq_true rfl, Nat.le_of_ble_eq_true rfl⟩ ⟨Nat.le_of_ble_eq_true rfl, Nat.le_of_ble_eq_true rfl⟩ hP hD hS hl.1 (Nat.le_of_ble_eq_true rfl) dX2_begins_28 rfl) hS (fun S3 H locs hw245 hP hD hS => ?_)
      refine tx_ret ?_
      refine W.widen (k := 2) (n := 12) (Nat.le_of_ble_eq_true rfl) (Nat.le_of_ble_eq_true rfl) ?_
      exact rt_v hC hw245 hP hD hS dX2_begins_31
    · have hw246 := hw243.2 c2
      refine lv_aload_n hC.x hC.b dX2_begins_20 rfl (lv_at hl 0 rfl) ?_
      refine lv_bipush (v := 6) hC.x hC.b dX2_begins_21 (by decide) ?_
      refine go_rr (run_V (rm := ({ frames := 1, cells := 0, slots := 0, locals := 22 } : Room)) (mc := 0) (ms := 0) (rest := []) (As := [.int 6]) hC (m2_fail l hZ hw246) vX2_2_fail h2_fail ((F : va_W).length + 14) 1 gCl_X2 (wX_c (xc_f (by omega) rfl)) rfl ⟨rfl, rfl, Nat.le_of_ble_eq_true rfl, Nat.le_of_ble_eq_true rfl⟩ ⟨Nat.le_of_ble_eq_true rfl, Nat.le_of_ble_eq_true rfl⟩ hP hD hS hl.1 (Nat.le_of_ble_eq_true rfl) dX2_begins_23 rfl) hS (fun r5 S4 H locs hw247 hP hD hS => ?_)
      obtain ⟨rfl, hw247⟩ := hw247
      exact gx_throw hC hout hw247 hP hD hS (Nat.le_of_ble_eq_true rfl) (Nat.le_of_ble_eq_true rfl) dX2_begins_26
  · have hw248 := hw.2 c1
    refine lv_aload_n hC.x hC.b dX2_begins_4 rfl (lv_at hl 0 rfl) ?_
    refine lv_iconst (v := 5) hC.x hC.b dX2_begins_5 (by decide) ?_
    refine go_rr (run_V (rm := ({ frames := 1, cells := 0, slots := 0, locals := 22 } : Room)) (mc := 0) (ms := 0) (rest := []) (As := [.int 5]) hC (m2_fail l hZ hw248) vX2_2_fail h2_fail ((F : va_W).length + 14) 1 gCl_X2 (wX_c (xc_f (by omega) rfl)) rfl ⟨rfl, rfl, Nat.le_of_ble_eq_true rfl, Nat.le_of_ble_eq_true rfl⟩ ⟨Nat.le_of_ble_eq_true rfl, Nat.le_of_ble_eq_true rfl⟩ hP hD hS hl.1 (Nat.le_of_ble_eq_true rfl) dX2_begins_6 rfl) hS (fun r7 S6 H locs hw249 hP hD hS => ?_)
    obtain ⟨rfl, hw249⟩ := hw249
    exact gx_throw hC hout hw249 hP hD hS (Nat.le_of_ble_eq_true rfl) (Nat.le_of_ble_eq_true rfl) dX2_begins_9
theorem vX2_2_after : GoodIn lw_all (wsV RX2 158 RX2 yX2_after (ws_ yX2_after cX2_after 4 (some .int))) := lw_V q695 q697 qs9 q119 q698
theorem h2_townLine : yX2_townLine.cls = RX2 ∧ yX2_townLine.cls ≠ "java/lang/invoke/MethodHandle" ∧ yX2_townLine.cls ≠ "java/lang/invoke/VarHandle" ∧ (parseMethodDescriptor yX2_townLine.desc).map (fun d => d.parameters.length) = some 0 := by decide +kernel
def w2_townLine (post : XS → Prop) (xpost : CS × Option Nat × Option Nat → Prop) (tau : TD) (S : XS) : Prop :=
  (((S.2.2.1.1.1 50 6) ≤ 0 → (w2_step (fun S2 => (w2_after (fun r4 S3 => (w2_after (fun r6 S5 => (∀ S7, S7 = xN S5 50 7 r6 → (∀ S8, S8 = xN S7 50 6 r4 → (post S8)))) xpost tau S3 (kB 8) 0 100)) xpost tau S2 (kB 7) 2 40)) tau S)) ∧ (¬ (S.2.2.1.1.1 50 6) ≤ 0 → (w2_fail (fun S9 => (xpost (S9.1, S9.2.1, some (tau.1 0)))) tau S 3)))
set_option maxHeartbeats 8000000 in
theorem m2_townLine (l : Launch) {F : va_W} {post : XS → Prop} {xpost : CS × Option Nat × Option Nat → Prop} {tau : TD} {S : XS} {adK adV : Nat → Nat} (hZ : ∀ U, Z U → zS adK adV A Hb U) (hw : w2_townLine post xpost tau S) : tx_Met l yX2_townLine (ws_ yX2_townLine cX2_townLine 2 none) ({ frames := 8, cells := 10, slots := 60, locals := 290 } : Room) (va_Pc [.ref (ad 14)] (PcG D gCl nwG Z Hb A (wX D ad rf tw F tau S))) (va_Qv post (BW D gCl A (fun u => wX D ad rf tw F tau u)) A) (tx_X xpost (XB D ad rf tw A) A) 10 60 A := by
  refine tx_ofG (by decide) (Nat.le_of_ble_eq_true rfl) ?_
  intro p e s m below meth c ls hC hout hP hD hS hl
  have hC : CX RX2 cX2_townLine 2 none D gCl nwG Z Hb A p s m _ meth c := hC
  have hl : lv_has ls 2 [(0, .ref (ad 14))] := hl
  unfold w2_townLine at hw
  refine lv_aload_n hC.x hC.b dX2_townLine_0 rfl (lv_at hl 0 rfl) ?_
  refine gXS_9 hC hP dX2_townLine_1 ?_
  refine gXTX2_6 hC hP dX2_townLine_4 ?_
  refine lv_if_le (tgt := 16) hC.x hC.b dX2_townLine_7 (by decide) (fun c1 => ?_) (fun c1 => ?_)
  · have hw250 := hw.1 c1
    refine lv_aload_n hC.x hC.b dX2_townLine_16 rfl (lv_at hl 0 rfl) ?_
    refine go_v (run_V (rm := ({ frames := 4, cells := 2, slots := 12, locals := 203 } : Room)) (mc := 2) (ms := 12) (rest := []) (As := []) hC (m2_step l hZ hw250) vX2_2_step h2_step ((F : va_W).length + 14) 1 gCl_X2 (wX_c (xc_f (by omega) rfl)) rfl ⟨rfl, rfl, Nat.le_of_ble_eq_true rfl, Nat.le_of_ble_eq_true rfl⟩ ⟨Nat.le_of_ble_eq_true rfl, Nat.le_of_ble_eq_true rfl⟩ hP hD hS hl.1 (Nat.le_of_ble_eq_true rfl) dX2_townLine_17 rfl) hS (fun S2 H locs hw251 hP hD hS => ?_)
    refine lv_aload_n hC.x hC.b dX2_townLine_20 rfl (lv_at hl 0 rfl) ?_
    refine va_ldcS hC.x hC.b hC.ow ((hZ s hC.K.2.2.2).2.2.2.1 7 _ rfl).1 dX2_townLine_21 ?_
    refine lv_iconst (v := 2) hC.x hC.b dX2_townLine_23 (by decide) ?_
    refine lv_bipush (v := 40) hC.x hC.b dX2_townLine_24 (by decide) ?_
    refine gx_i hC hout (run_VX (rm := ({ frames := 7, cells := 4, slots := 24, locals := 267 } : Room)) (mc := 4) (ms := 24) (rest := []) (As := [.ref (adK 7), .int 2, .int 40]) hC (m2_after l hZ (kCs hZ 7 (by decide)) hw251) vX2_2_after h2_after ((F : va_W).length + 14) 1 gCl_X2 (wX_c (xc_f (by omega) rfl)) rfl ⟨rfl, rfl, Nat.le_of_ble_eq_true rfl, Nat.le_of_ble_eq_true rfl⟩ ⟨Nat.le_of_ble_eq_true rfl, Nat.le_of_ble_eq_true rfl⟩ hP hD hS hl.1 (Nat.le_of_ble_eq_true rfl) dX2_townLine_26 rfl) (Nat.le_of_ble_eq_true rfl) (Nat.le_of_ble_eq_true rfl) hS (fun r4 S3 H locs hw252 hP hD hS => ?_)
    refine lv_istore_n (lv' := [(1, .int r4), (0, .ref (ad 14))]) hC.x hC.b dX2_townLine_29 rfl hl (by decide) rfl (fun ls hl => ?_)
    refine lv_aload_n hC.x hC.b dX2_townLine_30 rfl (lv_at hl 1 rfl) ?_
    refine gXS_9 hC hP dX2_townLine_31 ?_
    refine lv_aload_n hC.x hC.b dX2_townLine_34 rfl (lv_at hl 1 rfl) ?_
    refine va_ldcS hC.x hC.b hC.ow ((hZ s hC.K.2.2.2).2.2.2.1 8 _ rfl).1 dX2_townLine_35 ?_
    refine lv_iconst (v := 0) hC.x hC.b dX2_townLine_37 (by decide) ?_
    refine lv_bipush (v := 100) hC.x hC.b dX2_townLine_38 (by decide) ?_
    refine gx_i hC hout (run_VX (rm := ({ frames := 7, cells := 4, slots := 24, locals := 267 } : Room)) (mc := 4) (ms := 24) (rest := [.ref (tau.1 0)]) (As := [.ref (adK 8), .int 0, .int 100]) hC (m2_after l hZ (kCs hZ 8 (by decide)) hw252) vX2_2_after h2_after ((F : va_W).length + 14) 1 gCl_X2 (wX_c (xc_f (by omega) rfl)) rfl ⟨rfl, rfl, Nat.le_of_ble_eq_true rfl, Nat.le_of_ble_eq_true rfl⟩ ⟨Nat.le_of_ble_eq_true rfl, Nat.le_of_ble_eq_true rfl⟩ hP hD hS hl.1 (Nat.le_of_ble_eq_true rfl) dX2_townLine_40 rfl) (Nat.le_of_ble_eq_true rfl) (Nat.le_of_ble_eq_true rfl) hS (fun r6 S5 H locs hw253 hP hD hS => ?_)
    refine pXT_7 hC hP hD hS (v := r6) dX2_townLine_43 (fun S7 eS7 H locs hP hD hS => ?_)
    have hw254 := hw253 S7 eS7
    refine lv_aload_n hC.x hC.b dX2_townLine_46 rfl (lv_at hl 1 rfl) ?_
    refine gXS_9 hC hP dX2_townLine_47 ?_
    refine lv_iload_n hC.x hC.b dX2_townLine_50 rfl (lv_at hl 0 rfl) ?_
    refine pXT_6 hC hP hD hS (v := r4) dX2_townLine_51 (fun S8 eS8 H locs hP hD hS => ?_)
    have hw255 := hw254 S8 eS8
    refine tx_ret ?_
    refine W.widen (k := 10) (n := 60) (Nat.le_of_ble_eq_true rfl) (Nat.le_of_ble_eq_true rfl) ?_
    exact rt_v hC hw255 hP hD hS dX2_townLine_54
  · have hw256 := hw.2 c1
    refine lv_aload_n hC.x hC.b dX2_townLine_10 rfl (lv_at hl 0 rfl) ?_
    refine lv_iconst (v := 3) hC.x hC.b dX2_townLine_11 (by decide) ?_
    refine go_rr (run_V (rm := ({ frames := 1, cells := 0, slots := 0, locals := 22 } : Room)) (mc := 0) (ms := 0) (rest := []) (As := [.int 3]) hC (m2_fail l hZ hw256) vX2_2_fail h2_fail ((F : va_W).length + 14) 1 gCl_X2 (wX_c (xc_f (by omega) rfl)) rfl ⟨rfl, rfl, Nat.le_of_ble_eq_true rfl, Nat.le_of_ble_eq_true rfl⟩ ⟨Nat.le_of_ble_eq_true rfl, Nat.le_of_ble_eq_true rfl⟩ hP hD hS hl.1 (Nat.le_of_ble_eq_true rfl) dX2_townLine_12 rfl) hS (fun r10 S9 H locs hw257 hP hD hS => ?_)
    obtain ⟨rfl, hw257⟩ := hw257
    exact gx_throw hC hout hw257 hP hD hS (Nat.le_of_ble_eq_true rfl) (Nat.le_of_ble_eq_true rfl) dX2_townLine_15
theorem vX2_2_begins : GoodIn lw_all (wsV RX2 166 RX2 yX2_begins (ws_ yX2_begins cX2_begins 2 none)) := lw_V q720 q722 qs15 q119 q723
theorem vX2_2_newName : GoodIn lw_all (wsV RX2 170 RX2 yX2_newName (ws_ yX2_newName cX2_newName 2 (some (.object "java/lang/String")))) := lw_V q726 q728 qs16 q119 q729
theorem h2_personLine : yX2_personLine.cls = RX2 ∧ yX2_personLine.cls ≠ "java/lang/invoke/MethodHandle" ∧ yX2_personLine.cls ≠ "java/lang/invoke/VarHandle" ∧ (parseMethodDescriptor yX2_personLine.desc).map (fun d => d.parameters.length) = some 0 := by decide +kernel
def f2_personLine_66 (post : TD → XS → Prop) (xpost : CS × Option Nat × Option Nat → Prop) (tau : TD) (pa : Nat) (pnm : Nat) (pn1 : Int32) (pn2 : Int32) (S : XS) (K66 : Int32 → Prop) (x2 : Int32) : Prop :=
  (((S.2.2.1.1.1 50 8) ≤ x2 → (w2_step (fun S10 => (vp_in (S10.2.2.1.1.1 50 8) 6 ∧ (S10.2.2.1.1.1 50 8).toNatClampNeg = tau.2.2.1 ∧ (∀ t13, t13 = tAP tau pa pnm → ∀ S14, S14 = xN (xN S10 (1000 + 2 * tau.2.2.1) 1 pn1) (1000 + 2 * tau.2.2.1) 2 pn2 → (∀ S15, S15 = xN S14 50 8 ((S14.2.2.1.1.1 50 8) + 1) → (post t13 S15))))) tau S)) ∧ (¬ (S.2.2.1.1.1 50 8) ≤ x2 → (vp_in x2 6 ∧ (x2.toNatClampNeg < tau.2.2.1 ∧ (x2.toNatClampNeg < tau.2.2.1 ∧ ((¬ (S.2.2.1.1.1 (1000 + 2 * x2.toNatClampNeg) 2) = pn2 → (K66 (x2 + 1))) ∧ ((S.2.2.1.1.1 (1000 + 2 * x2.toNatClampNeg) 2) = pn2 → (w2_fail (fun S20 => (xpost (S20.1, S20.2.1, some (tau.1 0)))) tau S 3))))))))
set_option maxHeartbeats 4000000 in
theorem k2_personLine_66 {post : TD → XS → Prop} {xpost : CS × Option Nat × Option Nat → Prop} {tau : TD} {pa : Nat} {pnm : Nat} {pn1 : Int32} {pn2 : Int32} {S : XS} (hC : CX RX2 cX2_personLine 3 none D gCl nwG Z Hb A p s m args meth c) {adK adV : Nat → Nat} (hZ : ∀ U, Z U → zS adK adV A Hb U) (hout : ∀ x ∈ c.exceptionTable.toList, False) : ∀ z : Int32, lp (fun (K : Int32 → Prop) (z : Int32) => f2_personLine_66 post xpost tau pa pnm pn1 pn2 S K z) z → ∀ (H : Heap) (locs : List Loc) (ls : Array Slot), va_P D gCl (wX D ad rf tw ((pa, .inr (7, [.ref pnm, .int pn1, .int pn2])) :: F) tau S) H → va_D A (wX D ad rf tw ((pa, .inr (7, [.ref pnm, .int pn1, .int pn2])) :: F) tau S) → va_S A s.heap H locs → lv_has ls 3 [(0, .ref (ad 14)), (1, .ref pa), (2, .int z)] → W p l e ({ frames := 7, cells := 9, slots := 51, locals := 267 } : Room) s m args below meth c H locs 7 39 (tx_MQ below (va_Qv (fun (u : TD × XS) => post u.1 u.2) (BW D gCl A (fun u => wX D ad rf tw F u.1 u.2)) A) (tx_X xpost (XB D ad rf tw A) A) args s 9 51 A) (F0 m 66 ls []) := by
  refine lp_ind ?_
  rintro K66 x2 hK66 hw H locs ls hP hD hS hl
  have hw : f2_personLine_66 post xpost tau pa pnm pn1 pn2 S K66 x2 := hw
  unfold f2_personLine_66 at hw
  have hP : va_P D gCl (wX D ad rf tw ((pa, .inr (7, [.ref pnm, .int pn1, .int pn2])) :: F) tau S) H := hP
  have hD : va_D A (wX D ad rf tw ((pa, .inr (7, [.ref pnm, .int pn1, .int pn2])) :: F) tau S) := hD
  have hl : lv_has ls 3 [(0, .ref (ad 14)), (1, .ref pa), (2, .int x2)] := hl
  refine lv_iload_n hC.x hC.b dX2_personLine_66 rfl (lv_at hl 2 rfl) ?_
  refine lv_aload_n hC.x hC.b dX2_personLine_67 rfl (lv_at hl 0 rfl) ?_
  refine gXS_9 hC hP dX2_personLine_68 ?_
  refine gXTX2_8 hC hP dX2_personLine_71 ?_
  refine lv_icmp_ge (tgt := 108) hC.x hC.b dX2_personLine_74 (by decide) (fun c9 => ?_) (fun c9 => ?_)
  · have hw264 := hw.1 c9
    refine lv_aload_n hC.x hC.b dX2_personLine_108 rfl (lv_at hl 0 rfl) ?_
    refine go_v (run_V (rm := ({ frames := 4, cells := 2, slots := 12, locals := 203 } : Room)) (mc := 2) (ms := 12) (rest := []) (As := []) hC (m2_step l hZ hw264) vX2_2_step h2_step ((((pa, .inr (7, [.ref pnm, .int pn1, .int pn2])) :: F) : va_W).length + 14) 1 gCl_X2 (wX_c (xc_f (by omega) rfl)) rfl ⟨rfl, rfl, Nat.le_of_ble_eq_true rfl, Nat.le_of_ble_eq_true rfl⟩ ⟨Nat.le_of_ble_eq_true rfl, Nat.le_of_ble_eq_true rfl⟩ hP hD hS hl.1 (Nat.le_of_ble_eq_true rfl) dX2_personLine_109 rfl) hS (fun S10 H locs hw265 hP hD hS => ?_)
    refine lv_aload_n hC.x hC.b dX2_personLine_112 rfl (lv_at hl 0 rfl) ?_
    refine gXS_9 hC hP dX2_personLine_113 ?_
    refine gXTX2_0 hC hP dX2_personLine_116 ?_
    refine lv_aload_n hC.x hC.b dX2_personLine_119 rfl (lv_at hl 0 rfl) ?_
    refine gXS_9 hC hP dX2_personLine_120 ?_
    refine gXTX2_8 hC hP dX2_personLine_123 ?_
    refine lv_aload_n hC.x hC.b dX2_personLine_126 rfl (lv_at hl 1 rfl) ?_
    obtain ⟨hin11, hk12, hw266⟩ := hw265
    refine sXPe hC hP hD hS hin11 hk12 dX2_personLine_127 (fun t13 S14 et13 eS14 H locs hP hD hS => ?_)
    have hw267 := hw266 t13 et13 S14 eS14
    refine lv_aload_n hC.x hC.b dX2_personLine_128 rfl (lv_at hl 0 rfl) ?_
    refine gXS_9 hC hP dX2_personLine_129 ?_
    refine lv_dup hC.x hC.b dX2_personLine_132 rfl ?_
    refine gXTX2_8 hC hP dX2_personLine_133 ?_
    refine lv_iconst (v := 1) hC.x hC.b dX2_personLine_136 (by decide) ?_
    refine lv_iadd hC.x hC.b dX2_personLine_137 ?_
    refine pXT_8 hC hP hD hS (v := ((S14.2.2.1.1.1 50 8) + 1)) dX2_personLine_138 (fun S15 eS15 H locs hP hD hS => ?_)
    have hw268 := hw267 S15 eS15
    refine tx_ret ?_
    refine W.widen (k := 9) (n := 51) (Nat.le_of_ble_eq_true rfl) (Nat.le_of_ble_eq_true rfl) ?_
    exact rt_v (u := (t13, S15)) hC hw268 hP hD hS dX2_personLine_141
  · have hw269 := hw.2 c9
    refine lv_aload_n hC.x hC.b dX2_personLine_77 rfl (lv_at hl 0 rfl) ?_
    refine gXS_9 hC hP dX2_personLine_78 ?_
    refine gXTX2_0 hC hP dX2_personLine_81 ?_
    refine lv_iload_n hC.x hC.b dX2_personLine_84 rfl (lv_at hl 2 rfl) ?_
    obtain ⟨hin16, hw270⟩ := hw269
    obtain ⟨hg17, hw271⟩ := hw270
    refine lXPe hC hP hin16 rfl hg17 dX2_personLine_85 ?_
    obtain ⟨hg18, hw272⟩ := hw271
    refine gXP_2 (i := x2.toNatClampNeg) hg18 hC hP dX2_personLine_86 ?_
    refine lv_aload_n hC.x hC.b dX2_personLine_89 rfl (lv_at hl 1 rfl) ?_
    refine va_get (D := D) (ci := 7) (fs := [.ref pnm, .int pn1, .int pn2]) (v := .int pn2) (C := RX9) (T := TX9) (N := 3) hC.x hC.b hC.ts in_X9 hC.ow hC.K.1 hP 0 rfl gCl_X9 2 (by decide) (hC.ts _ q750) (fun _ h9 => h9) rfl dX2_personLine_90 ?_
    refine lv_icmp_ne (tgt := 102) hC.x hC.b dX2_personLine_93 (by decide) (fun c19 => ?_) (fun c19 => ?_)
    · have hw273 := hw272.1 c19
      refine lv_iinc (v := (x2 + 1)) (lv' := [(2, .int (x2 + 1)), (0, .ref (ad 14)), (1, .ref pa)]) hC.x hC.b dX2_personLine_102 hl (k := 2) rfl rfl (by decide) rfl (fun ls hl => ?_)
      refine lv_goto (tgt := 66) hC.x hC.b dX2_personLine_105 (by decide) ?_
      exact hK66 (x2 + 1) hw273 H locs ls hP hD hS (lv_sub hl [1, 2, 0] rfl)
    · have hw274 := hw272.2 c19
      refine lv_aload_n hC.x hC.b dX2_personLine_96 rfl (lv_at hl 0 rfl) ?_
      refine lv_iconst (v := 3) hC.x hC.b dX2_personLine_97 (by decide) ?_
      refine go_rr (run_V (rm := ({ frames := 1, cells := 0, slots := 0, locals := 22 } : Room)) (mc := 0) (ms := 0) (rest := []) (As := [.int 3]) hC (m2_fail l hZ hw274) vX2_2_fail h2_fail ((((pa, .inr (7, [.ref pnm, .int pn1, .int pn2])) :: F) : va_W).length + 14) 1 gCl_X2 (wX_c (xc_f (by omega) rfl)) rfl ⟨rfl, rfl, Nat.le_of_ble_eq_true rfl, Nat.le_of_ble_eq_true rfl⟩ ⟨Nat.le_of_ble_eq_true rfl, Nat.le_of_ble_eq_true rfl⟩ hP hD hS hl.1 (Nat.le_of_ble_eq_true rfl) dX2_personLine_98 rfl) hS (fun r21 S20 H locs hw275 hP hD hS => ?_)
      obtain ⟨rfl, hw275⟩ := hw275
      exact gx_throw hC hout hw275 hP hD hS (Nat.le_of_ble_eq_true rfl) (Nat.le_of_ble_eq_true rfl) dX2_personLine_101
def j2_personLine_18 (post : TD → XS → Prop) (xpost : CS × Option Nat × Option Nat → Prop) (tau : TD) (S : XS) (y1 : Int32) : Prop :=
  (w2_begins (fun S2 => (∀ q3 : Nat, (w2_newName (fun r5 S4 => (w2_must (fun S6 => (w2_wholeHere (fun r8 S7 => (lp (fun (K : Int32 → Prop) (z : Int32) => f2_personLine_66 post xpost tau q3 r5 (S4.2.2.1.1.1 50 8) r8 S7 K z) 0)) xpost tau S6 0 ((S6.2.2.1.1.1 50 6) - 1))) xpost tau S4 (kB 9))) xpost tau S2))) xpost tau S y1)
set_option maxHeartbeats 4000000 in
theorem k2_personLine_18 {post : TD → XS → Prop} {xpost : CS × Option Nat × Option Nat → Prop} {tau : TD} {S : XS} {y1 : Int32} (hC : CX RX2 cX2_personLine 3 none D gCl nwG Z Hb A p s m args meth c) {adK adV : Nat → Nat} (hZ : ∀ U, Z U → zS adK adV A Hb U) (hout : ∀ x ∈ c.exceptionTable.toList, False) (hw : j2_personLine_18 post xpost tau S y1) : ∀ (H : Heap) (locs : List Loc) (ls : Array Slot), va_P D gCl (wX D ad rf tw F tau S) H → va_D A (wX D ad rf tw F tau S) → va_S A s.heap H locs → lv_has ls 3 [(0, .ref (ad 14))] → W p l e ({ frames := 7, cells := 9, slots := 51, locals := 267 } : Room) s m args below meth c H locs 0 0 (tx_MQ below (va_Qv (fun (u : TD × XS) => post u.1 u.2) (BW D gCl A (fun u => wX D ad rf tw F u.1 u.2)) A) (tx_X xpost (XB D ad rf tw A) A) args s 9 51 A) (F0 m 18 ls [.int y1, .ref (ad 14)]) := by
  intro H locs ls hP hD hS hl
  unfold j2_personLine_18 at hw
  refine gx_v hC hout (run_VX (rm := ({ frames := 5, cells := 2, slots := 12, locals := 225 } : Room)) (mc := 2) (ms := 12) (rest := []) (As := [.int y1]) hC (m2_begins l hZ hw) vX2_2_begins h2_begins ((F : va_W).length + 14) 1 gCl_X2 (wX_c (xc_f (by omega) rfl)) rfl ⟨rfl, rfl, Nat.le_of_ble_eq_true rfl, Nat.le_of_ble_eq_true rfl⟩ ⟨Nat.le_of_ble_eq_true rfl, Nat.le_of_ble_eq_true rfl⟩ hP hD hS hl.1 (Nat.le_of_ble_eq_true rfl) dX2_personLine_18 rfl) (Nat.le_of_ble_eq_true rfl) (Nat.le_of_ble_eq_true rfl) hS (fun S2 H locs hw259 hP hD hS => ?_)
  refine va_new (ci := 7) (fs := [.null, .int 0, .int 0]) (C := RX9) (T := TX9) (N := 3) hC.x hC.b hC.ts in_X9 tyX9 tyX9_ok hC.ow (hC.ts _ q724) (hC.ts _ q725) (hC.ts _ q134) hC.K.1 hP hD hS hC.aA gCl_X9 (fun j hj => by rcases nle3 j hj with rfl | rfl | rfl <;> rfl) (Nat.le_of_ble_eq_true rfl) (Nat.le_of_ble_eq_true rfl) dX2_personLine_21 (fun q3 H hP hD hS => ?_)
  have hP : va_P D gCl (wX D ad rf tw ((q3, .inr (7, [.null, .int 0, .int 0])) :: F) tau S2) H := rot_P hP
  have hD : va_D A (wX D ad rf tw ((q3, .inr (7, [.null, .int 0, .int 0])) :: F) tau S2) := rot_D hD
  have hw260 := hw259 q3
  refine lv_dup hC.x hC.b dX2_personLine_24 rfl ?_
  refine lv_aload_n hC.x hC.b dX2_personLine_25 rfl (lv_at hl 0 rfl) ?_
  refine gx_r hC hout (run_VX (rm := ({ frames := 6, cells := 2, slots := 12, locals := 243 } : Room)) (mc := 2) (ms := 12) (rest := [.ref q3, .ref q3]) (As := []) hC (m2_newName l hZ hw260) vX2_2_newName h2_newName ((((q3, .inr (7, [.null, .int 0, .int 0])) :: F) : va_W).length + 14) 1 gCl_X2 (wX_c (xc_f (by omega) rfl)) rfl ⟨rfl, rfl, Nat.le_of_ble_eq_true rfl, Nat.le_of_ble_eq_true rfl⟩ ⟨Nat.le_of_ble_eq_true rfl, Nat.le_of_ble_eq_true rfl⟩ hP hD hS hl.1 (Nat.le_of_ble_eq_true rfl) dX2_personLine_26 rfl) (Nat.le_of_ble_eq_true rfl) (Nat.le_of_ble_eq_true rfl) hS (fun r5 S4 H locs hw261 hP hD hS => ?_)
  refine lv_aload_n hC.x hC.b dX2_personLine_29 rfl (lv_at hl 0 rfl) ?_
  refine gXS_9 hC hP dX2_personLine_30 ?_
  refine gXTX2_8 hC hP dX2_personLine_33 ?_
  have hP : va_P D gCl ((wX D ad rf tw F tau S4) ++ [(q3, .inr (7, [.null, .int 0, .int 0]))]) H := rotb_P hP
  have hD : va_D A ((wX D ad rf tw F tau S4) ++ [(q3, .inr (7, [.null, .int 0, .int 0]))]) := rotb_D hD
  refine go_v (run_I (rest := [.ref q3]) hC (n9_init_X9 (w := (wX D ad rf tw F tau S4)) (ny := r5) (ky := (S4.2.2.1.1.1 50 8)) l) q742 ⟨q744, q134, q743⟩ ⟨by decide +kernel, by decide +kernel, by show _ = some 2; decide +kernel⟩ rfl ⟨rfl, rfl, Nat.le_of_ble_eq_true rfl, Nat.le_of_ble_eq_true rfl⟩ ⟨Nat.le_of_ble_eq_true rfl, Nat.le_of_ble_eq_true rfl⟩ hP hD hS hl.1 (Nat.le_of_ble_eq_true rfl) dX2_personLine_36 rfl) hS (fun u H locs _ hP hD hS => ?_)
  have hP : va_P D gCl (wX D ad rf tw ((q3, .inr (7, [.ref r5, .int (S4.2.2.1.1.1 50 8), .int 0])) :: F) tau S4) H := rot_P hP
  have hD : va_D A (wX D ad rf tw ((q3, .inr (7, [.ref r5, .int (S4.2.2.1.1.1 50 8), .int 0])) :: F) tau S4) := rot_D hD
  refine lv_astore_n (lv' := [(1, .ref q3), (0, .ref (ad 14))]) hC.x hC.b dX2_personLine_39 rfl hl (by decide) rfl (fun ls hl => ?_)
  refine lv_aload_n hC.x hC.b dX2_personLine_40 rfl (lv_at hl 1 rfl) ?_
  refine va_ldcS hC.x hC.b hC.ow ((hZ s hC.K.2.2.2).2.2.2.1 9 _ rfl).1 dX2_personLine_41 ?_
  refine gx_v hC hout (run_VX (rm := ({ frames := 6, cells := 2, slots := 12, locals := 246 } : Room)) (mc := 2) (ms := 12) (rest := []) (As := [.ref (adK 9)]) hC (m2_must l hZ (kCs hZ 9 (by decide)) hw261) vX2_2_must h2_must ((((q3, .inr (7, [.ref r5, .int (S4.2.2.1.1.1 50 8), .int 0])) :: F) : va_W).length + 14) 1 gCl_X2 (wX_c (xc_f (by omega) rfl)) rfl ⟨rfl, rfl, Nat.le_of_ble_eq_true rfl, Nat.le_of_ble_eq_true rfl⟩ ⟨Nat.le_of_ble_eq_true rfl, Nat.le_of_ble_eq_true rfl⟩ hP hD hS hl.1 (Nat.le_of_ble_eq_true rfl) dX2_personLine_43 rfl) (Nat.le_of_ble_eq_true rfl) (Nat.le_of_ble_eq_true rfl) hS (fun S6 H locs hw262 hP hD hS => ?_)
  refine lv_aload_n hC.x hC.b dX2_personLine_46 rfl (lv_at hl 0 rfl) ?_
  refine lv_aload_n hC.x hC.b dX2_personLine_47 rfl (lv_at hl 1 rfl) ?_
  refine lv_iconst (v := 0) hC.x hC.b dX2_personLine_48 (by decide) ?_
  refine lv_aload_n hC.x hC.b dX2_personLine_49 rfl (lv_at hl 1 rfl) ?_
  refine gXS_9 hC hP dX2_personLine_50 ?_
  refine gXTX2_6 hC hP dX2_personLine_53 ?_
  refine lv_iconst (v := 1) hC.x hC.b dX2_personLine_56 (by decide) ?_
  refine lv_isub hC.x hC.b dX2_personLine_57 ?_
  refine gx_i hC hout (run_VX (rm := ({ frames := 2, cells := 0, slots := 0, locals := 43 } : Room)) (mc := 0) (ms := 0) (rest := [.ref q3]) (As := [.int 0, .int ((S6.2.2.1.1.1 50 6) - 1)]) hC (m2_wholeHere l hZ hw262) vX2_2_wholeHere h2_wholeHere ((((q3, .inr (7, [.ref r5, .int (S4.2.2.1.1.1 50 8), .int 0])) :: F) : va_W).length + 14) 1 gCl_X2 (wX_c (xc_f (by omega) rfl)) rfl ⟨rfl, rfl, Nat.le_of_ble_eq_true rfl, Nat.le_of_ble_eq_true rfl⟩ ⟨Nat.le_of_ble_eq_true rfl, Nat.le_of_ble_eq_true rfl⟩ hP hD hS hl.1 (Nat.le_of_ble_eq_true rfl) dX2_personLine_58 rfl) (Nat.le_of_ble_eq_true rfl) (Nat.le_of_ble_eq_true rfl) hS (fun r8 S7 H locs hw263 hP hD hS => ?_)
  refine va_put (D := D) (ci := 7) (fs := [.ref r5, .int (S4.2.2.1.1.1 50 8), .int 0]) (v := .int r8) (ty := .int) (C := RX9) (T := TX9) (N := 3) hC.x hC.b hC.ts in_X9 tyX9 tyX9_ok nmX9 hC.ow hC.K.1 hP hD hS 0 rfl gCl_X9 2 (by decide) (hC.ts _ q750) (fun _ h9 => h9) rfl (by decide +kernel) rfl rfl (Nat.le_of_ble_eq_true rfl) dX2_personLine_61 (fun H locs hP hD hS => ?_)
  have hP : va_P D gCl (wX D ad rf tw ((q3, .inr (7, [.ref r5, .int (S4.2.2.1.1.1 50 8), .int r8])) :: F) tau S7) H := hP
  have hD : va_D A (wX D ad rf tw ((q3, .inr (7, [.ref r5, .int (S4.2.2.1.1.1 50 8), .int r8])) :: F) tau S7) := hD
  refine lv_iconst (v := 0) hC.x hC.b dX2_personLine_64 (by decide) ?_
  refine lv_istore_n (lv' := [(2, .int 0), (1, .ref q3), (0, .ref (ad 14))]) hC.x hC.b dX2_personLine_65 rfl hl (by decide) rfl (fun ls hl => ?_)
  exact k2_personLine_66 hC hZ hout 0 hw263 H locs ls hP hD hS (lv_sub hl [2, 1, 0] rfl)
def w2_personLine (post : TD → XS → Prop) (xpost : CS × Option Nat × Option Nat → Prop) (tau : TD) (S : XS) : Prop :=
  ((6 ≤ (S.2.2.1.1.1 50 8) → (j2_personLine_18 post xpost tau S 0)) ∧ (¬ 6 ≤ (S.2.2.1.1.1 50 8) → (j2_personLine_18 post xpost tau S 1)))
set_option maxHeartbeats 8000000 in
theorem m2_personLine (l : Launch) {F : va_W} {post : TD → XS → Prop} {xpost : CS × Option Nat × Option Nat → Prop} {tau : TD} {S : XS} {adK adV : Nat → Nat} (hZ : ∀ U, Z U → zS adK adV A Hb U) (hw : w2_personLine post xpost tau S) : tx_Met l yX2_personLine (ws_ yX2_personLine cX2_personLine 3 none) ({ frames := 7, cells := 9, slots := 51, locals := 267 } : Room) (va_Pc [.ref (ad 14)] (PcG D gCl nwG Z Hb A (wX D ad rf tw F tau S))) (va_Qv (fun (u : TD × XS) => post u.1 u.2) (BW D gCl A (fun u => wX D ad rf tw F u.1 u.2)) A) (tx_X xpost (XB D ad rf tw A) A) 9 51 A := by
  refine tx_ofG (by decide) (Nat.le_of_ble_eq_true rfl) ?_
  intro p e s m below meth c ls hC hout hP hD hS hl
  have hC : CX RX2 cX2_personLine 3 none D gCl nwG Z Hb A p s m _ meth c := hC
  have hl : lv_has ls 3 [(0, .ref (ad 14))] := hl
  unfold w2_personLine at hw
  refine lv_aload_n hC.x hC.b dX2_personLine_0 rfl (lv_at hl 0 rfl) ?_
  refine lv_aload_n hC.x hC.b dX2_personLine_1 rfl (lv_at hl 0 rfl) ?_
  refine gXS_9 hC hP dX2_personLine_2 ?_
  refine gXTX2_8 hC hP dX2_personLine_5 ?_
  refine lv_bipush (v := 6) hC.x hC.b dX2_personLine_8 (by decide) ?_
  refine lv_icmp_ge (tgt := 17) hC.x hC.b dX2_personLine_10 (by decide) (fun c1 => ?_) (fun c1 => ?_)
  · have hw258 := hw.1 c1
    refine lv_iconst (v := 0) hC.x hC.b dX2_personLine_17 (by decide) ?_
    exact k2_personLine_18 hC hZ hout hw258 s.heap [] ls hP hD hS (lv_sub hl [0] rfl)
  · have hw276 := hw.2 c1
    refine lv_iconst (v := 1) hC.x hC.b dX2_personLine_13 (by decide) ?_
    refine lv_goto (tgt := 18) hC.x hC.b dX2_personLine_14 (by decide) ?_
    exact k2_personLine_18 hC hZ hout hw276 s.heap [] ls hP hD hS (lv_sub hl [0] rfl)
theorem h2_ghostOf : yX2_ghostOf.cls = RX2 ∧ yX2_ghostOf.cls ≠ "java/lang/invoke/MethodHandle" ∧ yX2_ghostOf.cls ≠ "java/lang/invoke/VarHandle" ∧ (parseMethodDescriptor yX2_ghostOf.desc).map (fun d => d.parameters.length) = some 2 := by decide +kernel
def w2_ghostOf (post : Nat → Nat → XS → Prop) (xpost : CS × Option Nat × Option Nat → Prop) (tau : TD) (S : XS) (x1 : Nat) (x2 : Int32) : Prop :=
  (w2_takes (fun r2 S1 => ((r2 = 0 → (w2_takes (fun r5 S4 => ((r5 = 0 → (w2_takes (fun r8 S7 => ((r8 = 0 → (w2_must (fun S10 => (∀ q11 : Nat, (post q11 3 S10))) xpost tau S7 (kB 13))) ∧ (¬ r8 = 0 → (∀ q12 : Nat, (post q12 2 S7))))) tau S4 (kB 12))) ∧ (¬ r5 = 0 → (∀ q13 : Nat, (post q13 1 S4))))) tau S1 (kB 11))) ∧ (¬ r2 = 0 → (∀ q14 : Nat, (post q14 0 S1))))) tau S (kB 10))
set_option maxHeartbeats 8000000 in
theorem m2_ghostOf (l : Launch) {F : va_W} {post : Nat → Nat → XS → Prop} {xpost : CS × Option Nat × Option Nat → Prop} {tau : TD} {S : XS} {x1 : Nat} {x2 : Int32} {adK adV : Nat → Nat} (hZ : ∀ U, Z U → zS adK adV A Hb U) (hw : w2_ghostOf post xpost tau S x1 x2) : tx_Met l yX2_ghostOf (ws_ yX2_ghostOf cX2_ghostOf 3 (some (.object "SeanceStreet$Ghost"))) ({ frames := 7, cells := 9, slots := 54, locals := 267 } : Room) (va_Pc [.ref (ad 14), .ref x1, .int x2] (PcG D gCl nwG Z Hb A (wX D ad rf tw F tau S))) (va_Qr (fun _ => True) (fun (u : XS × Nat) x t => post x u.2 u.1 ∧ BW D gCl A (fun u => wX D ad rf tw ((x, .inr (8 + u.2, [.int 0, .int 0, .int (-2), .int (-1), .ref x1, .int x2])) :: F) tau u.1) u t) A) (tx_X xpost (XB D ad rf tw A) A) 9 54 A := by
  refine tx_ofG (by decide) (Nat.le_of_ble_eq_true rfl) ?_
  intro p e s m below meth c ls hC hout hP hD hS hl
  have hC : CX RX2 cX2_ghostOf 3 (some (.object "SeanceStreet$Ghost")) D gCl nwG Z Hb A p s m _ meth c := hC
  have hl : lv_has ls 3 [(0, .ref (ad 14)), (1, .ref x1), (2, .int x2)] := hl
  unfold w2_ghostOf at hw
  refine lv_aload_n hC.x hC.b dX2_ghostOf_0 rfl (lv_at hl 0 rfl) ?_
  refine va_ldcS hC.x hC.b hC.ow ((hZ s hC.K.2.2.2).2.2.2.1 10 _ rfl).1 dX2_ghostOf_1 ?_
  refine go_i (run_V (rm := ({ frames := 5, cells := 2, slots := 12, locals := 225 } : Room)) (mc := 2) (ms := 12) (rest := []) (As := [.ref (adK 10)]) hC (m2_takes l hZ (kCs hZ 10 (by decide)) hw) vX2_2_takes h2_takes ((F : va_W).length + 14) 1 gCl_X2 (wX_c (xc_f (by omega) rfl)) rfl ⟨rfl, rfl, Nat.le_of_ble_eq_true rfl, Nat.le_of_ble_eq_true rfl⟩ ⟨Nat.le_of_ble_eq_true rfl, Nat.le_of_ble_eq_true rfl⟩ hP hD hS hl.1 (Nat.le_of_ble_eq_true rfl) dX2_ghostOf_3 rfl) hS (fun r2 S1 H locs hw277 hP hD hS => ?_)
  refine lv_if_eq (tgt := 19) hC.x hC.b dX2_ghostOf_6 (by decide) (fun c3 => ?_) (fun c3 => ?_)
  · have hw278 := hw277.1 c3
    refine lv_aload_n hC.x hC.b dX2_ghostOf_19 rfl (lv_at hl 0 rfl) ?_
    refine va_ldcS hC.x hC.b hC.ow ((hZ s hC.K.2.2.2).2.2.2.1 11 _ rfl).1 dX2_ghostOf_20 ?_
    refine go_i (run_V (rm := ({ frames := 5, cells := 2, slots := 12, locals := 225 } : Room)) (mc := 2) (ms := 12) (rest := []) (As := [.ref (adK 11)]) hC (m2_takes l hZ (kCs hZ 11 (by decide)) hw278) vX2_2_takes h2_takes ((F : va_W).length + 14) 1 gCl_X2 (wX_c (xc_f (by omega) rfl)) rfl ⟨rfl, rfl, Nat.le_of_ble_eq_true rfl, Nat.le_of_ble_eq_true rfl⟩ ⟨Nat.le_of_ble_eq_true rfl, Nat.le_of_ble_eq_true rfl⟩ hP hD hS hl.1 (Nat.le_of_ble_eq_true rfl) dX2_ghostOf_22 rfl) hS (fun r5 S4 H locs hw279 hP hD hS => ?_)
    refine lv_if_eq (tgt := 38) hC.x hC.b dX2_ghostOf_25 (by decide) (fun c6 => ?_) (fun c6 => ?_)
    · have hw280 := hw279.1 c6
      refine lv_aload_n hC.x hC.b dX2_ghostOf_38 rfl (lv_at hl 0 rfl) ?_
      refine va_ldcS hC.x hC.b hC.ow ((hZ s hC.K.2.2.2).2.2.2.1 12 _ rfl).1 dX2_ghostOf_39 ?_
      refine go_i (run_V (rm := ({ frames := 5, cells := 2, slots := 12, locals := 225 } : Room)) (mc := 2) (ms := 12) (rest := []) (As := [.ref (adK 12)]) hC (m2_takes l hZ (kCs hZ 12 (by decide)) hw280) vX2_2_takes h2_takes ((F : va_W).length + 14) 1 gCl_X2 (wX_c (xc_f (by omega) rfl)) rfl ⟨rfl, rfl, Nat.le_of_ble_eq_true rfl, Nat.le_of_ble_eq_true rfl⟩ ⟨Nat.le_of_ble_eq_true rfl, Nat.le_of_ble_eq_true rfl⟩ hP hD hS hl.1 (Nat.le_of_ble_eq_true rfl) dX2_ghostOf_41 rfl) hS (fun r8 S7 H locs hw281 hP hD hS => ?_)
      refine lv_if_eq (tgt := 57) hC.x hC.b dX2_ghostOf_44 (by decide) (fun c9 => ?_) (fun c9 => ?_)
      · have hw282 := hw281.1 c9
        refine lv_aload_n hC.x hC.b dX2_ghostOf_57 rfl (lv_at hl 0 rfl) ?_
        refine va_ldcS hC.x hC.b hC.ow ((hZ s hC.K.2.2.2).2.2.2.1 13 _ rfl).1 dX2_ghostOf_58 ?_
        refine gx_v hC hout (run_VX (rm := ({ frames := 6, cells := 2, slots := 12, locals := 246 } : Room)) (mc := 2) (ms := 12) (rest := []) (As := [.ref (adK 13)]) hC (m2_must l hZ (kCs hZ 13 (by decide)) hw282) vX2_2_must h2_must ((F : va_W).length + 14) 1 gCl_X2 (wX_c (xc_f (by omega) rfl)) rfl ⟨rfl, rfl, Nat.le_of_ble_eq_true rfl, Nat.le_of_ble_eq_true rfl⟩ ⟨Nat.le_of_ble_eq_true rfl, Nat.le_of_ble_eq_true rfl⟩ hP hD hS hl.1 (Nat.le_of_ble_eq_true rfl) dX2_ghostOf_60 rfl) (Nat.le_of_ble_eq_true rfl) (Nat.le_of_ble_eq_true rfl) hS (fun S10 H locs hw283 hP hD hS => ?_)
        refine va_new (ci := 11) (fs := [.int 0, .int 0, .int 0, .int 0, .null, .int 0]) (C := RX14) (T := TX14) (N := 6) hC.x hC.b hC.ts in_X14 tyX14 tyX14_ok hC.ow (hC.ts _ q836) (hC.ts _ q837) (hC.ts _ q139) hC.K.1 hP hD hS hC.aA gCl_X14 (fun j hj => by rcases nle6 j hj with rfl | rfl | rfl | rfl | rfl | rfl <;> rfl) (Nat.le_of_ble_eq_true rfl) (Nat.le_of_ble_eq_true rfl) dX2_ghostOf_63 (fun q11 H hP hD hS => ?_)
        have hP : va_P D gCl (wX D ad rf tw ((q11, .inr (11, [.int 0, .int 0, .int 0, .int 0, .null, .int 0])) :: F) tau S10) H := rot_P hP
        have hD : va_D A (wX D ad rf tw ((q11, .inr (11, [.int 0, .int 0, .int 0, .int 0, .null, .int 0])) :: F) tau S10) := rot_D hD
        have hw284 := hw283 q11
        refine lv_dup hC.x hC.b dX2_ghostOf_66 rfl ?_
        refine lv_aload_n hC.x hC.b dX2_ghostOf_67 rfl (lv_at hl 1 rfl) ?_
        refine lv_iload_n hC.x hC.b dX2_ghostOf_68 rfl (lv_at hl 2 rfl) ?_
        have hP : va_P D gCl ((wX D ad rf tw F tau S10) ++ [(q11, .inr (11, [.int 0, .int 0, .int 0, .int 0, .null, .int 0]))]) H := rotb_P hP
        have hD : va_D A ((wX D ad rf tw F tau S10) ++ [(q11, .inr (11, [.int 0, .int 0, .int 0, .int 0, .null, .int 0]))]) := rotb_D hD
        refine go_v (run_I (rest := [.ref q11]) hC (n14_init_X14 (w := (wX D ad rf tw F tau S10)) (ny := x1) (ky := x2) l) q838 ⟨q840, q139, q839⟩ ⟨by decide +kernel, by decide +kernel, by show _ = some 2; decide +kernel⟩ rfl ⟨rfl, rfl, Nat.le_of_ble_eq_true rfl, Nat.le_of_ble_eq_true rfl⟩ ⟨Nat.le_of_ble_eq_true rfl, Nat.le_of_ble_eq_true rfl⟩ hP hD hS hl.1 (Nat.le_of_ble_eq_true rfl) dX2_ghostOf_69 rfl) hS (fun u H locs _ hP hD hS => ?_)
        have hP : va_P D gCl (wX D ad rf tw ((q11, .inr (11, [.int 0, .int 0, .int (-2), .int (-1), .ref x1, .int x2])) :: F) tau S10) H := rot_P hP
        have hD : va_D A (wX D ad rf tw ((q11, .inr (11, [.int 0, .int 0, .int (-2), .int (-1), .ref x1, .int x2])) :: F) tau S10) := rot_D hD
        refine tx_ret ?_
        refine W.widen (k := 9) (n := 54) (Nat.le_of_ble_eq_true rfl) (Nat.le_of_ble_eq_true rfl) ?_
        exact W.aret (v := .ref q11) hC.x hC.b hC.r (Or.inl ⟨_, rfl⟩) (Or.inr ⟨_, rfl⟩) (fun t ht _ => ⟨⟨(S10, 3), q11, rfl, trivial, hw284, by rw [ht]; exact hP, hD⟩, hS.F ht⟩) hS.2.2 dX2_ghostOf_72 hC.lk
      · have hw285 := hw281.2 c9
        refine va_new (ci := 10) (fs := [.int 0, .int 0, .int 0, .int 0, .null, .int 0]) (C := RX13) (T := TX13) (N := 6) hC.x hC.b hC.ts in_X13 tyX13 tyX13_ok hC.ow (hC.ts _ q822) (hC.ts _ q823) (hC.ts _ q138) hC.K.1 hP hD hS hC.aA gCl_X13 (fun j hj => by rcases nle6 j hj with rfl | rfl | rfl | rfl | rfl | rfl <;> rfl) (Nat.le_of_ble_eq_true rfl) (Nat.le_of_ble_eq_true rfl) dX2_ghostOf_47 (fun q12 H hP hD hS => ?_)
        have hP : va_P D gCl (wX D ad rf tw ((q12, .inr (10, [.int 0, .int 0, .int 0, .int 0, .null, .int 0])) :: F) tau S7) H := rot_P hP
        have hD : va_D A (wX D ad rf tw ((q12, .inr (10, [.int 0, .int 0, .int 0, .int 0, .null, .int 0])) :: F) tau S7) := rot_D hD
        have hw286 := hw285 q12
        refine lv_dup hC.x hC.b dX2_ghostOf_50 rfl ?_
        refine lv_aload_n hC.x hC.b dX2_ghostOf_51 rfl (lv_at hl 1 rfl) ?_
        refine lv_iload_n hC.x hC.b dX2_ghostOf_52 rfl (lv_at hl 2 rfl) ?_
        have hP : va_P D gCl ((wX D ad rf tw F tau S7) ++ [(q12, .inr (10, [.int 0, .int 0, .int 0, .int 0, .null, .int 0]))]) H := rotb_P hP
        have hD : va_D A ((wX D ad rf tw F tau S7) ++ [(q12, .inr (10, [.int 0, .int 0, .int 0, .int 0, .null, .int 0]))]) := rotb_D hD
        refine go_v (run_I (rest := [.ref q12]) hC (n13_init_X13 (w := (wX D ad rf tw F tau S7)) (ny := x1) (ky := x2) l) q824 ⟨q826, q138, q825⟩ ⟨by decide +kernel, by decide +kernel, by show _ = some 2; decide +kernel⟩ rfl ⟨rfl, rfl, Nat.le_of_ble_eq_true rfl, Nat.le_of_ble_eq_true rfl⟩ ⟨Nat.le_of_ble_eq_true rfl, Nat.le_of_ble_eq_true rfl⟩ hP hD hS hl.1 (Nat.le_of_ble_eq_true rfl) dX2_ghostOf_53 rfl) hS (fun u H locs _ hP hD hS => ?_)
        have hP : va_P D gCl (wX D ad rf tw ((q12, .inr (10, [.int 0, .int 0, .int (-2), .int (-1), .ref x1, .int x2])) :: F) tau S7) H := rot_P hP
        have hD : va_D A (wX D ad rf tw ((q12, .inr (10, [.int 0, .int 0, .int (-2), .int (-1), .ref x1, .int x2])) :: F) tau S7) := rot_D hD
        refine tx_ret ?_
        refine W.widen (k := 9) (n := 54) (Nat.le_of_ble_eq_true rfl) (Nat.le_of_ble_eq_true rfl) ?_
        exact W.aret (v := .ref q12) hC.x hC.b hC.r (Or.inl ⟨_, rfl⟩) (Or.inr ⟨_, rfl⟩) (fun t ht _ => ⟨⟨(S7, 2), q12, rfl, trivial, hw286, by rw [ht]; exact hP, hD⟩, hS.F ht⟩) hS.2.2 dX2_ghostOf_56 hC.lk
    · have hw287 := hw279.2 c6
      refine va_new (ci := 9) (fs := [.int 0, .int 0, .int 0, .int 0, .null, .int 0]) (C := RX12) (T := TX12) (N := 6) hC.x hC.b hC.ts in_X12 tyX12 tyX12_ok hC.ow (hC.ts _ q808) (hC.ts _ q809) (hC.ts _ q137) hC.K.1 hP hD hS hC.aA gCl_X12 (fun j hj => by rcases nle6 j hj with rfl | rfl | rfl | rfl | rfl | rfl <;> rfl) (Nat.le_of_ble_eq_true rfl) (Nat.le_of_ble_eq_true rfl) dX2_ghostOf_28 (fun q13 H hP hD hS => ?_)
      have hP : va_P D gCl (wX D ad rf tw ((q13, .inr (9, [.int 0, .int 0, .int 0, .int 0, .null, .int 0])) :: F) tau S4) H := rot_P hP
      have hD : va_D A (wX D ad rf tw ((q13, .inr (9, [.int 0, .int 0, .int 0, .int 0, .null, .int 0])) :: F) tau S4) := rot_D hD
      have hw288 := hw287 q13
      refine lv_dup hC.x hC.b dX2_ghostOf_31 rfl ?_
      refine lv_aload_n hC.x hC.b dX2_ghostOf_32 rfl (lv_at hl 1 rfl) ?_
      refine lv_iload_n hC.x hC.b dX2_ghostOf_33 rfl (lv_at hl 2 rfl) ?_
      have hP : va_P D gCl ((wX D ad rf tw F tau S4) ++ [(q13, .inr (9, [.int 0, .int 0, .int 0, .int 0, .null, .int 0]))]) H := rotb_P hP
      have hD : va_D A ((wX D ad rf tw F tau S4) ++ [(q13, .inr (9, [.int 0, .int 0, .int 0, .int 0, .null, .int 0]))]) := rotb_D hD
      refine go_v (run_I (rest := [.ref q13]) hC (n12_init_X12 (w := (wX D ad rf tw F tau S4)) (ny := x1) (ky := x2) l) q810 ⟨q812, q137, q811⟩ ⟨by decide +kernel, by decide +kernel, by show _ = some 2; decide +kernel⟩ rfl ⟨rfl, rfl, Nat.le_of_ble_eq_true rfl, Nat.le_of_ble_eq_true rfl⟩ ⟨Nat.le_of_ble_eq_true rfl, Nat.le_of_ble_eq_true rfl⟩ hP hD hS hl.1 (Nat.le_of_ble_eq_true rfl) dX2_ghostOf_34 rfl) hS (fun u H locs _ hP hD hS => ?_)
      have hP : va_P D gCl (wX D ad rf tw ((q13, .inr (9, [.int 0, .int 0, .int (-2), .int (-1), .ref x1, .int x2])) :: F) tau S4) H := rot_P hP
      have hD : va_D A (wX D ad rf tw ((q13, .inr (9, [.int 0, .int 0, .int (-2), .int (-1), .ref x1, .int x2])) :: F) tau S4) := rot_D hD
      refine tx_ret ?_
      refine W.widen (k := 9) (n := 54) (Nat.le_of_ble_eq_true rfl) (Nat.le_of_ble_eq_true rfl) ?_
      exact W.aret (v := .ref q13) hC.x hC.b hC.r (Or.inl ⟨_, rfl⟩) (Or.inr ⟨_, rfl⟩) (fun t ht _ => ⟨⟨(S4, 1), q13, rfl, trivial, hw288, by rw [ht]; exact hP, hD⟩, hS.F ht⟩) hS.2.2 dX2_ghostOf_37 hC.lk
  · have hw289 := hw277.2 c3
    refine va_new (ci := 8) (fs := [.int 0, .int 0, .int 0, .int 0, .null, .int 0]) (C := RX11) (T := TX11) (N := 6) hC.x hC.b hC.ts in_X11 tyX11 tyX11_ok hC.ow (hC.ts _ q775) (hC.ts _ q776) (hC.ts _ q136) hC.K.1 hP hD hS hC.aA gCl_X11 (fun j hj => by rcases nle6 j hj with rfl | rfl | rfl | rfl | rfl | rfl <;> rfl) (Nat.le_of_ble_eq_true rfl) (Nat.le_of_ble_eq_true rfl) dX2_ghostOf_9 (fun q14 H hP hD hS => ?_)
    have hP : va_P D gCl (wX D ad rf tw ((q14, .inr (8, [.int 0, .int 0, .int 0, .int 0, .null, .int 0])) :: F) tau S1) H := rot_P hP
    have hD : va_D A (wX D ad rf tw ((q14, .inr (8, [.int 0, .int 0, .int 0, .int 0, .null, .int 0])) :: F) tau S1) := rot_D hD
    have hw290 := hw289 q14
    refine lv_dup hC.x hC.b dX2_ghostOf_12 rfl ?_
    refine lv_aload_n hC.x hC.b dX2_ghostOf_13 rfl (lv_at hl 1 rfl) ?_
    refine lv_iload_n hC.x hC.b dX2_ghostOf_14 rfl (lv_at hl 2 rfl) ?_
    have hP : va_P D gCl ((wX D ad rf tw F tau S1) ++ [(q14, .inr (8, [.int 0, .int 0, .int 0, .int 0, .null, .int 0]))]) H := rotb_P hP
    have hD : va_D A ((wX D ad rf tw F tau S1) ++ [(q14, .inr (8, [.int 0, .int 0, .int 0, .int 0, .null, .int 0]))]) := rotb_D hD
    refine go_v (run_I (rest := [.ref q14]) hC (n11_init_X11 (w := (wX D ad rf tw F tau S1)) (ny := x1) (ky := x2) l) q777 ⟨q779, q136, q778⟩ ⟨by decide +kernel, by decide +kernel, by show _ = some 2; decide +kernel⟩ rfl ⟨rfl, rfl, Nat.le_of_ble_eq_true rfl, Nat.le_of_ble_eq_true rfl⟩ ⟨Nat.le_of_ble_eq_true rfl, Nat.le_of_ble_eq_true rfl⟩ hP hD hS hl.1 (Nat.le_of_ble_eq_true rfl) dX2_ghostOf_15 rfl) hS (fun u H locs _ hP hD hS => ?_)
    have hP : va_P D gCl (wX D ad rf tw ((q14, .inr (8, [.int 0, .int 0, .int (-2), .int (-1), .ref x1, .int x2])) :: F) tau S1) H := rot_P hP
    have hD : va_D A (wX D ad rf tw ((q14, .inr (8, [.int 0, .int 0, .int (-2), .int (-1), .ref x1, .int x2])) :: F) tau S1) := rot_D hD
    refine tx_ret ?_
    refine W.widen (k := 9) (n := 54) (Nat.le_of_ble_eq_true rfl) (Nat.le_of_ble_eq_true rfl) ?_
    exact W.aret (v := .ref q14) hC.x hC.b hC.r (Or.inl ⟨_, rfl⟩) (Or.inr ⟨_, rfl⟩) (fun t ht _ => ⟨⟨(S1, 0), q14, rfl, trivial, hw290, by rw [ht]; exact hP, hD⟩, hS.F ht⟩) hS.2.2 dX2_ghostOf_18 hC.lk
theorem vX2_2_ghostOf : GoodIn lw_all (wsV RX2 209 RX2 yX2_ghostOf (ws_ yX2_ghostOf cX2_ghostOf 3 (some (.object "SeanceStreet$Ghost")))) := lw_V q770 q772 qs19 q119 q773
theorem vX2_2_personPassed : GoodIn lw_all (wsV RX2 219 RX2 yX2_personPassed (ws_ yX2_personPassed cX2_personPassed 2 (some (.object "SeanceStreet$Person")))) := lw_V q851 q853 qs20 q119 q854
theorem h2_deadLine : yX2_deadLine.cls = RX2 ∧ yX2_deadLine.cls ≠ "java/lang/invoke/MethodHandle" ∧ yX2_deadLine.cls ≠ "java/lang/invoke/VarHandle" ∧ (parseMethodDescriptor yX2_deadLine.desc).map (fun d => d.parameters.length) = some 0 := by decide +kernel
def j2_deadLine_18 (post : TD → XS → Prop) (xpost : CS × Option Nat × Option Nat → Prop) (tau : TD) (S : XS) (y1 : Int32) : Prop :=
  (w2_begins (fun S2 => (w2_newName (fun r4 S3 => (w2_ghostOf (fun r6 lw7 S5 => lw7 < 4 ∧ (w2_after (fun r10 S9 => (w2_must (fun S11 => (w2_personPassed (fun i14 S12 => (i14 < tau.2.2.1 ∧ (vp_in (S12.2.2.1.1.1 50 9) 6 ∧ (S12.2.2.1.1.1 50 9).toNatClampNeg = tau.2.2.2.1 ∧ (tau.2.2.1 ≤ 6 ∧ ∀ t18, t18 = tAG tau r6 r4 lw7 → ∀ S19, S19 = xG S12 tau.2.2.2.1 r10 (S12.2.2.1.1.1 (1000 + 2 * i14) 1) (-2) (-1) (S3.2.2.1.1.1 50 9) → (∀ S21, S21 = xN S19 50 9 ((S19.2.2.1.1.1 50 9) + 1) → (post t18 S21)))))) xpost tau S11)) xpost tau S9 (kB 15))) xpost tau S5 (kB 14) 0 39)) xpost tau S3 r4 (S3.2.2.1.1.1 50 9))) xpost tau S2)) xpost tau S y1)
set_option maxHeartbeats 4000000 in
theorem k2_deadLine_18 {post : TD → XS → Prop} {xpost : CS × Option Nat × Option Nat → Prop} {tau : TD} {S : XS} {y1 : Int32} (hC : CX RX2 cX2_deadLine 2 none D gCl nwG Z Hb A p s m args meth c) {adK adV : Nat → Nat} (hZ : ∀ U, Z U → zS adK adV A Hb U) (hout : ∀ x ∈ c.exceptionTable.toList, False) (hw : j2_deadLine_18 post xpost tau S y1) : ∀ (H : Heap) (locs : List Loc) (ls : Array Slot), va_P D gCl (wX D ad rf tw F tau S) H → va_D A (wX D ad rf tw F tau S) → va_S A s.heap H locs → lv_has ls 2 [(0, .ref (ad 14))] → W p l e ({ frames := 8, cells := 21, slots := 126, locals := 290 } : Room) s m args below meth c H locs 0 0 (tx_MQ below (va_Qv (fun (u : TD × XS) => post u.1 u.2) (BW D gCl A (fun u => wX D ad rf tw F u.1 u.2)) A) (tx_X xpost (XB D ad rf tw A) A) args s 21 126 A) (F0 m 18 ls [.int y1, .ref (ad 14)]) := by
  intro H locs ls hP hD hS hl
  unfold j2_deadLine_18 at hw
  refine gx_v hC hout (run_VX (rm := ({ frames := 5, cells := 2, slots := 12, locals := 225 } : Room)) (mc := 2) (ms := 12) (rest := []) (As := [.int y1]) hC (m2_begins l hZ hw) vX2_2_begins h2_begins ((F : va_W).length + 14) 1 gCl_X2 (wX_c (xc_f (by omega) rfl)) rfl ⟨rfl, rfl, Nat.le_of_ble_eq_true rfl, Nat.le_of_ble_eq_true rfl⟩ ⟨Nat.le_of_ble_eq_true rfl, Nat.le_of_ble_eq_true rfl⟩ hP hD hS hl.1 (Nat.le_of_ble_eq_true rfl) dX2_deadLine_18 rfl) (Nat.le_of_ble_eq_true rfl) (Nat.le_of_ble_eq_true rfl) hS (fun S2 H locs hw292 hP hD hS => ?_)
  refine lv_aload_n hC.x hC.b dX2_deadLine_21 rfl (lv_at hl 0 rfl) ?_
  refine lv_aload_n hC.x hC.b dX2_deadLine_22 rfl (lv_at hl 0 rfl) ?_
  refine gx_r hC hout (run_VX (rm := ({ frames := 6, cells := 2, slots := 12, locals := 243 } : Room)) (mc := 2) (ms := 12) (rest := [.ref (ad 14)]) (As := []) hC (m2_newName l hZ hw292) vX2_2_newName h2_newName ((F : va_W).length + 14) 1 gCl_X2 (wX_c (xc_f (by omega) rfl)) rfl ⟨rfl, rfl, Nat.le_of_ble_eq_true rfl, Nat.le_of_ble_eq_true rfl⟩ ⟨Nat.le_of_ble_eq_true rfl, Nat.le_of_ble_eq_true rfl⟩ hP hD hS hl.1 (Nat.le_of_ble_eq_true rfl) dX2_deadLine_23 rfl) (Nat.le_of_ble_eq_true rfl) (Nat.le_of_ble_eq_true rfl) hS (fun r4 S3 H locs hw293 hP hD hS => ?_)
  refine lv_aload_n hC.x hC.b dX2_deadLine_26 rfl (lv_at hl 0 rfl) ?_
  refine gXS_9 hC hP dX2_deadLine_27 ?_
  refine gXTX2_9 hC hP dX2_deadLine_30 ?_
  refine gx_R hC hout (run_VX (rm := ({ frames := 7, cells := 9, slots := 54, locals := 267 } : Room)) (mc := 9) (ms := 54) (rest := []) (As := [.ref r4, .int (S3.2.2.1.1.1 50 9)]) hC (m2_ghostOf l hZ hw293) vX2_2_ghostOf h2_ghostOf ((F : va_W).length + 14) 1 gCl_X2 (wX_c (xc_f (by omega) rfl)) rfl ⟨rfl, rfl, Nat.le_of_ble_eq_true rfl, Nat.le_of_ble_eq_true rfl⟩ ⟨Nat.le_of_ble_eq_true rfl, Nat.le_of_ble_eq_true rfl⟩ hP hD hS hl.1 (Nat.le_of_ble_eq_true rfl) dX2_deadLine_33 rfl) (Nat.le_of_ble_eq_true rfl) (Nat.le_of_ble_eq_true rfl) hS (fun r6 S5 H locs hw294 hP hD hS => ?_)
  obtain ⟨S5, lw7⟩ := S5
  obtain ⟨hlw8, hw295⟩ := hw294
  have hP : va_P D gCl (wX D ad rf tw ((r6, .inr (8 + lw7, [.int 0, .int 0, .int (-2), .int (-1), .ref r4, .int (S3.2.2.1.1.1 50 9)])) :: F) tau S5) H := hP
  have hD : va_D A (wX D ad rf tw ((r6, .inr (8 + lw7, [.int 0, .int 0, .int (-2), .int (-1), .ref r4, .int (S3.2.2.1.1.1 50 9)])) :: F) tau S5) := hD
  refine lv_astore_n (lv' := [(1, .ref r6), (0, .ref (ad 14))]) hC.x hC.b dX2_deadLine_36 rfl hl (by decide) rfl (fun ls hl => ?_)
  refine lv_aload_n hC.x hC.b dX2_deadLine_37 rfl (lv_at hl 0 rfl) ?_
  refine lv_aload_n hC.x hC.b dX2_deadLine_38 rfl (lv_at hl 1 rfl) ?_
  refine va_ldcS hC.x hC.b hC.ow ((hZ s hC.K.2.2.2).2.2.2.1 14 _ rfl).1 dX2_deadLine_39 ?_
  refine lv_iconst (v := 0) hC.x hC.b dX2_deadLine_41 (by decide) ?_
  refine lv_bipush (v := 39) hC.x hC.b dX2_deadLine_42 (by decide) ?_
  refine gx_i hC hout (run_VX (rm := ({ frames := 7, cells := 4, slots := 24, locals := 267 } : Room)) (mc := 4) (ms := 24) (rest := [.ref r6]) (As := [.ref (adK 14), .int 0, .int 39]) hC (m2_after l hZ (kCs hZ 14 (by decide)) hw295) vX2_2_after h2_after ((((r6, .inr (8 + lw7, [.int 0, .int 0, .int (-2), .int (-1), .ref r4, .int (S3.2.2.1.1.1 50 9)])) :: F) : va_W).length + 14) 1 gCl_X2 (wX_c (xc_f (by omega) rfl)) rfl ⟨rfl, rfl, Nat.le_of_ble_eq_true rfl, Nat.le_of_ble_eq_true rfl⟩ ⟨Nat.le_of_ble_eq_true rfl, Nat.le_of_ble_eq_true rfl⟩ hP hD hS hl.1 (Nat.le_of_ble_eq_true rfl) dX2_deadLine_44 rfl) (Nat.le_of_ble_eq_true rfl) (Nat.le_of_ble_eq_true rfl) hS (fun r10 S9 H locs hw296 hP hD hS => ?_)
  refine pend_0 hlw8 hC hP hD hS dX2_deadLine_47 (fun H locs hP hD hS => ?_)
  have hP : va_P D gCl (wX D ad rf tw ((r6, .inr (8 + lw7, [.int r10, .int 0, .int (-2), .int (-1), .ref r4, .int (S3.2.2.1.1.1 50 9)])) :: F) tau S9) H := hP
  have hD : va_D A (wX D ad rf tw ((r6, .inr (8 + lw7, [.int r10, .int 0, .int (-2), .int (-1), .ref r4, .int (S3.2.2.1.1.1 50 9)])) :: F) tau S9) := hD
  refine lv_aload_n hC.x hC.b dX2_deadLine_50 rfl (lv_at hl 1 rfl) ?_
  refine va_ldcS hC.x hC.b hC.ow ((hZ s hC.K.2.2.2).2.2.2.1 15 _ rfl).1 dX2_deadLine_51 ?_
  refine gx_v hC hout (run_VX (rm := ({ frames := 6, cells := 2, slots := 12, locals := 246 } : Room)) (mc := 2) (ms := 12) (rest := []) (As := [.ref (adK 15)]) hC (m2_must l hZ (kCs hZ 15 (by decide)) hw296) vX2_2_must h2_must ((((r6, .inr (8 + lw7, [.int r10, .int 0, .int (-2), .int (-1), .ref r4, .int (S3.2.2.1.1.1 50 9)])) :: F) : va_W).length + 14) 1 gCl_X2 (wX_c (xc_f (by omega) rfl)) rfl ⟨rfl, rfl, Nat.le_of_ble_eq_true rfl, Nat.le_of_ble_eq_true rfl⟩ ⟨Nat.le_of_ble_eq_true rfl, Nat.le_of_ble_eq_true rfl⟩ hP hD hS hl.1 (Nat.le_of_ble_eq_true rfl) dX2_deadLine_53 rfl) (Nat.le_of_ble_eq_true rfl) (Nat.le_of_ble_eq_true rfl) hS (fun S11 H locs hw297 hP hD hS => ?_)
  refine lv_aload_n hC.x hC.b dX2_deadLine_56 rfl (lv_at hl 0 rfl) ?_
  refine lv_aload_n hC.x hC.b dX2_deadLine_57 rfl (lv_at hl 1 rfl) ?_
  refine gx_r hC hout (run_VX (rm := ({ frames := 6, cells := 2, slots := 12, locals := 243 } : Room)) (mc := 2) (ms := 12) (rest := [.ref r6]) (As := []) hC (m2_personPassed l hZ hw297) vX2_2_personPassed h2_personPassed ((((r6, .inr (8 + lw7, [.int r10, .int 0, .int (-2), .int (-1), .ref r4, .int (S3.2.2.1.1.1 50 9)])) :: F) : va_W).length + 14) 1 gCl_X2 (wX_c (xc_f (by omega) rfl)) rfl ⟨rfl, rfl, Nat.le_of_ble_eq_true rfl, Nat.le_of_ble_eq_true rfl⟩ ⟨Nat.le_of_ble_eq_true rfl, Nat.le_of_ble_eq_true rfl⟩ hP hD hS hl.1 (Nat.le_of_ble_eq_true rfl) dX2_deadLine_58 rfl) (Nat.le_of_ble_eq_true rfl) (Nat.le_of_ble_eq_true rfl) hS (fun r13 S12 H locs hw298 hP hD hS => ?_)
  obtain ⟨i14, rfl, hw298⟩ := hw298
  obtain ⟨hg15, hw299⟩ := hw298
  refine gXP_1 (i := i14) hg15 hC hP dX2_deadLine_61 ?_
  refine pend_1 hlw8 hC hP hD hS dX2_deadLine_64 (fun H locs hP hD hS => ?_)
  have hP : va_P D gCl (wX D ad rf tw ((r6, .inr (8 + lw7, [.int r10, .int (S12.2.2.1.1.1 (1000 + 2 * i14) 1), .int (-2), .int (-1), .ref r4, .int (S3.2.2.1.1.1 50 9)])) :: F) tau S12) H := hP
  have hD : va_D A (wX D ad rf tw ((r6, .inr (8 + lw7, [.int r10, .int (S12.2.2.1.1.1 (1000 + 2 * i14) 1), .int (-2), .int (-1), .ref r4, .int (S3.2.2.1.1.1 50 9)])) :: F) tau S12) := hD
  refine lv_aload_n hC.x hC.b dX2_deadLine_67 rfl (lv_at hl 1 rfl) ?_
  refine gXS_9 hC hP dX2_deadLine_68 ?_
  refine gXTX2_1 hC hP dX2_deadLine_71 ?_
  refine lv_aload_n hC.x hC.b dX2_deadLine_74 rfl (lv_at hl 1 rfl) ?_
  refine gXS_9 hC hP dX2_deadLine_75 ?_
  refine gXTX2_9 hC hP dX2_deadLine_78 ?_
  refine lv_aload_n hC.x hC.b dX2_deadLine_81 rfl (lv_at hl 0 rfl) ?_
  obtain ⟨hin16, hk17, hw300⟩ := hw299
  obtain ⟨hpp20, hw301⟩ := hw300
  refine sXGh hC hZ hlw8 hpp20 hP hD hS hin16 hk17 dX2_deadLine_82 (fun t18 S19 et18 eS19 H locs hP hD hS => ?_)
  have hw302 := hw301 t18 et18 S19 eS19
  refine lv_aload_n hC.x hC.b dX2_deadLine_83 rfl (lv_at hl 1 rfl) ?_
  refine gXS_9 hC hP dX2_deadLine_84 ?_
  refine lv_dup hC.x hC.b dX2_deadLine_87 rfl ?_
  refine gXTX2_9 hC hP dX2_deadLine_88 ?_
  refine lv_iconst (v := 1) hC.x hC.b dX2_deadLine_91 (by decide) ?_
  refine lv_iadd hC.x hC.b dX2_deadLine_92 ?_
  refine pXT_9 hC hP hD hS (v := ((S19.2.2.1.1.1 50 9) + 1)) dX2_deadLine_93 (fun S21 eS21 H locs hP hD hS => ?_)
  have hw303 := hw302 S21 eS21
  refine tx_ret ?_
  refine W.widen (k := 21) (n := 126) (Nat.le_of_ble_eq_true rfl) (Nat.le_of_ble_eq_true rfl) ?_
  exact rt_v (u := (t18, S21)) hC hw303 hP hD hS dX2_deadLine_96
def w2_deadLine (post : TD → XS → Prop) (xpost : CS × Option Nat × Option Nat → Prop) (tau : TD) (S : XS) : Prop :=
  ((6 ≤ (S.2.2.1.1.1 50 9) → (j2_deadLine_18 post xpost tau S 0)) ∧ (¬ 6 ≤ (S.2.2.1.1.1 50 9) → (j2_deadLine_18 post xpost tau S 1)))
set_option maxHeartbeats 8000000 in
theorem m2_deadLine (l : Launch) {F : va_W} {post : TD → XS → Prop} {xpost : CS × Option Nat × Option Nat → Prop} {tau : TD} {S : XS} {adK adV : Nat → Nat} (hZ : ∀ U, Z U → zS adK adV A Hb U) (hw : w2_deadLine post xpost tau S) : tx_Met l yX2_deadLine (ws_ yX2_deadLine cX2_deadLine 2 none) ({ frames := 8, cells := 21, slots := 126, locals := 290 } : Room) (va_Pc [.ref (ad 14)] (PcG D gCl nwG Z Hb A (wX D ad rf tw F tau S))) (va_Qv (fun (u : TD × XS) => post u.1 u.2) (BW D gCl A (fun u => wX D ad rf tw F u.1 u.2)) A) (tx_X xpost (XB D ad rf tw A) A) 21 126 A := by
  refine tx_ofG (by decide) (Nat.le_of_ble_eq_true rfl) ?_
  intro p e s m below meth c ls hC hout hP hD hS hl
  have hC : CX RX2 cX2_deadLine 2 none D gCl nwG Z Hb A p s m _ meth c := hC
  have hl : lv_has ls 2 [(0, .ref (ad 14))] := hl
  unfold w2_deadLine at hw
  refine lv_aload_n hC.x hC.b dX2_deadLine_0 rfl (lv_at hl 0 rfl) ?_
  refine lv_aload_n hC.x hC.b dX2_deadLine_1 rfl (lv_at hl 0 rfl) ?_
  refine gXS_9 hC hP dX2_deadLine_2 ?_
  refine gXTX2_9 hC hP dX2_deadLine_5 ?_
  refine lv_bipush (v := 6) hC.x hC.b dX2_deadLine_8 (by decide) ?_
  refine lv_icmp_ge (tgt := 17) hC.x hC.b dX2_deadLine_10 (by decide) (fun c1 => ?_) (fun c1 => ?_)
  · have hw291 := hw.1 c1
    refine lv_iconst (v := 0) hC.x hC.b dX2_deadLine_17 (by decide) ?_
    exact k2_deadLine_18 hC hZ hout hw291 s.heap [] ls hP hD hS (lv_sub hl [0] rfl)
  · have hw304 := hw.2 c1
    refine lv_iconst (v := 1) hC.x hC.b dX2_deadLine_13 (by decide) ?_
    refine lv_goto (tgt := 18) hC.x hC.b dX2_deadLine_14 (by decide) ?_
    exact k2_deadLine_18 hC hZ hout hw304 s.heap [] ls hP hD hS (lv_sub hl [0] rfl)
theorem vX2_2_ghostHere : GoodIn lw_all (wsV RX2 232 RX2 yX2_ghostHere (ws_ yX2_ghostHere cX2_ghostHere 2 (some (.object "SeanceStreet$Ghost")))) := lw_V q859 q861 qs22 q119 q862
theorem h2_mirrorLine : yX2_mirrorLine.cls = RX2 ∧ yX2_mirrorLine.cls ≠ "java/lang/invoke/MethodHandle" ∧ yX2_mirrorLine.cls ≠ "java/lang/invoke/VarHandle" ∧ (parseMethodDescriptor yX2_mirrorLine.desc).map (fun d => d.parameters.length) = some 0 := by decide +kernel
def w2_mirrorLine (post : XS → Prop) (xpost : CS × Option Nat × Option Nat → Prop) (tau : TD) (S : XS) : Prop :=
  (w2_begins (fun S1 => (w2_ghostHere (fun i4 S2 => (i4 < tau.2.2.2.1 ∧ tau.2.2.2.2 i4 < 4 ∧ (((S2.2.2.1.1.1 (1001 + 2 * i4) 2) = (-2) → (w2_step (fun S8 => (w2_number (fun r10 S9 => (i4 < tau.2.2.2.1 ∧ tau.2.2.2.2 i4 < 4 ∧ (∀ S13, S13 = xN S9 (1001 + 2 * i4) 2 r10 → (post S13)))) xpost tau S8 0 ((S8.2.2.1.1.1 50 6) - 1))) tau S2)) ∧ (¬ (S2.2.2.1.1.1 (1001 + 2 * i4) 2) = (-2) → (w2_fail (fun S14 => (xpost (S14.1, S14.2.1, some (tau.1 0)))) tau S2 3))))) xpost tau S1)) xpost tau S 1)
set_option maxHeartbeats 8000000 in
theorem m2_mirrorLine (l : Launch) {F : va_W} {post : XS → Prop} {xpost : CS × Option Nat × Option Nat → Prop} {tau : TD} {S : XS} {adK adV : Nat → Nat} (hZ : ∀ U, Z U → zS adK adV A Hb U) (hw : w2_mirrorLine post xpost tau S) : tx_Met l yX2_mirrorLine (ws_ yX2_mirrorLine cX2_mirrorLine 2 none) ({ frames := 7, cells := 6, slots := 36, locals := 264 } : Room) (va_Pc [.ref (ad 14)] (PcG D gCl nwG Z Hb A (wX D ad rf tw F tau S))) (va_Qv post (BW D gCl A (fun u => wX D ad rf tw F tau u)) A) (tx_X xpost (XB D ad rf tw A) A) 6 36 A := by
  refine tx_ofG (by decide) (Nat.le_of_ble_eq_true rfl) ?_
  intro p e s m below meth c ls hC hout hP hD hS hl
  have hC : CX RX2 cX2_mirrorLine 2 none D gCl nwG Z Hb A p s m _ meth c := hC
  have hl : lv_has ls 2 [(0, .ref (ad 14))] := hl
  unfold w2_mirrorLine at hw
  refine lv_aload_n hC.x hC.b dX2_mirrorLine_0 rfl (lv_at hl 0 rfl) ?_
  refine lv_iconst (v := 1) hC.x hC.b dX2_mirrorLine_1 (by decide) ?_
  refine gx_v hC hout (run_VX (rm := ({ frames := 5, cells := 2, slots := 12, locals := 225 } : Room)) (mc := 2) (ms := 12) (rest := []) (As := [.int 1]) hC (m2_begins l hZ hw) vX2_2_begins h2_begins ((F : va_W).length + 14) 1 gCl_X2 (wX_c (xc_f (by omega) rfl)) rfl ⟨rfl, rfl, Nat.le_of_ble_eq_true rfl, Nat.le_of_ble_eq_true rfl⟩ ⟨Nat.le_of_ble_eq_true rfl, Nat.le_of_ble_eq_true rfl⟩ hP hD hS hl.1 (Nat.le_of_ble_eq_true rfl) dX2_mirrorLine_2 rfl) (Nat.le_of_ble_eq_true rfl) (Nat.le_of_ble_eq_true rfl) hS (fun S1 H locs hw305 hP hD hS => ?_)
  refine lv_aload_n hC.x hC.b dX2_mirrorLine_5 rfl (lv_at hl 0 rfl) ?_
  refine gx_r hC hout (run_VX (rm := ({ frames := 6, cells := 0, slots := 0, locals := 243 } : Room)) (mc := 0) (ms := 0) (rest := []) (As := []) hC (m2_ghostHere l hZ hw305) vX2_2_ghostHere h2_ghostHere ((F : va_W).length + 14) 1 gCl_X2 (wX_c (xc_f (by omega) rfl)) rfl ⟨rfl, rfl, Nat.le_of_ble_eq_true rfl, Nat.le_of_ble_eq_true rfl⟩ ⟨Nat.le_of_ble_eq_true rfl, Nat.le_of_ble_eq_true rfl⟩ hP hD hS hl.1 (Nat.le_of_ble_eq_true rfl) dX2_mirrorLine_6 rfl) (Nat.le_of_ble_eq_true rfl) (Nat.le_of_ble_eq_true rfl) hS (fun r3 S2 H locs hw306 hP hD hS => ?_)
  obtain ⟨i4, rfl, hw306⟩ := hw306
  refine lv_astore_n (lv' := [(1, .ref (tau.1 (20 + i4))), (0, .ref (ad 14))]) hC.x hC.b dX2_mirrorLine_9 rfl hl (by decide) rfl (fun ls hl => ?_)
  refine lv_aload_n hC.x hC.b dX2_mirrorLine_10 rfl (lv_at hl 0 rfl) ?_
  obtain ⟨hg5, hlw6, hw307⟩ := hw306
  refine gXG_2 (i := i4) hg5 hlw6 hC hP dX2_mirrorLine_11 ?_
  refine lv_bipush (v := (-2)) hC.x hC.b dX2_mirrorLine_14 (by decide) ?_
  refine lv_icmp_eq (tgt := 25) hC.x hC.b dX2_mirrorLine_16 (by decide) (fun c7 => ?_) (fun c7 => ?_)
  · have hw308 := hw307.1 c7
    refine lv_aload_n hC.x hC.b dX2_mirrorLine_25 rfl (lv_at hl 1 rfl) ?_
    refine go_v (run_V (rm := ({ frames := 4, cells := 2, slots := 12, locals := 203 } : Room)) (mc := 2) (ms := 12) (rest := []) (As := []) hC (m2_step l hZ hw308) vX2_2_step h2_step ((F : va_W).length + 14) 1 gCl_X2 (wX_c (xc_f (by omega) rfl)) rfl ⟨rfl, rfl, Nat.le_of_ble_eq_true rfl, Nat.le_of_ble_eq_true rfl⟩ ⟨Nat.le_of_ble_eq_true rfl, Nat.le_of_ble_eq_true rfl⟩ hP hD hS hl.1 (Nat.le_of_ble_eq_true rfl) dX2_mirrorLine_26 rfl) hS (fun S8 H locs hw309 hP hD hS => ?_)
    refine lv_aload_n hC.x hC.b dX2_mirrorLine_29 rfl (lv_at hl 0 rfl) ?_
    refine lv_aload_n hC.x hC.b dX2_mirrorLine_30 rfl (lv_at hl 1 rfl) ?_
    refine lv_iconst (v := 0) hC.x hC.b dX2_mirrorLine_31 (by decide) ?_
    refine lv_aload_n hC.x hC.b dX2_mirrorLine_32 rfl (lv_at hl 1 rfl) ?_
    refine gXS_9 hC hP dX2_mirrorLine_33 ?_
    refine gXTX2_6 hC hP dX2_mirrorLine_36 ?_
    refine lv_iconst (v := 1) hC.x hC.b dX2_mirrorLine_39 (by decide) ?_
    refine lv_isub hC.x hC.b dX2_mirrorLine_40 ?_
    refine gx_i hC hout (run_VX (rm := ({ frames := 5, cells := 2, slots := 12, locals := 225 } : Room)) (mc := 2) (ms := 12) (rest := [.ref (tau.1 (20 + i4))]) (As := [.int 0, .int ((S8.2.2.1.1.1 50 6) - 1)]) hC (m2_number l hZ hw309) vX2_2_number h2_number ((F : va_W).length + 14) 1 gCl_X2 (wX_c (xc_f (by omega) rfl)) rfl ⟨rfl, rfl, Nat.le_of_ble_eq_true rfl, Nat.le_of_ble_eq_true rfl⟩ ⟨Nat.le_of_ble_eq_true rfl, Nat.le_of_ble_eq_true rfl⟩ hP hD hS hl.1 (Nat.le_of_ble_eq_true rfl) dX2_mirrorLine_41 rfl) (Nat.le_of_ble_eq_true rfl) (Nat.le_of_ble_eq_true rfl) hS (fun r10 S9 H locs hw310 hP hD hS => ?_)
    obtain ⟨hg11, hlw12, hw311⟩ := hw310
    refine pXG_2 (i := i4) hg11 hlw12 hC hP hD hS (v := r10) dX2_mirrorLine_44 (fun S13 eS13 H locs hP hD hS => ?_)
    have hw312 := hw311 S13 eS13
    refine tx_ret ?_
    refine W.widen (k := 6) (n := 36) (Nat.le_of_ble_eq_true rfl) (Nat.le_of_ble_eq_true rfl) ?_
    exact rt_v hC hw312 hP hD hS dX2_mirrorLine_47
  · have hw313 := hw307.2 c7
    refine lv_aload_n hC.x hC.b dX2_mirrorLine_19 rfl (lv_at hl 1 rfl) ?_
    refine lv_iconst (v := 3) hC.x hC.b dX2_mirrorLine_20 (by decide) ?_
    refine go_rr (run_V (rm := ({ frames := 1, cells := 0, slots := 0, locals := 22 } : Room)) (mc := 0) (ms := 0) (rest := []) (As := [.int 3]) hC (m2_fail l hZ hw313) vX2_2_fail h2_fail ((F : va_W).length + 14) 1 gCl_X2 (wX_c (xc_f (by omega) rfl)) rfl ⟨rfl, rfl, Nat.le_of_ble_eq_true rfl, Nat.le_of_ble_eq_true rfl⟩ ⟨Nat.le_of_ble_eq_true rfl, Nat.le_of_ble_eq_true rfl⟩ hP hD hS hl.1 (Nat.le_of_ble_eq_true rfl) dX2_mirrorLine_21 rfl) hS (fun r15 S14 H locs hw314 hP hD hS => ?_)
    obtain ⟨rfl, hw314⟩ := hw314
    exact gx_throw hC hout hw314 hP hD hS (Nat.le_of_ble_eq_true rfl) (Nat.le_of_ble_eq_true rfl) dX2_mirrorLine_24
theorem h2_unsureLine : yX2_unsureLine.cls = RX2 ∧ yX2_unsureLine.cls ≠ "java/lang/invoke/MethodHandle" ∧ yX2_unsureLine.cls ≠ "java/lang/invoke/VarHandle" ∧ (parseMethodDescriptor yX2_unsureLine.desc).map (fun d => d.parameters.length) = some 0 := by decide +kernel
def j2_unsureLine_17 (post : XS → Prop) (xpost : CS × Option Nat × Option Nat → Prop) (tau : TD) (S : XS) (y1 : Int32) : Prop :=
  (w2_begins (fun S2 => (w2_ghostHere (fun i5 S3 => (i5 < tau.2.2.2.1 ∧ tau.2.2.2.2 i5 < 4 ∧ (((S3.2.2.1.1.1 (1001 + 2 * i5) 3) < 0 → (w2_step (fun S9 => (w2_number (fun r11 S10 => (i5 < tau.2.2.2.1 ∧ tau.2.2.2.2 i5 < 4 ∧ (∀ S14, S14 = xN S10 (1001 + 2 * i5) 3 r11 → (i5 < tau.2.2.2.1 ∧ tau.2.2.2.2 i5 < 4 ∧ (vp_in (S14.2.2.1.1.1 50 10) 4 ∧ (∀ S18, S18 = xN S14 53 (S14.2.2.1.1.1 50 10).toNatClampNeg (S14.2.2.1.1.1 (1001 + 2 * i5) 5) → (∀ S19, S19 = xN S18 50 10 ((S18.2.2.1.1.1 50 10) + 1) → (post S19)))))))) xpost tau S9 0 39)) tau S3)) ∧ (¬ (S3.2.2.1.1.1 (1001 + 2 * i5) 3) < 0 → (w2_fail (fun S20 => (xpost (S20.1, S20.2.1, some (tau.1 0)))) tau S3 3))))) xpost tau S2)) xpost tau S y1)
set_option maxHeartbeats 4000000 in
theorem k2_unsureLine_17 {post : XS → Prop} {xpost : CS × Option Nat × Option Nat → Prop} {tau : TD} {S : XS} {y1 : Int32} (hC : CX RX2 cX2_unsureLine 2 none D gCl nwG Z Hb A p s m args meth c) {adK adV : Nat → Nat} (hZ : ∀ U, Z U → zS adK adV A Hb U) (hout : ∀ x ∈ c.exceptionTable.toList, False) (hw : j2_unsureLine_17 post xpost tau S y1) : ∀ (H : Heap) (locs : List Loc) (ls : Array Slot), va_P D gCl (wX D ad rf tw F tau S) H → va_D A (wX D ad rf tw F tau S) → va_S A s.heap H locs → lv_has ls 2 [(0, .ref (ad 14))] → W p l e ({ frames := 7, cells := 6, slots := 36, locals := 264 } : Room) s m args below meth c H locs 0 0 (tx_MQ below (va_Qv post (BW D gCl A (fun u => wX D ad rf tw F tau u)) A) (tx_X xpost (XB D ad rf tw A) A) args s 6 36 A) (F0 m 17 ls [.int y1, .ref (ad 14)]) := by
  intro H locs ls hP hD hS hl
  unfold j2_unsureLine_17 at hw
  refine gx_v hC hout (run_VX (rm := ({ frames := 5, cells := 2, slots := 12, locals := 225 } : Room)) (mc := 2) (ms := 12) (rest := []) (As := [.int y1]) hC (m2_begins l hZ hw) vX2_2_begins h2_begins ((F : va_W).length + 14) 1 gCl_X2 (wX_c (xc_f (by omega) rfl)) rfl ⟨rfl, rfl, Nat.le_of_ble_eq_true rfl, Nat.le_of_ble_eq_true rfl⟩ ⟨Nat.le_of_ble_eq_true rfl, Nat.le_of_ble_eq_true rfl⟩ hP hD hS hl.1 (Nat.le_of_ble_eq_true rfl) dX2_unsureLine_17 rfl) (Nat.le_of_ble_eq_true rfl) (Nat.le_of_ble_eq_true rfl) hS (fun S2 H locs hw316 hP hD hS => ?_)
  refine lv_aload_n hC.x hC.b dX2_unsureLine_20 rfl (lv_at hl 0 rfl) ?_
  refine gx_r hC hout (run_VX (rm := ({ frames := 6, cells := 0, slots := 0, locals := 243 } : Room)) (mc := 0) (ms := 0) (rest := []) (As := []) hC (m2_ghostHere l hZ hw316) vX2_2_ghostHere h2_ghostHere ((F : va_W).length + 14) 1 gCl_X2 (wX_c (xc_f (by omega) rfl)) rfl ⟨rfl, rfl, Nat.le_of_ble_eq_true rfl, Nat.le_of_ble_eq_true rfl⟩ ⟨Nat.le_of_ble_eq_true rfl, Nat.le_of_ble_eq_true rfl⟩ hP hD hS hl.1 (Nat.le_of_ble_eq_true rfl) dX2_unsureLine_21 rfl) (Nat.le_of_ble_eq_true rfl) (Nat.le_of_ble_eq_true rfl) hS (fun r4 S3 H locs hw317 hP hD hS => ?_)
  obtain ⟨i5, rfl, hw317⟩ := hw317
  refine lv_astore_n (lv' := [(1, .ref (tau.1 (20 + i5))), (0, .ref (ad 14))]) hC.x hC.b dX2_unsureLine_24 rfl hl (by decide) rfl (fun ls hl => ?_)
  refine lv_aload_n hC.x hC.b dX2_unsureLine_25 rfl (lv_at hl 0 rfl) ?_
  obtain ⟨hg6, hlw7, hw318⟩ := hw317
  refine gXG_3 (i := i5) hg6 hlw7 hC hP dX2_unsureLine_26 ?_
  refine lv_if_lt (tgt := 38) hC.x hC.b dX2_unsureLine_29 (by decide) (fun c8 => ?_) (fun c8 => ?_)
  · have hw319 := hw318.1 c8
    refine lv_aload_n hC.x hC.b dX2_unsureLine_38 rfl (lv_at hl 1 rfl) ?_
    refine go_v (run_V (rm := ({ frames := 4, cells := 2, slots := 12, locals := 203 } : Room)) (mc := 2) (ms := 12) (rest := []) (As := []) hC (m2_step l hZ hw319) vX2_2_step h2_step ((F : va_W).length + 14) 1 gCl_X2 (wX_c (xc_f (by omega) rfl)) rfl ⟨rfl, rfl, Nat.le_of_ble_eq_true rfl, Nat.le_of_ble_eq_true rfl⟩ ⟨Nat.le_of_ble_eq_true rfl, Nat.le_of_ble_eq_true rfl⟩ hP hD hS hl.1 (Nat.le_of_ble_eq_true rfl) dX2_unsureLine_39 rfl) hS (fun S9 H locs hw320 hP hD hS => ?_)
    refine lv_aload_n hC.x hC.b dX2_unsureLine_42 rfl (lv_at hl 0 rfl) ?_
    refine lv_aload_n hC.x hC.b dX2_unsureLine_43 rfl (lv_at hl 1 rfl) ?_
    refine lv_iconst (v := 0) hC.x hC.b dX2_unsureLine_44 (by decide) ?_
    refine lv_bipush (v := 39) hC.x hC.b dX2_unsureLine_45 (by decide) ?_
    refine gx_i hC hout (run_VX (rm := ({ frames := 5, cells := 2, slots := 12, locals := 225 } : Room)) (mc := 2) (ms := 12) (rest := [.ref (tau.1 (20 + i5))]) (As := [.int 0, .int 39]) hC (m2_number l hZ hw320) vX2_2_number h2_number ((F : va_W).length + 14) 1 gCl_X2 (wX_c (xc_f (by omega) rfl)) rfl ⟨rfl, rfl, Nat.le_of_ble_eq_true rfl, Nat.le_of_ble_eq_true rfl⟩ ⟨Nat.le_of_ble_eq_true rfl, Nat.le_of_ble_eq_true rfl⟩ hP hD hS hl.1 (Nat.le_of_ble_eq_true rfl) dX2_unsureLine_47 rfl) (Nat.le_of_ble_eq_true rfl) (Nat.le_of_ble_eq_true rfl) hS (fun r11 S10 H locs hw321 hP hD hS => ?_)
    obtain ⟨hg12, hlw13, hw322⟩ := hw321
    refine pXG_3 (i := i5) hg12 hlw13 hC hP hD hS (v := r11) dX2_unsureLine_50 (fun S14 eS14 H locs hP hD hS => ?_)
    have hw323 := hw322 S14 eS14
    refine lv_aload_n hC.x hC.b dX2_unsureLine_53 rfl (lv_at hl 1 rfl) ?_
    refine gXS_9 hC hP dX2_unsureLine_54 ?_
    refine gXTX2_2 hC hP dX2_unsureLine_57 ?_
    refine lv_aload_n hC.x hC.b dX2_unsureLine_60 rfl (lv_at hl 1 rfl) ?_
    refine gXS_9 hC hP dX2_unsureLine_61 ?_
    refine gXTX2_10 hC hP dX2_unsureLine_64 ?_
    refine lv_aload_n hC.x hC.b dX2_unsureLine_67 rfl (lv_at hl 0 rfl) ?_
    obtain ⟨hg15, hlw16, hw324⟩ := hw323
    refine gXG_5 (i := i5) hg15 hlw16 hC hP dX2_unsureLine_68 ?_
    obtain ⟨hin17, hw325⟩ := hw324
    refine sXA_3 hC hP hD hS (v := (S14.2.2.1.1.1 (1001 + 2 * i5) 5)) hin17 rfl dX2_unsureLine_71 (fun S18 eS18 H locs hP hD hS => ?_)
    have hw326 := hw325 S18 eS18
    refine lv_aload_n hC.x hC.b dX2_unsureLine_72 rfl (lv_at hl 1 rfl) ?_
    refine gXS_9 hC hP dX2_unsureLine_73 ?_
    refine lv_dup hC.x hC.b dX2_unsureLine_76 rfl ?_
    refine gXTX2_10 hC hP dX2_unsureLine_77 ?_
    refine lv_iconst (v := 1) hC.x hC.b dX2_unsureLine_80 (by decide) ?_
    refine lv_iadd hC.x hC.b dX2_unsureLine_81 ?_
    refine pXT_10 hC hP hD hS (v := ((S18.2.2.1.1.1 50 10) + 1)) dX2_unsureLine_82 (fun S19 eS19 H locs hP hD hS => ?_)
    have hw327 := hw326 S19 eS19
    refine tx_ret ?_
    refine W.widen (k := 6) (n := 36) (Nat.le_of_ble_eq_true rfl) (Nat.le_of_ble_eq_true rfl) ?_
    exact rt_v hC hw327 hP hD hS dX2_unsureLine_85
  · have hw328 := hw318.2 c8
    refine lv_aload_n hC.x hC.b dX2_unsureLine_32 rfl (lv_at hl 1 rfl) ?_
    refine lv_iconst (v := 3) hC.x hC.b dX2_unsureLine_33 (by decide) ?_
    refine go_rr (run_V (rm := ({ frames := 1, cells := 0, slots := 0, locals := 22 } : Room)) (mc := 0) (ms := 0) (rest := []) (As := [.int 3]) hC (m2_fail l hZ hw328) vX2_2_fail h2_fail ((F : va_W).length + 14) 1 gCl_X2 (wX_c (xc_f (by omega) rfl)) rfl ⟨rfl, rfl, Nat.le_of_ble_eq_true rfl, Nat.le_of_ble_eq_true rfl⟩ ⟨Nat.le_of_ble_eq_true rfl, Nat.le_of_ble_eq_true rfl⟩ hP hD hS hl.1 (Nat.le_of_ble_eq_true rfl) dX2_unsureLine_34 rfl) hS (fun r21 S20 H locs hw329 hP hD hS => ?_)
    obtain ⟨rfl, hw329⟩ := hw329
    exact gx_throw hC hout hw329 hP hD hS (Nat.le_of_ble_eq_true rfl) (Nat.le_of_ble_eq_true rfl) dX2_unsureLine_37
def w2_unsureLine (post : XS → Prop) (xpost : CS × Option Nat × Option Nat → Prop) (tau : TD) (S : XS) : Prop :=
  ((4 ≤ (S.2.2.1.1.1 50 10) → (j2_unsureLine_17 post xpost tau S 0)) ∧ (¬ 4 ≤ (S.2.2.1.1.1 50 10) → (j2_unsureLine_17 post xpost tau S 1)))
set_option maxHeartbeats 8000000 in
theorem m2_unsureLine (l : Launch) {F : va_W} {post : XS → Prop} {xpost : CS × Option Nat × Option Nat → Prop} {tau : TD} {S : XS} {adK adV : Nat → Nat} (hZ : ∀ U, Z U → zS adK adV A Hb U) (hw : w2_unsureLine post xpost tau S) : tx_Met l yX2_unsureLine (ws_ yX2_unsureLine cX2_unsureLine 2 none) ({ frames := 7, cells := 6, slots := 36, locals := 264 } : Room) (va_Pc [.ref (ad 14)] (PcG D gCl nwG Z Hb A (wX D ad rf tw F tau S))) (va_Qv post (BW D gCl A (fun u => wX D ad rf tw F tau u)) A) (tx_X xpost (XB D ad rf tw A) A) 6 36 A := by
  refine tx_ofG (by decide) (Nat.le_of_ble_eq_true rfl) ?_
  intro p e s m below meth c ls hC hout hP hD hS hl
  have hC : CX RX2 cX2_unsureLine 2 none D gCl nwG Z Hb A p s m _ meth c := hC
  have hl : lv_has ls 2 [(0, .ref (ad 14))] := hl
  unfold w2_unsureLine at hw
  refine lv_aload_n hC.x hC.b dX2_unsureLine_0 rfl (lv_at hl 0 rfl) ?_
  refine lv_aload_n hC.x hC.b dX2_unsureLine_1 rfl (lv_at hl 0 rfl) ?_
  refine gXS_9 hC hP dX2_unsureLine_2 ?_
  refine gXTX2_10 hC hP dX2_unsureLine_5 ?_
  refine lv_iconst (v := 4) hC.x hC.b dX2_unsureLine_8 (by decide) ?_
  refine lv_icmp_ge (tgt := 16) hC.x hC.b dX2_unsureLine_9 (by decide) (fun c1 => ?_) (fun c1 => ?_)
  · have hw315 := hw.1 c1
    refine lv_iconst (v := 0) hC.x hC.b dX2_unsureLine_16 (by decide) ?_
    exact k2_unsureLine_17 hC hZ hout hw315 s.heap [] ls hP hD hS (lv_sub hl [0] rfl)
  · have hw330 := hw.2 c1
    refine lv_iconst (v := 1) hC.x hC.b dX2_unsureLine_12 (by decide) ?_
    refine lv_goto (tgt := 17) hC.x hC.b dX2_unsureLine_13 (by decide) ?_
    exact k2_unsureLine_17 hC hZ hout hw330 s.heap [] ls hP hD hS (lv_sub hl [0] rfl)
theorem h2_heardLine : yX2_heardLine.cls = RX2 ∧ yX2_heardLine.cls ≠ "java/lang/invoke/MethodHandle" ∧ yX2_heardLine.cls ≠ "java/lang/invoke/VarHandle" ∧ (parseMethodDescriptor yX2_heardLine.desc).map (fun d => d.parameters.length) = some 0 := by decide +kernel
def f2_heardLine_82 (post : XS → Prop) (xpost : CS × Option Nat × Option Nat → Prop) (tau : TD) (S : XS) (x1 : Int32) (x2 : Int32) (K82 : Int32 → Prop) (x3 : Int32) : Prop :=
  ((x1 ≤ x3 → (w2_step (fun S21 => (vp_in x1 8 ∧ (∀ S23, S23 = xN S21 56 x1.toNatClampNeg x2 → (∀ S24, S24 = xN S23 50 11 ((S23.2.2.1.1.1 50 11) + 1) → (post S24))))) tau S)) ∧ (¬ x1 ≤ x3 → (vp_in x3 8 ∧ (vp_in x1 8 ∧ ((¬ (S.2.2.1.1.1 55 x3.toNatClampNeg) = (S.2.2.1.1.1 55 x1.toNatClampNeg) → (K82 (x3 + 1))) ∧ ((S.2.2.1.1.1 55 x3.toNatClampNeg) = (S.2.2.1.1.1 55 x1.toNatClampNeg) → (vp_in x3 8 ∧ ((¬ (S.2.2.1.1.1 56 x3.toNatClampNeg) = x2 → (K82 (x3 + 1))) ∧ ((S.2.2.1.1.1 56 x3.toNatClampNeg) = x2 → (w2_fail (fun S30 => (xpost (S30.1, S30.2.1, some (tau.1 0)))) tau S 3))))))))))
set_option maxHeartbeats 4000000 in
theorem k2_heardLine_82 {post : XS → Prop} {xpost : CS × Option Nat × Option Nat → Prop} {tau : TD} {S : XS} {x1 : Int32} {x2 : Int32} (hC : CX RX2 cX2_heardLine 4 none D gCl nwG Z Hb A p s m args meth c) {adK adV : Nat → Nat} (hZ : ∀ U, Z U → zS adK adV A Hb U) (hout : ∀ x ∈ c.exceptionTable.toList, False) : ∀ z : Int32, lp (fun (K : Int32 → Prop) (z : Int32) => f2_heardLine_82 post xpost tau S x1 x2 K z) z → ∀ (H : Heap) (locs : List Loc) (ls : Array Slot), va_P D gCl (wX D ad rf tw F tau S) H → va_D A (wX D ad rf tw F tau S) → va_S A s.heap H locs → lv_has ls 4 [(0, .ref (ad 14)), (1, .int x1), (2, .int x2), (3, .int z)] → W p l e ({ frames := 7, cells := 10, slots := 60, locals := 267 } : Room) s m args below meth c H locs 8 48 (tx_MQ below (va_Qv post (BW D gCl A (fun u => wX D ad rf tw F tau u)) A) (tx_X xpost (XB D ad rf tw A) A) args s 10 60 A) (F0 m 82 ls []) := by
  refine lp_ind ?_
  rintro K82 x3 hK82 hw H locs ls hP hD hS hl
  have hw : f2_heardLine_82 post xpost tau S x1 x2 K82 x3 := hw
  unfold f2_heardLine_82 at hw
  have hP : va_P D gCl (wX D ad rf tw F tau S) H := hP
  have hD : va_D A (wX D ad rf tw F tau S) := hD
  have hl : lv_has ls 4 [(0, .ref (ad 14)), (1, .int x1), (2, .int x2), (3, .int x3)] := hl
  refine lv_iload_n hC.x hC.b dX2_heardLine_82 rfl (lv_at hl 3 rfl) ?_
  refine lv_iload_n hC.x hC.b dX2_heardLine_83 rfl (lv_at hl 1 rfl) ?_
  refine lv_icmp_ge (tgt := 133) hC.x hC.b dX2_heardLine_84 (by decide) (fun c20 => ?_) (fun c20 => ?_)
  · have hw344 := hw.1 c20
    refine lv_aload_n hC.x hC.b dX2_heardLine_133 rfl (lv_at hl 0 rfl) ?_
    refine go_v (run_V (rm := ({ frames := 4, cells := 2, slots := 12, locals := 203 } : Room)) (mc := 2) (ms := 12) (rest := []) (As := []) hC (m2_step l hZ hw344) vX2_2_step h2_step ((F : va_W).length + 14) 1 gCl_X2 (wX_c (xc_f (by omega) rfl)) rfl ⟨rfl, rfl, Nat.le_of_ble_eq_true rfl, Nat.le_of_ble_eq_true rfl⟩ ⟨Nat.le_of_ble_eq_true rfl, Nat.le_of_ble_eq_true rfl⟩ hP hD hS hl.1 (Nat.le_of_ble_eq_true rfl) dX2_heardLine_134 rfl) hS (fun S21 H locs hw345 hP hD hS => ?_)
    refine lv_aload_n hC.x hC.b dX2_heardLine_137 rfl (lv_at hl 0 rfl) ?_
    refine gXS_9 hC hP dX2_heardLine_138 ?_
    refine gXTX2_5 hC hP dX2_heardLine_141 ?_
    refine lv_iload_n hC.x hC.b dX2_heardLine_144 rfl (lv_at hl 1 rfl) ?_
    refine lv_iload_n hC.x hC.b dX2_heardLine_145 rfl (lv_at hl 2 rfl) ?_
    obtain ⟨hin22, hw346⟩ := hw345
    refine sXA_6 hC hP hD hS (v := x2) hin22 rfl dX2_heardLine_146 (fun S23 eS23 H locs hP hD hS => ?_)
    have hw347 := hw346 S23 eS23
    refine lv_aload_n hC.x hC.b dX2_heardLine_147 rfl (lv_at hl 0 rfl) ?_
    refine gXS_9 hC hP dX2_heardLine_148 ?_
    refine lv_dup hC.x hC.b dX2_heardLine_151 rfl ?_
    refine gXTX2_11 hC hP dX2_heardLine_152 ?_
    refine lv_iconst (v := 1) hC.x hC.b dX2_heardLine_155 (by decide) ?_
    refine lv_iadd hC.x hC.b dX2_heardLine_156 ?_
    refine pXT_11 hC hP hD hS (v := ((S23.2.2.1.1.1 50 11) + 1)) dX2_heardLine_157 (fun S24 eS24 H locs hP hD hS => ?_)
    have hw348 := hw347 S24 eS24
    refine tx_ret ?_
    refine W.widen (k := 10) (n := 60) (Nat.le_of_ble_eq_true rfl) (Nat.le_of_ble_eq_true rfl) ?_
    exact rt_v hC hw348 hP hD hS dX2_heardLine_160
  · have hw349 := hw.2 c20
    refine lv_aload_n hC.x hC.b dX2_heardLine_87 rfl (lv_at hl 0 rfl) ?_
    refine gXS_9 hC hP dX2_heardLine_88 ?_
    refine gXTX2_4 hC hP dX2_heardLine_91 ?_
    refine lv_iload_n hC.x hC.b dX2_heardLine_94 rfl (lv_at hl 3 rfl) ?_
    obtain ⟨hin25, hw350⟩ := hw349
    refine lXA_5 hC hP hin25 rfl dX2_heardLine_95 ?_
    refine lv_aload_n hC.x hC.b dX2_heardLine_96 rfl (lv_at hl 0 rfl) ?_
    refine gXS_9 hC hP dX2_heardLine_97 ?_
    refine gXTX2_4 hC hP dX2_heardLine_100 ?_
    refine lv_iload_n hC.x hC.b dX2_heardLine_103 rfl (lv_at hl 1 rfl) ?_
    obtain ⟨hin26, hw351⟩ := hw350
    refine lXA_5 hC hP hin26 rfl dX2_heardLine_104 ?_
    refine lv_icmp_ne (tgt := 127) hC.x hC.b dX2_heardLine_105 (by decide) (fun c27 => ?_) (fun c27 => ?_)
    · have hw352 := hw351.1 c27
      refine lv_iinc (v := (x3 + 1)) (lv' := [(3, .int (x3 + 1)), (0, .ref (ad 14)), (1, .int x1), (2, .int x2)]) hC.x hC.b dX2_heardLine_127 hl (k := 3) rfl rfl (by decide) rfl (fun ls hl => ?_)
      refine lv_goto (tgt := 82) hC.x hC.b dX2_heardLine_130 (by decide) ?_
      exact hK82 (x3 + 1) hw352 H locs ls hP hD hS (lv_sub hl [1, 2, 3, 0] rfl)
    · have hw353 := hw351.2 c27
      refine lv_aload_n hC.x hC.b dX2_heardLine_108 rfl (lv_at hl 0 rfl) ?_
      refine gXS_9 hC hP dX2_heardLine_109 ?_
      refine gXTX2_5 hC hP dX2_heardLine_112 ?_
      refine lv_iload_n hC.x hC.b dX2_heardLine_115 rfl (lv_at hl 3 rfl) ?_
      obtain ⟨hin28, hw354⟩ := hw353
      refine lXA_6 hC hP hin28 rfl dX2_heardLine_116 ?_
      refine lv_iload_n hC.x hC.b dX2_heardLine_117 rfl (lv_at hl 2 rfl) ?_
      refine lv_icmp_ne (tgt := 127) hC.x hC.b dX2_heardLine_118 (by decide) (fun c29 => ?_) (fun c29 => ?_)
      · have hw355 := hw354.1 c29
        refine lv_iinc (v := (x3 + 1)) (lv' := [(3, .int (x3 + 1)), (0, .ref (ad 14)), (1, .int x1), (2, .int x2)]) hC.x hC.b dX2_heardLine_127 hl (k := 3) rfl rfl (by decide) rfl (fun ls hl => ?_)
        refine lv_goto (tgt := 82) hC.x hC.b dX2_heardLine_130 (by decide) ?_
        exact hK82 (x3 + 1) hw355 H locs ls hP hD hS (lv_sub hl [1, 2, 3, 0] rfl)
      · have hw356 := hw354.2 c29
        refine lv_aload_n hC.x hC.b dX2_heardLine_121 rfl (lv_at hl 0 rfl) ?_
        refine lv_iconst (v := 3) hC.x hC.b dX2_heardLine_122 (by decide) ?_
        refine go_rr (run_V (rm := ({ frames := 1, cells := 0, slots := 0, locals := 22 } : Room)) (mc := 0) (ms := 0) (rest := []) (As := [.int 3]) hC (m2_fail l hZ hw356) vX2_2_fail h2_fail ((F : va_W).length + 14) 1 gCl_X2 (wX_c (xc_f (by omega) rfl)) rfl ⟨rfl, rfl, Nat.le_of_ble_eq_true rfl, Nat.le_of_ble_eq_true rfl⟩ ⟨Nat.le_of_ble_eq_true rfl, Nat.le_of_ble_eq_true rfl⟩ hP hD hS hl.1 (Nat.le_of_ble_eq_true rfl) dX2_heardLine_123 rfl) hS (fun r31 S30 H locs hw357 hP hD hS => ?_)
        obtain ⟨rfl, hw357⟩ := hw357
        exact gx_throw hC hout hw357 hP hD hS (Nat.le_of_ble_eq_true rfl) (Nat.le_of_ble_eq_true rfl) dX2_heardLine_126
def j2_heardLine_18 (post : XS → Prop) (xpost : CS × Option Nat × Option Nat → Prop) (tau : TD) (S : XS) (y1 : Int32) : Prop :=
  (w2_begins (fun S2 => (w2_personPassed (fun i5 S3 => (i5 < tau.2.2.1 ∧ (vp_in (S2.2.2.1.1.1 50 11) 8 ∧ (∀ S8, S8 = xN S3 54 (S2.2.2.1.1.1 50 11).toNatClampNeg (S3.2.2.1.1.1 (1000 + 2 * i5) 1) → (w2_ghostHere (fun i11 S9 => (i11 < tau.2.2.2.1 ∧ tau.2.2.2.2 i11 < 4 ∧ (vp_in (S2.2.2.1.1.1 50 11) 8 ∧ (∀ S15, S15 = xN S9 55 (S2.2.2.1.1.1 50 11).toNatClampNeg (S9.2.2.1.1.1 (1001 + 2 * i11) 5) → (w2_step (fun S16 => (w2_must (fun S17 => (w2_wholeHere (fun r19 S18 => (lp (fun (K : Int32 → Prop) (z : Int32) => f2_heardLine_82 post xpost tau S18 (S2.2.2.1.1.1 50 11) r19 K z) 0)) xpost tau S17 0 60)) xpost tau S16 (kB 16))) tau S15))))) xpost tau S8))))) xpost tau S2)) xpost tau S y1)
set_option maxHeartbeats 4000000 in
theorem k2_heardLine_18 {post : XS → Prop} {xpost : CS × Option Nat × Option Nat → Prop} {tau : TD} {S : XS} {y1 : Int32} (hC : CX RX2 cX2_heardLine 4 none D gCl nwG Z Hb A p s m args meth c) {adK adV : Nat → Nat} (hZ : ∀ U, Z U → zS adK adV A Hb U) (hout : ∀ x ∈ c.exceptionTable.toList, False) (hw : j2_heardLine_18 post xpost tau S y1) : ∀ (H : Heap) (locs : List Loc) (ls : Array Slot), va_P D gCl (wX D ad rf tw F tau S) H → va_D A (wX D ad rf tw F tau S) → va_S A s.heap H locs → lv_has ls 4 [(0, .ref (ad 14))] → W p l e ({ frames := 7, cells := 10, slots := 60, locals := 267 } : Room) s m args below meth c H locs 0 0 (tx_MQ below (va_Qv post (BW D gCl A (fun u => wX D ad rf tw F tau u)) A) (tx_X xpost (XB D ad rf tw A) A) args s 10 60 A) (F0 m 18 ls [.int y1, .ref (ad 14)]) := by
  intro H locs ls hP hD hS hl
  unfold j2_heardLine_18 at hw
  refine gx_v hC hout (run_VX (rm := ({ frames := 5, cells := 2, slots := 12, locals := 225 } : Room)) (mc := 2) (ms := 12) (rest := []) (As := [.int y1]) hC (m2_begins l hZ hw) vX2_2_begins h2_begins ((F : va_W).length + 14) 1 gCl_X2 (wX_c (xc_f (by omega) rfl)) rfl ⟨rfl, rfl, Nat.le_of_ble_eq_true rfl, Nat.le_of_ble_eq_true rfl⟩ ⟨Nat.le_of_ble_eq_true rfl, Nat.le_of_ble_eq_true rfl⟩ hP hD hS hl.1 (Nat.le_of_ble_eq_true rfl) dX2_heardLine_18 rfl) (Nat.le_of_ble_eq_true rfl) (Nat.le_of_ble_eq_true rfl) hS (fun S2 H locs hw332 hP hD hS => ?_)
  refine lv_aload_n hC.x hC.b dX2_heardLine_21 rfl (lv_at hl 0 rfl) ?_
  refine gXS_9 hC hP dX2_heardLine_22 ?_
  refine gXTX2_11 hC hP dX2_heardLine_25 ?_
  refine lv_istore_n (lv' := [(1, .int (S2.2.2.1.1.1 50 11)), (0, .ref (ad 14))]) hC.x hC.b dX2_heardLine_28 rfl hl (by decide) rfl (fun ls hl => ?_)
  refine lv_aload_n hC.x hC.b dX2_heardLine_29 rfl (lv_at hl 1 rfl) ?_
  refine gXS_9 hC hP dX2_heardLine_30 ?_
  refine gXTX2_3 hC hP dX2_heardLine_33 ?_
  refine lv_iload_n hC.x hC.b dX2_heardLine_36 rfl (lv_at hl 0 rfl) ?_
  refine lv_aload_n hC.x hC.b dX2_heardLine_37 rfl (lv_at hl 1 rfl) ?_
  refine gx_r hC hout (run_VX (rm := ({ frames := 6, cells := 2, slots := 12, locals := 243 } : Room)) (mc := 2) (ms := 12) (rest := [.int (S2.2.2.1.1.1 50 11), .ref (tau.1 4)]) (As := []) hC (m2_personPassed l hZ hw332) vX2_2_personPassed h2_personPassed ((F : va_W).length + 14) 1 gCl_X2 (wX_c (xc_f (by omega) rfl)) rfl ⟨rfl, rfl, Nat.le_of_ble_eq_true rfl, Nat.le_of_ble_eq_true rfl⟩ ⟨Nat.le_of_ble_eq_true rfl, Nat.le_of_ble_eq_true rfl⟩ hP hD hS hl.1 (Nat.le_of_ble_eq_true rfl) dX2_heardLine_38 rfl) (Nat.le_of_ble_eq_true rfl) (Nat.le_of_ble_eq_true rfl) hS (fun r4 S3 H locs hw333 hP hD hS => ?_)
  obtain ⟨i5, rfl, hw333⟩ := hw333
  obtain ⟨hg6, hw334⟩ := hw333
  refine gXP_1 (i := i5) hg6 hC hP dX2_heardLine_41 ?_
  obtain ⟨hin7, hw335⟩ := hw334
  refine sXA_4 hC hP hD hS (v := (S3.2.2.1.1.1 (1000 + 2 * i5) 1)) hin7 rfl dX2_heardLine_44 (fun S8 eS8 H locs hP hD hS => ?_)
  have hw336 := hw335 S8 eS8
  refine lv_aload_n hC.x hC.b dX2_heardLine_45 rfl (lv_at hl 1 rfl) ?_
  refine gXS_9 hC hP dX2_heardLine_46 ?_
  refine gXTX2_4 hC hP dX2_heardLine_49 ?_
  refine lv_iload_n hC.x hC.b dX2_heardLine_52 rfl (lv_at hl 0 rfl) ?_
  refine lv_aload_n hC.x hC.b dX2_heardLine_53 rfl (lv_at hl 1 rfl) ?_
  refine gx_r hC hout (run_VX (rm := ({ frames := 6, cells := 0, slots := 0, locals := 243 } : Room)) (mc := 0) (ms := 0) (rest := [.int (S2.2.2.1.1.1 50 11), .ref (tau.1 5)]) (As := []) hC (m2_ghostHere l hZ hw336) vX2_2_ghostHere h2_ghostHere ((F : va_W).length + 14) 1 gCl_X2 (wX_c (xc_f (by omega) rfl)) rfl ⟨rfl, rfl, Nat.le_of_ble_eq_true rfl, Nat.le_of_ble_eq_true rfl⟩ ⟨Nat.le_of_ble_eq_true rfl, Nat.le_of_ble_eq_true rfl⟩ hP hD hS hl.1 (Nat.le_of_ble_eq_true rfl) dX2_heardLine_54 rfl) (Nat.le_of_ble_eq_true rfl) (Nat.le_of_ble_eq_true rfl) hS (fun r10 S9 H locs hw337 hP hD hS => ?_)
  obtain ⟨i11, rfl, hw337⟩ := hw337
  obtain ⟨hg12, hlw13, hw338⟩ := hw337
  refine gXG_5 (i := i11) hg12 hlw13 hC hP dX2_heardLine_57 ?_
  obtain ⟨hin14, hw339⟩ := hw338
  refine sXA_5 hC hP hD hS (v := (S9.2.2.1.1.1 (1001 + 2 * i11) 5)) hin14 rfl dX2_heardLine_60 (fun S15 eS15 H locs hP hD hS => ?_)
  have hw340 := hw339 S15 eS15
  refine lv_aload_n hC.x hC.b dX2_heardLine_61 rfl (lv_at hl 1 rfl) ?_
  refine go_v (run_V (rm := ({ frames := 4, cells := 2, slots := 12, locals := 203 } : Room)) (mc := 2) (ms := 12) (rest := []) (As := []) hC (m2_step l hZ hw340) vX2_2_step h2_step ((F : va_W).length + 14) 1 gCl_X2 (wX_c (xc_f (by omega) rfl)) rfl ⟨rfl, rfl, Nat.le_of_ble_eq_true rfl, Nat.le_of_ble_eq_true rfl⟩ ⟨Nat.le_of_ble_eq_true rfl, Nat.le_of_ble_eq_true rfl⟩ hP hD hS hl.1 (Nat.le_of_ble_eq_true rfl) dX2_heardLine_62 rfl) hS (fun S16 H locs hw341 hP hD hS => ?_)
  refine lv_aload_n hC.x hC.b dX2_heardLine_65 rfl (lv_at hl 1 rfl) ?_
  refine va_ldcwS hC ((hZ s hC.K.2.2.2).2.2.2.1 16 _ rfl).1 dX2_heardLine_66 ?_
  refine gx_v hC hout (run_VX (rm := ({ frames := 6, cells := 2, slots := 12, locals := 246 } : Room)) (mc := 2) (ms := 12) (rest := []) (As := [.ref (adK 16)]) hC (m2_must l hZ (kCs hZ 16 (by decide)) hw341) vX2_2_must h2_must ((F : va_W).length + 14) 1 gCl_X2 (wX_c (xc_f (by omega) rfl)) rfl ⟨rfl, rfl, Nat.le_of_ble_eq_true rfl, Nat.le_of_ble_eq_true rfl⟩ ⟨Nat.le_of_ble_eq_true rfl, Nat.le_of_ble_eq_true rfl⟩ hP hD hS hl.1 (Nat.le_of_ble_eq_true rfl) dX2_heardLine_69 rfl) (Nat.le_of_ble_eq_true rfl) (Nat.le_of_ble_eq_true rfl) hS (fun S17 H locs hw342 hP hD hS => ?_)
  refine lv_aload_n hC.x hC.b dX2_heardLine_72 rfl (lv_at hl 1 rfl) ?_
  refine lv_iconst (v := 0) hC.x hC.b dX2_heardLine_73 (by decide) ?_
  refine lv_bipush (v := 60) hC.x hC.b dX2_heardLine_74 (by decide) ?_
  refine gx_i hC hout (run_VX (rm := ({ frames := 2, cells := 0, slots := 0, locals := 43 } : Room)) (mc := 0) (ms := 0) (rest := []) (As := [.int 0, .int 60]) hC (m2_wholeHere l hZ hw342) vX2_2_wholeHere h2_wholeHere ((F : va_W).length + 14) 1 gCl_X2 (wX_c (xc_f (by omega) rfl)) rfl ⟨rfl, rfl, Nat.le_of_ble_eq_true rfl, Nat.le_of_ble_eq_true rfl⟩ ⟨Nat.le_of_ble_eq_true rfl, Nat.le_of_ble_eq_true rfl⟩ hP hD hS hl.1 (Nat.le_of_ble_eq_true rfl) dX2_heardLine_76 rfl) (Nat.le_of_ble_eq_true rfl) (Nat.le_of_ble_eq_true rfl) hS (fun r19 S18 H locs hw343 hP hD hS => ?_)
  refine lv_istore_n (lv' := [(2, .int r19), (1, .int (S2.2.2.1.1.1 50 11)), (0, .ref (ad 14))]) hC.x hC.b dX2_heardLine_79 rfl hl (by decide) rfl (fun ls hl => ?_)
  refine lv_iconst (v := 0) hC.x hC.b dX2_heardLine_80 (by decide) ?_
  refine lv_istore_n (lv' := [(3, .int 0), (2, .int r19), (1, .int (S2.2.2.1.1.1 50 11)), (0, .ref (ad 14))]) hC.x hC.b dX2_heardLine_81 rfl hl (by decide) rfl (fun ls hl => ?_)
  exact k2_heardLine_82 hC hZ hout 0 hw343 H locs ls hP hD hS (lv_sub hl [3, 2, 1, 0] rfl)
def w2_heardLine (post : XS → Prop) (xpost : CS × Option Nat × Option Nat → Prop) (tau : TD) (S : XS) : Prop :=
  ((8 ≤ (S.2.2.1.1.1 50 11) → (j2_heardLine_18 post xpost tau S 0)) ∧ (¬ 8 ≤ (S.2.2.1.1.1 50 11) → (j2_heardLine_18 post xpost tau S 1)))
set_option maxHeartbeats 8000000 in
theorem m2_heardLine (l : Launch) {F : va_W} {post : XS → Prop} {xpost : CS × Option Nat × Option Nat → Prop} {tau : TD} {S : XS} {adK adV : Nat → Nat} (hZ : ∀ U, Z U → zS adK adV A Hb U) (hw : w2_heardLine post xpost tau S) : tx_Met l yX2_heardLine (ws_ yX2_heardLine cX2_heardLine 4 none) ({ frames := 7, cells := 10, slots := 60, locals := 267 } : Room) (va_Pc [.ref (ad 14)] (PcG D gCl nwG Z Hb A (wX D ad rf tw F tau S))) (va_Qv post (BW D gCl A (fun u => wX D ad rf tw F tau u)) A) (tx_X xpost (XB D ad rf tw A) A) 10 60 A := by
  refine tx_ofG (by decide) (Nat.le_of_ble_eq_true rfl) ?_
  intro p e s m below meth c ls hC hout hP hD hS hl
  have hC : CX RX2 cX2_heardLine 4 none D gCl nwG Z Hb A p s m _ meth c := hC
  have hl : lv_has ls 4 [(0, .ref (ad 14))] := hl
  unfold w2_heardLine at hw
  refine lv_aload_n hC.x hC.b dX2_heardLine_0 rfl (lv_at hl 0 rfl) ?_
  refine lv_aload_n hC.x hC.b dX2_heardLine_1 rfl (lv_at hl 0 rfl) ?_
  refine gXS_9 hC hP dX2_heardLine_2 ?_
  refine gXTX2_11 hC hP dX2_heardLine_5 ?_
  refine lv_bipush (v := 8) hC.x hC.b dX2_heardLine_8 (by decide) ?_
  refine lv_icmp_ge (tgt := 17) hC.x hC.b dX2_heardLine_10 (by decide) (fun c1 => ?_) (fun c1 => ?_)
  · have hw331 := hw.1 c1
    refine lv_iconst (v := 0) hC.x hC.b dX2_heardLine_17 (by decide) ?_
    exact k2_heardLine_18 hC hZ hout hw331 s.heap [] ls hP hD hS (lv_sub hl [0] rfl)
  · have hw358 := hw.2 c1
    refine lv_iconst (v := 1) hC.x hC.b dX2_heardLine_13 (by decide) ?_
    refine lv_goto (tgt := 18) hC.x hC.b dX2_heardLine_14 (by decide) ?_
    exact k2_heardLine_18 hC hZ hout hw358 s.heap [] ls hP hD hS (lv_sub hl [0] rfl)
theorem vX2_2_townLine : GoodIn lw_all (wsV RX2 139 RX2 yX2_townLine (ws_ yX2_townLine cX2_townLine 2 none)) := lw_V q690 q692 qs8 q119 q693
theorem vX2_2_personLine : GoodIn lw_all (wsV RX2 142 RX2 yX2_personLine (ws_ yX2_personLine cX2_personLine 3 none)) := lw_V q716 q718 qs14 q119 q719
theorem vX2_2_deadLine : GoodIn lw_all (wsV RX2 145 RX2 yX2_deadLine (ws_ yX2_deadLine cX2_deadLine 2 none)) := lw_V q766 q768 qs18 q119 q769
theorem vX2_2_mirrorLine : GoodIn lw_all (wsV RX2 148 RX2 yX2_mirrorLine (ws_ yX2_mirrorLine cX2_mirrorLine 2 none)) := lw_V q855 q857 qs21 q119 q858
theorem vX2_2_unsureLine : GoodIn lw_all (wsV RX2 151 RX2 yX2_unsureLine (ws_ yX2_unsureLine cX2_unsureLine 2 none)) := lw_V q864 q866 qs23 q119 q867
theorem vX2_2_heardLine : GoodIn lw_all (wsV RX2 154 RX2 yX2_heardLine (ws_ yX2_heardLine cX2_heardLine 4 none)) := lw_V q868 q870 qs24 q119 q871
theorem h2_line : yX2_line.cls = RX2 ∧ yX2_line.cls ≠ "java/lang/invoke/MethodHandle" ∧ yX2_line.cls ≠ "java/lang/invoke/VarHandle" ∧ (parseMethodDescriptor yX2_line.desc).map (fun d => d.parameters.length) = some 0 := by decide +kernel
def j2_line_165 (post : TD → XS → Prop) (xpost : CS × Option Nat × Option Nat → Prop) (tau : TD) (S : XS) (x2 : Int32) : Prop :=
  ((x2 = 0 → (w2_townLine (fun S17 => (post tau S17)) xpost tau S)) ∧ (¬ x2 = 0 → ((x2 = 1 → (w2_personLine (fun t20 S19 => (post t20 S19)) xpost tau S)) ∧ (¬ x2 = 1 → ((x2 = 2 → (w2_deadLine (fun t23 S22 => (post t23 S22)) xpost tau S)) ∧ (¬ x2 = 2 → ((x2 = 3 → (w2_mirrorLine (fun S25 => (post tau S25)) xpost tau S)) ∧ (¬ x2 = 3 → ((x2 = 4 → (w2_unsureLine (fun S27 => (post tau S27)) xpost tau S)) ∧ (¬ x2 = 4 → ((x2 = 5 → (w2_heardLine (fun S29 => (post tau S29)) xpost tau S)) ∧ (¬ x2 = 5 → (w2_fail (fun S30 => (xpost (S30.1, S30.2.1, some (tau.1 0)))) tau S 1)))))))))))))
set_option maxHeartbeats 4000000 in
theorem k2_line_165 {post : TD → XS → Prop} {xpost : CS × Option Nat × Option Nat → Prop} {tau : TD} {S : XS} {x2 : Int32} (hC : CX RX2 cX2_line 3 none D gCl nwG Z Hb A p s m args meth c) {adK adV : Nat → Nat} (hZ : ∀ U, Z U → zS adK adV A Hb U) (hout : ∀ x ∈ c.exceptionTable.toList, False) (hw : j2_line_165 post xpost tau S x2) : ∀ (H : Heap) (locs : List Loc) (ls : Array Slot), va_P D gCl (wX D ad rf tw F tau S) H → va_D A (wX D ad rf tw F tau S) → va_S A s.heap H locs → lv_has ls 3 [(0, .ref (ad 14)), (2, .int x2)] → W p l e ({ frames := 9, cells := 21, slots := 126, locals := 311 } : Room) s m args below meth c H locs 0 0 (tx_MQ below (va_Qv (fun (u : TD × XS) => post u.1 u.2) (BW D gCl A (fun u => wX D ad rf tw F u.1 u.2)) A) (tx_X xpost (XB D ad rf tw A) A) args s 21 126 A) (F0 m 165 ls []) := by
  intro H locs ls hP hD hS hl
  unfold j2_line_165 at hw
  refine lv_iload_n hC.x hC.b dX2_line_165 rfl (lv_at hl 1 rfl) ?_
  by_cases c16 : x2 = 0
  · have hw367 := hw.1 c16
    refine lv_tableIn (off := 38) (tgt := 204) hC.x hC.b dX2_line_166 (by rw [c16]; decide) (by rw [c16]; decide) (by rw [c16]; rfl) (by decide) ?_
    refine lv_aload_n hC.x hC.b dX2_line_204 rfl (lv_at hl 0 rfl) ?_
    refine gx_v hC hout (run_VX (rm := ({ frames := 8, cells := 10, slots := 60, locals := 290 } : Room)) (mc := 10) (ms := 60) (rest := []) (As := []) hC (m2_townLine l hZ hw367) vX2_2_townLine h2_townLine ((F : va_W).length + 14) 1 gCl_X2 (wX_c (xc_f (by omega) rfl)) rfl ⟨rfl, rfl, Nat.le_of_ble_eq_true rfl, Nat.le_of_ble_eq_true rfl⟩ ⟨Nat.le_of_ble_eq_true rfl, Nat.le_of_ble_eq_true rfl⟩ hP hD hS hl.1 (Nat.le_of_ble_eq_true rfl) dX2_line_205 rfl) (Nat.le_of_ble_eq_true rfl) (Nat.le_of_ble_eq_true rfl) hS (fun S17 H locs hw368 hP hD hS => ?_)
    refine lv_goto (tgt := 252) hC.x hC.b dX2_line_208 (by decide) ?_
    refine tx_ret ?_
    refine W.widen (k := 21) (n := 126) (Nat.le_of_ble_eq_true rfl) (Nat.le_of_ble_eq_true rfl) ?_
    exact rt_v (u := (tau, S17)) hC hw368 hP hD hS dX2_line_252
  · have hw369 := hw.2 c16
    by_cases c18 : x2 = 1
    · have hw370 := hw369.1 c18
      refine lv_tableIn (off := 45) (tgt := 211) hC.x hC.b dX2_line_166 (by rw [c18]; decide) (by rw [c18]; decide) (by rw [c18]; rfl) (by decide) ?_
      refine lv_aload_n hC.x hC.b dX2_line_211 rfl (lv_at hl 0 rfl) ?_
      refine gx_v hC hout (run_VX (rm := ({ frames := 7, cells := 9, slots := 51, locals := 267 } : Room)) (mc := 9) (ms := 51) (rest := []) (As := []) hC (m2_personLine l hZ hw370) vX2_2_personLine h2_personLine ((F : va_W).length + 14) 1 gCl_X2 (wX_c (xc_f (by omega) rfl)) rfl ⟨rfl, rfl, Nat.le_of_ble_eq_true rfl, Nat.le_of_ble_eq_true rfl⟩ ⟨Nat.le_of_ble_eq_true rfl, Nat.le_of_ble_eq_true rfl⟩ hP hD hS hl.1 (Nat.le_of_ble_eq_true rfl) dX2_line_212 rfl) (Nat.le_of_ble_eq_true rfl) (Nat.le_of_ble_eq_true rfl) hS (fun u H locs hw371 hP hD hS => ?_)
      obtain ⟨t20, S19⟩ := u
      refine lv_goto (tgt := 252) hC.x hC.b dX2_line_215 (by decide) ?_
      refine tx_ret ?_
      refine W.widen (k := 21) (n := 126) (Nat.le_of_ble_eq_true rfl) (Nat.le_of_ble_eq_true rfl) ?_
      exact rt_v (u := (t20, S19)) hC hw371 hP hD hS dX2_line_252
    · have hw372 := hw369.2 c18
      by_cases c21 : x2 = 2
      · have hw373 := hw372.1 c21
        refine lv_tableIn (off := 52) (tgt := 218) hC.x hC.b dX2_line_166 (by rw [c21]; decide) (by rw [c21]; decide) (by rw [c21]; rfl) (by decide) ?_
        refine lv_aload_n hC.x hC.b dX2_line_218 rfl (lv_at hl 0 rfl) ?_
        refine gx_v hC hout (run_VX (rm := ({ frames := 8, cells := 21, slots := 126, locals := 290 } : Room)) (mc := 21) (ms := 126) (rest := []) (As := []) hC (m2_deadLine l hZ hw373) vX2_2_deadLine h2_deadLine ((F : va_W).length + 14) 1 gCl_X2 (wX_c (xc_f (by omega) rfl)) rfl ⟨rfl, rfl, Nat.le_of_ble_eq_true rfl, Nat.le_of_ble_eq_true rfl⟩ ⟨Nat.le_of_ble_eq_true rfl, Nat.le_of_ble_eq_true rfl⟩ hP hD hS hl.1 (Nat.le_of_ble_eq_true rfl) dX2_line_219 rfl) (Nat.le_of_ble_eq_true rfl) (Nat.le_of_ble_eq_true rfl) hS (fun u H locs hw374 hP hD hS => ?_)
        obtain ⟨t23, S22⟩ := u
        refine lv_goto (tgt := 252) hC.x hC.b dX2_line_222 (by decide) ?_
        refine tx_ret ?_
        refine W.widen (k := 21) (n := 126) (Nat.le_of_ble_eq_true rfl) (Nat.le_of_ble_eq_true rfl) ?_
        exact rt_v (u := (t23, S22)) hC hw374 hP hD hS dX2_line_252
      · have hw375 := hw372.2 c21
        by_cases c24 : x2 = 3
        · have hw376 := hw375.1 c24
          refine lv_tableIn (off := 59) (tgt := 225) hC.x hC.b dX2_line_166 (by rw [c24]; decide) (by rw [c24]; decide) (by rw [c24]; rfl) (by decide) ?_
          refine lv_aload_n hC.x hC.b dX2_line_225 rfl (lv_at hl 0 rfl) ?_
          refine gx_v hC hout (run_VX (rm := ({ frames := 7, cells := 6, slots := 36, locals := 264 } : Room)) (mc := 6) (ms := 36) (rest := []) (As := []) hC (m2_mirrorLine l hZ hw376) vX2_2_mirrorLine h2_mirrorLine ((F : va_W).length + 14) 1 gCl_X2 (wX_c (xc_f (by omega) rfl)) rfl ⟨rfl, rfl, Nat.le_of_ble_eq_true rfl, Nat.le_of_ble_eq_true rfl⟩ ⟨Nat.le_of_ble_eq_true rfl, Nat.le_of_ble_eq_true rfl⟩ hP hD hS hl.1 (Nat.le_of_ble_eq_true rfl) dX2_line_226 rfl) (Nat.le_of_ble_eq_true rfl) (Nat.le_of_ble_eq_true rfl) hS (fun S25 H locs hw377 hP hD hS => ?_)
          refine lv_goto (tgt := 252) hC.x hC.b dX2_line_229 (by decide) ?_
          refine tx_ret ?_
          refine W.widen (k := 21) (n := 126) (Nat.le_of_ble_eq_true rfl) (Nat.le_of_ble_eq_true rfl) ?_
          exact rt_v (u := (tau, S25)) hC hw377 hP hD hS dX2_line_252
        · have hw378 := hw375.2 c24
          by_cases c26 : x2 = 4
          · have hw379 := hw378.1 c26
            refine lv_tableIn (off := 66) (tgt := 232) hC.x hC.b dX2_line_166 (by rw [c26]; decide) (by rw [c26]; decide) (by rw [c26]; rfl) (by decide) ?_
            refine lv_aload_n hC.x hC.b dX2_line_232 rfl (lv_at hl 0 rfl) ?_
            refine gx_v hC hout (run_VX (rm := ({ frames := 7, cells := 6, slots := 36, locals := 264 } : Room)) (mc := 6) (ms := 36) (rest := []) (As := []) hC (m2_unsureLine l hZ hw379) vX2_2_unsureLine h2_unsureLine ((F : va_W).length + 14) 1 gCl_X2 (wX_c (xc_f (by omega) rfl)) rfl ⟨rfl, rfl, Nat.le_of_ble_eq_true rfl, Nat.le_of_ble_eq_true rfl⟩ ⟨Nat.le_of_ble_eq_true rfl, Nat.le_of_ble_eq_true rfl⟩ hP hD hS hl.1 (Nat.le_of_ble_eq_true rfl) dX2_line_233 rfl) (Nat.le_of_ble_eq_true rfl) (Nat.le_of_ble_eq_true rfl) hS (fun S27 H locs hw380 hP hD hS => ?_)
            refine lv_goto (tgt := 252) hC.x hC.b dX2_line_236 (by decide) ?_
            refine tx_ret ?_
            refine W.widen (k := 21) (n := 126) (Nat.le_of_ble_eq_true rfl) (Nat.le_of_ble_eq_true rfl) ?_
            exact rt_v (u := (tau, S27)) hC hw380 hP hD hS dX2_line_252
          · have hw381 := hw378.2 c26
            by_cases c28 : x2 = 5
            · have hw382 := hw381.1 c28
              refine lv_tableIn (off := 73) (tgt := 239) hC.x hC.b dX2_line_166 (by rw [c28]; decide) (by rw [c28]; decide) (by rw [c28]; rfl) (by decide) ?_
              refine lv_aload_n hC.x hC.b dX2_line_239 rfl (lv_at hl 0 rfl) ?_
              refine gx_v hC hout (run_VX (rm := ({ frames := 7, cells := 10, slots := 60, locals := 267 } : Room)) (mc := 10) (ms := 60) (rest := []) (As := []) hC (m2_heardLine l hZ hw382) vX2_2_heardLine h2_heardLine ((F : va_W).length + 14) 1 gCl_X2 (wX_c (xc_f (by omega) rfl)) rfl ⟨rfl, rfl, Nat.le_of_ble_eq_true rfl, Nat.le_of_ble_eq_true rfl⟩ ⟨Nat.le_of_ble_eq_true rfl, Nat.le_of_ble_eq_true rfl⟩ hP hD hS hl.1 (Nat.le_of_ble_eq_true rfl) dX2_line_240 rfl) (Nat.le_of_ble_eq_true rfl) (Nat.le_of_ble_eq_true rfl) hS (fun S29 H locs hw383 hP hD hS => ?_)
              refine lv_goto (tgt := 252) hC.x hC.b dX2_line_243 (by decide) ?_
              refine tx_ret ?_
              refine W.widen (k := 21) (n := 126) (Nat.le_of_ble_eq_true rfl) (Nat.le_of_ble_eq_true rfl) ?_
              exact rt_v (u := (tau, S29)) hC hw383 hP hD hS dX2_line_252
            · have hw384 := hw381.2 c28
              refine lv_tableOut (tgt := 246) hC.x hC.b dX2_line_166 (by have q0 := lv_neT c16 (a := 0) rfl; have q1 := lv_neT c18 (a := 1) rfl; have q2 := lv_neT c21 (a := 2) rfl; have q3 := lv_neT c24 (a := 3) rfl; have q4 := lv_neT c26 (a := 4) rfl; have q5 := lv_neT c28 (a := 5) rfl;  omega) (by decide) ?_
              refine lv_aload_n hC.x hC.b dX2_line_246 rfl (lv_at hl 0 rfl) ?_
              refine lv_iconst (v := 1) hC.x hC.b dX2_line_247 (by decide) ?_
              refine go_rr (run_V (rm := ({ frames := 1, cells := 0, slots := 0, locals := 22 } : Room)) (mc := 0) (ms := 0) (rest := []) (As := [.int 1]) hC (m2_fail l hZ hw384) vX2_2_fail h2_fail ((F : va_W).length + 14) 1 gCl_X2 (wX_c (xc_f (by omega) rfl)) rfl ⟨rfl, rfl, Nat.le_of_ble_eq_true rfl, Nat.le_of_ble_eq_true rfl⟩ ⟨Nat.le_of_ble_eq_true rfl, Nat.le_of_ble_eq_true rfl⟩ hP hD hS hl.1 (Nat.le_of_ble_eq_true rfl) dX2_line_248 rfl) hS (fun r31 S30 H locs hw385 hP hD hS => ?_)
              obtain ⟨rfl, hw385⟩ := hw385
              exact gx_throw hC hout hw385 hP hD hS (Nat.le_of_ble_eq_true rfl) (Nat.le_of_ble_eq_true rfl) dX2_line_251
def w2_line (post : TD → XS → Prop) (xpost : CS × Option Nat × Option Nat → Prop) (tau : TD) (S : XS) : Prop :=
  (((S.1.1.1 14 5) = 2 → (∃ a2 : Nat, S.2.1 = some a2 ∧ (∃ i3 x4, S.2.2.2[i3]? = some x4 ∧ x4.1 = a2 ∧ x4.2.2.1.length < 1000 ∧ wJ6_hashCode (fun r => r = hB x4.2.2.1) x4.2.2.1 ∧ ∀ S9, S9 = xH S i3 x4 → (((hB x4.2.2.1) = (-1073910849) → (∃ bs12, strAt S9 a2 bs12 ∧ wJ3_equals (fun r14 => ((r14 = 0 → (j2_line_165 post xpost tau S9 (-1))) ∧ (¬ r14 = 0 → (j2_line_165 post xpost tau S9 3)))) bs12 (kB 4))) ∧ (¬ (hB x4.2.2.1) = (-1073910849) → (((hB x4.2.2.1) = (-991716523) → (∃ bs33, strAt S9 a2 bs33 ∧ wJ3_equals (fun r35 => ((r35 = 0 → (j2_line_165 post xpost tau S9 (-1))) ∧ (¬ r35 = 0 → (j2_line_165 post xpost tau S9 1)))) bs33 (kB 2))) ∧ (¬ (hB x4.2.2.1) = (-991716523) → (((hB x4.2.2.1) = (-840227282) → (∃ bs38, strAt S9 a2 bs38 ∧ wJ3_equals (fun r40 => ((r40 = 0 → (j2_line_165 post xpost tau S9 (-1))) ∧ (¬ r40 = 0 → (j2_line_165 post xpost tau S9 4)))) bs38 (kB 5))) ∧ (¬ (hB x4.2.2.1) = (-840227282) → (((hB x4.2.2.1) = 3079268 → (∃ bs43, strAt S9 a2 bs43 ∧ wJ3_equals (fun r45 => ((r45 = 0 → (j2_line_165 post xpost tau S9 (-1))) ∧ (¬ r45 = 0 → (j2_line_165 post xpost tau S9 2)))) bs43 (kB 3))) ∧ (¬ (hB x4.2.2.1) = 3079268 → (((hB x4.2.2.1) = 3566226 → (∃ bs48, strAt S9 a2 bs48 ∧ wJ3_equals (fun r50 => ((r50 = 0 → (j2_line_165 post xpost tau S9 (-1))) ∧ (¬ r50 = 0 → (j2_line_165 post xpost tau S9 0)))) bs48 (kB 1))) ∧ (¬ (hB x4.2.2.1) = 3566226 → (((hB x4.2.2.1) = 99151926 → (∃ bs53, strAt S9 a2 bs53 ∧ wJ3_equals (fun r55 => ((r55 = 0 → (j2_line_165 post xpost tau S9 (-1))) ∧ (¬ r55 = 0 → (j2_line_165 post xpost tau S9 5)))) bs53 (kB 6))) ∧ (¬ (hB x4.2.2.1) = 99151926 → (j2_line_165 post xpost tau S9 (-1))))))))))))))))) ∧ (¬ (S.1.1.1 14 5) = 2 → (w2_fail (fun S57 => (xpost (S57.1, S57.2.1, some (tau.1 0)))) tau S 1)))
set_option maxHeartbeats 8000000 in
theorem m2_line (l : Launch) {F : va_W} {post : TD → XS → Prop} {xpost : CS × Option Nat × Option Nat → Prop} {tau : TD} {S : XS} {adK adV : Nat → Nat} (hZ : ∀ U, Z U → zS adK adV A Hb U) (hw : w2_line post xpost tau S) : tx_Met l yX2_line (ws_ yX2_line cX2_line 3 none) ({ frames := 9, cells := 21, slots := 126, locals := 311 } : Room) (va_Pc [.ref (ad 14)] (PcG D gCl nwG Z Hb A (wX D ad rf tw F tau S))) (va_Qv (fun (u : TD × XS) => post u.1 u.2) (BW D gCl A (fun u => wX D ad rf tw F u.1 u.2)) A) (tx_X xpost (XB D ad rf tw A) A) 21 126 A := by
  refine tx_ofG (by decide) (Nat.le_of_ble_eq_true rfl) ?_
  intro p e s m below meth c ls hC hout hP hD hS hl
  have hC : CX RX2 cX2_line 3 none D gCl nwG Z Hb A p s m _ meth c := hC
  have hl : lv_has ls 3 [(0, .ref (ad 14))] := hl
  unfold w2_line at hw
  refine lv_aload_n hC.x hC.b dX2_line_0 rfl (lv_at hl 0 rfl) ?_
  refine gXS_5 hC hP dX2_line_1 ?_
  refine lv_iconst (v := 2) hC.x hC.b dX2_line_4 (by decide) ?_
  refine lv_icmp_eq (tgt := 14) hC.x hC.b dX2_line_5 (by decide) (fun c1 => ?_) (fun c1 => ?_)
  · have hw359 := hw.1 c1
    refine lv_aload_n hC.x hC.b dX2_line_14 rfl (lv_at hl 0 rfl) ?_
    refine gXS_8 hC hP dX2_line_15 ?_
    obtain ⟨a2, ea2, hw360⟩ := hw359
    rw [ea2]
    refine lv_astore_n (lv' := [(1, .ref a2), (0, .ref (ad 14))]) hC.x hC.b dX2_line_18 rfl hl (by decide) rfl (fun ls hl => ?_)
    refine lv_iconst (v := (-1)) hC.x hC.b dX2_line_19 (by decide) ?_
    refine lv_istore_n (lv' := [(2, .int (-1)), (1, .ref a2), (0, .ref (ad 14))]) hC.x hC.b dX2_line_20 rfl hl (by decide) rfl (fun ls hl => ?_)
    refine lv_aload_n hC.x hC.b dX2_line_21 rfl (lv_at hl 1 rfl) ?_
    obtain ⟨i3, x4, hh5, hh6, hh7, hh8, hw361⟩ := hw360
    refine go_i (run_Vc (rest := []) hC (mX_hash l hZ hh5 hh6 hh7 hh8) vX2_J3_hashCode hJ3_hashCode (s_cell hC hP hS (Or.inl (strP ⟨i3, x4, hh5, hh6, rfl, hh7⟩))) ⟨rfl, rfl, Nat.le_of_ble_eq_true rfl, Nat.le_of_ble_eq_true rfl⟩ ⟨Nat.le_of_ble_eq_true rfl, Nat.le_of_ble_eq_true rfl⟩ hP hD hS hl.1 (Nat.le_of_ble_eq_true rfl) dX2_line_22 rfl) hS (fun r10 u H locs er10 hP hD hS => ?_)
    subst er10
    obtain ⟨S9, eS9⟩ : ∃ z, z = xH S i3 x4 := ⟨_, rfl⟩
    rw [← eS9] at hP hD
    have hw362 := hw361 S9 eS9
    by_cases c11 : (hB x4.2.2.1) = (-1073910849)
    · have hw363 := hw362.1 c11
      refine lv_lookup (off := 101) (tgt := 126) hC.x hC.b dX2_line_25 (by decide +kernel) (by rw [c11]; decide +kernel) (by decide) ?_
      refine lv_aload_n hC.x hC.b dX2_line_126 rfl (lv_at hl 1 rfl) ?_
      refine va_ldcS hC.x hC.b hC.ow ((hZ s hC.K.2.2.2).2.2.2.1 4 _ rfl).1 dX2_line_127 ?_
      obtain ⟨bs12, hs13, hw364⟩ := hw363
      refine go_i (run_Vc (rest := []) hC (mJ3_equals l hZ (strP hs13) (Or.inr (kCs hZ 4 (by decide))) hw364) vX2_J3_equals hJ3_equals (s_cell hC hP hS (Or.inl (strP hs13))) ⟨rfl, rfl, Nat.le_of_ble_eq_true rfl, Nat.le_of_ble_eq_true rfl⟩ ⟨Nat.le_of_ble_eq_true rfl, Nat.le_of_ble_eq_true rfl⟩ hP hD hS hl.1 (Nat.le_of_ble_eq_true rfl) dX2_line_129 rfl) hS (fun r14 u H locs hw365 hP hD hS => ?_)
      refine lv_if_eq (tgt := 165) hC.x hC.b dX2_line_132 (by decide) (fun c15 => ?_) (fun c15 => ?_)
      · have hw366 := hw365.1 c15
        exact k2_line_165 hC hZ hout hw366 H locs ls hP hD hS (lv_sub hl [2, 0] rfl)
      · have hw386 := hw365.2 c15
        refine lv_iconst (v := 3) hC.x hC.b dX2_line_135 (by decide) ?_
        refine lv_istore_n (lv' := [(2, .int 3), (1, .ref a2), (0, .ref (ad 14))]) hC.x hC.b dX2_line_136 rfl hl (by decide) rfl (fun ls hl => ?_)
        refine lv_goto (tgt := 165) hC.x hC.b dX2_line_137 (by decide) ?_
        exact k2_line_165 hC hZ hout hw386 H locs ls hP hD hS (lv_sub hl [2, 0] rfl)
    · have hw387 := hw362.2 c11
      by_cases c32 : (hB x4.2.2.1) = (-991716523)
      · have hw388 := hw387.1 c32
        refine lv_lookup (off := 73) (tgt := 98) hC.x hC.b dX2_line_25 (by decide +kernel) (by rw [c32]; decide +kernel) (by decide) ?_
        refine lv_aload_n hC.x hC.b dX2_line_98 rfl (lv_at hl 1 rfl) ?_
        refine va_ldcS hC.x hC.b hC.ow ((hZ s hC.K.2.2.2).2.2.2.1 2 _ rfl).1 dX2_line_99 ?_
        obtain ⟨bs33, hs34, hw389⟩ := hw388
        refine go_i (run_Vc (rest := []) hC (mJ3_equals l hZ (strP hs34) (Or.inr (kCs hZ 2 (by decide))) hw389) vX2_J3_equals hJ3_equals (s_cell hC hP hS (Or.inl (strP hs34))) ⟨rfl, rfl, Nat.le_of_ble_eq_true rfl, Nat.le_of_ble_eq_true rfl⟩ ⟨Nat.le_of_ble_eq_true rfl, Nat.le_of_ble_eq_true rfl⟩ hP hD hS hl.1 (Nat.le_of_ble_eq_true rfl) dX2_line_101 rfl) hS (fun r35 u H locs hw390 hP hD hS => ?_)
        refine lv_if_eq (tgt := 165) hC.x hC.b dX2_line_104 (by decide) (fun c36 => ?_) (fun c36 => ?_)
        · have hw391 := hw390.1 c36
          exact k2_line_165 hC hZ hout hw391 H locs ls hP hD hS (lv_sub hl [2, 0] rfl)
        · have hw392 := hw390.2 c36
          refine lv_iconst (v := 1) hC.x hC.b dX2_line_107 (by decide) ?_
          refine lv_istore_n (lv' := [(2, .int 1), (1, .ref a2), (0, .ref (ad 14))]) hC.x hC.b dX2_line_108 rfl hl (by decide) rfl (fun ls hl => ?_)
          refine lv_goto (tgt := 165) hC.x hC.b dX2_line_109 (by decide) ?_
          exact k2_line_165 hC hZ hout hw392 H locs ls hP hD hS (lv_sub hl [2, 0] rfl)
      · have hw393 := hw387.2 c32
        by_cases c37 : (hB x4.2.2.1) = (-840227282)
        · have hw394 := hw393.1 c37
          refine lv_lookup (off := 115) (tgt := 140) hC.x hC.b dX2_line_25 (by decide +kernel) (by rw [c37]; decide +kernel) (by decide) ?_
          refine lv_aload_n hC.x hC.b dX2_line_140 rfl (lv_at hl 1 rfl) ?_
          refine va_ldcS hC.x hC.b hC.ow ((hZ s hC.K.2.2.2).2.2.2.1 5 _ rfl).1 dX2_line_141 ?_
          obtain ⟨bs38, hs39, hw395⟩ := hw394
          refine go_i (run_Vc (rest := []) hC (mJ3_equals l hZ (strP hs39) (Or.inr (kCs hZ 5 (by decide))) hw395) vX2_J3_equals hJ3_equals (s_cell hC hP hS (Or.inl (strP hs39))) ⟨rfl, rfl, Nat.le_of_ble_eq_true rfl, Nat.le_of_ble_eq_true rfl⟩ ⟨Nat.le_of_ble_eq_true rfl, Nat.le_of_ble_eq_true rfl⟩ hP hD hS hl.1 (Nat.le_of_ble_eq_true rfl) dX2_line_143 rfl) hS (fun r40 u H locs hw396 hP hD hS => ?_)
          refine lv_if_eq (tgt := 165) hC.x hC.b dX2_line_146 (by decide) (fun c41 => ?_) (fun c41 => ?_)
          · have hw397 := hw396.1 c41
            exact k2_line_165 hC hZ hout hw397 H locs ls hP hD hS (lv_sub hl [2, 0] rfl)
          · have hw398 := hw396.2 c41
            refine lv_iconst (v := 4) hC.x hC.b dX2_line_149 (by decide) ?_
            refine lv_istore_n (lv' := [(2, .int 4), (1, .ref a2), (0, .ref (ad 14))]) hC.x hC.b dX2_line_150 rfl hl (by decide) rfl (fun ls hl => ?_)
            refine lv_goto (tgt := 165) hC.x hC.b dX2_line_151 (by decide) ?_
            exact k2_line_165 hC hZ hout hw398 H locs ls hP hD hS (lv_sub hl [2, 0] rfl)
        · have hw399 := hw393.2 c37
          by_cases c42 : (hB x4.2.2.1) = 3079268
          · have hw400 := hw399.1 c42
            refine lv_lookup (off := 87) (tgt := 112) hC.x hC.b dX2_line_25 (by decide +kernel) (by rw [c42]; decide +kernel) (by decide) ?_
            refine lv_aload_n hC.x hC.b dX2_line_112 rfl (lv_at hl 1 rfl) ?_
            refine va_ldcS hC.x hC.b hC.ow ((hZ s hC.K.2.2.2).2.2.2.1 3 _ rfl).1 dX2_line_113 ?_
            obtain ⟨bs43, hs44, hw401⟩ := hw400
            refine go_i (run_Vc (rest := []) hC (mJ3_equals l hZ (strP hs44) (Or.inr (kCs hZ 3 (by decide))) hw401) vX2_J3_equals hJ3_equals (s_cell hC hP hS (Or.inl (strP hs44))) ⟨rfl, rfl, Nat.le_of_ble_eq_true rfl, Nat.le_of_ble_eq_true rfl⟩ ⟨Nat.le_of_ble_eq_true rfl, Nat.le_of_ble_eq_true rfl⟩ hP hD hS hl.1 (Nat.le_of_ble_eq_true rfl) dX2_line_115 rfl) hS (fun r45 u H locs hw402 hP hD hS => ?_)
            refine lv_if_eq (tgt := 165) hC.x hC.b dX2_line_118 (by decide) (fun c46 => ?_) (fun c46 => ?_)
            · have hw403 := hw402.1 c46
              exact k2_line_165 hC hZ hout hw403 H locs ls hP hD hS (lv_sub hl [2, 0] rfl)
            · have hw404 := hw402.2 c46
              refine lv_iconst (v := 2) hC.x hC.b dX2_line_121 (by decide) ?_
              refine lv_istore_n (lv' := [(2, .int 2), (1, .ref a2), (0, .ref (ad 14))]) hC.x hC.b dX2_line_122 rfl hl (by decide) rfl (fun ls hl => ?_)
              refine lv_goto (tgt := 165) hC.x hC.b dX2_line_123 (by decide) ?_
              exact k2_line_165 hC hZ hout hw404 H locs ls hP hD hS (lv_sub hl [2, 0] rfl)
          · have hw405 := hw399.2 c42
            by_cases c47 : (hB x4.2.2.1) = 3566226
            · have hw406 := hw405.1 c47
              refine lv_lookup (off := 59) (tgt := 84) hC.x hC.b dX2_line_25 (by decide +kernel) (by rw [c47]; decide +kernel) (by decide) ?_
              refine lv_aload_n hC.x hC.b dX2_line_84 rfl (lv_at hl 1 rfl) ?_
              refine va_ldcS hC.x hC.b hC.ow ((hZ s hC.K.2.2.2).2.2.2.1 1 _ rfl).1 dX2_line_85 ?_
              obtain ⟨bs48, hs49, hw407⟩ := hw406
              refine go_i (run_Vc (rest := []) hC (mJ3_equals l hZ (strP hs49) (Or.inr (kCs hZ 1 (by decide))) hw407) vX2_J3_equals hJ3_equals (s_cell hC hP hS (Or.inl (strP hs49))) ⟨rfl, rfl, Nat.le_of_ble_eq_true rfl, Nat.le_of_ble_eq_true rfl⟩ ⟨Nat.le_of_ble_eq_true rfl, Nat.le_of_ble_eq_true rfl⟩ hP hD hS hl.1 (Nat.le_of_ble_eq_true rfl) dX2_line_87 rfl) hS (fun r50 u H locs hw408 hP hD hS => ?_)
              refine lv_if_eq (tgt := 165) hC.x hC.b dX2_line_90 (by decide) (fun c51 => ?_) (fun c51 => ?_)
              · have hw409 := hw408.1 c51
                exact k2_line_165 hC hZ hout hw409 H locs ls hP hD hS (lv_sub hl [2, 0] rfl)
              · have hw410 := hw408.2 c51
                refine lv_iconst (v := 0) hC.x hC.b dX2_line_93 (by decide) ?_
                refine lv_istore_n (lv' := [(2, .int 0), (1, .ref a2), (0, .ref (ad 14))]) hC.x hC.b dX2_line_94 rfl hl (by decide) rfl (fun ls hl => ?_)
                refine lv_goto (tgt := 165) hC.x hC.b dX2_line_95 (by decide) ?_
                exact k2_line_165 hC hZ hout hw410 H locs ls hP hD hS (lv_sub hl [2, 0] rfl)
            · have hw411 := hw405.2 c47
              by_cases c52 : (hB x4.2.2.1) = 99151926
              · have hw412 := hw411.1 c52
                refine lv_lookup (off := 129) (tgt := 154) hC.x hC.b dX2_line_25 (by decide +kernel) (by rw [c52]; decide +kernel) (by decide) ?_
                refine lv_aload_n hC.x hC.b dX2_line_154 rfl (lv_at hl 1 rfl) ?_
                refine va_ldcS hC.x hC.b hC.ow ((hZ s hC.K.2.2.2).2.2.2.1 6 _ rfl).1 dX2_line_155 ?_
                obtain ⟨bs53, hs54, hw413⟩ := hw412
                refine go_i (run_Vc (rest := []) hC (mJ3_equals l hZ (strP hs54) (Or.inr (kCs hZ 6 (by decide))) hw413) vX2_J3_equals hJ3_equals (s_cell hC hP hS (Or.inl (strP hs54))) ⟨rfl, rfl, Nat.le_of_ble_eq_true rfl, Nat.le_of_ble_eq_true rfl⟩ ⟨Nat.le_of_ble_eq_true rfl, Nat.le_of_ble_eq_true rfl⟩ hP hD hS hl.1 (Nat.le_of_ble_eq_true rfl) dX2_line_157 rfl) hS (fun r55 u H locs hw414 hP hD hS => ?_)
                refine lv_if_eq (tgt := 165) hC.x hC.b dX2_line_160 (by decide) (fun c56 => ?_) (fun c56 => ?_)
                · have hw415 := hw414.1 c56
                  exact k2_line_165 hC hZ hout hw415 H locs ls hP hD hS (lv_sub hl [2, 0] rfl)
                · have hw416 := hw414.2 c56
                  refine lv_iconst (v := 5) hC.x hC.b dX2_line_163 (by decide) ?_
                  refine lv_istore_n (lv' := [(2, .int 5), (1, .ref a2), (0, .ref (ad 14))]) hC.x hC.b dX2_line_164 rfl hl (by decide) rfl (fun ls hl => ?_)
                  exact k2_line_165 hC hZ hout hw416 H locs ls hP hD hS (lv_sub hl [2, 0] rfl)
              · have hw417 := hw411.2 c52
                refine lv_lookup (off := 140) (tgt := 165) hC.x hC.b dX2_line_25 (by decide +kernel) (by show Op.lookupswitch.offset [(-1073910849, 101), (-991716523, 73), (-840227282, 115), (3079268, 87), (3566226, 59), (99151926, 129)] (140) _ = (140); rw [Op.lookupswitch.offset_cons, if_neg (fun q => lv_neT c11 (a := -1073910849) rfl q.symm)]; rw [Op.lookupswitch.offset_cons, if_neg (fun q => lv_neT c32 (a := -991716523) rfl q.symm)]; rw [Op.lookupswitch.offset_cons, if_neg (fun q => lv_neT c37 (a := -840227282) rfl q.symm)]; rw [Op.lookupswitch.offset_cons, if_neg (fun q => lv_neT c42 (a := 3079268) rfl q.symm)]; rw [Op.lookupswitch.offset_cons, if_neg (fun q => lv_neT c47 (a := 3566226) rfl q.symm)]; rw [Op.lookupswitch.offset_cons, if_neg (fun q => lv_neT c52 (a := 99151926) rfl q.symm)]; rfl) (by decide) ?_
                exact k2_line_165 hC hZ hout hw417 H locs ls hP hD hS (lv_sub hl [2, 0] rfl)
  · have hw418 := hw.2 c1
    refine lv_aload_n hC.x hC.b dX2_line_8 rfl (lv_at hl 0 rfl) ?_
    refine lv_iconst (v := 1) hC.x hC.b dX2_line_9 (by decide) ?_
    refine go_rr (run_V (rm := ({ frames := 1, cells := 0, slots := 0, locals := 22 } : Room)) (mc := 0) (ms := 0) (rest := []) (As := [.int 1]) hC (m2_fail l hZ hw418) vX2_2_fail h2_fail ((F : va_W).length + 14) 1 gCl_X2 (wX_c (xc_f (by omega) rfl)) rfl ⟨rfl, rfl, Nat.le_of_ble_eq_true rfl, Nat.le_of_ble_eq_true rfl⟩ ⟨Nat.le_of_ble_eq_true rfl, Nat.le_of_ble_eq_true rfl⟩ hP hD hS hl.1 (Nat.le_of_ble_eq_true rfl) dX2_line_10 rfl) hS (fun r58 S57 H locs hw419 hP hD hS => ?_)
    obtain ⟨rfl, hw419⟩ := hw419
    exact gx_throw hC hout hw419 hP hD hS (Nat.le_of_ble_eq_true rfl) (Nat.le_of_ble_eq_true rfl) dX2_line_13
end XWa
