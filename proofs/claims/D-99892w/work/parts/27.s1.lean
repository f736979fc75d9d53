set_option maxRecDepth 100000
section JWa
variable {p : Program} {l : Launch} {e : Env} {s : State} {m : MethodId} {args : Array Value} {below : List Frame} {meth : Method} {c : Code} {D : va_G} {Z : State → Prop} {Hb : Heap} {A : Nat → Prop} {w0 : va_W}
def PArr (D : va_G) (w : va_W) (b : Nat) (bs : List Int32) : Prop := bs.length < 1000 ∧ ∃ q : Nat, w[q]? = some (b, (.inl (D.1 102, bs.length, .inl (fun j => bs.getD j 0)) : va_E))
theorem PArr.arr {b : Nat} {bs : List Int32} (h : PArr D w0 b bs) : IsArr D A Hb Z w0 b bs := ⟨h.1, Or.inl h.2⟩
theorem hJ4_checkIndex : yJ4_checkIndex.cls ≠ "java/lang/invoke/MethodHandle" ∧ yJ4_checkIndex.cls ≠ "java/lang/invoke/VarHandle" ∧ (parseMethodDescriptor yJ4_checkIndex.desc).map (fun d => d.parameters.length) = some 3 := by decide +kernel
def wJ4_checkIndex (post : Int32 → Prop) (x0 : Int32) (x1 : Int32) : Prop :=
  ((x0 < 0 → False) ∧ (¬ x0 < 0 → ((x0 < x1 → (post x0)) ∧ (¬ x0 < x1 → False))))
set_option maxHeartbeats 4000000 in
theorem mJ4_checkIndex (l : Launch) {post : Int32 → Prop} {x0 : Int32} {x1 : Int32} {o2 : Option Nat} {adK adV : Nat → Nat} (hZ : ∀ U, Z U → zS adK adV A Hb U) (hw : wJ4_checkIndex post x0 x1) : Met l yJ4_checkIndex (ws_ yJ4_checkIndex cJ4_checkIndex 3 (some .int)) ({ frames := 0, cells := 0, slots := 0, locals := 0 } : Room) (va_Pc [.int x0, .int x1, va_rf o2] (PcG D gCl nwG Z Hb A w0)) (va_Qi (fun r (_ : Unit) => post r) (BW D gCl A (fun _ => w0)) A) 0 0 A := by
  refine Met.ofG (by decide) (Nat.le_of_ble_eq_true (by cases o2 <;> rfl)) ?_
  intro p e s m below meth c ls hC _ hP hD hS hl
  have hC : CX RJ4 cJ4_checkIndex 3 (some .int) D gCl nwG Z Hb A p s m _ meth c := hC
  have hl : lv_has ls 3 [(0, .int x0), (1, .int x1), (2, va_rf o2)] := hl
  unfold wJ4_checkIndex at hw
  refine lv_iload_n hC.x hC.b dJ4_checkIndex_0 rfl (lv_at hl 0 rfl) ?_
  refine lv_if_lt (tgt := 9) hC.x hC.b dJ4_checkIndex_1 (by decide) (fun c1 => ?_) (fun c1 => ?_)
  · have hw1 := hw.1 c1
    exact hw1.elim
  · have hw2 := hw.2 c1
    refine lv_iload_n hC.x hC.b dJ4_checkIndex_4 rfl (lv_at hl 0 rfl) ?_
    refine lv_iload_n hC.x hC.b dJ4_checkIndex_5 rfl (lv_at hl 1 rfl) ?_
    refine lv_icmp_lt (tgt := 16) hC.x hC.b dJ4_checkIndex_6 (by decide) (fun c2 => ?_) (fun c2 => ?_)
    · have hw3 := hw2.1 c2
      refine lv_iload_n hC.x hC.b dJ4_checkIndex_16 rfl (lv_at hl 0 rfl) ?_
      exact rt_i (u := ()) hC hw3 hP hD hS dJ4_checkIndex_17
    · have hw4 := hw2.2 c2
      exact hw4.elim
theorem vJ3_J4_checkIndex : GoodIn lw_all (va_wsS RJ3 1059 yJ4_checkIndex (ws_ yJ4_checkIndex cJ4_checkIndex 3 (some .int))) := lw_S q1648 q1649 q129 q1650
theorem hJ3_checkIndex : yJ3_checkIndex.cls ≠ "java/lang/invoke/MethodHandle" ∧ yJ3_checkIndex.cls ≠ "java/lang/invoke/VarHandle" ∧ (parseMethodDescriptor yJ3_checkIndex.desc).map (fun d => d.parameters.length) = some 2 := by decide +kernel
def wJ3_checkIndex (post : Prop) (x0 : Int32) (x1 : Int32) : Prop :=
  (wJ4_checkIndex (fun r2 => post) x0 x1)
set_option maxHeartbeats 4000000 in
theorem mJ3_checkIndex (l : Launch) {post : Prop} {x0 : Int32} {x1 : Int32} {adK adV : Nat → Nat} (hZ : ∀ U, Z U → zS adK adV A Hb U) (hw : wJ3_checkIndex post x0 x1) : Met l yJ3_checkIndex (ws_ yJ3_checkIndex cJ3_checkIndex 2 none) ({ frames := 1, cells := 0, slots := 0, locals := 22 } : Room) (va_Pc [.int x0, .int x1] (PcG D gCl nwG Z Hb A w0)) (va_Qv (fun (_ : Unit) => post) (BW D gCl A (fun _ => w0)) A) 0 0 A := by
  refine Met.ofG (by decide) (Nat.le_of_ble_eq_true rfl) ?_
  intro p e s m below meth c ls hC _ hP hD hS hl
  have hC : CX RJ3 cJ3_checkIndex 2 none D gCl nwG Z Hb A p s m _ meth c := hC
  have hl : lv_has ls 2 [(0, .int x0), (1, .int x1)] := hl
  unfold wJ3_checkIndex at hw
  refine lv_iload_n hC.x hC.b dJ3_checkIndex_0 rfl (lv_at hl 0 rfl) ?_
  refine lv_iload_n hC.x hC.b dJ3_checkIndex_1 rfl (lv_at hl 1 rfl) ?_
  refine s_fmt hC hZ hS dJ3_checkIndex_2 (fun o1 => ?_)
  refine go_i (run_S (rest := []) hC (mJ4_checkIndex l hZ hw) vJ3_J4_checkIndex hJ4_checkIndex ⟨rfl, rfl, Nat.le_of_ble_eq_true rfl, Nat.le_of_ble_eq_true rfl⟩ ⟨Nat.le_refl _, Nat.le_refl _⟩ hP hD hS hl.1 (Nat.le_of_ble_eq_true rfl) dJ3_checkIndex_5 rfl) hS (fun r2 u H locs hw5 hP hD hS => ?_)
  refine lv_pop hC.x hC.b dJ3_checkIndex_8 rfl ?_
  exact rt_v (u := ()) hC hw5 hP hD hS dJ3_checkIndex_9
theorem vJ6_J3_checkIndex : GoodIn lw_all (va_wsS RJ6 9 yJ3_checkIndex (ws_ yJ3_checkIndex cJ3_checkIndex 2 none)) := lw_S q1645 q1646 q128 q1647
theorem hJ6_charAt : yJ6_charAt.cls ≠ "java/lang/invoke/MethodHandle" ∧ yJ6_charAt.cls ≠ "java/lang/invoke/VarHandle" ∧ (parseMethodDescriptor yJ6_charAt.desc).map (fun d => d.parameters.length) = some 2 := by decide +kernel
def wJ6_charAt (post : Int32 → Prop) (B0 : List Int32) (x1 : Int32) : Prop :=
  (wJ3_checkIndex (vp_in x1 B0.length ∧ (narrow .char (.int ((((B0.getD x1.toNatClampNeg 0) &&& 255).toUInt32 % 65536).toInt32)) = .int ((((B0.getD x1.toNatClampNeg 0) &&& 255).toUInt32 % 65536).toInt32) ∧ post ((((B0.getD x1.toNatClampNeg 0) &&& 255).toUInt32 % 65536).toInt32))) x1 (nI B0.length))
set_option maxHeartbeats 4000000 in
theorem mJ6_charAt (l : Launch) {post : Int32 → Prop} {x0 : Nat} {B0 : List Int32} {x1 : Int32} {adK adV : Nat → Nat} (hZ : ∀ U, Z U → zS adK adV A Hb U) (h_x0 : IsArr D A Hb Z w0 x0 B0) (hw : wJ6_charAt post B0 x1) : Met l yJ6_charAt (ws_ yJ6_charAt cJ6_charAt 2 (some .char)) ({ frames := 2, cells := 0, slots := 0, locals := 43 } : Room) (va_Pc [.ref x0, .int x1] (PcG D gCl nwG Z Hb A w0)) (va_Qi (fun r (_ : Unit) => post r) (BW D gCl A (fun _ => w0)) A) 0 0 A := by
  refine Met.ofG (by decide) (Nat.le_of_ble_eq_true rfl) ?_
  intro p e s m below meth c ls hC _ hP hD hS hl
  have hC : CX RJ6 cJ6_charAt 2 (some .char) D gCl nwG Z Hb A p s m _ meth c := hC
  have hl : lv_has ls 2 [(0, .ref x0), (1, .int x1)] := hl
  unfold wJ6_charAt at hw
  refine lv_iload_n hC.x hC.b dJ6_charAt_0 rfl (lv_at hl 1 rfl) ?_
  refine lv_aload_n hC.x hC.b dJ6_charAt_1 rfl (lv_at hl 0 rfl) ?_
  refine s_len hC hP hS h_x0 dJ6_charAt_2 ?_
  refine go_v (run_S (rest := []) hC (mJ3_checkIndex l hZ hw) vJ6_J3_checkIndex hJ3_checkIndex ⟨rfl, rfl, Nat.le_of_ble_eq_true rfl, Nat.le_of_ble_eq_true rfl⟩ ⟨Nat.le_refl _, Nat.le_refl _⟩ hP hD hS hl.1 (Nat.le_of_ble_eq_true rfl) dJ6_charAt_3 rfl) hS (fun u H locs hw6 hP hD hS => ?_)
  refine lv_aload_n hC.x hC.b dJ6_charAt_6 rfl (lv_at hl 0 rfl) ?_
  refine lv_iload_n hC.x hC.b dJ6_charAt_7 rfl (lv_at hl 1 rfl) ?_
  obtain ⟨hin1, hw7⟩ := hw6
  refine s_bld hC hP hS h_x0 hin1 dJ6_charAt_8 ?_
  refine lv_sipush (v := 255) hC.x hC.b dJ6_charAt_9 (by decide) ?_
  refine lv_iand hC.x hC.b dJ6_charAt_12 ?_
  refine lv_i2c (v := ((((B0.getD x1.toNatClampNeg 0) &&& 255).toUInt32 % 65536).toInt32)) hC.x hC.b dJ6_charAt_13 rfl ?_
  exact rt_n (u := ()) hC hw7.1 hw7.2 hP hD hS dJ6_charAt_14
theorem hJ3_isLatin1 : yJ3_isLatin1.cls = RJ3 ∧ yJ3_isLatin1.cls ≠ "java/lang/invoke/MethodHandle" ∧ yJ3_isLatin1.cls ≠ "java/lang/invoke/VarHandle" ∧ (parseMethodDescriptor yJ3_isLatin1.desc).map (fun d => d.parameters.length) = some 0 := by decide +kernel
def wJ3_isLatin1 (post : Int32 → Prop) (B0 : List Int32) : Prop :=
  (post 1)
set_option maxHeartbeats 4000000 in
theorem mJ3_isLatin1 (l : Launch) {post : Int32 → Prop} {x0 : Nat} {B0 : List Int32} {adK adV : Nat → Nat} (hZ : ∀ U, Z U → zS adK adV A Hb U) (h_x0 : IsStr D A Hb Z w0 x0 B0) (hw : wJ3_isLatin1 post B0) : Met l yJ3_isLatin1 (ws_ yJ3_isLatin1 cJ3_isLatin1 1 (some .boolean)) ({ frames := 0, cells := 0, slots := 0, locals := 0 } : Room) (va_Pc [.ref x0] (PcG D gCl nwG Z Hb A w0)) (va_Qi (fun r (_ : Unit) => post r) (BW D gCl A (fun _ => w0)) A) 0 0 A := by
  refine Met.ofG (by decide) (Nat.le_of_ble_eq_true rfl) ?_
  intro p e s m below meth c ls hC _ hP hD hS hl
  have hC : CX RJ3 cJ3_isLatin1 1 (some .boolean) D gCl nwG Z Hb A p s m _ meth c := hC
  have hl : lv_has ls 1 [(0, .ref x0)] := hl
  unfold wJ3_isLatin1 at hw
  refine s_cs hC hZ hS dJ3_isLatin1_0 ?_
  refine lv_if_eq (tgt := 17) hC.x hC.b dJ3_isLatin1_3 (by decide) (fun c => absurd c (by decide)) (fun _ => ?_)
  refine lv_aload_n hC.x hC.b dJ3_isLatin1_6 rfl (lv_at hl 0 rfl) ?_
  refine s_cod hC hP hS h_x0 dJ3_isLatin1_7 ?_
  refine lv_if_ne (tgt := 17) hC.x hC.b dJ3_isLatin1_10 (by decide) (fun c => absurd c (by decide)) (fun _ => ?_)
  refine lv_iconst (v := 1) hC.x hC.b dJ3_isLatin1_13 (by decide) ?_
  refine lv_goto (tgt := 18) hC.x hC.b dJ3_isLatin1_14 (by decide) ?_
  exact rt_n (u := ()) hC rfl hw hP hD hS dJ3_isLatin1_18
theorem hJ3_coder : yJ3_coder.cls = RJ3 ∧ yJ3_coder.cls ≠ "java/lang/invoke/MethodHandle" ∧ yJ3_coder.cls ≠ "java/lang/invoke/VarHandle" ∧ (parseMethodDescriptor yJ3_coder.desc).map (fun d => d.parameters.length) = some 0 := by decide +kernel
def wJ3_coder (post : Int32 → Prop) (B0 : List Int32) : Prop :=
  (post 0)
set_option maxHeartbeats 4000000 in
theorem mJ3_coder (l : Launch) {post : Int32 → Prop} {x0 : Nat} {B0 : List Int32} {adK adV : Nat → Nat} (hZ : ∀ U, Z U → zS adK adV A Hb U) (h_x0 : IsStr D A Hb Z w0 x0 B0) (hw : wJ3_coder post B0) : Met l yJ3_coder (ws_ yJ3_coder cJ3_coder 1 (some .byte)) ({ frames := 0, cells := 0, slots := 0, locals := 0 } : Room) (va_Pc [.ref x0] (PcG D gCl nwG Z Hb A w0)) (va_Qi (fun r (_ : Unit) => post r) (BW D gCl A (fun _ => w0)) A) 0 0 A := by
  refine Met.ofG (by decide) (Nat.le_of_ble_eq_true rfl) ?_
  intro p e s m below meth c ls hC _ hP hD hS hl
  have hC : CX RJ3 cJ3_coder 1 (some .byte) D gCl nwG Z Hb A p s m _ meth c := hC
  have hl : lv_has ls 1 [(0, .ref x0)] := hl
  unfold wJ3_coder at hw
  refine s_cs hC hZ hS dJ3_coder_0 ?_
  refine lv_if_eq (tgt := 13) hC.x hC.b dJ3_coder_3 (by decide) (fun c => absurd c (by decide)) (fun _ => ?_)
  refine lv_aload_n hC.x hC.b dJ3_coder_6 rfl (lv_at hl 0 rfl) ?_
  refine s_cod hC hP hS h_x0 dJ3_coder_7 ?_
  refine lv_goto (tgt := 14) hC.x hC.b dJ3_coder_10 (by decide) ?_
  exact rt_n (u := ()) hC rfl hw hP hD hS dJ3_coder_14
theorem vJ3_J3_coder : GoodIn lw_all (wsV RJ3 335 RJ3 yJ3_coder (ws_ yJ3_coder cJ3_coder 1 (some .byte))) := lw_V q1634 q1635 q1636 q128 q1637
theorem hJ3_length : yJ3_length.cls = RJ3 ∧ yJ3_length.cls ≠ "java/lang/invoke/MethodHandle" ∧ yJ3_length.cls ≠ "java/lang/invoke/VarHandle" ∧ (parseMethodDescriptor yJ3_length.desc).map (fun d => d.parameters.length) = some 0 := by decide +kernel
def wJ3_length (post : Int32 → Prop) (B0 : List Int32) : Prop :=
  (wJ3_coder (fun r2 => (post ((nI B0.length) >>> (r2 &&& 31)))) B0)
set_option maxHeartbeats 4000000 in
theorem mJ3_length (l : Launch) {post : Int32 → Prop} {x0 : Nat} {B0 : List Int32} {adK adV : Nat → Nat} (hZ : ∀ U, Z U → zS adK adV A Hb U) (h_x0 : IsStr D A Hb Z w0 x0 B0) (hw : wJ3_length post B0) : Met l yJ3_length (ws_ yJ3_length cJ3_length 1 (some .int)) ({ frames := 1, cells := 0, slots := 0, locals := 20 } : Room) (va_Pc [.ref x0] (PcG D gCl nwG Z Hb A w0)) (va_Qi (fun r (_ : Unit) => post r) (BW D gCl A (fun _ => w0)) A) 0 0 A := by
  refine Met.ofG (by decide) (Nat.le_of_ble_eq_true rfl) ?_
  intro p e s m below meth c ls hC _ hP hD hS hl
  have hC : CX RJ3 cJ3_length 1 (some .int) D gCl nwG Z Hb A p s m _ meth c := hC
  have hl : lv_has ls 1 [(0, .ref x0)] := hl
  unfold wJ3_length at hw
  refine lv_aload_n hC.x hC.b dJ3_length_0 rfl (lv_at hl 0 rfl) ?_
  refine s_val hC hP hS h_x0 dJ3_length_1 (fun b1 hb1 => ?_)
  refine s_len hC hP hS hb1 dJ3_length_4 ?_
  refine lv_aload_n hC.x hC.b dJ3_length_5 rfl (lv_at hl 0 rfl) ?_
  refine go_i (run_Vc (rest := [.int (nI B0.length)]) hC (mJ3_coder l hZ h_x0 hw) vJ3_J3_coder hJ3_coder (s_cell hC hP hS h_x0) ⟨rfl, rfl, Nat.le_of_ble_eq_true rfl, Nat.le_of_ble_eq_true rfl⟩ ⟨Nat.le_refl _, Nat.le_refl _⟩ hP hD hS hl.1 (Nat.le_of_ble_eq_true rfl) dJ3_length_6 rfl) hS (fun r2 u H locs hw8 hP hD hS => ?_)
  refine lv_ishr hC.x hC.b dJ3_length_9 ?_
  exact rt_i (u := ()) hC hw8 hP hD hS dJ3_length_10
theorem vJ3_J6_charAt : GoodIn lw_all (va_wsS RJ3 495 yJ6_charAt (ws_ yJ6_charAt cJ6_charAt 2 (some .char))) := lw_S q1642 q1643 q131 q1644
theorem vJ3_J3_isLatin1 : GoodIn lw_all (wsV RJ3 492 RJ3 yJ3_isLatin1 (ws_ yJ3_isLatin1 cJ3_isLatin1 1 (some .boolean))) := lw_V q627 q628 q629 q128 q630
theorem hJ3_charAt : yJ3_charAt.cls = RJ3 ∧ yJ3_charAt.cls ≠ "java/lang/invoke/MethodHandle" ∧ yJ3_charAt.cls ≠ "java/lang/invoke/VarHandle" ∧ (parseMethodDescriptor yJ3_charAt.desc).map (fun d => d.parameters.length) = some 1 := by decide +kernel
def wJ3_charAt (post : Int32 → Prop) (B0 : List Int32) (x1 : Int32) : Prop :=
  (wJ3_isLatin1 (fun r1 => ((r1 = 0 → False) ∧ (¬ r1 = 0 → (wJ6_charAt (fun r4 => (narrow .char (.int r4) = .int r4 ∧ post r4)) B0 x1)))) B0)
set_option maxHeartbeats 4000000 in
theorem mJ3_charAt (l : Launch) {post : Int32 → Prop} {x0 : Nat} {B0 : List Int32} {x1 : Int32} {adK adV : Nat → Nat} (hZ : ∀ U, Z U → zS adK adV A Hb U) (h_x0 : IsStr D A Hb Z w0 x0 B0) (hw : wJ3_charAt post B0 x1) : Met l yJ3_charAt (ws_ yJ3_charAt cJ3_charAt 2 (some .char)) ({ frames := 3, cells := 0, slots := 0, locals := 64 } : Room) (va_Pc [.ref x0, .int x1] (PcG D gCl nwG Z Hb A w0)) (va_Qi (fun r (_ : Unit) => post r) (BW D gCl A (fun _ => w0)) A) 0 0 A := by
  refine Met.ofG (by decide) (Nat.le_of_ble_eq_true rfl) ?_
  intro p e s m below meth c ls hC _ hP hD hS hl
  have hC : CX RJ3 cJ3_charAt 2 (some .char) D gCl nwG Z Hb A p s m _ meth c := hC
  have hl : lv_has ls 2 [(0, .ref x0), (1, .int x1)] := hl
  unfold wJ3_charAt at hw
  refine lv_aload_n hC.x hC.b dJ3_charAt_0 rfl (lv_at hl 0 rfl) ?_
  refine go_i (run_Vc (rest := []) hC (mJ3_isLatin1 l hZ h_x0 hw) vJ3_J3_isLatin1 hJ3_isLatin1 (s_cell hC hP hS h_x0) ⟨rfl, rfl, Nat.le_of_ble_eq_true rfl, Nat.le_of_ble_eq_true rfl⟩ ⟨Nat.le_refl _, Nat.le_refl _⟩ hP hD hS hl.1 (Nat.le_of_ble_eq_true rfl) dJ3_charAt_1 rfl) hS (fun r1 u H locs hw9 hP hD hS => ?_)
  refine lv_if_eq (tgt := 16) hC.x hC.b dJ3_charAt_4 (by decide) (fun c2 => ?_) (fun c2 => ?_)
  · have hw10 := hw9.1 c2
    exact hw10.elim
  · have hw11 := hw9.2 c2
    refine lv_aload_n hC.x hC.b dJ3_charAt_7 rfl (lv_at hl 0 rfl) ?_
    refine s_val hC hP hS h_x0 dJ3_charAt_8 (fun b3 hb3 => ?_)
    refine lv_iload_n hC.x hC.b dJ3_charAt_11 rfl (lv_at hl 1 rfl) ?_
    refine go_i (run_S (rest := []) hC (mJ6_charAt l hZ hb3 hw11) vJ3_J6_charAt hJ6_charAt ⟨rfl, rfl, Nat.le_of_ble_eq_true rfl, Nat.le_of_ble_eq_true rfl⟩ ⟨Nat.le_refl _, Nat.le_refl _⟩ hP hD hS hl.1 (Nat.le_of_ble_eq_true rfl) dJ3_charAt_12 rfl) hS (fun r4 u H locs hw12 hP hD hS => ?_)
    exact rt_n (u := ()) hC hw12.1 hw12.2 hP hD hS dJ3_charAt_15
theorem hJ6_equals : yJ6_equals.cls ≠ "java/lang/invoke/MethodHandle" ∧ yJ6_equals.cls ≠ "java/lang/invoke/VarHandle" ∧ (parseMethodDescriptor yJ6_equals.desc).map (fun d => d.parameters.length) = some 2 := by decide +kernel
def fJ6_equals_9 (post : Int32 → Prop) (B0 : List Int32) (B1 : List Int32) (K9 : Int32 → Prop) (x2 : Int32) : Prop :=
  (((nI B0.length) ≤ x2 → (post 1)) ∧ (¬ (nI B0.length) ≤ x2 → (vp_in x2 B0.length ∧ (vp_in x2 B1.length ∧ (((B0.getD x2.toNatClampNeg 0) = (B1.getD x2.toNatClampNeg 0) → (K9 (x2 + 1))) ∧ (¬ (B0.getD x2.toNatClampNeg 0) = (B1.getD x2.toNatClampNeg 0) → (post 0)))))))
set_option maxHeartbeats 4000000 in
theorem kJ6_equals_9 {post : Int32 → Prop} {x0 : Nat} {B0 : List Int32} {x1 : Nat} {B1 : List Int32} (hC : CX RJ6 cJ6_equals 3 (some .boolean) D gCl nwG Z Hb A p s m args meth c) {adK adV : Nat → Nat} (hZ : ∀ U, Z U → zS adK adV A Hb U) (h_x0 : IsArr D A Hb Z w0 x0 B0) (h_x1 : IsArr D A Hb Z w0 x1 B1) : ∀ z : Int32, lp (fun (K : Int32 → Prop) (z : Int32) => fJ6_equals_9 post B0 B1 K z) z → ∀ (H : Heap) (locs : List Loc) (ls : Array Slot), va_P D gCl w0 H → va_D A w0 → va_S A s.heap H locs → lv_has ls 3 [(0, .ref x0), (1, .ref x1), (2, .int z)] → W p l e ({ frames := 0, cells := 0, slots := 0, locals := 0 } : Room) s m args below meth c H locs 0 0 (MQ below (va_Qi (fun r (_ : Unit) => post r) (BW D gCl A (fun _ => w0)) A) args s 0 0 A) (F0 m 9 ls []) := by
  refine lp_ind ?_
  rintro K9 x2 hK9 hw H locs ls hP hD hS hl
  have hw : fJ6_equals_9 post B0 B1 K9 x2 := hw
  unfold fJ6_equals_9 at hw
  have hP : va_P D gCl w0 H := hP
  have hD : va_D A w0 := hD
  have hl : lv_has ls 3 [(0, .ref x0), (1, .ref x1), (2, .int x2)] := hl
  refine lv_iload_n hC.x hC.b dJ6_equals_9 rfl (lv_at hl 2 rfl) ?_
  refine lv_aload_n hC.x hC.b dJ6_equals_10 rfl (lv_at hl 0 rfl) ?_
  refine s_len hC hP hS h_x0 dJ6_equals_11 ?_
  refine lv_icmp_ge (tgt := 32) hC.x hC.b dJ6_equals_12 (by decide) (fun c2 => ?_) (fun c2 => ?_)
  · have hw15 := hw.1 c2
    refine lv_iconst (v := 1) hC.x hC.b dJ6_equals_32 (by decide) ?_
    exact rt_n (u := ()) hC rfl hw15 hP hD hS dJ6_equals_33
  · have hw16 := hw.2 c2
    refine lv_aload_n hC.x hC.b dJ6_equals_15 rfl (lv_at hl 0 rfl) ?_
    refine lv_iload_n hC.x hC.b dJ6_equals_16 rfl (lv_at hl 2 rfl) ?_
    obtain ⟨hin3, hw17⟩ := hw16
    refine s_bld hC hP hS h_x0 hin3 dJ6_equals_17 ?_
    refine lv_aload_n hC.x hC.b dJ6_equals_18 rfl (lv_at hl 1 rfl) ?_
    refine lv_iload_n hC.x hC.b dJ6_equals_19 rfl (lv_at hl 2 rfl) ?_
    obtain ⟨hin4, hw18⟩ := hw17
    refine s_bld hC hP hS h_x1 hin4 dJ6_equals_20 ?_
    refine lv_icmp_eq (tgt := 26) hC.x hC.b dJ6_equals_21 (by decide) (fun c5 => ?_) (fun c5 => ?_)
    · have hw19 := hw18.1 c5
      refine lv_iinc (v := (x2 + 1)) (lv' := [(2, .int (x2 + 1)), (0, .ref x0), (1, .ref x1)]) hC.x hC.b dJ6_equals_26 hl (k := 2) rfl rfl (by decide) rfl (fun ls hl => ?_)
      refine lv_goto (tgt := 9) hC.x hC.b dJ6_equals_29 (by decide) ?_
      exact hK9 (x2 + 1) hw19 H locs ls hP hD hS (lv_sub hl [1, 2, 0] rfl)
    · have hw20 := hw18.2 c5
      refine lv_iconst (v := 0) hC.x hC.b dJ6_equals_24 (by decide) ?_
      exact rt_n (u := ()) hC rfl hw20 hP hD hS dJ6_equals_25
def wJ6_equals (post : Int32 → Prop) (B0 : List Int32) (B1 : List Int32) : Prop :=
  ((¬ (nI B0.length) = (nI B1.length) → (post 0)) ∧ ((nI B0.length) = (nI B1.length) → (lp (fun (K : Int32 → Prop) (z : Int32) => fJ6_equals_9 post B0 B1 K z) 0)))
set_option maxHeartbeats 4000000 in
theorem mJ6_equals (l : Launch) {post : Int32 → Prop} {x0 : Nat} {B0 : List Int32} {x1 : Nat} {B1 : List Int32} {adK adV : Nat → Nat} (hZ : ∀ U, Z U → zS adK adV A Hb U) (h_x0 : IsArr D A Hb Z w0 x0 B0) (h_x1 : IsArr D A Hb Z w0 x1 B1) (hw : wJ6_equals post B0 B1) : Met l yJ6_equals (ws_ yJ6_equals cJ6_equals 3 (some .boolean)) ({ frames := 0, cells := 0, slots := 0, locals := 0 } : Room) (va_Pc [.ref x0, .ref x1] (PcG D gCl nwG Z Hb A w0)) (va_Qi (fun r (_ : Unit) => post r) (BW D gCl A (fun _ => w0)) A) 0 0 A := by
  refine Met.ofG (by decide) (Nat.le_of_ble_eq_true rfl) ?_
  intro p e s m below meth c ls hC _ hP hD hS hl
  have hC : CX RJ6 cJ6_equals 3 (some .boolean) D gCl nwG Z Hb A p s m _ meth c := hC
  have hl : lv_has ls 3 [(0, .ref x0), (1, .ref x1)] := hl
  unfold wJ6_equals at hw
  refine lv_aload_n hC.x hC.b dJ6_equals_0 rfl (lv_at hl 0 rfl) ?_
  refine s_len hC hP hS h_x0 dJ6_equals_1 ?_
  refine lv_aload_n hC.x hC.b dJ6_equals_2 rfl (lv_at hl 1 rfl) ?_
  refine s_len hC hP hS h_x1 dJ6_equals_3 ?_
  refine lv_icmp_ne (tgt := 34) hC.x hC.b dJ6_equals_4 (by decide) (fun c1 => ?_) (fun c1 => ?_)
  · have hw13 := hw.1 c1
    refine lv_iconst (v := 0) hC.x hC.b dJ6_equals_34 (by decide) ?_
    exact rt_n (u := ()) hC rfl hw13 hP hD hS dJ6_equals_35
  · have hw14 := hw.2 c1
    refine lv_iconst (v := 0) hC.x hC.b dJ6_equals_7 (by decide) ?_
    refine lv_istore_n (lv' := [(2, .int 0), (0, .ref x0), (1, .ref x1)]) hC.x hC.b dJ6_equals_8 rfl hl (by decide) rfl (fun ls hl => ?_)
    exact kJ6_equals_9 hC hZ h_x0 h_x1 0 hw14 s.heap [] ls hP hD hS (lv_sub hl [1, 2, 0] rfl)
theorem vJ3_J6_equals : GoodIn lw_all (va_wsS RJ3 541 yJ6_equals (ws_ yJ6_equals cJ6_equals 3 (some .boolean))) := lw_S q682 q683 q131 q684
theorem hJ3_equals : yJ3_equals.cls = RJ3 ∧ yJ3_equals.cls ≠ "java/lang/invoke/MethodHandle" ∧ yJ3_equals.cls ≠ "java/lang/invoke/VarHandle" ∧ (parseMethodDescriptor yJ3_equals.desc).map (fun d => d.parameters.length) = some 1 := by decide +kernel
def wJ3_equals (post : Int32 → Prop) (B0 : List Int32) (B1 : List Int32) : Prop :=
  ((B0 = B1 → (post 1)) ∧ (wJ6_equals (fun r4 => ((r4 = 0 → (post 0)) ∧ (¬ r4 = 0 → (post 1)))) B0 B1))
set_option maxHeartbeats 4000000 in
theorem mJ3_equals (l : Launch) {post : Int32 → Prop} {x0 : Nat} {B0 : List Int32} {x1 : Nat} {B1 : List Int32} {adK adV : Nat → Nat} (hZ : ∀ U, Z U → zS adK adV A Hb U) (h_x0 : PStr D w0 x0 B0) (h_x1 : IsStr D A Hb Z w0 x1 B1) (hw : wJ3_equals post B0 B1) : Met l yJ3_equals (ws_ yJ3_equals cJ3_equals 3 (some .boolean)) ({ frames := 1, cells := 0, slots := 0, locals := 22 } : Room) (va_Pc [.ref x0, .ref x1] (PcG D gCl nwG Z Hb A w0)) (va_Qi (fun r (_ : Unit) => post r) (BW D gCl A (fun _ => w0)) A) 0 0 A := by
  refine Met.ofG (by decide) (Nat.le_of_ble_eq_true rfl) ?_
  intro p e s m below meth c ls hC _ hP hD hS hl
  have hC : CX RJ3 cJ3_equals 3 (some .boolean) D gCl nwG Z Hb A p s m _ meth c := hC
  have hl : lv_has ls 3 [(0, .ref x0), (1, .ref x1)] := hl
  unfold wJ3_equals at hw
  refine lv_aload_n hC.x hC.b dJ3_equals_0 rfl (lv_at hl 0 rfl) ?_
  refine lv_aload_n hC.x hC.b dJ3_equals_1 rfl (lv_at hl 1 rfl) ?_
  refine lv_acmp_ne (rx := some x0) (ry := some x1) (tgt := 7) hC.x hC.b dJ3_equals_2 (by decide) (fun c1 => ?_) (fun c1 => ?_)
  · have hw21 := hw.2
    refine lv_aload_n hC.x hC.b dJ3_equals_7 rfl (lv_at hl 1 rfl) ?_
    refine va_instE hC.x hC.b hC.ow (hC.ts _ q681) (s_cell hC hP hS h_x1) dJ3_equals_8 ?_
    refine lv_if_eq (tgt := 54) hC.x hC.b dJ3_equals_11 (by decide) (fun c => absurd c (by decide)) (fun _ => ?_)
    refine lv_aload_n hC.x hC.b dJ3_equals_14 rfl (lv_at hl 1 rfl) ?_
    refine va_castE hC.x hC.b hC.ow (hC.ts _ q681) (s_cell hC hP hS h_x1) dJ3_equals_15 ?_
    refine lv_astore_n (lv' := [(2, .ref x1), (0, .ref x0), (1, .ref x1)]) hC.x hC.b dJ3_equals_18 rfl hl (by decide) rfl (fun ls hl => ?_)
    refine s_cs hC hZ hS dJ3_equals_19 ?_
    refine lv_if_eq (tgt := 36) hC.x hC.b dJ3_equals_22 (by decide) (fun c => absurd c (by decide)) (fun _ => ?_)
    refine lv_aload_n hC.x hC.b dJ3_equals_25 rfl (lv_at hl 1 rfl) ?_
    refine s_cod hC hP hS (Or.inl h_x0) dJ3_equals_26 ?_
    refine lv_aload_n hC.x hC.b dJ3_equals_29 rfl (lv_at hl 0 rfl) ?_
    refine s_cod hC hP hS h_x1 dJ3_equals_30 ?_
    refine lv_icmp_ne (tgt := 54) hC.x hC.b dJ3_equals_33 (by decide) (fun c => absurd c (by decide)) (fun _ => ?_)
    refine lv_aload_n hC.x hC.b dJ3_equals_36 rfl (lv_at hl 1 rfl) ?_
    refine s_val hC hP hS (Or.inl h_x0) dJ3_equals_37 (fun b2 hb2 => ?_)
    refine lv_aload_n hC.x hC.b dJ3_equals_40 rfl (lv_at hl 0 rfl) ?_
    refine s_val hC hP hS h_x1 dJ3_equals_41 (fun b3 hb3 => ?_)
    refine go_i (run_S (rest := []) hC (mJ6_equals l hZ hb2 hb3 hw21) vJ3_J6_equals hJ6_equals ⟨rfl, rfl, Nat.le_of_ble_eq_true rfl, Nat.le_of_ble_eq_true rfl⟩ ⟨Nat.le_refl _, Nat.le_refl _⟩ hP hD hS hl.1 (Nat.le_of_ble_eq_true rfl) dJ3_equals_44 rfl) hS (fun r4 u H locs hw22 hP hD hS => ?_)
    refine lv_if_eq (tgt := 54) hC.x hC.b dJ3_equals_47 (by decide) (fun c5 => ?_) (fun c5 => ?_)
    · have hw23 := hw22.1 c5
      refine lv_iconst (v := 0) hC.x hC.b dJ3_equals_54 (by decide) ?_
      exact rt_n (u := ()) hC rfl hw23 hP hD hS dJ3_equals_55
    · have hw24 := hw22.2 c5
      refine lv_iconst (v := 1) hC.x hC.b dJ3_equals_50 (by decide) ?_
      refine lv_goto (tgt := 55) hC.x hC.b dJ3_equals_51 (by decide) ?_
      exact rt_n (u := ()) hC rfl hw24 hP hD hS dJ3_equals_55
  · have hw25 := hw.1 (s_same h_x0 (by rw [Option.some.inj c1]; exact h_x1) hC.K.2.2.2 hP hD)
    refine lv_iconst (v := 1) hC.x hC.b dJ3_equals_5 (by decide) ?_
    exact rt_n (u := ()) hC rfl hw25 hP hD hS dJ3_equals_6
theorem hJ7_signedHashCode : yJ7_signedHashCode.cls ≠ "java/lang/invoke/MethodHandle" ∧ yJ7_signedHashCode.cls ≠ "java/lang/invoke/VarHandle" ∧ (parseMethodDescriptor yJ7_signedHashCode.desc).map (fun d => d.parameters.length) = some 4 := by decide +kernel
def fJ7_signedHashCode_8 (post : Int32 → Prop) (B1 : List Int32) (x4 : Int32) (K8 : (Int32 × Int32) → Prop) (x0 : Int32) (x5 : Int32) : Prop :=
  ((x4 ≤ x5 → (post x0)) ∧ (¬ x4 ≤ x5 → (vp_in x5 B1.length ∧ (K8 (((31 * x0) + ((B1.getD x5.toNatClampNeg 0) &&& 255)), (x5 + 1))))))
set_option maxHeartbeats 4000000 in
theorem kJ7_signedHashCode_8 {post : Int32 → Prop} {x1 : Nat} {B1 : List Int32} {x4 : Int32} (hC : CX RJ7 cJ7_signedHashCode 6 (some .int) D gCl nwG Z Hb A p s m args meth c) {adK adV : Nat → Nat} (hZ : ∀ U, Z U → zS adK adV A Hb U) (h_x1 : PArr D w0 x1 B1) : ∀ z : (Int32 × Int32), lp (fun (K : (Int32 × Int32) → Prop) (z : (Int32 × Int32)) => fJ7_signedHashCode_8 post B1 x4 K z.1 z.2) z → ∀ (H : Heap) (locs : List Loc) (ls : Array Slot), va_P D gCl w0 H → va_D A w0 → va_S A s.heap H locs → lv_has ls 6 [(0, .int z.1), (1, .ref x1), (4, .int x4), (5, .int z.2)] → W p l e ({ frames := 0, cells := 0, slots := 0, locals := 0 } : Room) s m args below meth c H locs 0 0 (MQ below (va_Qi (fun r (_ : Unit) => post r) (BW D gCl A (fun _ => w0)) A) args s 0 0 A) (F0 m 8 ls []) := by
  refine lp_ind ?_
  rintro K8 ⟨x0, x5⟩ hK8 hw H locs ls hP hD hS hl
  have hw : fJ7_signedHashCode_8 post B1 x4 K8 x0 x5 := hw
  unfold fJ7_signedHashCode_8 at hw
  have hP : va_P D gCl w0 H := hP
  have hD : va_D A w0 := hD
  have hl : lv_has ls 6 [(0, .int x0), (1, .ref x1), (4, .int x4), (5, .int x5)] := hl
  refine lv_iload hC.x hC.b dJ7_signedHashCode_8 (lv_at hl 3 rfl) ?_
  refine lv_iload hC.x hC.b dJ7_signedHashCode_10 (lv_at hl 2 rfl) ?_
  refine lv_icmp_ge (tgt := 35) hC.x hC.b dJ7_signedHashCode_12 (by decide) (fun c1 => ?_) (fun c1 => ?_)
  · have hw26 := hw.1 c1
    refine lv_iload_n hC.x hC.b dJ7_signedHashCode_35 rfl (lv_at hl 0 rfl) ?_
    exact rt_i (u := ()) hC hw26 hP hD hS dJ7_signedHashCode_36
  · have hw27 := hw.2 c1
    refine lv_bipush (v := 31) hC.x hC.b dJ7_signedHashCode_15 (by decide) ?_
    refine lv_iload_n hC.x hC.b dJ7_signedHashCode_17 rfl (lv_at hl 0 rfl) ?_
    refine lv_imul hC.x hC.b dJ7_signedHashCode_18 ?_
    refine lv_aload_n hC.x hC.b dJ7_signedHashCode_19 rfl (lv_at hl 1 rfl) ?_
    refine lv_iload hC.x hC.b dJ7_signedHashCode_20 (lv_at hl 3 rfl) ?_
    obtain ⟨hin2, hw28⟩ := hw27
    refine s_bld hC hP hS (h_x1.arr) hin2 dJ7_signedHashCode_22 ?_
    refine lv_sipush (v := 255) hC.x hC.b dJ7_signedHashCode_23 (by decide) ?_
    refine lv_iand hC.x hC.b dJ7_signedHashCode_26 ?_
    refine lv_iadd hC.x hC.b dJ7_signedHashCode_27 ?_
    refine lv_istore_n (lv' := [(0, .int ((31 * x0) + ((B1.getD x5.toNatClampNeg 0) &&& 255))), (1, .ref x1), (4, .int x4), (5, .int x5)]) hC.x hC.b dJ7_signedHashCode_28 rfl hl (by decide) rfl (fun ls hl => ?_)
    refine lv_iinc (v := (x5 + 1)) (lv' := [(5, .int (x5 + 1)), (0, .int ((31 * x0) + ((B1.getD x5.toNatClampNeg 0) &&& 255))), (1, .ref x1), (4, .int x4)]) hC.x hC.b dJ7_signedHashCode_29 hl (k := 3) rfl rfl (by decide) rfl (fun ls hl => ?_)
    refine lv_goto (tgt := 8) hC.x hC.b dJ7_signedHashCode_32 (by decide) ?_
    exact hK8 (((31 * x0) + ((B1.getD x5.toNatClampNeg 0) &&& 255)), (x5 + 1)) hw28 H locs ls hP hD hS (lv_sub hl [1, 2, 3, 0] rfl)
def wJ7_signedHashCode (post : Int32 → Prop) (x0 : Int32) (B1 : List Int32) (x2 : Int32) (x3 : Int32) : Prop :=
  (lp (fun (K : (Int32 × Int32) → Prop) (z : (Int32 × Int32)) => fJ7_signedHashCode_8 post B1 (x2 + x3) K z.1 z.2) (x0, x2))
set_option maxHeartbeats 4000000 in
theorem mJ7_signedHashCode (l : Launch) {post : Int32 → Prop} {x0 : Int32} {x1 : Nat} {B1 : List Int32} {x2 : Int32} {x3 : Int32} {adK adV : Nat → Nat} (hZ : ∀ U, Z U → zS adK adV A Hb U) (h_x1 : PArr D w0 x1 B1) (hw : wJ7_signedHashCode post x0 B1 x2 x3) : Met l yJ7_signedHashCode (ws_ yJ7_signedHashCode cJ7_signedHashCode 6 (some .int)) ({ frames := 0, cells := 0, slots := 0, locals := 0 } : Room) (va_Pc [.int x0, .ref x1, .int x2, .int x3] (PcG D gCl nwG Z Hb A w0)) (va_Qi (fun r (_ : Unit) => post r) (BW D gCl A (fun _ => w0)) A) 0 0 A := by
  refine Met.ofG (by decide) (Nat.le_of_ble_eq_true rfl) ?_
  intro p e s m below meth c ls hC _ hP hD hS hl
  have hC : CX RJ7 cJ7_signedHashCode 6 (some .int) D gCl nwG Z Hb A p s m _ meth c := hC
  have hl : lv_has ls 6 [(0, .int x0), (1, .ref x1), (2, .int x2), (3, .int x3)] := hl
  unfold wJ7_signedHashCode at hw
  refine lv_iload_n hC.x hC.b dJ7_signedHashCode_0 rfl (lv_at hl 2 rfl) ?_
  refine lv_iload_n hC.x hC.b dJ7_signedHashCode_1 rfl (lv_at hl 3 rfl) ?_
  refine lv_iadd hC.x hC.b dJ7_signedHashCode_2 ?_
  refine lv_istore (lv' := [(4, .int (x2 + x3)), (0, .int x0), (1, .ref x1), (2, .int x2), (3, .int x3)]) hC.x hC.b dJ7_signedHashCode_3 hl (by decide) rfl (fun ls hl => ?_)
  refine lv_iload_n hC.x hC.b dJ7_signedHashCode_5 rfl (lv_at hl 3 rfl) ?_
  refine lv_istore (lv' := [(5, .int x2), (4, .int (x2 + x3)), (0, .int x0), (1, .ref x1), (2, .int x2), (3, .int x3)]) hC.x hC.b dJ7_signedHashCode_6 hl (by decide) rfl (fun ls hl => ?_)
  exact kJ7_signedHashCode_8 hC hZ h_x1 (x0, x2) hw s.heap [] ls hP hD hS (lv_sub hl [2, 3, 1, 0] rfl)
theorem vJ7_J7_signedHashCode : GoodIn lw_all (va_wsS RJ7 62 yJ7_signedHashCode (ws_ yJ7_signedHashCode cJ7_signedHashCode 6 (some .int))) := lw_S q638 q639 q132 q640
theorem hJ7_vectorizedHashCode : yJ7_vectorizedHashCode.cls ≠ "java/lang/invoke/MethodHandle" ∧ yJ7_vectorizedHashCode.cls ≠ "java/lang/invoke/VarHandle" ∧ (parseMethodDescriptor yJ7_vectorizedHashCode.desc).map (fun d => d.parameters.length) = some 5 := by decide +kernel
def wJ7_vectorizedHashCode (post : Int32 → Prop) (B0 : List Int32) (x1 : Int32) (x2 : Int32) (x3 : Int32) (x4 : Int32) : Prop :=
  (wJ7_signedHashCode (fun r1 => (post r1)) x3 B0 x1 x2)
set_option maxHeartbeats 4000000 in
theorem mJ7_vectorizedHashCode (l : Launch) {post : Int32 → Prop} {x0 : Nat} {B0 : List Int32} {x1 : Int32} {x2 : Int32} {x3 : Int32} {adK adV : Nat → Nat} (hZ : ∀ U, Z U → zS adK adV A Hb U) (h_x0 : PArr D w0 x0 B0) (hw : wJ7_vectorizedHashCode post B0 x1 x2 x3 4) : Met l yJ7_vectorizedHashCode (ws_ yJ7_vectorizedHashCode cJ7_vectorizedHashCode 5 (some .int)) ({ frames := 1, cells := 0, slots := 0, locals := 25 } : Room) (va_Pc [.ref x0, .int x1, .int x2, .int x3, .int 4] (PcG D gCl nwG Z Hb A w0)) (va_Qi (fun r (_ : Unit) => post r) (BW D gCl A (fun _ => w0)) A) 0 0 A := by
  refine Met.ofG (by decide) (Nat.le_of_ble_eq_true rfl) ?_
  intro p e s m below meth c ls hC _ hP hD hS hl
  have hC : CX RJ7 cJ7_vectorizedHashCode 5 (some .int) D gCl nwG Z Hb A p s m _ meth c := hC
  have hl : lv_has ls 5 [(0, .ref x0), (1, .int x1), (2, .int x2), (3, .int x3), (4, .int 4)] := hl
  unfold wJ7_vectorizedHashCode at hw
  refine lv_iload hC.x hC.b dJ7_vectorizedHashCode_0 (lv_at hl 4 rfl) ?_
  refine lv_tableIn (off := 42) (tgt := 44) hC.x hC.b dJ7_vectorizedHashCode_2 (by decide) (by decide) rfl (by decide) ?_
  refine lv_iload_n hC.x hC.b dJ7_vectorizedHashCode_44 rfl (lv_at hl 3 rfl) ?_
  refine lv_aload_n hC.x hC.b dJ7_vectorizedHashCode_45 rfl (lv_at hl 0 rfl) ?_
  refine s_castB hC hP hS h_x0.2.choose_spec (hC.ts _ q637) dJ7_vectorizedHashCode_46 ?_
  refine lv_iload_n hC.x hC.b dJ7_vectorizedHashCode_49 rfl (lv_at hl 1 rfl) ?_
  refine lv_iload_n hC.x hC.b dJ7_vectorizedHashCode_50 rfl (lv_at hl 2 rfl) ?_
  refine go_i (run_S (rest := []) hC (mJ7_signedHashCode l hZ h_x0 hw) vJ7_J7_signedHashCode hJ7_signedHashCode ⟨rfl, rfl, Nat.le_of_ble_eq_true rfl, Nat.le_of_ble_eq_true rfl⟩ ⟨Nat.le_refl _, Nat.le_refl _⟩ hP hD hS hl.1 (Nat.le_of_ble_eq_true rfl) dJ7_vectorizedHashCode_51 rfl) hS (fun r1 u H locs hw29 hP hD hS => ?_)
  refine lv_goto (tgt := 157) hC.x hC.b dJ7_vectorizedHashCode_54 (by decide) ?_
  exact rt_i (u := ()) hC hw29 hP hD hS dJ7_vectorizedHashCode_157
theorem vJ6_J7_vectorizedHashCode : GoodIn lw_all (va_wsS RJ6 84 yJ7_vectorizedHashCode (ws_ yJ7_vectorizedHashCode cJ7_vectorizedHashCode 5 (some .int))) := lw_S q634 q635 q132 q636
theorem hJ6_hashCode : yJ6_hashCode.cls ≠ "java/lang/invoke/MethodHandle" ∧ yJ6_hashCode.cls ≠ "java/lang/invoke/VarHandle" ∧ (parseMethodDescriptor yJ6_hashCode.desc).map (fun d => d.parameters.length) = some 1 := by decide +kernel
def wJ6_hashCode (post : Int32 → Prop) (B0 : List Int32) : Prop :=
  (((nI B0.length) = 0 → (post 0)) ∧ (¬ (nI B0.length) = 0 → (((nI B0.length) = 1 → (vp_in 0 B0.length ∧ (post ((B0.getD (0 : Int32).toNatClampNeg 0) &&& 255)))) ∧ (¬ (nI B0.length) = 1 → (wJ7_vectorizedHashCode (fun r4 => (post r4)) B0 0 (nI B0.length) 0 4)))))
set_option maxHeartbeats 4000000 in
theorem mJ6_hashCode (l : Launch) {post : Int32 → Prop} {x0 : Nat} {B0 : List Int32} {adK adV : Nat → Nat} (hZ : ∀ U, Z U → zS adK adV A Hb U) (h_x0 : PArr D w0 x0 B0) (hw : wJ6_hashCode post B0) : Met l yJ6_hashCode (ws_ yJ6_hashCode cJ6_hashCode 1 (some .int)) ({ frames := 2, cells := 0, slots := 0, locals := 49 } : Room) (va_Pc [.ref x0] (PcG D gCl nwG Z Hb A w0)) (va_Qi (fun r (_ : Unit) => post r) (BW D gCl A (fun _ => w0)) A) 0 0 A := by
  refine Met.ofG (by decide) (Nat.le_of_ble_eq_true rfl) ?_
  intro p e s m below meth c ls hC _ hP hD hS hl
  have hC : CX RJ6 cJ6_hashCode 1 (some .int) D gCl nwG Z Hb A p s m _ meth c := hC
  have hl : lv_has ls 1 [(0, .ref x0)] := hl
  unfold wJ6_hashCode at hw
  refine lv_aload_n hC.x hC.b dJ6_hashCode_0 rfl (lv_at hl 0 rfl) ?_
  refine s_len hC hP hS (h_x0.arr) dJ6_hashCode_1 ?_
  by_cases c1 : (nI B0.length) = 0
  · have hw30 := hw.1 c1
    refine lv_lookup (off := 26) (tgt := 28) hC.x hC.b dJ6_hashCode_2 (by decide +kernel) (by rw [c1]; decide +kernel) (by decide) ?_
    refine lv_iconst (v := 0) hC.x hC.b dJ6_hashCode_28 (by decide) ?_
    refine lv_goto (tgt := 51) hC.x hC.b dJ6_hashCode_29 (by decide) ?_
    exact rt_i (u := ()) hC hw30 hP hD hS dJ6_hashCode_51
  · have hw31 := hw.2 c1
    by_cases c2 : (nI B0.length) = 1
    · have hw32 := hw31.1 c2
      refine lv_lookup (off := 30) (tgt := 32) hC.x hC.b dJ6_hashCode_2 (by decide +kernel) (by rw [c2]; decide +kernel) (by decide) ?_
      refine lv_aload_n hC.x hC.b dJ6_hashCode_32 rfl (lv_at hl 0 rfl) ?_
      refine lv_iconst (v := 0) hC.x hC.b dJ6_hashCode_33 (by decide) ?_
      obtain ⟨hin3, hw33⟩ := hw32
      refine s_bld hC hP hS (h_x0.arr) hin3 dJ6_hashCode_34 ?_
      refine lv_sipush (v := 255) hC.x hC.b dJ6_hashCode_35 (by decide) ?_
      refine lv_iand hC.x hC.b dJ6_hashCode_38 ?_
      refine lv_goto (tgt := 51) hC.x hC.b dJ6_hashCode_39 (by decide) ?_
      exact rt_i (u := ()) hC hw33 hP hD hS dJ6_hashCode_51
    · have hw34 := hw31.2 c2
      refine lv_lookup (off := 40) (tgt := 42) hC.x hC.b dJ6_hashCode_2 (by decide +kernel) (by show Op.lookupswitch.offset [(0, 26), (1, 30)] (40) _ = (40); rw [Op.lookupswitch.offset_cons, if_neg (fun q => lv_neT c1 (a := 0) rfl q.symm)]; rw [Op.lookupswitch.offset_cons, if_neg (fun q => lv_neT c2 (a := 1) rfl q.symm)]; rfl) (by decide) ?_
      refine lv_aload_n hC.x hC.b dJ6_hashCode_42 rfl (lv_at hl 0 rfl) ?_
      refine lv_iconst (v := 0) hC.x hC.b dJ6_hashCode_43 (by decide) ?_
      refine lv_aload_n hC.x hC.b dJ6_hashCode_44 rfl (lv_at hl 0 rfl) ?_
      refine s_len hC hP hS (h_x0.arr) dJ6_hashCode_45 ?_
      refine lv_iconst (v := 0) hC.x hC.b dJ6_hashCode_46 (by decide) ?_
      refine lv_iconst (v := 4) hC.x hC.b dJ6_hashCode_47 (by decide) ?_
      refine go_i (run_S (rest := []) hC (mJ7_vectorizedHashCode l hZ h_x0 hw34) vJ6_J7_vectorizedHashCode hJ7_vectorizedHashCode ⟨rfl, rfl, Nat.le_of_ble_eq_true rfl, Nat.le_of_ble_eq_true rfl⟩ ⟨Nat.le_refl _, Nat.le_refl _⟩ hP hD hS hl.1 (Nat.le_of_ble_eq_true rfl) dJ6_hashCode_48 rfl) hS (fun r4 u H locs hw35 hP hD hS => ?_)
      exact rt_i (u := ()) hC hw35 hP hD hS dJ6_hashCode_51
theorem hJ4_checkFromIndexSize : yJ4_checkFromIndexSize.cls ≠ "java/lang/invoke/MethodHandle" ∧ yJ4_checkFromIndexSize.cls ≠ "java/lang/invoke/VarHandle" ∧ (parseMethodDescriptor yJ4_checkFromIndexSize.desc).map (fun d => d.parameters.length) = some 4 := by decide +kernel
def wJ4_checkFromIndexSize (post : Int32 → Prop) (x0 : Int32) (x1 : Int32) (x2 : Int32) : Prop :=
  ((((x2 ||| x0) ||| x1) < 0 → False) ∧ (¬ ((x2 ||| x0) ||| x1) < 0 → ((x1 ≤ (x2 - x0) → (post x0)) ∧ (¬ x1 ≤ (x2 - x0) → False))))
set_option maxHeartbeats 4000000 in
theorem mJ4_checkFromIndexSize (l : Launch) {post : Int32 → Prop} {x0 : Int32} {x1 : Int32} {x2 : Int32} {o3 : Option Nat} {adK adV : Nat → Nat} (hZ : ∀ U, Z U → zS adK adV A Hb U) (hw : wJ4_checkFromIndexSize post x0 x1 x2) : Met l yJ4_checkFromIndexSize (ws_ yJ4_checkFromIndexSize cJ4_checkFromIndexSize 4 (some .int)) ({ frames := 0, cells := 0, slots := 0, locals := 0 } : Room) (va_Pc [.int x0, .int x1, .int x2, va_rf o3] (PcG D gCl nwG Z Hb A w0)) (va_Qi (fun r (_ : Unit) => post r) (BW D gCl A (fun _ => w0)) A) 0 0 A := by
  refine Met.ofG (by decide) (Nat.le_of_ble_eq_true (by cases o3 <;> rfl)) ?_
  intro p e s m below meth c ls hC _ hP hD hS hl
  have hC : CX RJ4 cJ4_checkFromIndexSize 4 (some .int) D gCl nwG Z Hb A p s m _ meth c := hC
  have hl : lv_has ls 4 [(0, .int x0), (1, .int x1), (2, .int x2), (3, va_rf o3)] := hl
  unfold wJ4_checkFromIndexSize at hw
  refine lv_iload_n hC.x hC.b dJ4_checkFromIndexSize_0 rfl (lv_at hl 2 rfl) ?_
  refine lv_iload_n hC.x hC.b dJ4_checkFromIndexSize_1 rfl (lv_at hl 0 rfl) ?_
  refine lv_ior hC.x hC.b dJ4_checkFromIndexSize_2 ?_
  refine lv_iload_n hC.x hC.b dJ4_checkFromIndexSize_3 rfl (lv_at hl 1 rfl) ?_
  refine lv_ior hC.x hC.b dJ4_checkFromIndexSize_4 ?_
  refine lv_if_lt (tgt := 15) hC.x hC.b dJ4_checkFromIndexSize_5 (by decide) (fun c1 => ?_) (fun c1 => ?_)
  · have hw36 := hw.1 c1
    exact hw36.elim
  · have hw37 := hw.2 c1
    refine lv_iload_n hC.x hC.b dJ4_checkFromIndexSize_8 rfl (lv_at hl 1 rfl) ?_
    refine lv_iload_n hC.x hC.b dJ4_checkFromIndexSize_9 rfl (lv_at hl 2 rfl) ?_
    refine lv_iload_n hC.x hC.b dJ4_checkFromIndexSize_10 rfl (lv_at hl 0 rfl) ?_
    refine lv_isub hC.x hC.b dJ4_checkFromIndexSize_11 ?_
    refine lv_icmp_le (tgt := 23) hC.x hC.b dJ4_checkFromIndexSize_12 (by decide) (fun c2 => ?_) (fun c2 => ?_)
    · have hw38 := hw37.1 c2
      refine lv_iload_n hC.x hC.b dJ4_checkFromIndexSize_23 rfl (lv_at hl 0 rfl) ?_
      exact rt_i (u := ()) hC hw38 hP hD hS dJ4_checkFromIndexSize_24
    · have hw39 := hw37.2 c2
      exact hw39.elim
theorem vJ3_J4_checkFromIndexSize : GoodIn lw_all (va_wsS RJ3 1065 yJ4_checkFromIndexSize (ws_ yJ4_checkFromIndexSize cJ4_checkFromIndexSize 4 (some .int))) := lw_S q542 q543 q129 q544
theorem hJ3_checkBoundsOffCount : yJ3_checkBoundsOffCount.cls ≠ "java/lang/invoke/MethodHandle" ∧ yJ3_checkBoundsOffCount.cls ≠ "java/lang/invoke/VarHandle" ∧ (parseMethodDescriptor yJ3_checkBoundsOffCount.desc).map (fun d => d.parameters.length) = some 3 := by decide +kernel
def wJ3_checkBoundsOffCount (post : Int32 → Prop) (x0 : Int32) (x1 : Int32) (x2 : Int32) : Prop :=
  (wJ4_checkFromIndexSize (fun r2 => (post r2)) x0 x1 x2)
set_option maxHeartbeats 4000000 in
theorem mJ3_checkBoundsOffCount (l : Launch) {post : Int32 → Prop} {x0 : Int32} {x1 : Int32} {x2 : Int32} {adK adV : Nat → Nat} (hZ : ∀ U, Z U → zS adK adV A Hb U) (hw : wJ3_checkBoundsOffCount post x0 x1 x2) : Met l yJ3_checkBoundsOffCount (ws_ yJ3_checkBoundsOffCount cJ3_checkBoundsOffCount 3 (some .int)) ({ frames := 1, cells := 0, slots := 0, locals := 23 } : Room) (va_Pc [.int x0, .int x1, .int x2] (PcG D gCl nwG Z Hb A w0)) (va_Qi (fun r (_ : Unit) => post r) (BW D gCl A (fun _ => w0)) A) 0 0 A := by
  refine Met.ofG (by decide) (Nat.le_of_ble_eq_true rfl) ?_
  intro p e s m below meth c ls hC _ hP hD hS hl
  have hC : CX RJ3 cJ3_checkBoundsOffCount 3 (some .int) D gCl nwG Z Hb A p s m _ meth c := hC
  have hl : lv_has ls 3 [(0, .int x0), (1, .int x1), (2, .int x2)] := hl
  unfold wJ3_checkBoundsOffCount at hw
  refine lv_iload_n hC.x hC.b dJ3_checkBoundsOffCount_0 rfl (lv_at hl 0 rfl) ?_
  refine lv_iload_n hC.x hC.b dJ3_checkBoundsOffCount_1 rfl (lv_at hl 1 rfl) ?_
  refine lv_iload_n hC.x hC.b dJ3_checkBoundsOffCount_2 rfl (lv_at hl 2 rfl) ?_
  refine s_fmt hC hZ hS dJ3_checkBoundsOffCount_3 (fun o1 => ?_)
  refine go_i (run_S (rest := []) hC (mJ4_checkFromIndexSize l hZ hw) vJ3_J4_checkFromIndexSize hJ4_checkFromIndexSize ⟨rfl, rfl, Nat.le_of_ble_eq_true rfl, Nat.le_of_ble_eq_true rfl⟩ ⟨Nat.le_refl _, Nat.le_refl _⟩ hP hD hS hl.1 (Nat.le_of_ble_eq_true rfl) dJ3_checkBoundsOffCount_6 rfl) hS (fun r2 u H locs hw40 hP hD hS => ?_)
  exact rt_i (u := ()) hC hw40 hP hD hS dJ3_checkBoundsOffCount_9
end JWa
