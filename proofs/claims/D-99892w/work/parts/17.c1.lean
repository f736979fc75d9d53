set_option maxRecDepth 100000
section CWc1
variable {p : Program} {l : Launch} {e : Env} {s : State} {m : MethodId} {args : Array Value} {below : List Frame} {meth : Method} {c : Code} {D : va_G} {Z : State → Prop} {Hb : Heap} {A : Nat → Prop} {ad : Nat → Nat} {sc : Option Nat × Option Nat × (Nat → Value)} {tw : Option TD} {τ : TD} {w0 : va_W} {b0 : Nat}
theorem h1_bytes : yX1_bytes.cls = RX1 ∧ yX1_bytes.cls ≠ "java/lang/invoke/MethodHandle" ∧ yX1_bytes.cls ≠ "java/lang/invoke/VarHandle" ∧ (parseMethodDescriptor yX1_bytes.desc).map (fun d => d.parameters.length) = some 1 := by decide +kernel
def f1_bytes_3 (post : CS → Prop) (x1 : Int32) (K3 : (CS × Int32) → Prop) (S : CS) (x2 : Int32) : Prop :=
  ((x2 < 0 → (post S)) ∧ (¬ x2 < 0 → (vp_in (S.1.1 0 1) 800 ∧ (∀ S3, S3 = sI S 1 (S.1.1 0 1).toNatClampNeg (vp_nar .byte ((x1 >>> (x2 &&& 31)).toInt8.toInt32)) → (∀ S4, S4 = sI S3 0 1 ((S3.1.1 0 1) + 1) → (K3 (S4, (x2 + (-8)))))))))
set_option maxHeartbeats 4000000 in
theorem k1_bytes_3 {post : CS → Prop} {x1 : Int32} (hC : CX RX1 cX1_bytes 3 none D gCl nwG Z Hb A p s m args meth c) : ∀ z : (CS × Int32), lp (fun (K : (CS × Int32) → Prop) (z : (CS × Int32)) => f1_bytes_3 post x1 K z.1 z.2) z → ∀ (H : Heap) (locs : List Loc) (ls : Array Slot), va_P D gCl (wC D ad sc tw z.1) H → va_D A (wC D ad sc tw z.1) → va_S A s.heap H locs → lv_has ls 3 [(0, .ref (ad 0)), (1, .int x1), (2, .int z.2)] → W p l e ({ frames := 0, cells := 0, slots := 0, locals := 0 } : Room) s m args below meth c H locs 0 0 (MQ below (va_Qv post (BW D gCl A (fun u => (wC D ad sc tw u))) A) args s 0 0 A) (F0 m 3 ls []) := by
  refine lp_ind ?_
  rintro K3 ⟨S, x2⟩ hK3 hw H locs ls hP hD hS hl
  have hw : f1_bytes_3 post x1 K3 S x2 := hw
  unfold f1_bytes_3 at hw
  have hP : va_P D gCl (wC D ad sc tw S) H := hP
  have hD : va_D A (wC D ad sc tw S) := hD
  have hl : lv_has ls 3 [(0, .ref (ad 0)), (1, .int x1), (2, .int x2)] := hl
  refine lv_iload_n hC.x hC.b dX1_bytes_3 rfl (lv_at hl 2 rfl) ?_
  refine lv_if_lt (tgt := 36) hC.x hC.b dX1_bytes_4 (by decide) (fun c1 => ?_) (fun c1 => ?_)
  · have hw28 := hw.1 c1
    exact rt_v hC hw28 hP hD hS dX1_bytes_36
  · have hw29 := hw.2 c1
    refine lv_aload_n hC.x hC.b dX1_bytes_7 rfl (lv_at hl 0 rfl) ?_
    refine gO_0 hC hP dX1_bytes_8 ?_
    refine lv_aload_n hC.x hC.b dX1_bytes_11 rfl (lv_at hl 0 rfl) ?_
    refine gO_1 hC hP dX1_bytes_12 ?_
    refine lv_iload_n hC.x hC.b dX1_bytes_15 rfl (lv_at hl 1 rfl) ?_
    refine lv_iload_n hC.x hC.b dX1_bytes_16 rfl (lv_at hl 2 rfl) ?_
    refine lv_ishr hC.x hC.b dX1_bytes_17 ?_
    refine lv_i2b (v := ((x1 >>> (x2 &&& 31)).toInt8.toInt32)) hC.x hC.b dX1_bytes_18 rfl ?_
    obtain ⟨hin2, hw30⟩ := hw29
    refine sF_1 hC hP hD hS (v := ((x1 >>> (x2 &&& 31)).toInt8.toInt32)) hin2 rfl dX1_bytes_19 (fun S3 eS3 H locs hP hD hS => ?_)
    have hw31 := hw30 S3 eS3
    refine lv_aload_n hC.x hC.b dX1_bytes_20 rfl (lv_at hl 0 rfl) ?_
    refine lv_dup hC.x hC.b dX1_bytes_21 rfl ?_
    refine gO_1 hC hP dX1_bytes_22 ?_
    refine lv_iconst (v := 1) hC.x hC.b dX1_bytes_25 (by decide) ?_
    refine lv_iadd hC.x hC.b dX1_bytes_26 ?_
    refine pO_1 hC hP hD hS (v := ((S3.1.1 0 1) + 1)) dX1_bytes_27 (fun S4 eS4 H locs hP hD hS => ?_)
    have hw32 := hw31 S4 eS4
    refine lv_iinc (v := (x2 + (-8))) (lv' := [(2, .int (x2 + (-8))), (0, .ref (ad 0)), (1, .int x1)]) hC.x hC.b dX1_bytes_30 hl (k := 2) rfl rfl (by decide) rfl (fun ls hl => ?_)
    refine lv_goto (tgt := 3) hC.x hC.b dX1_bytes_33 (by decide) ?_
    exact hK3 (S4, (x2 + (-8))) hw32 H locs ls hP hD hS (lv_sub hl [1, 2, 0] rfl)
def w1_bytes (post : CS → Prop) (S : CS) (x1 : Int32) : Prop :=
  (lp (fun (K : (CS × Int32) → Prop) (z : (CS × Int32)) => f1_bytes_3 post x1 K z.1 z.2) (S, 24))
set_option maxHeartbeats 4000000 in
theorem m1_bytes (l : Launch) {post : CS → Prop} {S : CS} {x1 : Int32} (hw : w1_bytes post S x1) : Met l yX1_bytes (ws_ yX1_bytes cX1_bytes 3 none) ({ frames := 0, cells := 0, slots := 0, locals := 0 } : Room) (va_Pc [.ref (ad 0), .int x1] (PcG D gCl nwG Z Hb A (wC D ad sc tw S))) (va_Qv post (BW D gCl A (fun u => (wC D ad sc tw u))) A) 0 0 A := by
  refine Met.ofG (by decide) (Nat.le_of_ble_eq_true rfl) ?_
  intro p e s m below meth c ls hC _ hP hD hS hl
  have hC : CX RX1 cX1_bytes 3 none D gCl nwG Z Hb A p s m _ meth c := hC
  have hl : lv_has ls 3 [(0, .ref (ad 0)), (1, .int x1)] := hl
  unfold w1_bytes at hw
  refine lv_bipush (v := 24) hC.x hC.b dX1_bytes_0 (by decide) ?_
  refine lv_istore_n (lv' := [(2, .int 24), (0, .ref (ad 0)), (1, .int x1)]) hC.x hC.b dX1_bytes_2 rfl hl (by decide) rfl (fun ls hl => ?_)
  exact k1_bytes_3 hC (S, 24) hw s.heap [] ls hP hD hS (lv_sub hl [1, 2, 0] rfl)
theorem v1_1_bytes : GoodIn lw_all (wsV RX1 79 RX1 yX1_bytes (ws_ yX1_bytes cX1_bytes 3 none)) := lw_V q419 q421 qs1 q118 q422
theorem h1_feed : yX1_feed.cls = RX1 ∧ yX1_feed.cls ≠ "java/lang/invoke/MethodHandle" ∧ yX1_feed.cls ≠ "java/lang/invoke/VarHandle" ∧ (parseMethodDescriptor yX1_feed.desc).map (fun d => d.parameters.length) = some 5 := by decide +kernel
def w1_feed (post : Int32 → CS → Prop) (S : CS) (x1 : Int32) (x2 : Int32) (x3 : Int32) (x4 : Int32) (x5 : Int32) : Prop :=
  ((((S.1.1 0 1) + 20) ≤ 800 → (w1_bytes (fun S3 => (w1_bytes (fun S5 => (w1_bytes (fun S7 => (w1_bytes (fun S9 => (w1_bytes (fun S11 => (post (S11.1.1 0 1) S11)) S9 x5)) S7 x4)) S5 x3)) S3 x2)) S x1)) ∧ (¬ ((S.1.1 0 1) + 20) ≤ 800 → (post (-1) S)))
set_option maxHeartbeats 4000000 in
theorem m1_feed (l : Launch) {post : Int32 → CS → Prop} {S : CS} {x1 : Int32} {x2 : Int32} {x3 : Int32} {x4 : Int32} {x5 : Int32} (hw : w1_feed post S x1 x2 x3 x4 x5) : Met l yX1_feed (ws_ yX1_feed cX1_feed 6 (some .int)) ({ frames := 1, cells := 0, slots := 0, locals := 22 } : Room) (va_Pc [.ref (ad 0), .int x1, .int x2, .int x3, .int x4, .int x5] (PcG D gCl nwG Z Hb A (wC D ad sc tw S))) (va_Qi post (BW D gCl A (fun u => (wC D ad sc tw u))) A) 0 0 A := by
  refine Met.ofG (by decide) (Nat.le_of_ble_eq_true rfl) ?_
  intro p e s m below meth c ls hC _ hP hD hS hl
  have hC : CX RX1 cX1_feed 6 (some .int) D gCl nwG Z Hb A p s m _ meth c := hC
  have hl : lv_has ls 6 [(0, .ref (ad 0)), (1, .int x1), (2, .int x2), (3, .int x3), (4, .int x4), (5, .int x5)] := hl
  unfold w1_feed at hw
  refine lv_aload_n hC.x hC.b dX1_feed_0 rfl (lv_at hl 0 rfl) ?_
  refine gO_1 hC hP dX1_feed_1 ?_
  refine lv_bipush (v := 20) hC.x hC.b dX1_feed_4 (by decide) ?_
  refine lv_iadd hC.x hC.b dX1_feed_6 ?_
  refine lv_sipush (v := 800) hC.x hC.b dX1_feed_7 (by decide) ?_
  refine lv_icmp_le (tgt := 15) hC.x hC.b dX1_feed_10 (by decide) (fun c1 => ?_) (fun c1 => ?_)
  · have hw33 := hw.1 c1
    refine lv_aload_n hC.x hC.b dX1_feed_15 rfl (lv_at hl 0 rfl) ?_
    refine lv_iload_n hC.x hC.b dX1_feed_16 rfl (lv_at hl 1 rfl) ?_
    refine go_v (run_V (rest := []) hC (m1_bytes l hw33) v1_1_bytes h1_bytes 0 0 gCl_X1 rfl rfl ⟨rfl, rfl, Nat.le_of_ble_eq_true rfl, Nat.le_of_ble_eq_true rfl⟩ ⟨Nat.le_refl _, Nat.le_refl _⟩ hP hD hS hl.1 (Nat.le_of_ble_eq_true rfl) dX1_feed_17 rfl) hS (fun S3 H locs hw34 hP hD hS => ?_)
    refine lv_aload_n hC.x hC.b dX1_feed_20 rfl (lv_at hl 0 rfl) ?_
    refine lv_iload_n hC.x hC.b dX1_feed_21 rfl (lv_at hl 2 rfl) ?_
    refine go_v (run_V (rest := []) hC (m1_bytes l hw34) v1_1_bytes h1_bytes 0 0 gCl_X1 rfl rfl ⟨rfl, rfl, Nat.le_of_ble_eq_true rfl, Nat.le_of_ble_eq_true rfl⟩ ⟨Nat.le_refl _, Nat.le_refl _⟩ hP hD hS hl.1 (Nat.le_of_ble_eq_true rfl) dX1_feed_22 rfl) hS (fun S5 H locs hw35 hP hD hS => ?_)
    refine lv_aload_n hC.x hC.b dX1_feed_25 rfl (lv_at hl 0 rfl) ?_
    refine lv_iload_n hC.x hC.b dX1_feed_26 rfl (lv_at hl 3 rfl) ?_
    refine go_v (run_V (rest := []) hC (m1_bytes l hw35) v1_1_bytes h1_bytes 0 0 gCl_X1 rfl rfl ⟨rfl, rfl, Nat.le_of_ble_eq_true rfl, Nat.le_of_ble_eq_true rfl⟩ ⟨Nat.le_refl _, Nat.le_refl _⟩ hP hD hS hl.1 (Nat.le_of_ble_eq_true rfl) dX1_feed_27 rfl) hS (fun S7 H locs hw36 hP hD hS => ?_)
    refine lv_aload_n hC.x hC.b dX1_feed_30 rfl (lv_at hl 0 rfl) ?_
    refine lv_iload hC.x hC.b dX1_feed_31 (lv_at hl 4 rfl) ?_
    refine go_v (run_V (rest := []) hC (m1_bytes l hw36) v1_1_bytes h1_bytes 0 0 gCl_X1 rfl rfl ⟨rfl, rfl, Nat.le_of_ble_eq_true rfl, Nat.le_of_ble_eq_true rfl⟩ ⟨Nat.le_refl _, Nat.le_refl _⟩ hP hD hS hl.1 (Nat.le_of_ble_eq_true rfl) dX1_feed_33 rfl) hS (fun S9 H locs hw37 hP hD hS => ?_)
    refine lv_aload_n hC.x hC.b dX1_feed_36 rfl (lv_at hl 0 rfl) ?_
    refine lv_iload hC.x hC.b dX1_feed_37 (lv_at hl 5 rfl) ?_
    refine go_v (run_V (rest := []) hC (m1_bytes l hw37) v1_1_bytes h1_bytes 0 0 gCl_X1 rfl rfl ⟨rfl, rfl, Nat.le_of_ble_eq_true rfl, Nat.le_of_ble_eq_true rfl⟩ ⟨Nat.le_refl _, Nat.le_refl _⟩ hP hD hS hl.1 (Nat.le_of_ble_eq_true rfl) dX1_feed_39 rfl) hS (fun S11 H locs hw38 hP hD hS => ?_)
    refine lv_aload_n hC.x hC.b dX1_feed_42 rfl (lv_at hl 0 rfl) ?_
    refine gO_1 hC hP dX1_feed_43 ?_
    exact rt_i hC hw38 hP hD hS dX1_feed_46
  · have hw39 := hw.2 c1
    refine lv_iconst (v := (-1)) hC.x hC.b dX1_feed_13 (by decide) ?_
    exact rt_i hC hw39 hP hD hS dX1_feed_14
theorem h1_anew : yX1_anew.cls = RX1 ∧ yX1_anew.cls ≠ "java/lang/invoke/MethodHandle" ∧ yX1_anew.cls ≠ "java/lang/invoke/VarHandle" ∧ (parseMethodDescriptor yX1_anew.desc).map (fun d => d.parameters.length) = some 0 := by decide +kernel
def w1_anew (post : CS → Prop) (S : CS) : Prop :=
  (∀ S1, S1 = sI S 0 4 0 → (∀ S2, S2 = sI S1 0 6 (-1) → (post S2)))
set_option maxHeartbeats 4000000 in
theorem m1_anew (l : Launch) {post : CS → Prop} {S : CS} (hw : w1_anew post S) : Met l yX1_anew (ws_ yX1_anew cX1_anew 1 none) ({ frames := 0, cells := 0, slots := 0, locals := 0 } : Room) (va_Pc [.ref (ad 0)] (PcG D gCl nwG Z Hb A (wC D ad sc tw S))) (va_Qv post (BW D gCl A (fun u => (wC D ad sc tw u))) A) 0 0 A := by
  refine Met.ofG (by decide) (Nat.le_of_ble_eq_true rfl) ?_
  intro p e s m below meth c ls hC _ hP hD hS hl
  have hC : CX RX1 cX1_anew 1 none D gCl nwG Z Hb A p s m _ meth c := hC
  have hl : lv_has ls 1 [(0, .ref (ad 0))] := hl
  unfold w1_anew at hw
  refine lv_aload_n hC.x hC.b dX1_anew_0 rfl (lv_at hl 0 rfl) ?_
  refine lv_iconst (v := 0) hC.x hC.b dX1_anew_1 (by decide) ?_
  refine pO_4 hC hP hD hS (v := 0) dX1_anew_2 (fun S1 eS1 H locs hP hD hS => ?_)
  have hw40 := hw S1 eS1
  refine lv_aload_n hC.x hC.b dX1_anew_5 rfl (lv_at hl 0 rfl) ?_
  refine lv_iconst (v := (-1)) hC.x hC.b dX1_anew_6 (by decide) ?_
  refine pO_6 hC hP hD hS (v := (-1)) dX1_anew_7 (fun S2 eS2 H locs hP hD hS => ?_)
  have hw41 := hw40 S2 eS2
  exact rt_v hC hw41 hP hD hS dX1_anew_10
theorem h1_no : yX1_no.cls = RX1 ∧ yX1_no.cls ≠ "java/lang/invoke/MethodHandle" ∧ yX1_no.cls ≠ "java/lang/invoke/VarHandle" ∧ (parseMethodDescriptor yX1_no.desc).map (fun d => d.parameters.length) = some 1 := by decide +kernel
def w1_no (post : Int32 → CS → Prop) (S : CS) (x1 : Int32) : Prop :=
  (∀ S1, S1 = sI S 0 4 x1 → (post (-1) S1))
set_option maxHeartbeats 4000000 in
theorem m1_no (l : Launch) {post : Int32 → CS → Prop} {S : CS} {x1 : Int32} (hw : w1_no post S x1) : Met l yX1_no (ws_ yX1_no cX1_no 2 (some .int)) ({ frames := 0, cells := 0, slots := 0, locals := 0 } : Room) (va_Pc [.ref (ad 0), .int x1] (PcG D gCl nwG Z Hb A (wC D ad sc tw S))) (va_Qi post (BW D gCl A (fun u => (wC D ad sc tw u))) A) 0 0 A := by
  refine Met.ofG (by decide) (Nat.le_of_ble_eq_true rfl) ?_
  intro p e s m below meth c ls hC _ hP hD hS hl
  have hC : CX RX1 cX1_no 2 (some .int) D gCl nwG Z Hb A p s m _ meth c := hC
  have hl : lv_has ls 2 [(0, .ref (ad 0)), (1, .int x1)] := hl
  unfold w1_no at hw
  refine lv_aload_n hC.x hC.b dX1_no_0 rfl (lv_at hl 0 rfl) ?_
  refine lv_iload_n hC.x hC.b dX1_no_1 rfl (lv_at hl 1 rfl) ?_
  refine pO_4 hC hP hD hS (v := x1) dX1_no_2 (fun S1 eS1 H locs hP hD hS => ?_)
  have hw42 := hw S1 eS1
  refine lv_iconst (v := (-1)) hC.x hC.b dX1_no_5 (by decide) ?_
  exact rt_i hC hw42 hP hD hS dX1_no_6
theorem h1_fault : yX1_fault.cls = RX1 ∧ yX1_fault.cls ≠ "java/lang/invoke/MethodHandle" ∧ yX1_fault.cls ≠ "java/lang/invoke/VarHandle" ∧ (parseMethodDescriptor yX1_fault.desc).map (fun d => d.parameters.length) = some 0 := by decide +kernel
def w1_fault (post : Int32 → Prop) (S : CS) : Prop :=
  (post (S.1.1 0 5))
set_option maxHeartbeats 4000000 in
theorem m1_fault (l : Launch) {post : Int32 → Prop} {S : CS} (hw : w1_fault post S) : Met l yX1_fault (ws_ yX1_fault cX1_fault 1 (some .int)) ({ frames := 0, cells := 0, slots := 0, locals := 0 } : Room) (va_Pc [.ref (ad 0)] (PcG D gCl nwG Z Hb A (wC D ad sc tw S))) (va_Qi (fun r (_ : Unit) => post r) (BW D gCl A (fun _ => (wC D ad sc tw S))) A) 0 0 A := by
  refine Met.ofG (by decide) (Nat.le_of_ble_eq_true rfl) ?_
  intro p e s m below meth c ls hC _ hP hD hS hl
  have hC : CX RX1 cX1_fault 1 (some .int) D gCl nwG Z Hb A p s m _ meth c := hC
  have hl : lv_has ls 1 [(0, .ref (ad 0))] := hl
  unfold w1_fault at hw
  refine lv_aload_n hC.x hC.b dX1_fault_0 rfl (lv_at hl 0 rfl) ?_
  refine gO_5 hC hP dX1_fault_1 ?_
  exact rt_i (u := ()) hC hw hP hD hS dX1_fault_4
theorem h1_where : yX1_where.cls = RX1 ∧ yX1_where.cls ≠ "java/lang/invoke/MethodHandle" ∧ yX1_where.cls ≠ "java/lang/invoke/VarHandle" ∧ (parseMethodDescriptor yX1_where.desc).map (fun d => d.parameters.length) = some 0 := by decide +kernel
def w1_where (post : Int32 → Prop) (S : CS) : Prop :=
  ((¬ (S.1.1 0 4) = 4 → (post (-1))) ∧ ((S.1.1 0 4) = 4 → (post (S.1.1 0 6))))
set_option maxHeartbeats 4000000 in
theorem m1_where (l : Launch) {post : Int32 → Prop} {S : CS} (hw : w1_where post S) : Met l yX1_where (ws_ yX1_where cX1_where 1 (some .int)) ({ frames := 0, cells := 0, slots := 0, locals := 0 } : Room) (va_Pc [.ref (ad 0)] (PcG D gCl nwG Z Hb A (wC D ad sc tw S))) (va_Qi (fun r (_ : Unit) => post r) (BW D gCl A (fun _ => (wC D ad sc tw S))) A) 0 0 A := by
  refine Met.ofG (by decide) (Nat.le_of_ble_eq_true rfl) ?_
  intro p e s m below meth c ls hC _ hP hD hS hl
  have hC : CX RX1 cX1_where 1 (some .int) D gCl nwG Z Hb A p s m _ meth c := hC
  have hl : lv_has ls 1 [(0, .ref (ad 0))] := hl
  unfold w1_where at hw
  refine lv_aload_n hC.x hC.b dX1_where_0 rfl (lv_at hl 0 rfl) ?_
  refine gO_4 hC hP dX1_where_1 ?_
  refine lv_iconst (v := 4) hC.x hC.b dX1_where_4 (by decide) ?_
  refine lv_icmp_ne (tgt := 15) hC.x hC.b dX1_where_5 (by decide) (fun c1 => ?_) (fun c1 => ?_)
  · have hw43 := hw.1 c1
    refine lv_iconst (v := (-1)) hC.x hC.b dX1_where_15 (by decide) ?_
    exact rt_i (u := ()) hC hw43 hP hD hS dX1_where_16
  · have hw44 := hw.2 c1
    refine lv_aload_n hC.x hC.b dX1_where_8 rfl (lv_at hl 0 rfl) ?_
    refine gO_6 hC hP dX1_where_9 ?_
    refine lv_goto (tgt := 16) hC.x hC.b dX1_where_12 (by decide) ?_
    exact rt_i (u := ()) hC hw44 hP hD hS dX1_where_16
theorem v1_1_in : GoodIn lw_all (va_wsS RX1 83 yX1_in (ws_ yX1_in cX1_in 3 (some .boolean))) := lw_S q432 q433 q118 q434
theorem h1_isPerson : yX1_isPerson.cls = RX1 ∧ yX1_isPerson.cls ≠ "java/lang/invoke/MethodHandle" ∧ yX1_isPerson.cls ≠ "java/lang/invoke/VarHandle" ∧ (parseMethodDescriptor yX1_isPerson.desc).map (fun d => d.parameters.length) = some 1 := by decide +kernel
def w1_isPerson (post : Int32 → Prop) (tw : Option TD) (S : CS) (x1 : Int32) : Prop :=
  ((tw = none → (post 0)) ∧ ((∃ τ, tw = some τ) → (w1_in (fun r2 => ((r2 = 0 → (post 0)) ∧ (¬ r2 = 0 → (post 1)))) x1 0 ((S.1.1 50 8) - 1))))
set_option maxHeartbeats 4000000 in
theorem m1_isPerson (l : Launch) {post : Int32 → Prop} {S : CS} {x1 : Int32} (hw : w1_isPerson post tw S x1) : Met l yX1_isPerson (ws_ yX1_isPerson cX1_isPerson 2 (some .boolean)) ({ frames := 1, cells := 0, slots := 0, locals := 22 } : Room) (va_Pc [.ref (ad 0), .int x1] (PcG D gCl nwG Z Hb A (wC D ad sc tw S))) (va_Qi (fun r (_ : Unit) => post r) (BW D gCl A (fun _ => (wC D ad sc tw S))) A) 0 0 A := by
  refine Met.ofG (by decide) (Nat.le_of_ble_eq_true rfl) ?_
  intro p e s m below meth c ls hC _ hP hD hS hl
  have hC : CX RX1 cX1_isPerson 2 (some .boolean) D gCl nwG Z Hb A p s m _ meth c := hC
  have hl : lv_has ls 2 [(0, .ref (ad 0)), (1, .int x1)] := hl
  unfold w1_isPerson at hw
  refine lv_aload_n hC.x hC.b dX1_isPerson_0 rfl (lv_at hl 0 rfl) ?_
  refine gO_3 hC hP dX1_isPerson_1 ?_
  rcases va_o2 tw with c1 | ⟨τ, c1⟩
  · have hw45 := hw.1 c1
    subst c1
    refine lv_ifnullN (tgt := 28) hC.x hC.b dX1_isPerson_4 (by decide) ?_
    refine lv_iconst (v := 0) hC.x hC.b dX1_isPerson_28 (by decide) ?_
    exact rt_z (u := ()) hC (Or.inl rfl) hw45 hP hD hS dX1_isPerson_29
  · have hw46 := hw.2 ⟨τ, c1⟩
    subst c1
    refine lv_ifnull hC.x hC.b dX1_isPerson_4 ?_
    refine lv_iload_n hC.x hC.b dX1_isPerson_7 rfl (lv_at hl 1 rfl) ?_
    refine lv_iconst (v := 0) hC.x hC.b dX1_isPerson_8 (by decide) ?_
    refine lv_aload_n hC.x hC.b dX1_isPerson_9 rfl (lv_at hl 0 rfl) ?_
    refine gO_3 hC hP dX1_isPerson_10 ?_
    refine gX1T_8 hC hP dX1_isPerson_13 ?_
    refine lv_iconst (v := 1) hC.x hC.b dX1_isPerson_16 (by decide) ?_
    refine lv_isub hC.x hC.b dX1_isPerson_17 ?_
    refine go_i (run_S (rest := []) hC (m1_in l hw46) v1_1_in h1_in ⟨rfl, rfl, Nat.le_of_ble_eq_true rfl, Nat.le_of_ble_eq_true rfl⟩ ⟨Nat.le_refl _, Nat.le_refl _⟩ hP hD hS hl.1 (Nat.le_of_ble_eq_true rfl) dX1_isPerson_18 rfl) hS (fun r2 u H locs hw47 hP hD hS => ?_)
    refine lv_if_eq (tgt := 28) hC.x hC.b dX1_isPerson_21 (by decide) (fun c3 => ?_) (fun c3 => ?_)
    · have hw48 := hw47.1 c3
      refine lv_iconst (v := 0) hC.x hC.b dX1_isPerson_28 (by decide) ?_
      exact rt_z (u := ()) hC (Or.inl rfl) hw48 hP hD hS dX1_isPerson_29
    · have hw49 := hw47.2 c3
      refine lv_iconst (v := 1) hC.x hC.b dX1_isPerson_24 (by decide) ?_
      refine lv_goto (tgt := 29) hC.x hC.b dX1_isPerson_25 (by decide) ?_
      exact rt_z (u := ()) hC (Or.inr rfl) hw49 hP hD hS dX1_isPerson_29
theorem h4_forOne : yX4_forOne.cls = RX4 ∧ yX4_forOne.cls ≠ "java/lang/invoke/MethodHandle" ∧ yX4_forOne.cls ≠ "java/lang/invoke/VarHandle" ∧ (parseMethodDescriptor yX4_forOne.desc).map (fun d => d.parameters.length) = some 1 := by decide +kernel
def f4_forOne_4 (post : Int32 → Prop) (tw : Option TD) (S : CS) (x0 : Nat) (x1 : Int32) (K4 : (Int32 × Int32) → Prop) (x2 : Int32) (x3 : Int32) : Prop :=
  ((stT tw S x0) ∧ (((S.1.1 50 9) ≤ x3 → (post x2)) ∧ (¬ (S.1.1 50 9) ≤ x3 → (vp_in x3 6 ∧ (x3.toNatClampNeg < tG tw ∧ (tL tw x3.toNatClampNeg < 4 ∧ ((¬ (S.1.1 (1001 + 2 * x3.toNatClampNeg) 1) = x1 → (K4 ((x2 ||| 0), (x3 + 1)))) ∧ ((S.1.1 (1001 + 2 * x3.toNatClampNeg) 1) = x1 → (K4 ((x2 ||| ((1 : Int32) <<< (x3 &&& 31))), (x3 + 1)))))))))))
set_option maxHeartbeats 4000000 in
theorem k4_forOne_4 {post : Int32 → Prop} {S : CS} {x0 : Nat} {x1 : Int32} (hC : CX RX4 cX4_forOne 4 (some .int) D gCl nwG Z Hb A p s m args meth c) (h_x0 : x0 < 22) : ∀ z : (Int32 × Int32), lp (fun (K : (Int32 × Int32) → Prop) (z : (Int32 × Int32)) => f4_forOne_4 post tw S x0 x1 K z.1 z.2) z → ∀ (H : Heap) (locs : List Loc) (ls : Array Slot), va_P D gCl (wC D ad sc tw S) H → va_D A (wC D ad sc tw S) → va_S A s.heap H locs → lv_has ls 4 [(0, .ref (ad (20 + 4 * x0))), (1, .int x1), (2, .int z.1), (3, .int z.2)] → W p l e ({ frames := 0, cells := 0, slots := 0, locals := 0 } : Room) s m args below meth c H locs 0 0 (MQ below (va_Qi (fun r (_ : Unit) => post r) (BW D gCl A (fun _ => (wC D ad sc tw S))) A) args s 0 0 A) (F0 m 4 ls []) := by
  refine lp_ind ?_
  rintro K4 ⟨x2, x3⟩ hK4 hw H locs ls hP hD hS hl
  have hw : f4_forOne_4 post tw S x0 x1 K4 x2 x3 := hw
  unfold f4_forOne_4 at hw
  have hP : va_P D gCl (wC D ad sc tw S) H := hP
  have hD : va_D A (wC D ad sc tw S) := hD
  have hl : lv_has ls 4 [(0, .ref (ad (20 + 4 * x0))), (1, .int x1), (2, .int x2), (3, .int x3)] := hl
  refine lv_iload_n hC.x hC.b dX4_forOne_4 rfl (lv_at hl 3 rfl) ?_
  refine lv_aload_n hC.x hC.b dX4_forOne_5 rfl (lv_at hl 0 rfl) ?_
  refine gX4S_3 (r := x0) h_x0 hC hP dX4_forOne_6 ?_
  obtain ⟨⟨τ, et1, hth2⟩, hw50⟩ := hw
  subst et1
  refine st_ref hth2 ?_
  refine gX4T_9 hC hP dX4_forOne_9 ?_
  refine lv_icmp_ge (tgt := 47) hC.x hC.b dX4_forOne_12 (by decide) (fun c3 => ?_) (fun c3 => ?_)
  · have hw51 := hw50.1 c3
    refine lv_iload_n hC.x hC.b dX4_forOne_47 rfl (lv_at hl 2 rfl) ?_
    exact rt_i (u := ()) hC hw51 hP hD hS dX4_forOne_48
  · have hw52 := hw50.2 c3
    refine lv_iload_n hC.x hC.b dX4_forOne_15 rfl (lv_at hl 2 rfl) ?_
    refine lv_aload_n hC.x hC.b dX4_forOne_16 rfl (lv_at hl 0 rfl) ?_
    refine gX4S_3 (r := x0) h_x0 hC hP dX4_forOne_17 ?_
    refine st_ref hth2 ?_
    refine gX4T_1 hC hP dX4_forOne_20 ?_
    refine lv_iload_n hC.x hC.b dX4_forOne_23 rfl (lv_at hl 3 rfl) ?_
    obtain ⟨hin4, hw53⟩ := hw52
    obtain ⟨hg5, hw54⟩ := hw53
    refine lGh hC hP hin4 rfl hg5 dX4_forOne_24 ?_
    obtain ⟨hlw, hw55⟩ := hw54
    refine gX4G_1 (i := x3.toNatClampNeg) hg5 hlw hC hP dX4_forOne_25 ?_
    refine lv_iload_n hC.x hC.b dX4_forOne_28 rfl (lv_at hl 1 rfl) ?_
    refine lv_icmp_ne (tgt := 38) hC.x hC.b dX4_forOne_29 (by decide) (fun c6 => ?_) (fun c6 => ?_)
    · have hw56 := hw55.1 c6
      refine lv_iconst (v := 0) hC.x hC.b dX4_forOne_38 (by decide) ?_
      refine lv_ior hC.x hC.b dX4_forOne_39 ?_
      refine lv_istore_n (lv' := [(2, .int (x2 ||| 0)), (0, .ref (ad (20 + 4 * x0))), (1, .int x1), (3, .int x3)]) hC.x hC.b dX4_forOne_40 rfl hl (by decide) rfl (fun ls hl => ?_)
      refine lv_iinc (v := (x3 + 1)) (lv' := [(3, .int (x3 + 1)), (2, .int (x2 ||| 0)), (0, .ref (ad (20 + 4 * x0))), (1, .int x1)]) hC.x hC.b dX4_forOne_41 hl (k := 3) rfl rfl (by decide) rfl (fun ls hl => ?_)
      refine lv_goto (tgt := 4) hC.x hC.b dX4_forOne_44 (by decide) ?_
      exact hK4 ((x2 ||| 0), (x3 + 1)) hw56 H locs ls hP hD hS (lv_sub hl [2, 3, 1, 0] rfl)
    · have hw57 := hw55.2 c6
      refine lv_iconst (v := 1) hC.x hC.b dX4_forOne_32 (by decide) ?_
      refine lv_iload_n hC.x hC.b dX4_forOne_33 rfl (lv_at hl 3 rfl) ?_
      refine lv_ishl hC.x hC.b dX4_forOne_34 ?_
      refine lv_goto (tgt := 39) hC.x hC.b dX4_forOne_35 (by decide) ?_
      refine lv_ior hC.x hC.b dX4_forOne_39 ?_
      refine lv_istore_n (lv' := [(2, .int (x2 ||| ((1 : Int32) <<< (x3 &&& 31)))), (0, .ref (ad (20 + 4 * x0))), (1, .int x1), (3, .int x3)]) hC.x hC.b dX4_forOne_40 rfl hl (by decide) rfl (fun ls hl => ?_)
      refine lv_iinc (v := (x3 + 1)) (lv' := [(3, .int (x3 + 1)), (2, .int (x2 ||| ((1 : Int32) <<< (x3 &&& 31)))), (0, .ref (ad (20 + 4 * x0))), (1, .int x1)]) hC.x hC.b dX4_forOne_41 hl (k := 3) rfl rfl (by decide) rfl (fun ls hl => ?_)
      refine lv_goto (tgt := 4) hC.x hC.b dX4_forOne_44 (by decide) ?_
      exact hK4 ((x2 ||| ((1 : Int32) <<< (x3 &&& 31))), (x3 + 1)) hw57 H locs ls hP hD hS (lv_sub hl [2, 3, 1, 0] rfl)
def w4_forOne (post : Int32 → Prop) (tw : Option TD) (S : CS) (x0 : Nat) (x1 : Int32) : Prop :=
  (lp (fun (K : (Int32 × Int32) → Prop) (z : (Int32 × Int32)) => f4_forOne_4 post tw S x0 x1 K z.1 z.2) (0, 0))
set_option maxHeartbeats 4000000 in
theorem m4_forOne (l : Launch) {post : Int32 → Prop} {S : CS} {x0 : Nat} {x1 : Int32} (h_x0 : x0 < 22) (hw : w4_forOne post tw S x0 x1) : Met l yX4_forOne (ws_ yX4_forOne cX4_forOne 4 (some .int)) ({ frames := 0, cells := 0, slots := 0, locals := 0 } : Room) (va_Pc [.ref (ad (20 + 4 * x0)), .int x1] (PcG D gCl nwG Z Hb A (wC D ad sc tw S))) (va_Qi (fun r (_ : Unit) => post r) (BW D gCl A (fun _ => (wC D ad sc tw S))) A) 0 0 A := by
  refine Met.ofG (by decide) (Nat.le_of_ble_eq_true rfl) ?_
  intro p e s m below meth c ls hC _ hP hD hS hl
  have hC : CX RX4 cX4_forOne 4 (some .int) D gCl nwG Z Hb A p s m _ meth c := hC
  have hl : lv_has ls 4 [(0, .ref (ad (20 + 4 * x0))), (1, .int x1)] := hl
  unfold w4_forOne at hw
  refine lv_iconst (v := 0) hC.x hC.b dX4_forOne_0 (by decide) ?_
  refine lv_istore_n (lv' := [(2, .int 0), (0, .ref (ad (20 + 4 * x0))), (1, .int x1)]) hC.x hC.b dX4_forOne_1 rfl hl (by decide) rfl (fun ls hl => ?_)
  refine lv_iconst (v := 0) hC.x hC.b dX4_forOne_2 (by decide) ?_
  refine lv_istore_n (lv' := [(3, .int 0), (2, .int 0), (0, .ref (ad (20 + 4 * x0))), (1, .int x1)]) hC.x hC.b dX4_forOne_3 rfl hl (by decide) rfl (fun ls hl => ?_)
  exact k4_forOne_4 hC h_x0 (0, 0) hw s.heap [] ls hP hD hS (lv_sub hl [2, 3, 1, 0] rfl)
theorem h4_aimed : yX4_aimed.cls = RX4 ∧ yX4_aimed.cls ≠ "java/lang/invoke/MethodHandle" ∧ yX4_aimed.cls ≠ "java/lang/invoke/VarHandle" ∧ (parseMethodDescriptor yX4_aimed.desc).map (fun d => d.parameters.length) = some 1 := by decide +kernel
def w4_aimed (post : Int32 → Prop) (tw : Option TD) (S : CS) (x0 : Nat) (x1 : Int32) : Prop :=
  ((stT tw S x0) ∧ (vp_in x1 6 ∧ (x1.toNatClampNeg < tG tw ∧ (tL tw x1.toNatClampNeg < 4 ∧ (vp_in (S.1.1 (1001 + 2 * x1.toNatClampNeg) 1) 6 ∧ (post (S.1.1 (300 + 4 * x0 + 1) (S.1.1 (1001 + 2 * x1.toNatClampNeg) 1).toNatClampNeg)))))))
set_option maxHeartbeats 4000000 in
theorem m4_aimed (l : Launch) {post : Int32 → Prop} {S : CS} {x0 : Nat} {x1 : Int32} (h_x0 : x0 < 22) (hw : w4_aimed post tw S x0 x1) : Met l yX4_aimed (ws_ yX4_aimed cX4_aimed 2 (some .int)) ({ frames := 0, cells := 0, slots := 0, locals := 0 } : Room) (va_Pc [.ref (ad (20 + 4 * x0)), .int x1] (PcG D gCl nwG Z Hb A (wC D ad sc tw S))) (va_Qi (fun r (_ : Unit) => post r) (BW D gCl A (fun _ => (wC D ad sc tw S))) A) 0 0 A := by
  refine Met.ofG (by decide) (Nat.le_of_ble_eq_true rfl) ?_
  intro p e s m below meth c ls hC _ hP hD hS hl
  have hC : CX RX4 cX4_aimed 2 (some .int) D gCl nwG Z Hb A p s m _ meth c := hC
  have hl : lv_has ls 2 [(0, .ref (ad (20 + 4 * x0))), (1, .int x1)] := hl
  unfold w4_aimed at hw
  refine lv_aload_n hC.x hC.b dX4_aimed_0 rfl (lv_at hl 0 rfl) ?_
  refine gX4S_0 (r := x0) h_x0 hC hP dX4_aimed_1 ?_
  refine lv_aload_n hC.x hC.b dX4_aimed_4 rfl (lv_at hl 0 rfl) ?_
  refine gX4S_3 (r := x0) h_x0 hC hP dX4_aimed_5 ?_
  obtain ⟨⟨τ, et1, hth2⟩, hw58⟩ := hw
  subst et1
  refine st_ref hth2 ?_
  refine gX4T_1 hC hP dX4_aimed_8 ?_
  refine lv_iload_n hC.x hC.b dX4_aimed_11 rfl (lv_at hl 1 rfl) ?_
  obtain ⟨hin3, hw59⟩ := hw58
  obtain ⟨hg4, hw60⟩ := hw59
  refine lGh hC hP hin3 rfl hg4 dX4_aimed_12 ?_
  obtain ⟨hlw, hw61⟩ := hw60
  refine gX4G_1 (i := x1.toNatClampNeg) hg4 hlw hC hP dX4_aimed_13 ?_
  obtain ⟨hin5, hw62⟩ := hw61
  refine lS_1 (r := x0) h_x0 hC hP hin5 rfl dX4_aimed_16 ?_
  exact rt_i (u := ()) hC hw62 hP hD hS dX4_aimed_17
theorem h4_out : yX4_out.cls = RX4 ∧ yX4_out.cls ≠ "java/lang/invoke/MethodHandle" ∧ yX4_out.cls ≠ "java/lang/invoke/VarHandle" ∧ (parseMethodDescriptor yX4_out.desc).map (fun d => d.parameters.length) = some 3 := by decide +kernel
def w4_out (post : Int32 → Prop) (tw : Option TD) (S : CS) (x0 : Nat) (x1 : Int32) (x2 : Int32) (x3 : Int32) : Prop :=
  ((stT tw S x0) ∧ (vp_in x1 6 ∧ (x1.toNatClampNeg < tG tw ∧ (vp_in x1 6 ∧ (wg_slips (fun v6 => (w1_wrap (fun r7 => (vp_in x1 6 ∧ ((¬ (S.1.1 (300 + 4 * x0 + 2) x1.toNatClampNeg) = (-2) → (vp_in x1 6 ∧ (w1_wrap (fun r11 => (post r11)) ((2 * ((S.1.1 (300 + 4 * x0 + 2) x1.toNatClampNeg).toInt64)) - (r7.toInt64)) (S.1.1 50 6)))) ∧ ((S.1.1 (300 + 4 * x0 + 2) x1.toNatClampNeg) = (-2) → (post r7))))) ((x2.toInt64) + (v6.toInt64)) (S.1.1 50 6))) tw x1.toNatClampNeg (S.1.1 (300 + 4 * x0 + 3) x1.toNatClampNeg) x3)))))
set_option maxHeartbeats 4000000 in
theorem m4_out (l : Launch) {post : Int32 → Prop} {S : CS} {x0 : Nat} {x1 : Int32} {x2 : Int32} {x3 : Int32} (h_x0 : x0 < 22) (hw : w4_out post tw S x0 x1 x2 x3) : Met l yX4_out (ws_ yX4_out cX4_out 5 (some .int)) ({ frames := 120, cells := 0, slots := 0, locals := 6000 } : Room) (va_Pc [.ref (ad (20 + 4 * x0)), .int x1, .int x2, .int x3] (PcG D gCl nwG Z Hb A (wC D ad sc tw S))) (va_Qi (fun r (_ : Unit) => post r) (BW D gCl A (fun _ => (wC D ad sc tw S))) A) 0 0 A := by
  refine Met.ofG (by decide) (Nat.le_of_ble_eq_true rfl) ?_
  intro p e s m below meth c ls hC _ hP hD hS hl
  have hC : CX RX4 cX4_out 5 (some .int) D gCl nwG Z Hb A p s m _ meth c := hC
  have hl : lv_has ls 5 [(0, .ref (ad (20 + 4 * x0))), (1, .int x1), (2, .int x2), (3, .int x3)] := hl
  unfold w4_out at hw
  refine lv_iload_n hC.x hC.b dX4_out_0 rfl (lv_at hl 2 rfl) ?_
  refine lv_i2l (v := (x2.toInt64)) hC.x hC.b dX4_out_1 rfl ?_
  refine lv_aload_n hC.x hC.b dX4_out_2 rfl (lv_at hl 0 rfl) ?_
  refine gX4S_3 (r := x0) h_x0 hC hP dX4_out_3 ?_
  obtain ⟨⟨τ, et1, hth2⟩, hw63⟩ := hw
  subst et1
  refine st_ref hth2 ?_
  refine gX4T_1 hC hP dX4_out_6 ?_
  refine lv_iload_n hC.x hC.b dX4_out_9 rfl (lv_at hl 1 rfl) ?_
  obtain ⟨hin3, hw64⟩ := hw63
  obtain ⟨hg4, hw65⟩ := hw64
  refine lGh hC hP hin3 rfl hg4 dX4_out_10 ?_
  refine lv_aload_n hC.x hC.b dX4_out_11 rfl (lv_at hl 0 rfl) ?_
  refine gX4S_2 (r := x0) h_x0 hC hP dX4_out_12 ?_
  refine lv_iload_n hC.x hC.b dX4_out_15 rfl (lv_at hl 1 rfl) ?_
  obtain ⟨hin5, hw66⟩ := hw65
  refine lS_3 (r := x0) h_x0 hC hP hin5 rfl dX4_out_16 ?_
  refine lv_iload_n hC.x hC.b dX4_out_17 rfl (lv_at hl 3 rfl) ?_
  refine go_i (run_slips (rest := [.long (x2.toInt64)]) (i := x1.toNatClampNeg) hg4 hC hw66 hP hD hS hl.1 (Nat.le_of_ble_eq_true rfl) (Nat.le_of_ble_eq_true rfl) (Nat.le_of_ble_eq_true rfl) dX4_out_18) hS (fun v6 u H locs hw67 hP hD hS => ?_)
  refine lv_i2l (v := (v6.toInt64)) hC.x hC.b dX4_out_21 rfl ?_
  refine lv_ladd hC.x hC.b dX4_out_22 ?_
  refine lv_aload_n hC.x hC.b dX4_out_23 rfl (lv_at hl 0 rfl) ?_
  refine gX4S_3 (r := x0) h_x0 hC hP dX4_out_24 ?_
  refine st_ref hth2 ?_
  refine gX4T_6 hC hP dX4_out_27 ?_
  refine go_i (run_SN (rest := []) hC (m1_wrap l hw67) (hC.K.use 8 rfl) ⟨q931, q118, q930⟩ h1_wrap ⟨rfl, rfl, Nat.le_of_ble_eq_true rfl, Nat.le_of_ble_eq_true rfl⟩ ⟨Nat.le_refl _, Nat.le_refl _⟩ hP hD hS hl.1 (Nat.le_of_ble_eq_true rfl) dX4_out_30 rfl) hS (fun r7 u H locs hw68 hP hD hS => ?_)
  refine lv_istore (lv' := [(4, .int r7), (0, .ref (ad (20 + 4 * x0))), (1, .int x1), (2, .int x2), (3, .int x3)]) hC.x hC.b dX4_out_33 hl (by decide) rfl (fun ls hl => ?_)
  refine lv_aload_n hC.x hC.b dX4_out_35 rfl (lv_at hl 1 rfl) ?_
  refine gX4S_1 (r := x0) h_x0 hC hP dX4_out_36 ?_
  refine lv_iload_n hC.x hC.b dX4_out_39 rfl (lv_at hl 2 rfl) ?_
  obtain ⟨hin8, hw69⟩ := hw68
  refine lS_2 (r := x0) h_x0 hC hP hin8 rfl dX4_out_40 ?_
  refine lv_bipush (v := (-2)) hC.x hC.b dX4_out_41 (by decide) ?_
  refine lv_icmp_ne (tgt := 51) hC.x hC.b dX4_out_43 (by decide) (fun c9 => ?_) (fun c9 => ?_)
  · have hw70 := hw69.1 c9
    refine lv_ldc2 (v := 2) hC.x hC.b hC.ow (hC.ts _ q932) dX4_out_51 ?_
    refine lv_aload_n hC.x hC.b dX4_out_54 rfl (lv_at hl 1 rfl) ?_
    refine gX4S_1 (r := x0) h_x0 hC hP dX4_out_55 ?_
    refine lv_iload_n hC.x hC.b dX4_out_58 rfl (lv_at hl 2 rfl) ?_
    obtain ⟨hin10, hw71⟩ := hw70
    refine lS_2 (r := x0) h_x0 hC hP hin10 rfl dX4_out_59 ?_
    refine lv_i2l (v := ((S.1.1 (300 + 4 * x0 + 2) x1.toNatClampNeg).toInt64)) hC.x hC.b dX4_out_60 rfl ?_
    refine lv_lmul hC.x hC.b dX4_out_61 ?_
    refine lv_iload hC.x hC.b dX4_out_62 (lv_at hl 0 rfl) ?_
    refine lv_i2l (v := (r7.toInt64)) hC.x hC.b dX4_out_64 rfl ?_
    refine lv_lsub hC.x hC.b dX4_out_65 ?_
    refine lv_aload_n hC.x hC.b dX4_out_66 rfl (lv_at hl 1 rfl) ?_
    refine gX4S_3 (r := x0) h_x0 hC hP dX4_out_67 ?_
    refine st_ref hth2 ?_
    refine gX4T_6 hC hP dX4_out_70 ?_
    refine go_i (run_SN (rest := []) hC (m1_wrap l hw71) (hC.K.use 8 rfl) ⟨q931, q118, q930⟩ h1_wrap ⟨rfl, rfl, Nat.le_of_ble_eq_true rfl, Nat.le_of_ble_eq_true rfl⟩ ⟨Nat.le_refl _, Nat.le_refl _⟩ hP hD hS hl.1 (Nat.le_of_ble_eq_true rfl) dX4_out_73 rfl) hS (fun r11 u H locs hw72 hP hD hS => ?_)
    exact rt_i (u := ()) hC hw72 hP hD hS dX4_out_76
  · have hw73 := hw69.2 c9
    refine lv_iload hC.x hC.b dX4_out_46 (lv_at hl 0 rfl) ?_
    refine lv_goto (tgt := 76) hC.x hC.b dX4_out_48 (by decide) ?_
    exact rt_i (u := ()) hC hw73 hP hD hS dX4_out_76
theorem h4_who : yX4_who.cls = RX4 ∧ yX4_who.cls ≠ "java/lang/invoke/MethodHandle" ∧ yX4_who.cls ≠ "java/lang/invoke/VarHandle" ∧ (parseMethodDescriptor yX4_who.desc).map (fun d => d.parameters.length) = some 1 := by decide +kernel
def f4_who_2 (post : Int32 → Prop) (tw : Option TD) (S : CS) (x0 : Nat) (x1 : Int32) (K2 : Int32 → Prop) (x2 : Int32) : Prop :=
  ((stT tw S x0) ∧ (((S.1.1 50 8) ≤ x2 → (post (-2))) ∧ (¬ (S.1.1 50 8) ≤ x2 → (vp_in x2 6 ∧ ((¬ (S.1.1 (300 + 4 * x0 + 1) x2.toNatClampNeg) = x1 → (K2 (x2 + 1))) ∧ ((S.1.1 (300 + 4 * x0 + 1) x2.toNatClampNeg) = x1 → (post x2)))))))
set_option maxHeartbeats 4000000 in
theorem k4_who_2 {post : Int32 → Prop} {S : CS} {x0 : Nat} {x1 : Int32} (hC : CX RX4 cX4_who 3 (some .int) D gCl nwG Z Hb A p s m args meth c) (h_x0 : x0 < 22) : ∀ z : Int32, lp (fun (K : Int32 → Prop) (z : Int32) => f4_who_2 post tw S x0 x1 K z) z → ∀ (H : Heap) (locs : List Loc) (ls : Array Slot), va_P D gCl (wC D ad sc tw S) H → va_D A (wC D ad sc tw S) → va_S A s.heap H locs → lv_has ls 3 [(0, .ref (ad (20 + 4 * x0))), (1, .int x1), (2, .int z)] → W p l e ({ frames := 0, cells := 0, slots := 0, locals := 0 } : Room) s m args below meth c H locs 0 0 (MQ below (va_Qi (fun r (_ : Unit) => post r) (BW D gCl A (fun _ => (wC D ad sc tw S))) A) args s 0 0 A) (F0 m 2 ls []) := by
  refine lp_ind ?_
  rintro K2 x2 hK2 hw H locs ls hP hD hS hl
  have hw : f4_who_2 post tw S x0 x1 K2 x2 := hw
  unfold f4_who_2 at hw
  have hP : va_P D gCl (wC D ad sc tw S) H := hP
  have hD : va_D A (wC D ad sc tw S) := hD
  have hl : lv_has ls 3 [(0, .ref (ad (20 + 4 * x0))), (1, .int x1), (2, .int x2)] := hl
  refine lv_iload_n hC.x hC.b dX4_who_2 rfl (lv_at hl 2 rfl) ?_
  refine lv_aload_n hC.x hC.b dX4_who_3 rfl (lv_at hl 0 rfl) ?_
  refine gX4S_3 (r := x0) h_x0 hC hP dX4_who_4 ?_
  obtain ⟨⟨τ, et1, hth2⟩, hw74⟩ := hw
  subst et1
  refine st_ref hth2 ?_
  refine gX4T_8 hC hP dX4_who_7 ?_
  refine lv_icmp_ge (tgt := 31) hC.x hC.b dX4_who_10 (by decide) (fun c3 => ?_) (fun c3 => ?_)
  · have hw75 := hw74.1 c3
    refine lv_bipush (v := (-2)) hC.x hC.b dX4_who_31 (by decide) ?_
    exact rt_i (u := ()) hC hw75 hP hD hS dX4_who_33
  · have hw76 := hw74.2 c3
    refine lv_aload_n hC.x hC.b dX4_who_13 rfl (lv_at hl 0 rfl) ?_
    refine gX4S_0 (r := x0) h_x0 hC hP dX4_who_14 ?_
    refine lv_iload_n hC.x hC.b dX4_who_17 rfl (lv_at hl 2 rfl) ?_
    obtain ⟨hin4, hw77⟩ := hw76
    refine lS_1 (r := x0) h_x0 hC hP hin4 rfl dX4_who_18 ?_
    refine lv_iload_n hC.x hC.b dX4_who_19 rfl (lv_at hl 1 rfl) ?_
    refine lv_icmp_ne (tgt := 25) hC.x hC.b dX4_who_20 (by decide) (fun c5 => ?_) (fun c5 => ?_)
    · have hw78 := hw77.1 c5
      refine lv_iinc (v := (x2 + 1)) (lv' := [(2, .int (x2 + 1)), (0, .ref (ad (20 + 4 * x0))), (1, .int x1)]) hC.x hC.b dX4_who_25 hl (k := 2) rfl rfl (by decide) rfl (fun ls hl => ?_)
      refine lv_goto (tgt := 2) hC.x hC.b dX4_who_28 (by decide) ?_
      exact hK2 (x2 + 1) hw78 H locs ls hP hD hS (lv_sub hl [1, 2, 0] rfl)
    · have hw79 := hw77.2 c5
      refine lv_iload_n hC.x hC.b dX4_who_23 rfl (lv_at hl 2 rfl) ?_
      exact rt_i (u := ()) hC hw79 hP hD hS dX4_who_24
def w4_who (post : Int32 → Prop) (tw : Option TD) (S : CS) (x0 : Nat) (x1 : Int32) : Prop :=
  (lp (fun (K : Int32 → Prop) (z : Int32) => f4_who_2 post tw S x0 x1 K z) 0)
set_option maxHeartbeats 4000000 in
theorem m4_who (l : Launch) {post : Int32 → Prop} {S : CS} {x0 : Nat} {x1 : Int32} (h_x0 : x0 < 22) (hw : w4_who post tw S x0 x1) : Met l yX4_who (ws_ yX4_who cX4_who 3 (some .int)) ({ frames := 0, cells := 0, slots := 0, locals := 0 } : Room) (va_Pc [.ref (ad (20 + 4 * x0)), .int x1] (PcG D gCl nwG Z Hb A (wC D ad sc tw S))) (va_Qi (fun r (_ : Unit) => post r) (BW D gCl A (fun _ => (wC D ad sc tw S))) A) 0 0 A := by
  refine Met.ofG (by decide) (Nat.le_of_ble_eq_true rfl) ?_
  intro p e s m below meth c ls hC _ hP hD hS hl
  have hC : CX RX4 cX4_who 3 (some .int) D gCl nwG Z Hb A p s m _ meth c := hC
  have hl : lv_has ls 3 [(0, .ref (ad (20 + 4 * x0))), (1, .int x1)] := hl
  unfold w4_who at hw
  refine lv_iconst (v := 0) hC.x hC.b dX4_who_0 (by decide) ?_
  refine lv_istore_n (lv' := [(2, .int 0), (0, .ref (ad (20 + 4 * x0))), (1, .int x1)]) hC.x hC.b dX4_who_1 rfl hl (by decide) rfl (fun ls hl => ?_)
  exact k4_who_2 hC h_x0 0 hw s.heap [] ls hP hD hS (lv_sub hl [1, 2, 0] rfl)
theorem v4_4_who : GoodIn lw_all (wsV RX4 79 RX4 yX4_who (ws_ yX4_who cX4_who 3 (some .int))) := lw_V q937 q938 q939 q124 q940
theorem h4_from : yX4_from.cls = RX4 ∧ yX4_from.cls ≠ "java/lang/invoke/MethodHandle" ∧ yX4_from.cls ≠ "java/lang/invoke/VarHandle" ∧ (parseMethodDescriptor yX4_from.desc).map (fun d => d.parameters.length) = some 1 := by decide +kernel
def f4_from_2 (post : Int32 → Prop) (tw : Option TD) (S : CS) (x0 : Nat) (K2 : Int32 → Prop) (x2 : Int32) : Prop :=
  (w4_who (fun r1 => ((¬ r1 = (-2) → (w4_who (fun r3 => (post r3)) tw S x0 x2)) ∧ (r1 = (-2) → ((stT tw S x0) ∧ ((¬ (S.1.1 50 6) = 0) ∧ (K2 ((x2 + 1) - (x2 + 1) / (S.1.1 50 6) * (S.1.1 50 6)))))))) tw S x0 x2)
set_option maxHeartbeats 4000000 in
theorem k4_from_2 {post : Int32 → Prop} {S : CS} {x0 : Nat} (hC : CX RX4 cX4_from 3 (some .int) D gCl nwG Z Hb A p s m args meth c) (h_x0 : x0 < 22) : ∀ z : Int32, lp (fun (K : Int32 → Prop) (z : Int32) => f4_from_2 post tw S x0 K z) z → ∀ (H : Heap) (locs : List Loc) (ls : Array Slot), va_P D gCl (wC D ad sc tw S) H → va_D A (wC D ad sc tw S) → va_S A s.heap H locs → lv_has ls 3 [(0, .ref (ad (20 + 4 * x0))), (2, .int z)] → W p l e ({ frames := 1, cells := 0, slots := 0, locals := 22 } : Room) s m args below meth c H locs 0 0 (MQ below (va_Qi (fun r (_ : Unit) => post r) (BW D gCl A (fun _ => (wC D ad sc tw S))) A) args s 0 0 A) (F0 m 2 ls []) := by
  refine lp_ind ?_
  rintro K2 x2 hK2 hw H locs ls hP hD hS hl
  have hw : f4_from_2 post tw S x0 K2 x2 := hw
  unfold f4_from_2 at hw
  have hP : va_P D gCl (wC D ad sc tw S) H := hP
  have hD : va_D A (wC D ad sc tw S) := hD
  have hl : lv_has ls 3 [(0, .ref (ad (20 + 4 * x0))), (2, .int x2)] := hl
  refine lv_aload_n hC.x hC.b dX4_from_2 rfl (lv_at hl 0 rfl) ?_
  refine lv_iload_n hC.x hC.b dX4_from_3 rfl (lv_at hl 1 rfl) ?_
  refine go_i (run_V (rest := []) hC (m4_who l h_x0 hw) v4_4_who h4_who (17 + 4 * x0) 3 gCl_X4 (wC_so h_x0) rfl ⟨rfl, rfl, Nat.le_of_ble_eq_true rfl, Nat.le_of_ble_eq_true rfl⟩ ⟨Nat.le_refl _, Nat.le_refl _⟩ hP hD hS hl.1 (Nat.le_of_ble_eq_true rfl) dX4_from_4 rfl) hS (fun r1 u H locs hw80 hP hD hS => ?_)
  refine lv_bipush (v := (-2)) hC.x hC.b dX4_from_7 (by decide) ?_
  refine lv_icmp_ne (tgt := 27) hC.x hC.b dX4_from_9 (by decide) (fun c2 => ?_) (fun c2 => ?_)
  · have hw81 := hw80.1 c2
    refine lv_aload_n hC.x hC.b dX4_from_27 rfl (lv_at hl 0 rfl) ?_
    refine lv_iload_n hC.x hC.b dX4_from_28 rfl (lv_at hl 1 rfl) ?_
    refine go_i (run_V (rest := []) hC (m4_who l h_x0 hw81) v4_4_who h4_who (17 + 4 * x0) 3 gCl_X4 (wC_so h_x0) rfl ⟨rfl, rfl, Nat.le_of_ble_eq_true rfl, Nat.le_of_ble_eq_true rfl⟩ ⟨Nat.le_refl _, Nat.le_refl _⟩ hP hD hS hl.1 (Nat.le_of_ble_eq_true rfl) dX4_from_29 rfl) hS (fun r3 u H locs hw82 hP hD hS => ?_)
    exact rt_i (u := ()) hC hw82 hP hD hS dX4_from_32
  · have hw83 := hw80.2 c2
    refine lv_iload_n hC.x hC.b dX4_from_12 rfl (lv_at hl 1 rfl) ?_
    refine lv_iconst (v := 1) hC.x hC.b dX4_from_13 (by decide) ?_
    refine lv_iadd hC.x hC.b dX4_from_14 ?_
    refine lv_aload_n hC.x hC.b dX4_from_15 rfl (lv_at hl 0 rfl) ?_
    refine gX4S_3 (r := x0) h_x0 hC hP dX4_from_16 ?_
    obtain ⟨⟨τ, et4, hth5⟩, hw84⟩ := hw83
    subst et4
    refine st_ref hth5 ?_
    refine gX4T_6 hC hP dX4_from_19 ?_
    obtain ⟨hne, hw85⟩ := hw84
    refine lv_irem hC.x hC.b dX4_from_22 hne ?_
    refine lv_istore_n (lv' := [(2, .int ((x2 + 1) - (x2 + 1) / (S.1.1 50 6) * (S.1.1 50 6))), (0, .ref (ad (20 + 4 * x0)))]) hC.x hC.b dX4_from_23 rfl hl (by decide) rfl (fun ls hl => ?_)
    refine lv_goto (tgt := 2) hC.x hC.b dX4_from_24 (by decide) ?_
    exact hK2 ((x2 + 1) - (x2 + 1) / (S.1.1 50 6) * (S.1.1 50 6)) hw85 H locs ls hP hD hS (lv_sub hl [1, 0] rfl)
def w4_from (post : Int32 → Prop) (tw : Option TD) (S : CS) (x0 : Nat) (x1 : Int32) : Prop :=
  (lp (fun (K : Int32 → Prop) (z : Int32) => f4_from_2 post tw S x0 K z) x1)
set_option maxHeartbeats 4000000 in
theorem m4_from (l : Launch) {post : Int32 → Prop} {S : CS} {x0 : Nat} {x1 : Int32} (h_x0 : x0 < 22) (hw : w4_from post tw S x0 x1) : Met l yX4_from (ws_ yX4_from cX4_from 3 (some .int)) ({ frames := 1, cells := 0, slots := 0, locals := 22 } : Room) (va_Pc [.ref (ad (20 + 4 * x0)), .int x1] (PcG D gCl nwG Z Hb A (wC D ad sc tw S))) (va_Qi (fun r (_ : Unit) => post r) (BW D gCl A (fun _ => (wC D ad sc tw S))) A) 0 0 A := by
  refine Met.ofG (by decide) (Nat.le_of_ble_eq_true rfl) ?_
  intro p e s m below meth c ls hC _ hP hD hS hl
  have hC : CX RX4 cX4_from 3 (some .int) D gCl nwG Z Hb A p s m _ meth c := hC
  have hl : lv_has ls 3 [(0, .ref (ad (20 + 4 * x0))), (1, .int x1)] := hl
  unfold w4_from at hw
  refine lv_iload_n hC.x hC.b dX4_from_0 rfl (lv_at hl 1 rfl) ?_
  refine lv_istore_n (lv' := [(2, .int x1), (0, .ref (ad (20 + 4 * x0))), (1, .int x1)]) hC.x hC.b dX4_from_1 rfl hl (by decide) rfl (fun ls hl => ?_)
  exact k4_from_2 hC h_x0 x1 hw s.heap [] ls hP hD hS (lv_sub hl [1, 0] rfl)
theorem v4_4_aimed : GoodIn lw_all (wsV RX4 83 RX4 yX4_aimed (ws_ yX4_aimed cX4_aimed 2 (some .int))) := lw_V q905 q906 q907 q124 q908
theorem v4_4_out : GoodIn lw_all (wsV RX4 86 RX4 yX4_out (ws_ yX4_out cX4_out 5 (some .int))) := lw_V q909 q910 q911 q124 q912
theorem v4_4_from : GoodIn lw_all (wsV RX4 90 RX4 yX4_from (ws_ yX4_from cX4_from 3 (some .int))) := lw_V q933 q934 q935 q124 q936
theorem h4_ear : yX4_ear.cls = RX4 ∧ yX4_ear.cls ≠ "java/lang/invoke/MethodHandle" ∧ yX4_ear.cls ≠ "java/lang/invoke/VarHandle" ∧ (parseMethodDescriptor yX4_ear.desc).map (fun d => d.parameters.length) = some 3 := by decide +kernel
def w4_ear (post : Int32 → Prop) (tw : Option TD) (S : CS) (x0 : Nat) (x1 : Int32) (x2 : Int32) (x3 : Int32) : Prop :=
  (w4_aimed (fun r1 => (w4_out (fun r2 => ((stT tw S x0) ∧ (w1_wrap (fun r5 => (w4_from (fun r6 => (post r6)) tw S x0 r5)) ((r2.toInt64) + (x3.toInt64)) (S.1.1 50 6)))) tw S x0 x1 r1 x2)) tw S x0 x1)
set_option maxHeartbeats 4000000 in
theorem m4_ear (l : Launch) {post : Int32 → Prop} {S : CS} {x0 : Nat} {x1 : Int32} {x2 : Int32} {x3 : Int32} (h_x0 : x0 < 22) (hw : w4_ear post tw S x0 x1 x2 x3) : Met l yX4_ear (ws_ yX4_ear cX4_ear 4 (some .int)) ({ frames := 121, cells := 0, slots := 0, locals := 6024 } : Room) (va_Pc [.ref (ad (20 + 4 * x0)), .int x1, .int x2, .int x3] (PcG D gCl nwG Z Hb A (wC D ad sc tw S))) (va_Qi (fun r (_ : Unit) => post r) (BW D gCl A (fun _ => (wC D ad sc tw S))) A) 0 0 A := by
  refine Met.ofG (by decide) (Nat.le_of_ble_eq_true rfl) ?_
  intro p e s m below meth c ls hC _ hP hD hS hl
  have hC : CX RX4 cX4_ear 4 (some .int) D gCl nwG Z Hb A p s m _ meth c := hC
  have hl : lv_has ls 4 [(0, .ref (ad (20 + 4 * x0))), (1, .int x1), (2, .int x2), (3, .int x3)] := hl
  unfold w4_ear at hw
  refine lv_aload_n hC.x hC.b dX4_ear_0 rfl (lv_at hl 0 rfl) ?_
  refine lv_aload_n hC.x hC.b dX4_ear_1 rfl (lv_at hl 0 rfl) ?_
  refine lv_iload_n hC.x hC.b dX4_ear_2 rfl (lv_at hl 1 rfl) ?_
  refine lv_aload_n hC.x hC.b dX4_ear_3 rfl (lv_at hl 0 rfl) ?_
  refine lv_iload_n hC.x hC.b dX4_ear_4 rfl (lv_at hl 1 rfl) ?_
  refine go_i (run_V (rest := [.int x1, .ref (ad (20 + 4 * x0)), .ref (ad (20 + 4 * x0))]) hC (m4_aimed l h_x0 hw) v4_4_aimed h4_aimed (17 + 4 * x0) 3 gCl_X4 (wC_so h_x0) rfl ⟨rfl, rfl, Nat.le_of_ble_eq_true rfl, Nat.le_of_ble_eq_true rfl⟩ ⟨Nat.le_refl _, Nat.le_refl _⟩ hP hD hS hl.1 (Nat.le_of_ble_eq_true rfl) dX4_ear_5 rfl) hS (fun r1 u H locs hw86 hP hD hS => ?_)
  refine lv_iload_n hC.x hC.b dX4_ear_8 rfl (lv_at hl 2 rfl) ?_
  refine go_i (run_V (rest := [.ref (ad (20 + 4 * x0))]) hC (m4_out l h_x0 hw86) v4_4_out h4_out (17 + 4 * x0) 3 gCl_X4 (wC_so h_x0) rfl ⟨rfl, rfl, Nat.le_of_ble_eq_true rfl, Nat.le_of_ble_eq_true rfl⟩ ⟨Nat.le_refl _, Nat.le_refl _⟩ hP hD hS hl.1 (Nat.le_of_ble_eq_true rfl) dX4_ear_9 rfl) hS (fun r2 u H locs hw87 hP hD hS => ?_)
  refine lv_i2l (v := (r2.toInt64)) hC.x hC.b dX4_ear_12 rfl ?_
  refine lv_iload_n hC.x hC.b dX4_ear_13 rfl (lv_at hl 3 rfl) ?_
  refine lv_i2l (v := (x3.toInt64)) hC.x hC.b dX4_ear_14 rfl ?_
  refine lv_ladd hC.x hC.b dX4_ear_15 ?_
  refine lv_aload_n hC.x hC.b dX4_ear_16 rfl (lv_at hl 0 rfl) ?_
  refine gX4S_3 (r := x0) h_x0 hC hP dX4_ear_17 ?_
  obtain ⟨⟨τ, et3, hth4⟩, hw88⟩ := hw87
  subst et3
  refine st_ref hth4 ?_
  refine gX4T_6 hC hP dX4_ear_20 ?_
  refine go_i (run_SN (rest := [.ref (ad (20 + 4 * x0))]) hC (m1_wrap l hw88) (hC.K.use 8 rfl) ⟨q931, q118, q930⟩ h1_wrap ⟨rfl, rfl, Nat.le_of_ble_eq_true rfl, Nat.le_of_ble_eq_true rfl⟩ ⟨Nat.le_refl _, Nat.le_refl _⟩ hP hD hS hl.1 (Nat.le_of_ble_eq_true rfl) dX4_ear_23 rfl) hS (fun r5 u H locs hw89 hP hD hS => ?_)
  refine go_i (run_V (rest := []) hC (m4_from l h_x0 hw89) v4_4_from h4_from (17 + 4 * x0) 3 gCl_X4 (wC_so h_x0) rfl ⟨rfl, rfl, Nat.le_of_ble_eq_true rfl, Nat.le_of_ble_eq_true rfl⟩ ⟨Nat.le_refl _, Nat.le_refl _⟩ hP hD hS hl.1 (Nat.le_of_ble_eq_true rfl) dX4_ear_26 rfl) hS (fun r6 u H locs hw90 hP hD hS => ?_)
  exact rt_i (u := ()) hC hw90 hP hD hS dX4_ear_29
theorem v4_4_ear : GoodIn lw_all (wsV RX4 93 RX4 yX4_ear (ws_ yX4_ear cX4_ear 4 (some .int))) := lw_V q901 q902 q903 q124 q904
theorem h4_heard : yX4_heard.cls = RX4 ∧ yX4_heard.cls ≠ "java/lang/invoke/MethodHandle" ∧ yX4_heard.cls ≠ "java/lang/invoke/VarHandle" ∧ (parseMethodDescriptor yX4_heard.desc).map (fun d => d.parameters.length) = some 2 := by decide +kernel
def f4_heard_5 (post : Int32 → Prop) (tw : Option TD) (S : CS) (x0 : Nat) (x1 : Int32) (x2 : Int32) (K5 : (Int32 × Int32) → Prop) (x3 : Int32) (x4 : Int32) : Prop :=
  ((stT tw S x0) ∧ (((S.1.1 50 9) ≤ x4 → (post x3)) ∧ (¬ (S.1.1 50 9) ≤ x4 → (w4_ear (fun r4 => ((¬ r4 = x1 → (K5 ((x3 ||| 0), (x4 + 1)))) ∧ (r4 = x1 → (K5 ((x3 ||| ((1 : Int32) <<< (x4 &&& 31))), (x4 + 1)))))) tw S x0 x4 x2 0))))
set_option maxHeartbeats 4000000 in
theorem k4_heard_5 {post : Int32 → Prop} {S : CS} {x0 : Nat} {x1 : Int32} {x2 : Int32} (hC : CX RX4 cX4_heard 5 (some .int) D gCl nwG Z Hb A p s m args meth c) (h_x0 : x0 < 22) : ∀ z : (Int32 × Int32), lp (fun (K : (Int32 × Int32) → Prop) (z : (Int32 × Int32)) => f4_heard_5 post tw S x0 x1 x2 K z.1 z.2) z → ∀ (H : Heap) (locs : List Loc) (ls : Array Slot), va_P D gCl (wC D ad sc tw S) H → va_D A (wC D ad sc tw S) → va_S A s.heap H locs → lv_has ls 5 [(0, .ref (ad (20 + 4 * x0))), (1, .int x1), (2, .int x2), (3, .int z.1), (4, .int z.2)] → W p l e ({ frames := 122, cells := 0, slots := 0, locals := 6047 } : Room) s m args below meth c H locs 0 0 (MQ below (va_Qi (fun r (_ : Unit) => post r) (BW D gCl A (fun _ => (wC D ad sc tw S))) A) args s 0 0 A) (F0 m 5 ls []) := by
  refine lp_ind ?_
  rintro K5 ⟨x3, x4⟩ hK5 hw H locs ls hP hD hS hl
  have hw : f4_heard_5 post tw S x0 x1 x2 K5 x3 x4 := hw
  unfold f4_heard_5 at hw
  have hP : va_P D gCl (wC D ad sc tw S) H := hP
  have hD : va_D A (wC D ad sc tw S) := hD
  have hl : lv_has ls 5 [(0, .ref (ad (20 + 4 * x0))), (1, .int x1), (2, .int x2), (3, .int x3), (4, .int x4)] := hl
  refine lv_iload hC.x hC.b dX4_heard_5 (lv_at hl 4 rfl) ?_
  refine lv_aload_n hC.x hC.b dX4_heard_7 rfl (lv_at hl 0 rfl) ?_
  refine gX4S_3 (r := x0) h_x0 hC hP dX4_heard_8 ?_
  obtain ⟨⟨τ, et1, hth2⟩, hw91⟩ := hw
  subst et1
  refine st_ref hth2 ?_
  refine gX4T_9 hC hP dX4_heard_11 ?_
  refine lv_icmp_ge (tgt := 46) hC.x hC.b dX4_heard_14 (by decide) (fun c3 => ?_) (fun c3 => ?_)
  · have hw92 := hw91.1 c3
    refine lv_iload_n hC.x hC.b dX4_heard_46 rfl (lv_at hl 3 rfl) ?_
    exact rt_i (u := ()) hC hw92 hP hD hS dX4_heard_47
  · have hw93 := hw91.2 c3
    refine lv_iload_n hC.x hC.b dX4_heard_17 rfl (lv_at hl 3 rfl) ?_
    refine lv_aload_n hC.x hC.b dX4_heard_18 rfl (lv_at hl 0 rfl) ?_
    refine lv_iload hC.x hC.b dX4_heard_19 (lv_at hl 4 rfl) ?_
    refine lv_iload_n hC.x hC.b dX4_heard_21 rfl (lv_at hl 2 rfl) ?_
    refine lv_iconst (v := 0) hC.x hC.b dX4_heard_22 (by decide) ?_
    refine go_i (run_V (rest := [.int x3]) hC (m4_ear l h_x0 hw93) v4_4_ear h4_ear (17 + 4 * x0) 3 gCl_X4 (wC_so h_x0) rfl ⟨rfl, rfl, Nat.le_of_ble_eq_true rfl, Nat.le_of_ble_eq_true rfl⟩ ⟨Nat.le_refl _, Nat.le_refl _⟩ hP hD hS hl.1 (Nat.le_of_ble_eq_true rfl) dX4_heard_23 rfl) hS (fun r4 u H locs hw94 hP hD hS => ?_)
    refine lv_iload_n hC.x hC.b dX4_heard_26 rfl (lv_at hl 1 rfl) ?_
    refine lv_icmp_ne (tgt := 37) hC.x hC.b dX4_heard_27 (by decide) (fun c5 => ?_) (fun c5 => ?_)
    · have hw95 := hw94.1 c5
      refine lv_iconst (v := 0) hC.x hC.b dX4_heard_37 (by decide) ?_
      refine lv_ior hC.x hC.b dX4_heard_38 ?_
      refine lv_istore_n (lv' := [(3, .int (x3 ||| 0)), (0, .ref (ad (20 + 4 * x0))), (1, .int x1), (2, .int x2), (4, .int x4)]) hC.x hC.b dX4_heard_39 rfl hl (by decide) rfl (fun ls hl => ?_)
      refine lv_iinc (v := (x4 + 1)) (lv' := [(4, .int (x4 + 1)), (3, .int (x3 ||| 0)), (0, .ref (ad (20 + 4 * x0))), (1, .int x1), (2, .int x2)]) hC.x hC.b dX4_heard_40 hl (k := 4) rfl rfl (by decide) rfl (fun ls hl => ?_)
      refine lv_goto (tgt := 5) hC.x hC.b dX4_heard_43 (by decide) ?_
      exact hK5 ((x3 ||| 0), (x4 + 1)) hw95 H locs ls hP hD hS (lv_sub hl [2, 3, 4, 1, 0] rfl)
    · have hw96 := hw94.2 c5
      refine lv_iconst (v := 1) hC.x hC.b dX4_heard_30 (by decide) ?_
      refine lv_iload hC.x hC.b dX4_heard_31 (lv_at hl 4 rfl) ?_
      refine lv_ishl hC.x hC.b dX4_heard_33 ?_
      refine lv_goto (tgt := 38) hC.x hC.b dX4_heard_34 (by decide) ?_
      refine lv_ior hC.x hC.b dX4_heard_38 ?_
      refine lv_istore_n (lv' := [(3, .int (x3 ||| ((1 : Int32) <<< (x4 &&& 31)))), (0, .ref (ad (20 + 4 * x0))), (1, .int x1), (2, .int x2), (4, .int x4)]) hC.x hC.b dX4_heard_39 rfl hl (by decide) rfl (fun ls hl => ?_)
      refine lv_iinc (v := (x4 + 1)) (lv' := [(4, .int (x4 + 1)), (3, .int (x3 ||| ((1 : Int32) <<< (x4 &&& 31)))), (0, .ref (ad (20 + 4 * x0))), (1, .int x1), (2, .int x2)]) hC.x hC.b dX4_heard_40 hl (k := 4) rfl rfl (by decide) rfl (fun ls hl => ?_)
      refine lv_goto (tgt := 5) hC.x hC.b dX4_heard_43 (by decide) ?_
      exact hK5 ((x3 ||| ((1 : Int32) <<< (x4 &&& 31))), (x4 + 1)) hw96 H locs ls hP hD hS (lv_sub hl [2, 3, 4, 1, 0] rfl)
def w4_heard (post : Int32 → Prop) (tw : Option TD) (S : CS) (x0 : Nat) (x1 : Int32) (x2 : Int32) : Prop :=
  (lp (fun (K : (Int32 × Int32) → Prop) (z : (Int32 × Int32)) => f4_heard_5 post tw S x0 x1 x2 K z.1 z.2) (0, 0))
set_option maxHeartbeats 4000000 in
theorem m4_heard (l : Launch) {post : Int32 → Prop} {S : CS} {x0 : Nat} {x1 : Int32} {x2 : Int32} (h_x0 : x0 < 22) (hw : w4_heard post tw S x0 x1 x2) : Met l yX4_heard (ws_ yX4_heard cX4_heard 5 (some .int)) ({ frames := 122, cells := 0, slots := 0, locals := 6047 } : Room) (va_Pc [.ref (ad (20 + 4 * x0)), .int x1, .int x2] (PcG D gCl nwG Z Hb A (wC D ad sc tw S))) (va_Qi (fun r (_ : Unit) => post r) (BW D gCl A (fun _ => (wC D ad sc tw S))) A) 0 0 A := by
  refine Met.ofG (by decide) (Nat.le_of_ble_eq_true rfl) ?_
  intro p e s m below meth c ls hC _ hP hD hS hl
  have hC : CX RX4 cX4_heard 5 (some .int) D gCl nwG Z Hb A p s m _ meth c := hC
  have hl : lv_has ls 5 [(0, .ref (ad (20 + 4 * x0))), (1, .int x1), (2, .int x2)] := hl
  unfold w4_heard at hw
  refine lv_iconst (v := 0) hC.x hC.b dX4_heard_0 (by decide) ?_
  refine lv_istore_n (lv' := [(3, .int 0), (0, .ref (ad (20 + 4 * x0))), (1, .int x1), (2, .int x2)]) hC.x hC.b dX4_heard_1 rfl hl (by decide) rfl (fun ls hl => ?_)
  refine lv_iconst (v := 0) hC.x hC.b dX4_heard_2 (by decide) ?_
  refine lv_istore (lv' := [(4, .int 0), (3, .int 0), (0, .ref (ad (20 + 4 * x0))), (1, .int x1), (2, .int x2)]) hC.x hC.b dX4_heard_3 hl (by decide) rfl (fun ls hl => ?_)
  exact k4_heard_5 hC h_x0 (0, 0) hw s.heap [] ls hP hD hS (lv_sub hl [2, 3, 4, 1, 0] rfl)
theorem v1_1_anew : GoodIn lw_all (wsV RX1 73 RX1 yX1_anew (ws_ yX1_anew cX1_anew 1 none)) := lw_V q428 q430 qs2 q118 q431
theorem v1_1_no : GoodIn lw_all (wsV RX1 87 RX1 yX1_no (ws_ yX1_no cX1_no 2 (some .int))) := lw_V q435 q437 qs3 q118 q438
theorem v1_1_isPerson : GoodIn lw_all (wsV RX1 133 RX1 yX1_isPerson (ws_ yX1_isPerson cX1_isPerson 2 (some .boolean))) := lw_V q889 q891 qs25 q118 q892
theorem v1_4_forOne : GoodIn lw_all (wsV RX1 140 RX4 yX4_forOne (ws_ yX4_forOne cX4_forOne 4 (some .int))) := lw_V q893 q894 q895 q124 q896
theorem v1_4_heard : GoodIn lw_all (wsV RX1 146 RX4 yX4_heard (ws_ yX4_heard cX4_heard 5 (some .int))) := lw_V q897 q898 q899 q124 q900
theorem h1_person : yX1_person.cls = RX1 ∧ yX1_person.cls ≠ "java/lang/invoke/MethodHandle" ∧ yX1_person.cls ≠ "java/lang/invoke/VarHandle" ∧ (parseMethodDescriptor yX1_person.desc).map (fun d => d.parameters.length) = some 2 := by decide +kernel
def w1_person (post : Int32 → CS → Prop) (tw : Option TD) (S : CS) (x1 : Int32) (x2 : Int32) : Prop :=
  (w1_anew (fun S2 => (w1_isPerson (fun r3 => ((¬ r3 = 0 → ((x2 = 0 → (vp_in x1 6 ∧ (post (S2.1.1 (300 + 4 * 0 + 1) x1.toNatClampNeg) S2))) ∧ (¬ x2 = 0 → ((x2 = 1 → (w4_forOne (fun r8 => (post r8 S2)) tw S2 0 x1)) ∧ (¬ x2 = 1 → ((x2 = 2 → (w4_heard (fun r10 => (post r10 S2)) tw S2 0 x1 (S2.1.1 (300 + 4 * 0) 4))) ∧ (¬ x2 = 2 → (w1_no (fun r11 S12 => (post r11 S12)) S2 1)))))))) ∧ (r3 = 0 → (w1_no (fun r13 S14 => (post r13 S14)) S2 1)))) tw S2 x1)) S)
set_option maxHeartbeats 4000000 in
theorem m1_person (l : Launch) {post : Int32 → CS → Prop} {S : CS} {x1 : Int32} {x2 : Int32} (hw : w1_person post tw S x1 x2) : Met l yX1_person (ws_ yX1_person cX1_person 3 (some .int)) ({ frames := 123, cells := 0, slots := 0, locals := 6071 } : Room) (va_Pc [.ref (ad 0), .int x1, .int x2] (PcG D gCl nwG Z Hb A (wC D ad sc tw S))) (va_Qi post (BW D gCl A (fun u => (wC D ad sc tw u))) A) 0 0 A := by
  refine Met.ofG (by decide) (Nat.le_of_ble_eq_true rfl) ?_
  intro p e s m below meth c ls hC _ hP hD hS hl
  have hC : CX RX1 cX1_person 3 (some .int) D gCl nwG Z Hb A p s m _ meth c := hC
  have hl : lv_has ls 3 [(0, .ref (ad 0)), (1, .int x1), (2, .int x2)] := hl
  unfold w1_person at hw
  refine lv_aload_n hC.x hC.b dX1_person_0 rfl (lv_at hl 0 rfl) ?_
  refine go_v (run_V (rest := []) hC (m1_anew l hw) v1_1_anew h1_anew 0 0 gCl_X1 rfl rfl ⟨rfl, rfl, Nat.le_of_ble_eq_true rfl, Nat.le_of_ble_eq_true rfl⟩ ⟨Nat.le_refl _, Nat.le_refl _⟩ hP hD hS hl.1 (Nat.le_of_ble_eq_true rfl) dX1_person_1 rfl) hS (fun S2 H locs hw97 hP hD hS => ?_)
  refine lv_aload_n hC.x hC.b dX1_person_4 rfl (lv_at hl 0 rfl) ?_
  refine lv_iload_n hC.x hC.b dX1_person_5 rfl (lv_at hl 1 rfl) ?_
  refine go_i (run_V (rest := []) hC (m1_isPerson l hw97) v1_1_isPerson h1_isPerson 0 0 gCl_X1 rfl rfl ⟨rfl, rfl, Nat.le_of_ble_eq_true rfl, Nat.le_of_ble_eq_true rfl⟩ ⟨Nat.le_refl _, Nat.le_refl _⟩ hP hD hS hl.1 (Nat.le_of_ble_eq_true rfl) dX1_person_6 rfl) hS (fun r3 u H locs hw98 hP hD hS => ?_)
  refine lv_if_ne (tgt := 18) hC.x hC.b dX1_person_9 (by decide) (fun c4 => ?_) (fun c4 => ?_)
  · have hw99 := hw98.1 c4
    refine lv_iload_n hC.x hC.b dX1_person_18 rfl (lv_at hl 2 rfl) ?_
    by_cases c5 : x2 = 0
    · have hw100 := hw99.1 c5
      refine lv_tableIn (off := 25) (tgt := 44) hC.x hC.b dX1_person_19 (by rw [c5]; decide) (by rw [c5]; decide) (by rw [c5]; rfl) (by decide) ?_
      refine lv_aload_n hC.x hC.b dX1_person_44 rfl (lv_at hl 0 rfl) ?_
      refine gO_9 hC hP dX1_person_45 ?_
      refine gX1S_0 (r := 0) (by decide) hC hP dX1_person_48 ?_
      refine lv_iload_n hC.x hC.b dX1_person_51 rfl (lv_at hl 1 rfl) ?_
      obtain ⟨hin6, hw101⟩ := hw100
      refine lS_1 (r := 0) (by decide) hC hP hin6 rfl dX1_person_52 ?_
      exact rt_i hC hw101 hP hD hS dX1_person_53
    · have hw102 := hw99.2 c5
      by_cases c7 : x2 = 1
      · have hw103 := hw102.1 c7
        refine lv_tableIn (off := 35) (tgt := 54) hC.x hC.b dX1_person_19 (by rw [c7]; decide) (by rw [c7]; decide) (by rw [c7]; rfl) (by decide) ?_
        refine lv_aload_n hC.x hC.b dX1_person_54 rfl (lv_at hl 0 rfl) ?_
        refine gO_9 hC hP dX1_person_55 ?_
        refine lv_iload_n hC.x hC.b dX1_person_58 rfl (lv_at hl 1 rfl) ?_
        refine go_i (run_V (rest := []) hC (m4_forOne l (by decide) hw103) v1_4_forOne h4_forOne (17 + 4 * 0) 3 gCl_X4 (wC_so (by decide)) rfl ⟨rfl, rfl, Nat.le_of_ble_eq_true rfl, Nat.le_of_ble_eq_true rfl⟩ ⟨Nat.le_refl _, Nat.le_refl _⟩ hP hD hS hl.1 (Nat.le_of_ble_eq_true rfl) dX1_person_59 rfl) hS (fun r8 u H locs hw104 hP hD hS => ?_)
        exact rt_i hC hw104 hP hD hS dX1_person_62
      · have hw105 := hw102.2 c7
        by_cases c9 : x2 = 2
        · have hw106 := hw105.1 c9
          refine lv_tableIn (off := 44) (tgt := 63) hC.x hC.b dX1_person_19 (by rw [c9]; decide) (by rw [c9]; decide) (by rw [c9]; rfl) (by decide) ?_
          refine lv_aload_n hC.x hC.b dX1_person_63 rfl (lv_at hl 0 rfl) ?_
          refine gO_9 hC hP dX1_person_64 ?_
          refine lv_iload_n hC.x hC.b dX1_person_67 rfl (lv_at hl 1 rfl) ?_
          refine lv_aload_n hC.x hC.b dX1_person_68 rfl (lv_at hl 0 rfl) ?_
          refine gO_9 hC hP dX1_person_69 ?_
          refine gX1S_4 (r := 0) (by decide) hC hP dX1_person_72 ?_
          refine go_i (run_V (rest := []) hC (m4_heard l (by decide) hw106) v1_4_heard h4_heard (17 + 4 * 0) 3 gCl_X4 (wC_so (by decide)) rfl ⟨rfl, rfl, Nat.le_of_ble_eq_true rfl, Nat.le_of_ble_eq_true rfl⟩ ⟨Nat.le_refl _, Nat.le_refl _⟩ hP hD hS hl.1 (Nat.le_of_ble_eq_true rfl) dX1_person_75 rfl) hS (fun r10 u H locs hw107 hP hD hS => ?_)
          exact rt_i hC hw107 hP hD hS dX1_person_78
        · have hw108 := hw105.2 c9
          refine lv_tableOut (tgt := 79) hC.x hC.b dX1_person_19 (by have q0 := lv_neT c5 (a := 0) rfl; have q1 := lv_neT c7 (a := 1) rfl; have q2 := lv_neT c9 (a := 2) rfl;  omega) (by decide) ?_
          refine lv_aload_n hC.x hC.b dX1_person_79 rfl (lv_at hl 0 rfl) ?_
          refine lv_iconst (v := 1) hC.x hC.b dX1_person_80 (by decide) ?_
          refine go_i (run_V (rest := []) hC (m1_no l hw108) v1_1_no h1_no 0 0 gCl_X1 rfl rfl ⟨rfl, rfl, Nat.le_of_ble_eq_true rfl, Nat.le_of_ble_eq_true rfl⟩ ⟨Nat.le_refl _, Nat.le_refl _⟩ hP hD hS hl.1 (Nat.le_of_ble_eq_true rfl) dX1_person_81 rfl) hS (fun r11 S12 H locs hw109 hP hD hS => ?_)
          exact rt_i hC hw109 hP hD hS dX1_person_84
  · have hw110 := hw98.2 c4
    refine lv_aload_n hC.x hC.b dX1_person_12 rfl (lv_at hl 0 rfl) ?_
    refine lv_iconst (v := 1) hC.x hC.b dX1_person_13 (by decide) ?_
    refine go_i (run_V (rest := []) hC (m1_no l hw110) v1_1_no h1_no 0 0 gCl_X1 rfl rfl ⟨rfl, rfl, Nat.le_of_ble_eq_true rfl, Nat.le_of_ble_eq_true rfl⟩ ⟨Nat.le_refl _, Nat.le_refl _⟩ hP hD hS hl.1 (Nat.le_of_ble_eq_true rfl) dX1_person_14 rfl) hS (fun r13 S14 H locs hw111 hP hD hS => ?_)
    exact rt_i hC hw111 hP hD hS dX1_person_17
theorem h1_isDead : yX1_isDead.cls = RX1 ∧ yX1_isDead.cls ≠ "java/lang/invoke/MethodHandle" ∧ yX1_isDead.cls ≠ "java/lang/invoke/VarHandle" ∧ (parseMethodDescriptor yX1_isDead.desc).map (fun d => d.parameters.length) = some 1 := by decide +kernel
def w1_isDead (post : Int32 → Prop) (tw : Option TD) (S : CS) (x1 : Int32) : Prop :=
  ((tw = none → (post 0)) ∧ ((∃ τ, tw = some τ) → (w1_in (fun r2 => ((r2 = 0 → (post 0)) ∧ (¬ r2 = 0 → (post 1)))) x1 0 ((S.1.1 50 9) - 1))))
set_option maxHeartbeats 4000000 in
theorem m1_isDead (l : Launch) {post : Int32 → Prop} {S : CS} {x1 : Int32} (hw : w1_isDead post tw S x1) : Met l yX1_isDead (ws_ yX1_isDead cX1_isDead 2 (some .boolean)) ({ frames := 1, cells := 0, slots := 0, locals := 22 } : Room) (va_Pc [.ref (ad 0), .int x1] (PcG D gCl nwG Z Hb A (wC D ad sc tw S))) (va_Qi (fun r (_ : Unit) => post r) (BW D gCl A (fun _ => (wC D ad sc tw S))) A) 0 0 A := by
  refine Met.ofG (by decide) (Nat.le_of_ble_eq_true rfl) ?_
  intro p e s m below meth c ls hC _ hP hD hS hl
  have hC : CX RX1 cX1_isDead 2 (some .boolean) D gCl nwG Z Hb A p s m _ meth c := hC
  have hl : lv_has ls 2 [(0, .ref (ad 0)), (1, .int x1)] := hl
  unfold w1_isDead at hw
  refine lv_aload_n hC.x hC.b dX1_isDead_0 rfl (lv_at hl 0 rfl) ?_
  refine gO_3 hC hP dX1_isDead_1 ?_
  rcases va_o2 tw with c1 | ⟨τ, c1⟩
  · have hw112 := hw.1 c1
    subst c1
    refine lv_ifnullN (tgt := 28) hC.x hC.b dX1_isDead_4 (by decide) ?_
    refine lv_iconst (v := 0) hC.x hC.b dX1_isDead_28 (by decide) ?_
    exact rt_z (u := ()) hC (Or.inl rfl) hw112 hP hD hS dX1_isDead_29
  · have hw113 := hw.2 ⟨τ, c1⟩
    subst c1
    refine lv_ifnull hC.x hC.b dX1_isDead_4 ?_
    refine lv_iload_n hC.x hC.b dX1_isDead_7 rfl (lv_at hl 1 rfl) ?_
    refine lv_iconst (v := 0) hC.x hC.b dX1_isDead_8 (by decide) ?_
    refine lv_aload_n hC.x hC.b dX1_isDead_9 rfl (lv_at hl 0 rfl) ?_
    refine gO_3 hC hP dX1_isDead_10 ?_
    refine gX1T_9 hC hP dX1_isDead_13 ?_
    refine lv_iconst (v := 1) hC.x hC.b dX1_isDead_16 (by decide) ?_
    refine lv_isub hC.x hC.b dX1_isDead_17 ?_
    refine go_i (run_S (rest := []) hC (m1_in l hw113) v1_1_in h1_in ⟨rfl, rfl, Nat.le_of_ble_eq_true rfl, Nat.le_of_ble_eq_true rfl⟩ ⟨Nat.le_refl _, Nat.le_refl _⟩ hP hD hS hl.1 (Nat.le_of_ble_eq_true rfl) dX1_isDead_18 rfl) hS (fun r2 u H locs hw114 hP hD hS => ?_)
    refine lv_if_eq (tgt := 28) hC.x hC.b dX1_isDead_21 (by decide) (fun c3 => ?_) (fun c3 => ?_)
    · have hw115 := hw114.1 c3
      refine lv_iconst (v := 0) hC.x hC.b dX1_isDead_28 (by decide) ?_
      exact rt_z (u := ()) hC (Or.inl rfl) hw115 hP hD hS dX1_isDead_29
    · have hw116 := hw114.2 c3
      refine lv_iconst (v := 1) hC.x hC.b dX1_isDead_24 (by decide) ?_
      refine lv_goto (tgt := 29) hC.x hC.b dX1_isDead_25 (by decide) ?_
      exact rt_z (u := ()) hC (Or.inr rfl) hw116 hP hD hS dX1_isDead_29
theorem v1_1_isDead : GoodIn lw_all (wsV RX1 150 RX1 yX1_isDead (ws_ yX1_isDead cX1_isDead 2 (some .boolean))) := lw_V q945 q947 qs26 q118 q948
theorem h1_dead : yX1_dead.cls = RX1 ∧ yX1_dead.cls ≠ "java/lang/invoke/MethodHandle" ∧ yX1_dead.cls ≠ "java/lang/invoke/VarHandle" ∧ (parseMethodDescriptor yX1_dead.desc).map (fun d => d.parameters.length) = some 2 := by decide +kernel
def w1_dead (post : Int32 → CS → Prop) (tw : Option TD) (S : CS) (x1 : Int32) (x2 : Int32) : Prop :=
  (w1_anew (fun S2 => (w1_isDead (fun r3 => ((¬ r3 = 0 → ((x2 = 0 → ((∃ τ, tw = some τ) ∧ (vp_in x1 6 ∧ (x1.toNatClampNeg < tG tw ∧ (wg_law (fun v8 => (post v8 S2)) tw x1.toNatClampNeg))))) ∧ (¬ x2 = 0 → ((x2 = 1 → (vp_in x1 6 ∧ (post (S2.1.1 (300 + 4 * 0 + 3) x1.toNatClampNeg) S2))) ∧ (¬ x2 = 1 → ((x2 = 2 → ((∃ τ, tw = some τ) ∧ (vp_in x1 6 ∧ (x1.toNatClampNeg < tG tw ∧ (tL tw x1.toNatClampNeg < 4 ∧ (post (S2.1.1 (1001 + 2 * x1.toNatClampNeg) 1) S2)))))) ∧ (¬ x2 = 2 → ((x2 = 3 → (vp_in x1 6 ∧ (post (S2.1.1 (300 + 4 * 0 + 2) x1.toNatClampNeg) S2))) ∧ (¬ x2 = 3 → (w1_no (fun r16 S17 => (post r16 S17)) S2 1)))))))))) ∧ (r3 = 0 → (w1_no (fun r18 S19 => (post r18 S19)) S2 1)))) tw S2 x1)) S)
set_option maxHeartbeats 4000000 in
theorem m1_dead (l : Launch) {post : Int32 → CS → Prop} {S : CS} {x1 : Int32} {x2 : Int32} (hw : w1_dead post tw S x1 x2) : Met l yX1_dead (ws_ yX1_dead cX1_dead 3 (some .int)) ({ frames := 120, cells := 0, slots := 0, locals := 6000 } : Room) (va_Pc [.ref (ad 0), .int x1, .int x2] (PcG D gCl nwG Z Hb A (wC D ad sc tw S))) (va_Qi post (BW D gCl A (fun u => (wC D ad sc tw u))) A) 0 0 A := by
  refine Met.ofG (by decide) (Nat.le_of_ble_eq_true rfl) ?_
  intro p e s m below meth c ls hC _ hP hD hS hl
  have hC : CX RX1 cX1_dead 3 (some .int) D gCl nwG Z Hb A p s m _ meth c := hC
  have hl : lv_has ls 3 [(0, .ref (ad 0)), (1, .int x1), (2, .int x2)] := hl
  unfold w1_dead at hw
  refine lv_aload_n hC.x hC.b dX1_dead_0 rfl (lv_at hl 0 rfl) ?_
  refine go_v (run_V (rest := []) hC (m1_anew l hw) v1_1_anew h1_anew 0 0 gCl_X1 rfl rfl ⟨rfl, rfl, Nat.le_of_ble_eq_true rfl, Nat.le_of_ble_eq_true rfl⟩ ⟨Nat.le_refl _, Nat.le_refl _⟩ hP hD hS hl.1 (Nat.le_of_ble_eq_true rfl) dX1_dead_1 rfl) hS (fun S2 H locs hw117 hP hD hS => ?_)
  refine lv_aload_n hC.x hC.b dX1_dead_4 rfl (lv_at hl 0 rfl) ?_
  refine lv_iload_n hC.x hC.b dX1_dead_5 rfl (lv_at hl 1 rfl) ?_
  refine go_i (run_V (rest := []) hC (m1_isDead l hw117) v1_1_isDead h1_isDead 0 0 gCl_X1 rfl rfl ⟨rfl, rfl, Nat.le_of_ble_eq_true rfl, Nat.le_of_ble_eq_true rfl⟩ ⟨Nat.le_refl _, Nat.le_refl _⟩ hP hD hS hl.1 (Nat.le_of_ble_eq_true rfl) dX1_dead_6 rfl) hS (fun r3 u H locs hw118 hP hD hS => ?_)
  refine lv_if_ne (tgt := 18) hC.x hC.b dX1_dead_9 (by decide) (fun c4 => ?_) (fun c4 => ?_)
  · have hw119 := hw118.1 c4
    refine lv_iload_n hC.x hC.b dX1_dead_18 rfl (lv_at hl 2 rfl) ?_
    by_cases c5 : x2 = 0
    · have hw120 := hw119.1 c5
      refine lv_tableIn (off := 29) (tgt := 48) hC.x hC.b dX1_dead_19 (by rw [c5]; decide) (by rw [c5]; decide) (by rw [c5]; rfl) (by decide) ?_
      refine lv_aload_n hC.x hC.b dX1_dead_48 rfl (lv_at hl 0 rfl) ?_
      refine gO_3 hC hP dX1_dead_49 ?_
      obtain ⟨⟨τ, rfl⟩, hw121⟩ := hw120
      refine gX1T_1 hC hP dX1_dead_52 ?_
      refine lv_iload_n hC.x hC.b dX1_dead_55 rfl (lv_at hl 1 rfl) ?_
      obtain ⟨hin6, hw122⟩ := hw121
      obtain ⟨hg7, hw123⟩ := hw122
      refine lGh hC hP hin6 rfl hg7 dX1_dead_56 ?_
      refine go_i (run_law (rest := []) (i := x1.toNatClampNeg) hg7 hC hw123 hP hD hS hl.1 (Nat.le_of_ble_eq_true rfl) (Nat.le_of_ble_eq_true rfl) (Nat.le_of_ble_eq_true rfl) dX1_dead_57) hS (fun v8 u H locs hw124 hP hD hS => ?_)
      exact rt_i hC hw124 hP hD hS dX1_dead_60
    · have hw125 := hw119.2 c5
      by_cases c9 : x2 = 1
      · have hw126 := hw125.1 c9
        refine lv_tableIn (off := 42) (tgt := 61) hC.x hC.b dX1_dead_19 (by rw [c9]; decide) (by rw [c9]; decide) (by rw [c9]; rfl) (by decide) ?_
        refine lv_aload_n hC.x hC.b dX1_dead_61 rfl (lv_at hl 0 rfl) ?_
        refine gO_9 hC hP dX1_dead_62 ?_
        refine gX1S_2 (r := 0) (by decide) hC hP dX1_dead_65 ?_
        refine lv_iload_n hC.x hC.b dX1_dead_68 rfl (lv_at hl 1 rfl) ?_
        obtain ⟨hin10, hw127⟩ := hw126
        refine lS_3 (r := 0) (by decide) hC hP hin10 rfl dX1_dead_69 ?_
        exact rt_i hC hw127 hP hD hS dX1_dead_70
      · have hw128 := hw125.2 c9
        by_cases c11 : x2 = 2
        · have hw129 := hw128.1 c11
          refine lv_tableIn (off := 52) (tgt := 71) hC.x hC.b dX1_dead_19 (by rw [c11]; decide) (by rw [c11]; decide) (by rw [c11]; rfl) (by decide) ?_
          refine lv_aload_n hC.x hC.b dX1_dead_71 rfl (lv_at hl 0 rfl) ?_
          refine gO_3 hC hP dX1_dead_72 ?_
          obtain ⟨⟨τ, rfl⟩, hw130⟩ := hw129
          refine gX1T_1 hC hP dX1_dead_75 ?_
          refine lv_iload_n hC.x hC.b dX1_dead_78 rfl (lv_at hl 1 rfl) ?_
          obtain ⟨hin12, hw131⟩ := hw130
          obtain ⟨hg13, hw132⟩ := hw131
          refine lGh hC hP hin12 rfl hg13 dX1_dead_79 ?_
          obtain ⟨hlw, hw133⟩ := hw132
          refine gX1G_1 (i := x1.toNatClampNeg) hg13 hlw hC hP dX1_dead_80 ?_
          exact rt_i hC hw133 hP hD hS dX1_dead_83
        · have hw134 := hw128.2 c11
          by_cases c14 : x2 = 3
          · have hw135 := hw134.1 c14
            refine lv_tableIn (off := 65) (tgt := 84) hC.x hC.b dX1_dead_19 (by rw [c14]; decide) (by rw [c14]; decide) (by rw [c14]; rfl) (by decide) ?_
            refine lv_aload_n hC.x hC.b dX1_dead_84 rfl (lv_at hl 0 rfl) ?_
            refine gO_9 hC hP dX1_dead_85 ?_
            refine gX1S_1 (r := 0) (by decide) hC hP dX1_dead_88 ?_
            refine lv_iload_n hC.x hC.b dX1_dead_91 rfl (lv_at hl 1 rfl) ?_
            obtain ⟨hin15, hw136⟩ := hw135
            refine lS_2 (r := 0) (by decide) hC hP hin15 rfl dX1_dead_92 ?_
            exact rt_i hC hw136 hP hD hS dX1_dead_93
          · have hw137 := hw134.2 c14
            refine lv_tableOut (tgt := 94) hC.x hC.b dX1_dead_19 (by have q0 := lv_neT c5 (a := 0) rfl; have q1 := lv_neT c9 (a := 1) rfl; have q2 := lv_neT c11 (a := 2) rfl; have q3 := lv_neT c14 (a := 3) rfl;  omega) (by decide) ?_
            refine lv_aload_n hC.x hC.b dX1_dead_94 rfl (lv_at hl 0 rfl) ?_
            refine lv_iconst (v := 1) hC.x hC.b dX1_dead_95 (by decide) ?_
            refine go_i (run_V (rest := []) hC (m1_no l hw137) v1_1_no h1_no 0 0 gCl_X1 rfl rfl ⟨rfl, rfl, Nat.le_of_ble_eq_true rfl, Nat.le_of_ble_eq_true rfl⟩ ⟨Nat.le_refl _, Nat.le_refl _⟩ hP hD hS hl.1 (Nat.le_of_ble_eq_true rfl) dX1_dead_96 rfl) hS (fun r16 S17 H locs hw138 hP hD hS => ?_)
            exact rt_i hC hw138 hP hD hS dX1_dead_99
  · have hw139 := hw118.2 c4
    refine lv_aload_n hC.x hC.b dX1_dead_12 rfl (lv_at hl 0 rfl) ?_
    refine lv_iconst (v := 1) hC.x hC.b dX1_dead_13 (by decide) ?_
    refine go_i (run_V (rest := []) hC (m1_no l hw139) v1_1_no h1_no 0 0 gCl_X1 rfl rfl ⟨rfl, rfl, Nat.le_of_ble_eq_true rfl, Nat.le_of_ble_eq_true rfl⟩ ⟨Nat.le_refl _, Nat.le_refl _⟩ hP hD hS hl.1 (Nat.le_of_ble_eq_true rfl) dX1_dead_14 rfl) hS (fun r18 S19 H locs hw140 hP hD hS => ?_)
    exact rt_i hC hw140 hP hD hS dX1_dead_17
theorem h1_isHouse : yX1_isHouse.cls = RX1 ∧ yX1_isHouse.cls ≠ "java/lang/invoke/MethodHandle" ∧ yX1_isHouse.cls ≠ "java/lang/invoke/VarHandle" ∧ (parseMethodDescriptor yX1_isHouse.desc).map (fun d => d.parameters.length) = some 1 := by decide +kernel
def w1_isHouse (post : Int32 → Prop) (tw : Option TD) (S : CS) (x1 : Int32) : Prop :=
  ((tw = none → (post 0)) ∧ ((∃ τ, tw = some τ) → (w1_in (fun r2 => ((r2 = 0 → (post 0)) ∧ (¬ r2 = 0 → (post 1)))) x1 0 ((S.1.1 50 6) - 1))))
set_option maxHeartbeats 4000000 in
theorem m1_isHouse (l : Launch) {post : Int32 → Prop} {S : CS} {x1 : Int32} (hw : w1_isHouse post tw S x1) : Met l yX1_isHouse (ws_ yX1_isHouse cX1_isHouse 2 (some .boolean)) ({ frames := 1, cells := 0, slots := 0, locals := 22 } : Room) (va_Pc [.ref (ad 0), .int x1] (PcG D gCl nwG Z Hb A (wC D ad sc tw S))) (va_Qi (fun r (_ : Unit) => post r) (BW D gCl A (fun _ => (wC D ad sc tw S))) A) 0 0 A := by
  refine Met.ofG (by decide) (Nat.le_of_ble_eq_true rfl) ?_
  intro p e s m below meth c ls hC _ hP hD hS hl
  have hC : CX RX1 cX1_isHouse 2 (some .boolean) D gCl nwG Z Hb A p s m _ meth c := hC
  have hl : lv_has ls 2 [(0, .ref (ad 0)), (1, .int x1)] := hl
  unfold w1_isHouse at hw
  refine lv_aload_n hC.x hC.b dX1_isHouse_0 rfl (lv_at hl 0 rfl) ?_
  refine gO_3 hC hP dX1_isHouse_1 ?_
  rcases va_o2 tw with c1 | ⟨τ, c1⟩
  · have hw141 := hw.1 c1
    subst c1
    refine lv_ifnullN (tgt := 28) hC.x hC.b dX1_isHouse_4 (by decide) ?_
    refine lv_iconst (v := 0) hC.x hC.b dX1_isHouse_28 (by decide) ?_
    exact rt_z (u := ()) hC (Or.inl rfl) hw141 hP hD hS dX1_isHouse_29
  · have hw142 := hw.2 ⟨τ, c1⟩
    subst c1
    refine lv_ifnull hC.x hC.b dX1_isHouse_4 ?_
    refine lv_iload_n hC.x hC.b dX1_isHouse_7 rfl (lv_at hl 1 rfl) ?_
    refine lv_iconst (v := 0) hC.x hC.b dX1_isHouse_8 (by decide) ?_
    refine lv_aload_n hC.x hC.b dX1_isHouse_9 rfl (lv_at hl 0 rfl) ?_
    refine gO_3 hC hP dX1_isHouse_10 ?_
    refine gX1T_6 hC hP dX1_isHouse_13 ?_
    refine lv_iconst (v := 1) hC.x hC.b dX1_isHouse_16 (by decide) ?_
    refine lv_isub hC.x hC.b dX1_isHouse_17 ?_
    refine go_i (run_S (rest := []) hC (m1_in l hw142) v1_1_in h1_in ⟨rfl, rfl, Nat.le_of_ble_eq_true rfl, Nat.le_of_ble_eq_true rfl⟩ ⟨Nat.le_refl _, Nat.le_refl _⟩ hP hD hS hl.1 (Nat.le_of_ble_eq_true rfl) dX1_isHouse_18 rfl) hS (fun r2 u H locs hw143 hP hD hS => ?_)
    refine lv_if_eq (tgt := 28) hC.x hC.b dX1_isHouse_21 (by decide) (fun c3 => ?_) (fun c3 => ?_)
    · have hw144 := hw143.1 c3
      refine lv_iconst (v := 0) hC.x hC.b dX1_isHouse_28 (by decide) ?_
      exact rt_z (u := ()) hC (Or.inl rfl) hw144 hP hD hS dX1_isHouse_29
    · have hw145 := hw143.2 c3
      refine lv_iconst (v := 1) hC.x hC.b dX1_isHouse_24 (by decide) ?_
      refine lv_goto (tgt := 29) hC.x hC.b dX1_isHouse_25 (by decide) ?_
      exact rt_z (u := ()) hC (Or.inr rfl) hw145 hP hD hS dX1_isHouse_29
theorem v1_1_isHouse : GoodIn lw_all (wsV RX1 172 RX1 yX1_isHouse (ws_ yX1_isHouse cX1_isHouse 2 (some .boolean))) := lw_V q970 q972 qs27 q118 q973
theorem v1_4_who : GoodIn lw_all (wsV RX1 175 RX4 yX4_who (ws_ yX4_who cX4_who 3 (some .int))) := lw_V q974 q938 q939 q124 q940
theorem h1_house : yX1_house.cls = RX1 ∧ yX1_house.cls ≠ "java/lang/invoke/MethodHandle" ∧ yX1_house.cls ≠ "java/lang/invoke/VarHandle" ∧ (parseMethodDescriptor yX1_house.desc).map (fun d => d.parameters.length) = some 1 := by decide +kernel
def w1_house (post : Int32 → CS → Prop) (tw : Option TD) (S : CS) (x1 : Int32) : Prop :=
  (w1_anew (fun S2 => (w1_isHouse (fun r3 => ((r3 = 0 → (w1_no (fun r5 S6 => (post r5 S6)) S2 1)) ∧ (¬ r3 = 0 → (w4_who (fun r7 => (post r7 S2)) tw S2 0 x1)))) tw S2 x1)) S)
set_option maxHeartbeats 4000000 in
theorem m1_house (l : Launch) {post : Int32 → CS → Prop} {S : CS} {x1 : Int32} (hw : w1_house post tw S x1) : Met l yX1_house (ws_ yX1_house cX1_house 2 (some .int)) ({ frames := 2, cells := 0, slots := 0, locals := 43 } : Room) (va_Pc [.ref (ad 0), .int x1] (PcG D gCl nwG Z Hb A (wC D ad sc tw S))) (va_Qi post (BW D gCl A (fun u => (wC D ad sc tw u))) A) 0 0 A := by
  refine Met.ofG (by decide) (Nat.le_of_ble_eq_true rfl) ?_
  intro p e s m below meth c ls hC _ hP hD hS hl
  have hC : CX RX1 cX1_house 2 (some .int) D gCl nwG Z Hb A p s m _ meth c := hC
  have hl : lv_has ls 2 [(0, .ref (ad 0)), (1, .int x1)] := hl
  unfold w1_house at hw
  refine lv_aload_n hC.x hC.b dX1_house_0 rfl (lv_at hl 0 rfl) ?_
  refine go_v (run_V (rest := []) hC (m1_anew l hw) v1_1_anew h1_anew 0 0 gCl_X1 rfl rfl ⟨rfl, rfl, Nat.le_of_ble_eq_true rfl, Nat.le_of_ble_eq_true rfl⟩ ⟨Nat.le_refl _, Nat.le_refl _⟩ hP hD hS hl.1 (Nat.le_of_ble_eq_true rfl) dX1_house_1 rfl) hS (fun S2 H locs hw146 hP hD hS => ?_)
  refine lv_aload_n hC.x hC.b dX1_house_4 rfl (lv_at hl 0 rfl) ?_
  refine lv_iload_n hC.x hC.b dX1_house_5 rfl (lv_at hl 1 rfl) ?_
  refine go_i (run_V (rest := []) hC (m1_isHouse l hw146) v1_1_isHouse h1_isHouse 0 0 gCl_X1 rfl rfl ⟨rfl, rfl, Nat.le_of_ble_eq_true rfl, Nat.le_of_ble_eq_true rfl⟩ ⟨Nat.le_refl _, Nat.le_refl _⟩ hP hD hS hl.1 (Nat.le_of_ble_eq_true rfl) dX1_house_6 rfl) hS (fun r3 u H locs hw147 hP hD hS => ?_)
  refine lv_if_eq (tgt := 23) hC.x hC.b dX1_house_9 (by decide) (fun c4 => ?_) (fun c4 => ?_)
  · have hw148 := hw147.1 c4
    refine lv_aload_n hC.x hC.b dX1_house_23 rfl (lv_at hl 0 rfl) ?_
    refine lv_iconst (v := 1) hC.x hC.b dX1_house_24 (by decide) ?_
    refine go_i (run_V (rest := []) hC (m1_no l hw148) v1_1_no h1_no 0 0 gCl_X1 rfl rfl ⟨rfl, rfl, Nat.le_of_ble_eq_true rfl, Nat.le_of_ble_eq_true rfl⟩ ⟨Nat.le_refl _, Nat.le_refl _⟩ hP hD hS hl.1 (Nat.le_of_ble_eq_true rfl) dX1_house_25 rfl) hS (fun r5 S6 H locs hw149 hP hD hS => ?_)
    exact rt_i hC hw149 hP hD hS dX1_house_28
  · have hw150 := hw147.2 c4
    refine lv_aload_n hC.x hC.b dX1_house_12 rfl (lv_at hl 0 rfl) ?_
    refine gO_9 hC hP dX1_house_13 ?_
    refine lv_iload_n hC.x hC.b dX1_house_16 rfl (lv_at hl 1 rfl) ?_
    refine go_i (run_V (rest := []) hC (m4_who l (by decide) hw150) v1_4_who h4_who (17 + 4 * 0) 3 gCl_X4 (wC_so (by decide)) rfl ⟨rfl, rfl, Nat.le_of_ble_eq_true rfl, Nat.le_of_ble_eq_true rfl⟩ ⟨Nat.le_refl _, Nat.le_refl _⟩ hP hD hS hl.1 (Nat.le_of_ble_eq_true rfl) dX1_house_17 rfl) hS (fun r7 u H locs hw151 hP hD hS => ?_)
    refine lv_goto (tgt := 28) hC.x hC.b dX1_house_20 (by decide) ?_
    exact rt_i hC hw151 hP hD hS dX1_house_28
theorem h1_numberWhy : yX1_numberWhy.cls = RX1 ∧ yX1_numberWhy.cls ≠ "java/lang/invoke/MethodHandle" ∧ yX1_numberWhy.cls ≠ "java/lang/invoke/VarHandle" ∧ (parseMethodDescriptor yX1_numberWhy.desc).map (fun d => d.parameters.length) = some 2 := by decide +kernel
def w1_numberWhy (post : Int32 → Prop) (S : CS) (x1 : Int32) (x2 : Int32) : Prop :=
  ((¬ x1 = 0 → ((x2 = 0 → (post 2)) ∧ (¬ x2 = 0 → (post 0)))) ∧ (x1 = 0 → (post 1)))
set_option maxHeartbeats 4000000 in
theorem m1_numberWhy (l : Launch) {post : Int32 → Prop} {S : CS} {x1 : Int32} {x2 : Int32} (hw : w1_numberWhy post S x1 x2) : Met l yX1_numberWhy (ws_ yX1_numberWhy cX1_numberWhy 3 (some .int)) ({ frames := 0, cells := 0, slots := 0, locals := 0 } : Room) (va_Pc [.ref (ad 0), .int x1, .int x2] (PcG D gCl nwG Z Hb A (wC D ad sc tw S))) (va_Qi (fun r (_ : Unit) => post r) (BW D gCl A (fun _ => (wC D ad sc tw S))) A) 0 0 A := by
  refine Met.ofG (by decide) (Nat.le_of_ble_eq_true rfl) ?_
  intro p e s m below meth c ls hC _ hP hD hS hl
  have hC : CX RX1 cX1_numberWhy 3 (some .int) D gCl nwG Z Hb A p s m _ meth c := hC
  have hl : lv_has ls 3 [(0, .ref (ad 0)), (1, .int x1), (2, .int x2)] := hl
  unfold w1_numberWhy at hw
  refine lv_iload_n hC.x hC.b dX1_numberWhy_0 rfl (lv_at hl 1 rfl) ?_
  refine lv_if_ne (tgt := 8) hC.x hC.b dX1_numberWhy_1 (by decide) (fun c1 => ?_) (fun c1 => ?_)
  · have hw152 := hw.1 c1
    refine lv_iload_n hC.x hC.b dX1_numberWhy_8 rfl (lv_at hl 2 rfl) ?_
    refine lv_if_eq (tgt := 16) hC.x hC.b dX1_numberWhy_9 (by decide) (fun c2 => ?_) (fun c2 => ?_)
    · have hw153 := hw152.1 c2
      refine lv_iconst (v := 2) hC.x hC.b dX1_numberWhy_16 (by decide) ?_
      exact rt_i (u := ()) hC hw153 hP hD hS dX1_numberWhy_17
    · have hw154 := hw152.2 c2
      refine lv_iconst (v := 0) hC.x hC.b dX1_numberWhy_12 (by decide) ?_
      refine lv_goto (tgt := 17) hC.x hC.b dX1_numberWhy_13 (by decide) ?_
      exact rt_i (u := ()) hC hw154 hP hD hS dX1_numberWhy_17
  · have hw155 := hw.2 c1
    refine lv_iconst (v := 1) hC.x hC.b dX1_numberWhy_4 (by decide) ?_
    refine lv_goto (tgt := 17) hC.x hC.b dX1_numberWhy_5 (by decide) ?_
    exact rt_i (u := ()) hC hw155 hP hD hS dX1_numberWhy_17
theorem v1_1_numberWhy : GoodIn lw_all (wsV RX1 129 RX1 yX1_numberWhy (ws_ yX1_numberWhy cX1_numberWhy 3 (some .int))) := lw_V q983 q985 qs29 q118 q986
theorem h1_nightWhy : yX1_nightWhy.cls = RX1 ∧ yX1_nightWhy.cls ≠ "java/lang/invoke/MethodHandle" ∧ yX1_nightWhy.cls ≠ "java/lang/invoke/VarHandle" ∧ (parseMethodDescriptor yX1_nightWhy.desc).map (fun d => d.parameters.length) = some 2 := by decide +kernel
def w1_nightWhy (post : Int32 → Prop) (S : CS) (x1 : Int32) (x2 : Int32) : Prop :=
  (w1_in (fun r1 => (w1_numberWhy (fun r2 => (post r2)) S x1 r1)) x2 0 99)
set_option maxHeartbeats 4000000 in
theorem m1_nightWhy (l : Launch) {post : Int32 → Prop} {S : CS} {x1 : Int32} {x2 : Int32} (hw : w1_nightWhy post S x1 x2) : Met l yX1_nightWhy (ws_ yX1_nightWhy cX1_nightWhy 3 (some .int)) ({ frames := 1, cells := 0, slots := 0, locals := 22 } : Room) (va_Pc [.ref (ad 0), .int x1, .int x2] (PcG D gCl nwG Z Hb A (wC D ad sc tw S))) (va_Qi (fun r (_ : Unit) => post r) (BW D gCl A (fun _ => (wC D ad sc tw S))) A) 0 0 A := by
  refine Met.ofG (by decide) (Nat.le_of_ble_eq_true rfl) ?_
  intro p e s m below meth c ls hC _ hP hD hS hl
  have hC : CX RX1 cX1_nightWhy 3 (some .int) D gCl nwG Z Hb A p s m _ meth c := hC
  have hl : lv_has ls 3 [(0, .ref (ad 0)), (1, .int x1), (2, .int x2)] := hl
  unfold w1_nightWhy at hw
  refine lv_aload_n hC.x hC.b dX1_nightWhy_0 rfl (lv_at hl 0 rfl) ?_
  refine lv_iload_n hC.x hC.b dX1_nightWhy_1 rfl (lv_at hl 1 rfl) ?_
  refine lv_iload_n hC.x hC.b dX1_nightWhy_2 rfl (lv_at hl 2 rfl) ?_
  refine lv_iconst (v := 0) hC.x hC.b dX1_nightWhy_3 (by decide) ?_
  refine lv_bipush (v := 99) hC.x hC.b dX1_nightWhy_4 (by decide) ?_
  refine go_i (run_S (rest := [.int x1, .ref (ad 0)]) hC (m1_in l hw) v1_1_in h1_in ⟨rfl, rfl, Nat.le_of_ble_eq_true rfl, Nat.le_of_ble_eq_true rfl⟩ ⟨Nat.le_refl _, Nat.le_refl _⟩ hP hD hS hl.1 (Nat.le_of_ble_eq_true rfl) dX1_nightWhy_6 rfl) hS (fun r1 u H locs hw156 hP hD hS => ?_)
  refine go_i (run_V (rest := []) hC (m1_numberWhy l hw156) v1_1_numberWhy h1_numberWhy 0 0 gCl_X1 rfl rfl ⟨rfl, rfl, Nat.le_of_ble_eq_true rfl, Nat.le_of_ble_eq_true rfl⟩ ⟨Nat.le_refl _, Nat.le_refl _⟩ hP hD hS hl.1 (Nat.le_of_ble_eq_true rfl) dX1_nightWhy_9 rfl) hS (fun r2 u H locs hw157 hP hD hS => ?_)
  exact rt_i (u := ()) hC hw157 hP hD hS dX1_nightWhy_12
theorem v1_1_nightWhy : GoodIn lw_all (wsV RX1 178 RX1 yX1_nightWhy (ws_ yX1_nightWhy cX1_nightWhy 3 (some .int))) := lw_V q979 q981 qs28 q118 q982
theorem v1_4_aimed : GoodIn lw_all (wsV RX1 182 RX4 yX4_aimed (ws_ yX4_aimed cX4_aimed 2 (some .int))) := lw_V q987 q906 q907 q124 q908
theorem v1_4_out : GoodIn lw_all (wsV RX1 185 RX4 yX4_out (ws_ yX4_out cX4_out 5 (some .int))) := lw_V q988 q910 q911 q124 q912
theorem h1_comesOut : yX1_comesOut.cls = RX1 ∧ yX1_comesOut.cls ≠ "java/lang/invoke/MethodHandle" ∧ yX1_comesOut.cls ≠ "java/lang/invoke/VarHandle" ∧ (parseMethodDescriptor yX1_comesOut.desc).map (fun d => d.parameters.length) = some 2 := by decide +kernel
def w1_comesOut (post : Int32 → CS → Prop) (tw : Option TD) (S : CS) (x1 : Int32) (x2 : Int32) : Prop :=
  (w1_anew (fun S2 => (w1_isDead (fun r3 => (w1_nightWhy (fun r4 => ((r4 = 0 → (w4_aimed (fun r6 => (w4_out (fun r7 => (post r7 S2)) tw S2 0 x1 r6 x2)) tw S2 0 x1)) ∧ (¬ r4 = 0 → (w1_no (fun r8 S9 => (post r8 S9)) S2 r4)))) S2 r3 x2)) tw S2 x1)) S)
set_option maxHeartbeats 4000000 in
theorem m1_comesOut (l : Launch) {post : Int32 → CS → Prop} {S : CS} {x1 : Int32} {x2 : Int32} (hw : w1_comesOut post tw S x1 x2) : Met l yX1_comesOut (ws_ yX1_comesOut cX1_comesOut 4 (some .int)) ({ frames := 121, cells := 0, slots := 0, locals := 6024 } : Room) (va_Pc [.ref (ad 0), .int x1, .int x2] (PcG D gCl nwG Z Hb A (wC D ad sc tw S))) (va_Qi post (BW D gCl A (fun u => (wC D ad sc tw u))) A) 0 0 A := by
  refine Met.ofG (by decide) (Nat.le_of_ble_eq_true rfl) ?_
  intro p e s m below meth c ls hC _ hP hD hS hl
  have hC : CX RX1 cX1_comesOut 4 (some .int) D gCl nwG Z Hb A p s m _ meth c := hC
  have hl : lv_has ls 4 [(0, .ref (ad 0)), (1, .int x1), (2, .int x2)] := hl
  unfold w1_comesOut at hw
  refine lv_aload_n hC.x hC.b dX1_comesOut_0 rfl (lv_at hl 0 rfl) ?_
  refine go_v (run_V (rest := []) hC (m1_anew l hw) v1_1_anew h1_anew 0 0 gCl_X1 rfl rfl ⟨rfl, rfl, Nat.le_of_ble_eq_true rfl, Nat.le_of_ble_eq_true rfl⟩ ⟨Nat.le_refl _, Nat.le_refl _⟩ hP hD hS hl.1 (Nat.le_of_ble_eq_true rfl) dX1_comesOut_1 rfl) hS (fun S2 H locs hw158 hP hD hS => ?_)
  refine lv_aload_n hC.x hC.b dX1_comesOut_4 rfl (lv_at hl 0 rfl) ?_
  refine lv_aload_n hC.x hC.b dX1_comesOut_5 rfl (lv_at hl 0 rfl) ?_
  refine lv_iload_n hC.x hC.b dX1_comesOut_6 rfl (lv_at hl 1 rfl) ?_
  refine go_i (run_V (rest := [.ref (ad 0)]) hC (m1_isDead l hw158) v1_1_isDead h1_isDead 0 0 gCl_X1 rfl rfl ⟨rfl, rfl, Nat.le_of_ble_eq_true rfl, Nat.le_of_ble_eq_true rfl⟩ ⟨Nat.le_refl _, Nat.le_refl _⟩ hP hD hS hl.1 (Nat.le_of_ble_eq_true rfl) dX1_comesOut_7 rfl) hS (fun r3 u H locs hw159 hP hD hS => ?_)
  refine lv_iload_n hC.x hC.b dX1_comesOut_10 rfl (lv_at hl 2 rfl) ?_
  refine go_i (run_V (rest := []) hC (m1_nightWhy l hw159) v1_1_nightWhy h1_nightWhy 0 0 gCl_X1 rfl rfl ⟨rfl, rfl, Nat.le_of_ble_eq_true rfl, Nat.le_of_ble_eq_true rfl⟩ ⟨Nat.le_refl _, Nat.le_refl _⟩ hP hD hS hl.1 (Nat.le_of_ble_eq_true rfl) dX1_comesOut_11 rfl) hS (fun r4 u H locs hw160 hP hD hS => ?_)
  refine lv_istore_n (lv' := [(3, .int r4), (0, .ref (ad 0)), (1, .int x1), (2, .int x2)]) hC.x hC.b dX1_comesOut_14 rfl hl (by decide) rfl (fun ls hl => ?_)
  refine lv_iload_n hC.x hC.b dX1_comesOut_15 rfl (lv_at hl 0 rfl) ?_
  refine lv_if_eq (tgt := 27) hC.x hC.b dX1_comesOut_16 (by decide) (fun c5 => ?_) (fun c5 => ?_)
  · have hw161 := hw160.1 c5
    refine lv_aload_n hC.x hC.b dX1_comesOut_27 rfl (lv_at hl 1 rfl) ?_
    refine gO_9 hC hP dX1_comesOut_28 ?_
    refine lv_iload_n hC.x hC.b dX1_comesOut_31 rfl (lv_at hl 2 rfl) ?_
    refine lv_aload_n hC.x hC.b dX1_comesOut_32 rfl (lv_at hl 1 rfl) ?_
    refine gO_9 hC hP dX1_comesOut_33 ?_
    refine lv_iload_n hC.x hC.b dX1_comesOut_36 rfl (lv_at hl 2 rfl) ?_
    refine go_i (run_V (rest := [.int x1, .ref (ad (20 + 4 * 0))]) hC (m4_aimed l (by decide) hw161) v1_4_aimed h4_aimed (17 + 4 * 0) 3 gCl_X4 (wC_so (by decide)) rfl ⟨rfl, rfl, Nat.le_of_ble_eq_true rfl, Nat.le_of_ble_eq_true rfl⟩ ⟨Nat.le_refl _, Nat.le_refl _⟩ hP hD hS hl.1 (Nat.le_of_ble_eq_true rfl) dX1_comesOut_37 rfl) hS (fun r6 u H locs hw162 hP hD hS => ?_)
    refine lv_iload_n hC.x hC.b dX1_comesOut_40 rfl (lv_at hl 3 rfl) ?_
    refine go_i (run_V (rest := []) hC (m4_out l (by decide) hw162) v1_4_out h4_out (17 + 4 * 0) 3 gCl_X4 (wC_so (by decide)) rfl ⟨rfl, rfl, Nat.le_of_ble_eq_true rfl, Nat.le_of_ble_eq_true rfl⟩ ⟨Nat.le_refl _, Nat.le_refl _⟩ hP hD hS hl.1 (Nat.le_of_ble_eq_true rfl) dX1_comesOut_41 rfl) hS (fun r7 u H locs hw163 hP hD hS => ?_)
    exact rt_i hC hw163 hP hD hS dX1_comesOut_44
  · have hw164 := hw160.2 c5
    refine lv_aload_n hC.x hC.b dX1_comesOut_19 rfl (lv_at hl 1 rfl) ?_
    refine lv_iload_n hC.x hC.b dX1_comesOut_20 rfl (lv_at hl 0 rfl) ?_
    refine go_i (run_V (rest := []) hC (m1_no l hw164) v1_1_no h1_no 0 0 gCl_X1 rfl rfl ⟨rfl, rfl, Nat.le_of_ble_eq_true rfl, Nat.le_of_ble_eq_true rfl⟩ ⟨Nat.le_refl _, Nat.le_refl _⟩ hP hD hS hl.1 (Nat.le_of_ble_eq_true rfl) dX1_comesOut_21 rfl) hS (fun r8 S9 H locs hw165 hP hD hS => ?_)
    refine lv_goto (tgt := 44) hC.x hC.b dX1_comesOut_24 (by decide) ?_
    exact rt_i hC hw165 hP hD hS dX1_comesOut_44
theorem h1_outIf : yX1_outIf.cls = RX1 ∧ yX1_outIf.cls ≠ "java/lang/invoke/MethodHandle" ∧ yX1_outIf.cls ≠ "java/lang/invoke/VarHandle" ∧ (parseMethodDescriptor yX1_outIf.desc).map (fun d => d.parameters.length) = some 3 := by decide +kernel
def j1_outIf_26 (post : Int32 → CS → Prop) (tw : Option TD) (S : CS) (x1 : Int32) (x2 : Int32) (x3 : Int32) (y1 : Int32) : Prop :=
  (w1_nightWhy (fun r5 => ((r5 = 0 → (w4_out (fun r7 => (post r7 S)) tw S 0 x1 x2 x3)) ∧ (¬ r5 = 0 → (w1_no (fun r8 S9 => (post r8 S9)) S r5)))) S y1 x3)
set_option maxHeartbeats 4000000 in
theorem k1_outIf_26 {post : Int32 → CS → Prop} {S : CS} {x1 : Int32} {x2 : Int32} {x3 : Int32} {y1 : Int32} (hC : CX RX1 cX1_outIf 5 (some .int) D gCl nwG Z Hb A p s m args meth c) (hw : j1_outIf_26 post tw S x1 x2 x3 y1) : ∀ (H : Heap) (locs : List Loc) (ls : Array Slot), va_P D gCl (wC D ad sc tw S) H → va_D A (wC D ad sc tw S) → va_S A s.heap H locs → lv_has ls 5 [(0, .ref (ad 0)), (1, .int x1), (2, .int x2), (3, .int x3)] → W p l e ({ frames := 121, cells := 0, slots := 0, locals := 6024 } : Room) s m args below meth c H locs 0 0 (MQ below (va_Qi post (BW D gCl A (fun u => (wC D ad sc tw u))) A) args s 0 0 A) (F0 m 26 ls [.int y1, .ref (ad 0)]) := by
  intro H locs ls hP hD hS hl
  unfold j1_outIf_26 at hw
  refine lv_iload_n hC.x hC.b dX1_outIf_26 rfl (lv_at hl 3 rfl) ?_
  refine go_i (run_V (rest := []) hC (m1_nightWhy l hw) v1_1_nightWhy h1_nightWhy 0 0 gCl_X1 rfl rfl ⟨rfl, rfl, Nat.le_of_ble_eq_true rfl, Nat.le_of_ble_eq_true rfl⟩ ⟨Nat.le_refl _, Nat.le_refl _⟩ hP hD hS hl.1 (Nat.le_of_ble_eq_true rfl) dX1_outIf_27 rfl) hS (fun r5 u H locs hw169 hP hD hS => ?_)
  refine lv_istore (lv' := [(4, .int r5), (0, .ref (ad 0)), (1, .int x1), (2, .int x2), (3, .int x3)]) hC.x hC.b dX1_outIf_30 hl (by decide) rfl (fun ls hl => ?_)
  refine lv_iload hC.x hC.b dX1_outIf_32 (lv_at hl 0 rfl) ?_
  refine lv_if_eq (tgt := 46) hC.x hC.b dX1_outIf_34 (by decide) (fun c6 => ?_) (fun c6 => ?_)
  · have hw170 := hw169.1 c6
    refine lv_aload_n hC.x hC.b dX1_outIf_46 rfl (lv_at hl 1 rfl) ?_
    refine gO_9 hC hP dX1_outIf_47 ?_
    refine lv_iload_n hC.x hC.b dX1_outIf_50 rfl (lv_at hl 2 rfl) ?_
    refine lv_iload_n hC.x hC.b dX1_outIf_51 rfl (lv_at hl 3 rfl) ?_
    refine lv_iload_n hC.x hC.b dX1_outIf_52 rfl (lv_at hl 4 rfl) ?_
    refine go_i (run_V (rest := []) hC (m4_out l (by decide) hw170) v1_4_out h4_out (17 + 4 * 0) 3 gCl_X4 (wC_so (by decide)) rfl ⟨rfl, rfl, Nat.le_of_ble_eq_true rfl, Nat.le_of_ble_eq_true rfl⟩ ⟨Nat.le_refl _, Nat.le_refl _⟩ hP hD hS hl.1 (Nat.le_of_ble_eq_true rfl) dX1_outIf_53 rfl) hS (fun r7 u H locs hw171 hP hD hS => ?_)
    exact rt_i hC hw171 hP hD hS dX1_outIf_56
  · have hw172 := hw169.2 c6
    refine lv_aload_n hC.x hC.b dX1_outIf_37 rfl (lv_at hl 1 rfl) ?_
    refine lv_iload hC.x hC.b dX1_outIf_38 (lv_at hl 0 rfl) ?_
    refine go_i (run_V (rest := []) hC (m1_no l hw172) v1_1_no h1_no 0 0 gCl_X1 rfl rfl ⟨rfl, rfl, Nat.le_of_ble_eq_true rfl, Nat.le_of_ble_eq_true rfl⟩ ⟨Nat.le_refl _, Nat.le_refl _⟩ hP hD hS hl.1 (Nat.le_of_ble_eq_true rfl) dX1_outIf_40 rfl) hS (fun r8 S9 H locs hw173 hP hD hS => ?_)
    refine lv_goto (tgt := 56) hC.x hC.b dX1_outIf_43 (by decide) ?_
    exact rt_i hC hw173 hP hD hS dX1_outIf_56
def j1_outIf_25 (post : Int32 → CS → Prop) (tw : Option TD) (S : CS) (x1 : Int32) (x2 : Int32) (x3 : Int32) : Prop :=
  (j1_outIf_26 post tw S x1 x2 x3 0)
set_option maxHeartbeats 4000000 in
theorem k1_outIf_25 {post : Int32 → CS → Prop} {S : CS} {x1 : Int32} {x2 : Int32} {x3 : Int32} (hC : CX RX1 cX1_outIf 5 (some .int) D gCl nwG Z Hb A p s m args meth c) (hw : j1_outIf_25 post tw S x1 x2 x3) : ∀ (H : Heap) (locs : List Loc) (ls : Array Slot), va_P D gCl (wC D ad sc tw S) H → va_D A (wC D ad sc tw S) → va_S A s.heap H locs → lv_has ls 5 [(0, .ref (ad 0)), (1, .int x1), (2, .int x2), (3, .int x3)] → W p l e ({ frames := 121, cells := 0, slots := 0, locals := 6024 } : Room) s m args below meth c H locs 0 0 (MQ below (va_Qi post (BW D gCl A (fun u => (wC D ad sc tw u))) A) args s 0 0 A) (F0 m 25 ls [.ref (ad 0)]) := by
  intro H locs ls hP hD hS hl
  unfold j1_outIf_25 at hw
  refine lv_iconst (v := 0) hC.x hC.b dX1_outIf_25 (by decide) ?_
  exact k1_outIf_26 hC hw H locs ls hP hD hS (lv_sub hl [0, 1, 2, 3] rfl)
def w1_outIf (post : Int32 → CS → Prop) (tw : Option TD) (S : CS) (x1 : Int32) (x2 : Int32) (x3 : Int32) : Prop :=
  (w1_anew (fun S2 => (w1_isDead (fun r3 => ((r3 = 0 → (j1_outIf_25 post tw S2 x1 x2 x3)) ∧ (¬ r3 = 0 → (w1_isHouse (fun r10 => ((r10 = 0 → (j1_outIf_25 post tw S2 x1 x2 x3)) ∧ (¬ r10 = 0 → (j1_outIf_26 post tw S2 x1 x2 x3 1)))) tw S2 x2)))) tw S2 x1)) S)
set_option maxHeartbeats 4000000 in
theorem m1_outIf (l : Launch) {post : Int32 → CS → Prop} {S : CS} {x1 : Int32} {x2 : Int32} {x3 : Int32} (hw : w1_outIf post tw S x1 x2 x3) : Met l yX1_outIf (ws_ yX1_outIf cX1_outIf 5 (some .int)) ({ frames := 121, cells := 0, slots := 0, locals := 6024 } : Room) (va_Pc [.ref (ad 0), .int x1, .int x2, .int x3] (PcG D gCl nwG Z Hb A (wC D ad sc tw S))) (va_Qi post (BW D gCl A (fun u => (wC D ad sc tw u))) A) 0 0 A := by
  refine Met.ofG (by decide) (Nat.le_of_ble_eq_true rfl) ?_
  intro p e s m below meth c ls hC _ hP hD hS hl
  have hC : CX RX1 cX1_outIf 5 (some .int) D gCl nwG Z Hb A p s m _ meth c := hC
  have hl : lv_has ls 5 [(0, .ref (ad 0)), (1, .int x1), (2, .int x2), (3, .int x3)] := hl
  unfold w1_outIf at hw
  refine lv_aload_n hC.x hC.b dX1_outIf_0 rfl (lv_at hl 0 rfl) ?_
  refine go_v (run_V (rest := []) hC (m1_anew l hw) v1_1_anew h1_anew 0 0 gCl_X1 rfl rfl ⟨rfl, rfl, Nat.le_of_ble_eq_true rfl, Nat.le_of_ble_eq_true rfl⟩ ⟨Nat.le_refl _, Nat.le_refl _⟩ hP hD hS hl.1 (Nat.le_of_ble_eq_true rfl) dX1_outIf_1 rfl) hS (fun S2 H locs hw166 hP hD hS => ?_)
  refine lv_aload_n hC.x hC.b dX1_outIf_4 rfl (lv_at hl 0 rfl) ?_
  refine lv_aload_n hC.x hC.b dX1_outIf_5 rfl (lv_at hl 0 rfl) ?_
  refine lv_iload_n hC.x hC.b dX1_outIf_6 rfl (lv_at hl 1 rfl) ?_
  refine go_i (run_V (rest := [.ref (ad 0)]) hC (m1_isDead l hw166) v1_1_isDead h1_isDead 0 0 gCl_X1 rfl rfl ⟨rfl, rfl, Nat.le_of_ble_eq_true rfl, Nat.le_of_ble_eq_true rfl⟩ ⟨Nat.le_refl _, Nat.le_refl _⟩ hP hD hS hl.1 (Nat.le_of_ble_eq_true rfl) dX1_outIf_7 rfl) hS (fun r3 u H locs hw167 hP hD hS => ?_)
  refine lv_if_eq (tgt := 25) hC.x hC.b dX1_outIf_10 (by decide) (fun c4 => ?_) (fun c4 => ?_)
  · have hw168 := hw167.1 c4
    exact k1_outIf_25 hC hw168 H locs ls hP hD hS (lv_sub hl [0, 1, 2, 3] rfl)
  · have hw174 := hw167.2 c4
    refine lv_aload_n hC.x hC.b dX1_outIf_13 rfl (lv_at hl 0 rfl) ?_
    refine lv_iload_n hC.x hC.b dX1_outIf_14 rfl (lv_at hl 2 rfl) ?_
    refine go_i (run_V (rest := [.ref (ad 0)]) hC (m1_isHouse l hw174) v1_1_isHouse h1_isHouse 0 0 gCl_X1 rfl rfl ⟨rfl, rfl, Nat.le_of_ble_eq_true rfl, Nat.le_of_ble_eq_true rfl⟩ ⟨Nat.le_refl _, Nat.le_refl _⟩ hP hD hS hl.1 (Nat.le_of_ble_eq_true rfl) dX1_outIf_15 rfl) hS (fun r10 u H locs hw175 hP hD hS => ?_)
    refine lv_if_eq (tgt := 25) hC.x hC.b dX1_outIf_18 (by decide) (fun c11 => ?_) (fun c11 => ?_)
    · have hw176 := hw175.1 c11
      exact k1_outIf_25 hC hw176 H locs ls hP hD hS (lv_sub hl [0, 1, 2, 3] rfl)
    · have hw177 := hw175.2 c11
      refine lv_iconst (v := 1) hC.x hC.b dX1_outIf_21 (by decide) ?_
      refine lv_goto (tgt := 26) hC.x hC.b dX1_outIf_22 (by decide) ?_
      exact k1_outIf_26 hC hw177 H locs ls hP hD hS (lv_sub hl [0, 1, 2, 3] rfl)
theorem v1_4_ear : GoodIn lw_all (wsV RX1 189 RX4 yX4_ear (ws_ yX4_ear cX4_ear 4 (some .int))) := lw_V q997 q902 q903 q124 q904
theorem h1_hears : yX1_hears.cls = RX1 ∧ yX1_hears.cls ≠ "java/lang/invoke/MethodHandle" ∧ yX1_hears.cls ≠ "java/lang/invoke/VarHandle" ∧ (parseMethodDescriptor yX1_hears.desc).map (fun d => d.parameters.length) = some 2 := by decide +kernel
def w1_hears (post : Int32 → CS → Prop) (tw : Option TD) (S : CS) (x1 : Int32) (x2 : Int32) : Prop :=
  (w1_anew (fun S2 => (w1_isDead (fun r3 => (w1_nightWhy (fun r4 => ((r4 = 0 → (w4_ear (fun r6 => (post r6 S2)) tw S2 0 x1 x2 0)) ∧ (¬ r4 = 0 → (w1_no (fun r7 S8 => (post r7 S8)) S2 r4)))) S2 r3 x2)) tw S2 x1)) S)
set_option maxHeartbeats 4000000 in
theorem m1_hears (l : Launch) {post : Int32 → CS → Prop} {S : CS} {x1 : Int32} {x2 : Int32} (hw : w1_hears post tw S x1 x2) : Met l yX1_hears (ws_ yX1_hears cX1_hears 4 (some .int)) ({ frames := 122, cells := 0, slots := 0, locals := 6047 } : Room) (va_Pc [.ref (ad 0), .int x1, .int x2] (PcG D gCl nwG Z Hb A (wC D ad sc tw S))) (va_Qi post (BW D gCl A (fun u => (wC D ad sc tw u))) A) 0 0 A := by
  refine Met.ofG (by decide) (Nat.le_of_ble_eq_true rfl) ?_
  intro p e s m below meth c ls hC _ hP hD hS hl
  have hC : CX RX1 cX1_hears 4 (some .int) D gCl nwG Z Hb A p s m _ meth c := hC
  have hl : lv_has ls 4 [(0, .ref (ad 0)), (1, .int x1), (2, .int x2)] := hl
  unfold w1_hears at hw
  refine lv_aload_n hC.x hC.b dX1_hears_0 rfl (lv_at hl 0 rfl) ?_
  refine go_v (run_V (rest := []) hC (m1_anew l hw) v1_1_anew h1_anew 0 0 gCl_X1 rfl rfl ⟨rfl, rfl, Nat.le_of_ble_eq_true rfl, Nat.le_of_ble_eq_true rfl⟩ ⟨Nat.le_refl _, Nat.le_refl _⟩ hP hD hS hl.1 (Nat.le_of_ble_eq_true rfl) dX1_hears_1 rfl) hS (fun S2 H locs hw178 hP hD hS => ?_)
  refine lv_aload_n hC.x hC.b dX1_hears_4 rfl (lv_at hl 0 rfl) ?_
  refine lv_aload_n hC.x hC.b dX1_hears_5 rfl (lv_at hl 0 rfl) ?_
  refine lv_iload_n hC.x hC.b dX1_hears_6 rfl (lv_at hl 1 rfl) ?_
  refine go_i (run_V (rest := [.ref (ad 0)]) hC (m1_isDead l hw178) v1_1_isDead h1_isDead 0 0 gCl_X1 rfl rfl ⟨rfl, rfl, Nat.le_of_ble_eq_true rfl, Nat.le_of_ble_eq_true rfl⟩ ⟨Nat.le_refl _, Nat.le_refl _⟩ hP hD hS hl.1 (Nat.le_of_ble_eq_true rfl) dX1_hears_7 rfl) hS (fun r3 u H locs hw179 hP hD hS => ?_)
  refine lv_iload_n hC.x hC.b dX1_hears_10 rfl (lv_at hl 2 rfl) ?_
  refine go_i (run_V (rest := []) hC (m1_nightWhy l hw179) v1_1_nightWhy h1_nightWhy 0 0 gCl_X1 rfl rfl ⟨rfl, rfl, Nat.le_of_ble_eq_true rfl, Nat.le_of_ble_eq_true rfl⟩ ⟨Nat.le_refl _, Nat.le_refl _⟩ hP hD hS hl.1 (Nat.le_of_ble_eq_true rfl) dX1_hears_11 rfl) hS (fun r4 u H locs hw180 hP hD hS => ?_)
  refine lv_istore_n (lv' := [(3, .int r4), (0, .ref (ad 0)), (1, .int x1), (2, .int x2)]) hC.x hC.b dX1_hears_14 rfl hl (by decide) rfl (fun ls hl => ?_)
  refine lv_iload_n hC.x hC.b dX1_hears_15 rfl (lv_at hl 0 rfl) ?_
  refine lv_if_eq (tgt := 27) hC.x hC.b dX1_hears_16 (by decide) (fun c5 => ?_) (fun c5 => ?_)
  · have hw181 := hw180.1 c5
    refine lv_aload_n hC.x hC.b dX1_hears_27 rfl (lv_at hl 1 rfl) ?_
    refine gO_9 hC hP dX1_hears_28 ?_
    refine lv_iload_n hC.x hC.b dX1_hears_31 rfl (lv_at hl 2 rfl) ?_
    refine lv_iload_n hC.x hC.b dX1_hears_32 rfl (lv_at hl 3 rfl) ?_
    refine lv_iconst (v := 0) hC.x hC.b dX1_hears_33 (by decide) ?_
    refine go_i (run_V (rest := []) hC (m4_ear l (by decide) hw181) v1_4_ear h4_ear (17 + 4 * 0) 3 gCl_X4 (wC_so (by decide)) rfl ⟨rfl, rfl, Nat.le_of_ble_eq_true rfl, Nat.le_of_ble_eq_true rfl⟩ ⟨Nat.le_refl _, Nat.le_refl _⟩ hP hD hS hl.1 (Nat.le_of_ble_eq_true rfl) dX1_hears_34 rfl) hS (fun r6 u H locs hw182 hP hD hS => ?_)
    exact rt_i hC hw182 hP hD hS dX1_hears_37
  · have hw183 := hw180.2 c5
    refine lv_aload_n hC.x hC.b dX1_hears_19 rfl (lv_at hl 1 rfl) ?_
    refine lv_iload_n hC.x hC.b dX1_hears_20 rfl (lv_at hl 0 rfl) ?_
    refine go_i (run_V (rest := []) hC (m1_no l hw183) v1_1_no h1_no 0 0 gCl_X1 rfl rfl ⟨rfl, rfl, Nat.le_of_ble_eq_true rfl, Nat.le_of_ble_eq_true rfl⟩ ⟨Nat.le_refl _, Nat.le_refl _⟩ hP hD hS hl.1 (Nat.le_of_ble_eq_true rfl) dX1_hears_21 rfl) hS (fun r7 S8 H locs hw184 hP hD hS => ?_)
    refine lv_goto (tgt := 37) hC.x hC.b dX1_hears_24 (by decide) ?_
    exact rt_i hC hw184 hP hD hS dX1_hears_37
theorem v1_1_wrap : GoodIn lw_all (va_wsS RX1 192 yX1_wrap (ws_ yX1_wrap cX1_wrap 3 (some .int))) := lw_S q1002 q930 q118 q931
theorem h1_off : yX1_off.cls = RX1 ∧ yX1_off.cls ≠ "java/lang/invoke/MethodHandle" ∧ yX1_off.cls ≠ "java/lang/invoke/VarHandle" ∧ (parseMethodDescriptor yX1_off.desc).map (fun d => d.parameters.length) = some 2 := by decide +kernel
def w1_off (post : Int32 → CS → Prop) (tw : Option TD) (S : CS) (x1 : Int32) (x2 : Int32) : Prop :=
  (w1_anew (fun S2 => (w1_isDead (fun r3 => (w1_nightWhy (fun r4 => ((r4 = 0 → (w4_ear (fun r6 => (vp_in r6 6 ∧ (w4_aimed (fun r8 => (w4_out (fun r9 => ((∃ τ, tw = some τ) ∧ (w1_wrap (fun r10 => (post r10 S2)) (((S2.1.1 (300 + 4 * 0 + 1) r6.toNatClampNeg).toInt64) - (r9.toInt64)) (S2.1.1 50 6)))) tw S2 0 x1 r8 x2)) tw S2 0 x1))) tw S2 0 x1 x2 0)) ∧ (¬ r4 = 0 → (w1_no (fun r11 S12 => (post r11 S12)) S2 r4)))) S2 r3 x2)) tw S2 x1)) S)
set_option maxHeartbeats 4000000 in
theorem m1_off (l : Launch) {post : Int32 → CS → Prop} {S : CS} {x1 : Int32} {x2 : Int32} (hw : w1_off post tw S x1 x2) : Met l yX1_off (ws_ yX1_off cX1_off 4 (some .int)) ({ frames := 122, cells := 0, slots := 0, locals := 6047 } : Room) (va_Pc [.ref (ad 0), .int x1, .int x2] (PcG D gCl nwG Z Hb A (wC D ad sc tw S))) (va_Qi post (BW D gCl A (fun u => (wC D ad sc tw u))) A) 0 0 A := by
  refine Met.ofG (by decide) (Nat.le_of_ble_eq_true rfl) ?_
  intro p e s m below meth c ls hC _ hP hD hS hl
  have hC : CX RX1 cX1_off 4 (some .int) D gCl nwG Z Hb A p s m _ meth c := hC
  have hl : lv_has ls 4 [(0, .ref (ad 0)), (1, .int x1), (2, .int x2)] := hl
  unfold w1_off at hw
  refine lv_aload_n hC.x hC.b dX1_off_0 rfl (lv_at hl 0 rfl) ?_
  refine go_v (run_V (rest := []) hC (m1_anew l hw) v1_1_anew h1_anew 0 0 gCl_X1 rfl rfl ⟨rfl, rfl, Nat.le_of_ble_eq_true rfl, Nat.le_of_ble_eq_true rfl⟩ ⟨Nat.le_refl _, Nat.le_refl _⟩ hP hD hS hl.1 (Nat.le_of_ble_eq_true rfl) dX1_off_1 rfl) hS (fun S2 H locs hw185 hP hD hS => ?_)
  refine lv_aload_n hC.x hC.b dX1_off_4 rfl (lv_at hl 0 rfl) ?_
  refine lv_aload_n hC.x hC.b dX1_off_5 rfl (lv_at hl 0 rfl) ?_
  refine lv_iload_n hC.x hC.b dX1_off_6 rfl (lv_at hl 1 rfl) ?_
  refine go_i (run_V (rest := [.ref (ad 0)]) hC (m1_isDead l hw185) v1_1_isDead h1_isDead 0 0 gCl_X1 rfl rfl ⟨rfl, rfl, Nat.le_of_ble_eq_true rfl, Nat.le_of_ble_eq_true rfl⟩ ⟨Nat.le_refl _, Nat.le_refl _⟩ hP hD hS hl.1 (Nat.le_of_ble_eq_true rfl) dX1_off_7 rfl) hS (fun r3 u H locs hw186 hP hD hS => ?_)
  refine lv_iload_n hC.x hC.b dX1_off_10 rfl (lv_at hl 2 rfl) ?_
  refine go_i (run_V (rest := []) hC (m1_nightWhy l hw186) v1_1_nightWhy h1_nightWhy 0 0 gCl_X1 rfl rfl ⟨rfl, rfl, Nat.le_of_ble_eq_true rfl, Nat.le_of_ble_eq_true rfl⟩ ⟨Nat.le_refl _, Nat.le_refl _⟩ hP hD hS hl.1 (Nat.le_of_ble_eq_true rfl) dX1_off_11 rfl) hS (fun r4 u H locs hw187 hP hD hS => ?_)
  refine lv_istore_n (lv' := [(3, .int r4), (0, .ref (ad 0)), (1, .int x1), (2, .int x2)]) hC.x hC.b dX1_off_14 rfl hl (by decide) rfl (fun ls hl => ?_)
  refine lv_iload_n hC.x hC.b dX1_off_15 rfl (lv_at hl 0 rfl) ?_
  refine lv_if_eq (tgt := 25) hC.x hC.b dX1_off_16 (by decide) (fun c5 => ?_) (fun c5 => ?_)
  · have hw188 := hw187.1 c5
    refine lv_aload_n hC.x hC.b dX1_off_25 rfl (lv_at hl 1 rfl) ?_
    refine gO_9 hC hP dX1_off_26 ?_
    refine gX1S_0 (r := 0) (by decide) hC hP dX1_off_29 ?_
    refine lv_aload_n hC.x hC.b dX1_off_32 rfl (lv_at hl 1 rfl) ?_
    refine gO_9 hC hP dX1_off_33 ?_
    refine lv_iload_n hC.x hC.b dX1_off_36 rfl (lv_at hl 2 rfl) ?_
    refine lv_iload_n hC.x hC.b dX1_off_37 rfl (lv_at hl 3 rfl) ?_
    refine lv_iconst (v := 0) hC.x hC.b dX1_off_38 (by decide) ?_
    refine go_i (run_V (rest := [.ref (ad (20 + 4 * 0 + 1))]) hC (m4_ear l (by decide) hw188) v1_4_ear h4_ear (17 + 4 * 0) 3 gCl_X4 (wC_so (by decide)) rfl ⟨rfl, rfl, Nat.le_of_ble_eq_true rfl, Nat.le_of_ble_eq_true rfl⟩ ⟨Nat.le_refl _, Nat.le_refl _⟩ hP hD hS hl.1 (Nat.le_of_ble_eq_true rfl) dX1_off_39 rfl) hS (fun r6 u H locs hw189 hP hD hS => ?_)
    obtain ⟨hin7, hw190⟩ := hw189
    refine lS_1 (r := 0) (by decide) hC hP hin7 rfl dX1_off_42 ?_
    refine lv_i2l (v := ((S2.1.1 (300 + 4 * 0 + 1) r6.toNatClampNeg).toInt64)) hC.x hC.b dX1_off_43 rfl ?_
    refine lv_aload_n hC.x hC.b dX1_off_44 rfl (lv_at hl 1 rfl) ?_
    refine gO_9 hC hP dX1_off_45 ?_
    refine lv_iload_n hC.x hC.b dX1_off_48 rfl (lv_at hl 2 rfl) ?_
    refine lv_aload_n hC.x hC.b dX1_off_49 rfl (lv_at hl 1 rfl) ?_
    refine gO_9 hC hP dX1_off_50 ?_
    refine lv_iload_n hC.x hC.b dX1_off_53 rfl (lv_at hl 2 rfl) ?_
    refine go_i (run_V (rest := [.int x1, .ref (ad (20 + 4 * 0)), .long ((S2.1.1 (300 + 4 * 0 + 1) r6.toNatClampNeg).toInt64)]) hC (m4_aimed l (by decide) hw190) v1_4_aimed h4_aimed (17 + 4 * 0) 3 gCl_X4 (wC_so (by decide)) rfl ⟨rfl, rfl, Nat.le_of_ble_eq_true rfl, Nat.le_of_ble_eq_true rfl⟩ ⟨Nat.le_refl _, Nat.le_refl _⟩ hP hD hS hl.1 (Nat.le_of_ble_eq_true rfl) dX1_off_54 rfl) hS (fun r8 u H locs hw191 hP hD hS => ?_)
    refine lv_iload_n hC.x hC.b dX1_off_57 rfl (lv_at hl 3 rfl) ?_
    refine go_i (run_V (rest := [.long ((S2.1.1 (300 + 4 * 0 + 1) r6.toNatClampNeg).toInt64)]) hC (m4_out l (by decide) hw191) v1_4_out h4_out (17 + 4 * 0) 3 gCl_X4 (wC_so (by decide)) rfl ⟨rfl, rfl, Nat.le_of_ble_eq_true rfl, Nat.le_of_ble_eq_true rfl⟩ ⟨Nat.le_refl _, Nat.le_refl _⟩ hP hD hS hl.1 (Nat.le_of_ble_eq_true rfl) dX1_off_58 rfl) hS (fun r9 u H locs hw192 hP hD hS => ?_)
    refine lv_i2l (v := (r9.toInt64)) hC.x hC.b dX1_off_61 rfl ?_
    refine lv_lsub hC.x hC.b dX1_off_62 ?_
    refine lv_aload_n hC.x hC.b dX1_off_63 rfl (lv_at hl 1 rfl) ?_
    refine gO_3 hC hP dX1_off_64 ?_
    obtain ⟨⟨τ, rfl⟩, hw193⟩ := hw192
    refine gX1T_6 hC hP dX1_off_67 ?_
    refine go_i (run_S (rest := []) hC (m1_wrap l hw193) v1_1_wrap h1_wrap ⟨rfl, rfl, Nat.le_of_ble_eq_true rfl, Nat.le_of_ble_eq_true rfl⟩ ⟨Nat.le_refl _, Nat.le_refl _⟩ hP hD hS hl.1 (Nat.le_of_ble_eq_true rfl) dX1_off_70 rfl) hS (fun r10 u H locs hw194 hP hD hS => ?_)
    exact rt_i hC hw194 hP hD hS dX1_off_73
  · have hw195 := hw187.2 c5
    refine lv_aload_n hC.x hC.b dX1_off_19 rfl (lv_at hl 1 rfl) ?_
    refine lv_iload_n hC.x hC.b dX1_off_20 rfl (lv_at hl 0 rfl) ?_
    refine go_i (run_V (rest := []) hC (m1_no l hw195) v1_1_no h1_no 0 0 gCl_X1 rfl rfl ⟨rfl, rfl, Nat.le_of_ble_eq_true rfl, Nat.le_of_ble_eq_true rfl⟩ ⟨Nat.le_refl _, Nat.le_refl _⟩ hP hD hS hl.1 (Nat.le_of_ble_eq_true rfl) dX1_off_21 rfl) hS (fun r11 S12 H locs hw196 hP hD hS => ?_)
    exact rt_i hC hw196 hP hD hS dX1_off_24
theorem h4_isRight : yX4_isRight.cls = RX4 ∧ yX4_isRight.cls ≠ "java/lang/invoke/MethodHandle" ∧ yX4_isRight.cls ≠ "java/lang/invoke/VarHandle" ∧ (parseMethodDescriptor yX4_isRight.desc).map (fun d => d.parameters.length) = some 3 := by decide +kernel
def w4_isRight (post : Int32 → Prop) (tw : Option TD) (S : CS) (x0 : Nat) (x1 : Int32) (x2 : Int32) (x3 : Int32) : Prop :=
  (w4_ear (fun r1 => ((stT tw S x0) ∧ (vp_in x1 6 ∧ (x1.toNatClampNeg < tG tw ∧ (tL tw x1.toNatClampNeg < 4 ∧ ((¬ r1 = (S.1.1 (1001 + 2 * x1.toNatClampNeg) 1) → (post 0)) ∧ (r1 = (S.1.1 (1001 + 2 * x1.toNatClampNeg) 1) → (post 1)))))))) tw S x0 x1 x2 x3)
set_option maxHeartbeats 4000000 in
theorem m4_isRight (l : Launch) {post : Int32 → Prop} {S : CS} {x0 : Nat} {x1 : Int32} {x2 : Int32} {x3 : Int32} (h_x0 : x0 < 22) (hw : w4_isRight post tw S x0 x1 x2 x3) : Met l yX4_isRight (ws_ yX4_isRight cX4_isRight 4 (some .boolean)) ({ frames := 122, cells := 0, slots := 0, locals := 6047 } : Room) (va_Pc [.ref (ad (20 + 4 * x0)), .int x1, .int x2, .int x3] (PcG D gCl nwG Z Hb A (wC D ad sc tw S))) (va_Qi (fun r (_ : Unit) => post r) (BW D gCl A (fun _ => (wC D ad sc tw S))) A) 0 0 A := by
  refine Met.ofG (by decide) (Nat.le_of_ble_eq_true rfl) ?_
  intro p e s m below meth c ls hC _ hP hD hS hl
  have hC : CX RX4 cX4_isRight 4 (some .boolean) D gCl nwG Z Hb A p s m _ meth c := hC
  have hl : lv_has ls 4 [(0, .ref (ad (20 + 4 * x0))), (1, .int x1), (2, .int x2), (3, .int x3)] := hl
  unfold w4_isRight at hw
  refine lv_aload_n hC.x hC.b dX4_isRight_0 rfl (lv_at hl 0 rfl) ?_
  refine lv_iload_n hC.x hC.b dX4_isRight_1 rfl (lv_at hl 1 rfl) ?_
  refine lv_iload_n hC.x hC.b dX4_isRight_2 rfl (lv_at hl 2 rfl) ?_
  refine lv_iload_n hC.x hC.b dX4_isRight_3 rfl (lv_at hl 3 rfl) ?_
  refine go_i (run_V (rest := []) hC (m4_ear l h_x0 hw) v4_4_ear h4_ear (17 + 4 * x0) 3 gCl_X4 (wC_so h_x0) rfl ⟨rfl, rfl, Nat.le_of_ble_eq_true rfl, Nat.le_of_ble_eq_true rfl⟩ ⟨Nat.le_refl _, Nat.le_refl _⟩ hP hD hS hl.1 (Nat.le_of_ble_eq_true rfl) dX4_isRight_4 rfl) hS (fun r1 u H locs hw197 hP hD hS => ?_)
  refine lv_aload_n hC.x hC.b dX4_isRight_7 rfl (lv_at hl 0 rfl) ?_
  refine gX4S_3 (r := x0) h_x0 hC hP dX4_isRight_8 ?_
  obtain ⟨⟨τ, et2, hth3⟩, hw198⟩ := hw197
  subst et2
  refine st_ref hth3 ?_
  refine gX4T_1 hC hP dX4_isRight_11 ?_
  refine lv_iload_n hC.x hC.b dX4_isRight_14 rfl (lv_at hl 1 rfl) ?_
  obtain ⟨hin4, hw199⟩ := hw198
  obtain ⟨hg5, hw200⟩ := hw199
  refine lGh hC hP hin4 rfl hg5 dX4_isRight_15 ?_
  obtain ⟨hlw, hw201⟩ := hw200
  refine gX4G_1 (i := x1.toNatClampNeg) hg5 hlw hC hP dX4_isRight_16 ?_
  refine lv_icmp_ne (tgt := 26) hC.x hC.b dX4_isRight_19 (by decide) (fun c6 => ?_) (fun c6 => ?_)
  · have hw202 := hw201.1 c6
    refine lv_iconst (v := 0) hC.x hC.b dX4_isRight_26 (by decide) ?_
    exact rt_z (u := ()) hC (Or.inl rfl) hw202 hP hD hS dX4_isRight_27
  · have hw203 := hw201.2 c6
    refine lv_iconst (v := 1) hC.x hC.b dX4_isRight_22 (by decide) ?_
    refine lv_goto (tgt := 27) hC.x hC.b dX4_isRight_23 (by decide) ?_
    exact rt_z (u := ()) hC (Or.inr rfl) hw203 hP hD hS dX4_isRight_27
theorem v4_4_isRight : GoodIn lw_all (wsV RX4 96 RX4 yX4_isRight (ws_ yX4_isRight cX4_isRight 4 (some .boolean))) := lw_V q1011 q1012 q1013 q124 q1014
theorem h4_rightOnes : yX4_rightOnes.cls = RX4 ∧ yX4_rightOnes.cls ≠ "java/lang/invoke/MethodHandle" ∧ yX4_rightOnes.cls ≠ "java/lang/invoke/VarHandle" ∧ (parseMethodDescriptor yX4_rightOnes.desc).map (fun d => d.parameters.length) = some 1 := by decide +kernel
def f4_rightOnes_4 (post : Int32 → Prop) (tw : Option TD) (S : CS) (x0 : Nat) (x1 : Int32) (K4 : (Int32 × Int32) → Prop) (x2 : Int32) (x3 : Int32) : Prop :=
  ((stT tw S x0) ∧ (((S.1.1 50 9) ≤ x3 → (post x2)) ∧ (¬ (S.1.1 50 9) ≤ x3 → (w4_isRight (fun r4 => ((r4 = 0 → (K4 ((x2 ||| 0), (x3 + 1)))) ∧ (¬ r4 = 0 → (K4 ((x2 ||| ((1 : Int32) <<< (x3 &&& 31))), (x3 + 1)))))) tw S x0 x3 x1 0))))
set_option maxHeartbeats 4000000 in
theorem k4_rightOnes_4 {post : Int32 → Prop} {S : CS} {x0 : Nat} {x1 : Int32} (hC : CX RX4 cX4_rightOnes 4 (some .int) D gCl nwG Z Hb A p s m args meth c) (h_x0 : x0 < 22) : ∀ z : (Int32 × Int32), lp (fun (K : (Int32 × Int32) → Prop) (z : (Int32 × Int32)) => f4_rightOnes_4 post tw S x0 x1 K z.1 z.2) z → ∀ (H : Heap) (locs : List Loc) (ls : Array Slot), va_P D gCl (wC D ad sc tw S) H → va_D A (wC D ad sc tw S) → va_S A s.heap H locs → lv_has ls 4 [(0, .ref (ad (20 + 4 * x0))), (1, .int x1), (2, .int z.1), (3, .int z.2)] → W p l e ({ frames := 123, cells := 0, slots := 0, locals := 6070 } : Room) s m args below meth c H locs 0 0 (MQ below (va_Qi (fun r (_ : Unit) => post r) (BW D gCl A (fun _ => (wC D ad sc tw S))) A) args s 0 0 A) (F0 m 4 ls []) := by
  refine lp_ind ?_
  rintro K4 ⟨x2, x3⟩ hK4 hw H locs ls hP hD hS hl
  have hw : f4_rightOnes_4 post tw S x0 x1 K4 x2 x3 := hw
  unfold f4_rightOnes_4 at hw
  have hP : va_P D gCl (wC D ad sc tw S) H := hP
  have hD : va_D A (wC D ad sc tw S) := hD
  have hl : lv_has ls 4 [(0, .ref (ad (20 + 4 * x0))), (1, .int x1), (2, .int x2), (3, .int x3)] := hl
  refine lv_iload_n hC.x hC.b dX4_rightOnes_4 rfl (lv_at hl 3 rfl) ?_
  refine lv_aload_n hC.x hC.b dX4_rightOnes_5 rfl (lv_at hl 0 rfl) ?_
  refine gX4S_3 (r := x0) h_x0 hC hP dX4_rightOnes_6 ?_
  obtain ⟨⟨τ, et1, hth2⟩, hw204⟩ := hw
  subst et1
  refine st_ref hth2 ?_
  refine gX4T_9 hC hP dX4_rightOnes_9 ?_
  refine lv_icmp_ge (tgt := 41) hC.x hC.b dX4_rightOnes_12 (by decide) (fun c3 => ?_) (fun c3 => ?_)
  · have hw205 := hw204.1 c3
    refine lv_iload_n hC.x hC.b dX4_rightOnes_41 rfl (lv_at hl 2 rfl) ?_
    exact rt_i (u := ()) hC hw205 hP hD hS dX4_rightOnes_42
  · have hw206 := hw204.2 c3
    refine lv_iload_n hC.x hC.b dX4_rightOnes_15 rfl (lv_at hl 2 rfl) ?_
    refine lv_aload_n hC.x hC.b dX4_rightOnes_16 rfl (lv_at hl 0 rfl) ?_
    refine lv_iload_n hC.x hC.b dX4_rightOnes_17 rfl (lv_at hl 3 rfl) ?_
    refine lv_iload_n hC.x hC.b dX4_rightOnes_18 rfl (lv_at hl 1 rfl) ?_
    refine lv_iconst (v := 0) hC.x hC.b dX4_rightOnes_19 (by decide) ?_
    refine go_i (run_V (rest := [.int x2]) hC (m4_isRight l h_x0 hw206) v4_4_isRight h4_isRight (17 + 4 * x0) 3 gCl_X4 (wC_so h_x0) rfl ⟨rfl, rfl, Nat.le_of_ble_eq_true rfl, Nat.le_of_ble_eq_true rfl⟩ ⟨Nat.le_refl _, Nat.le_refl _⟩ hP hD hS hl.1 (Nat.le_of_ble_eq_true rfl) dX4_rightOnes_20 rfl) hS (fun r4 u H locs hw207 hP hD hS => ?_)
    refine lv_if_eq (tgt := 32) hC.x hC.b dX4_rightOnes_23 (by decide) (fun c5 => ?_) (fun c5 => ?_)
    · have hw208 := hw207.1 c5
      refine lv_iconst (v := 0) hC.x hC.b dX4_rightOnes_32 (by decide) ?_
      refine lv_ior hC.x hC.b dX4_rightOnes_33 ?_
      refine lv_istore_n (lv' := [(2, .int (x2 ||| 0)), (0, .ref (ad (20 + 4 * x0))), (1, .int x1), (3, .int x3)]) hC.x hC.b dX4_rightOnes_34 rfl hl (by decide) rfl (fun ls hl => ?_)
      refine lv_iinc (v := (x3 + 1)) (lv' := [(3, .int (x3 + 1)), (2, .int (x2 ||| 0)), (0, .ref (ad (20 + 4 * x0))), (1, .int x1)]) hC.x hC.b dX4_rightOnes_35 hl (k := 3) rfl rfl (by decide) rfl (fun ls hl => ?_)
      refine lv_goto (tgt := 4) hC.x hC.b dX4_rightOnes_38 (by decide) ?_
      exact hK4 ((x2 ||| 0), (x3 + 1)) hw208 H locs ls hP hD hS (lv_sub hl [2, 3, 1, 0] rfl)
    · have hw209 := hw207.2 c5
      refine lv_iconst (v := 1) hC.x hC.b dX4_rightOnes_26 (by decide) ?_
      refine lv_iload_n hC.x hC.b dX4_rightOnes_27 rfl (lv_at hl 3 rfl) ?_
      refine lv_ishl hC.x hC.b dX4_rightOnes_28 ?_
      refine lv_goto (tgt := 33) hC.x hC.b dX4_rightOnes_29 (by decide) ?_
      refine lv_ior hC.x hC.b dX4_rightOnes_33 ?_
      refine lv_istore_n (lv' := [(2, .int (x2 ||| ((1 : Int32) <<< (x3 &&& 31)))), (0, .ref (ad (20 + 4 * x0))), (1, .int x1), (3, .int x3)]) hC.x hC.b dX4_rightOnes_34 rfl hl (by decide) rfl (fun ls hl => ?_)
      refine lv_iinc (v := (x3 + 1)) (lv' := [(3, .int (x3 + 1)), (2, .int (x2 ||| ((1 : Int32) <<< (x3 &&& 31)))), (0, .ref (ad (20 + 4 * x0))), (1, .int x1)]) hC.x hC.b dX4_rightOnes_35 hl (k := 3) rfl rfl (by decide) rfl (fun ls hl => ?_)
      refine lv_goto (tgt := 4) hC.x hC.b dX4_rightOnes_38 (by decide) ?_
      exact hK4 ((x2 ||| ((1 : Int32) <<< (x3 &&& 31))), (x3 + 1)) hw209 H locs ls hP hD hS (lv_sub hl [2, 3, 1, 0] rfl)
def w4_rightOnes (post : Int32 → Prop) (tw : Option TD) (S : CS) (x0 : Nat) (x1 : Int32) : Prop :=
  (lp (fun (K : (Int32 × Int32) → Prop) (z : (Int32 × Int32)) => f4_rightOnes_4 post tw S x0 x1 K z.1 z.2) (0, 0))
set_option maxHeartbeats 4000000 in
theorem m4_rightOnes (l : Launch) {post : Int32 → Prop} {S : CS} {x0 : Nat} {x1 : Int32} (h_x0 : x0 < 22) (hw : w4_rightOnes post tw S x0 x1) : Met l yX4_rightOnes (ws_ yX4_rightOnes cX4_rightOnes 4 (some .int)) ({ frames := 123, cells := 0, slots := 0, locals := 6070 } : Room) (va_Pc [.ref (ad (20 + 4 * x0)), .int x1] (PcG D gCl nwG Z Hb A (wC D ad sc tw S))) (va_Qi (fun r (_ : Unit) => post r) (BW D gCl A (fun _ => (wC D ad sc tw S))) A) 0 0 A := by
  refine Met.ofG (by decide) (Nat.le_of_ble_eq_true rfl) ?_
  intro p e s m below meth c ls hC _ hP hD hS hl
  have hC : CX RX4 cX4_rightOnes 4 (some .int) D gCl nwG Z Hb A p s m _ meth c := hC
  have hl : lv_has ls 4 [(0, .ref (ad (20 + 4 * x0))), (1, .int x1)] := hl
  unfold w4_rightOnes at hw
  refine lv_iconst (v := 0) hC.x hC.b dX4_rightOnes_0 (by decide) ?_
  refine lv_istore_n (lv' := [(2, .int 0), (0, .ref (ad (20 + 4 * x0))), (1, .int x1)]) hC.x hC.b dX4_rightOnes_1 rfl hl (by decide) rfl (fun ls hl => ?_)
  refine lv_iconst (v := 0) hC.x hC.b dX4_rightOnes_2 (by decide) ?_
  refine lv_istore_n (lv' := [(3, .int 0), (2, .int 0), (0, .ref (ad (20 + 4 * x0))), (1, .int x1)]) hC.x hC.b dX4_rightOnes_3 rfl hl (by decide) rfl (fun ls hl => ?_)
  exact k4_rightOnes_4 hC h_x0 (0, 0) hw s.heap [] ls hP hD hS (lv_sub hl [2, 3, 1, 0] rfl)
theorem v1_4_rightOnes : GoodIn lw_all (wsV RX1 196 RX4 yX4_rightOnes (ws_ yX4_rightOnes cX4_rightOnes 4 (some .int))) := lw_V q1007 q1008 q1009 q124 q1010
theorem h1_right : yX1_right.cls = RX1 ∧ yX1_right.cls ≠ "java/lang/invoke/MethodHandle" ∧ yX1_right.cls ≠ "java/lang/invoke/VarHandle" ∧ (parseMethodDescriptor yX1_right.desc).map (fun d => d.parameters.length) = some 1 := by decide +kernel
def j1_right_17 (post : Int32 → CS → Prop) (tw : Option TD) (S : CS) (x1 : Int32) (y1 : Int32) : Prop :=
  (w1_nightWhy (fun r4 => ((r4 = 0 → (w4_rightOnes (fun r6 => (post r6 S)) tw S 0 x1)) ∧ (¬ r4 = 0 → (w1_no (fun r7 S8 => (post r7 S8)) S r4)))) S y1 x1)
set_option maxHeartbeats 4000000 in
theorem k1_right_17 {post : Int32 → CS → Prop} {S : CS} {x1 : Int32} {y1 : Int32} (hC : CX RX1 cX1_right 3 (some .int) D gCl nwG Z Hb A p s m args meth c) (hw : j1_right_17 post tw S x1 y1) : ∀ (H : Heap) (locs : List Loc) (ls : Array Slot), va_P D gCl (wC D ad sc tw S) H → va_D A (wC D ad sc tw S) → va_S A s.heap H locs → lv_has ls 3 [(0, .ref (ad 0)), (1, .int x1)] → W p l e ({ frames := 124, cells := 0, slots := 0, locals := 6093 } : Room) s m args below meth c H locs 0 0 (MQ below (va_Qi post (BW D gCl A (fun u => (wC D ad sc tw u))) A) args s 0 0 A) (F0 m 17 ls [.int y1, .ref (ad 0)]) := by
  intro H locs ls hP hD hS hl
  unfold j1_right_17 at hw
  refine lv_iload_n hC.x hC.b dX1_right_17 rfl (lv_at hl 1 rfl) ?_
  refine go_i (run_V (rest := []) hC (m1_nightWhy l hw) v1_1_nightWhy h1_nightWhy 0 0 gCl_X1 rfl rfl ⟨rfl, rfl, Nat.le_of_ble_eq_true rfl, Nat.le_of_ble_eq_true rfl⟩ ⟨Nat.le_refl _, Nat.le_refl _⟩ hP hD hS hl.1 (Nat.le_of_ble_eq_true rfl) dX1_right_18 rfl) hS (fun r4 u H locs hw212 hP hD hS => ?_)
  refine lv_istore_n (lv' := [(2, .int r4), (0, .ref (ad 0)), (1, .int x1)]) hC.x hC.b dX1_right_21 rfl hl (by decide) rfl (fun ls hl => ?_)
  refine lv_iload_n hC.x hC.b dX1_right_22 rfl (lv_at hl 0 rfl) ?_
  refine lv_if_eq (tgt := 34) hC.x hC.b dX1_right_23 (by decide) (fun c5 => ?_) (fun c5 => ?_)
  · have hw213 := hw212.1 c5
    refine lv_aload_n hC.x hC.b dX1_right_34 rfl (lv_at hl 1 rfl) ?_
    refine gO_9 hC hP dX1_right_35 ?_
    refine lv_iload_n hC.x hC.b dX1_right_38 rfl (lv_at hl 2 rfl) ?_
    refine go_i (run_V (rest := []) hC (m4_rightOnes l (by decide) hw213) v1_4_rightOnes h4_rightOnes (17 + 4 * 0) 3 gCl_X4 (wC_so (by decide)) rfl ⟨rfl, rfl, Nat.le_of_ble_eq_true rfl, Nat.le_of_ble_eq_true rfl⟩ ⟨Nat.le_refl _, Nat.le_refl _⟩ hP hD hS hl.1 (Nat.le_of_ble_eq_true rfl) dX1_right_39 rfl) hS (fun r6 u H locs hw214 hP hD hS => ?_)
    exact rt_i hC hw214 hP hD hS dX1_right_42
  · have hw215 := hw212.2 c5
    refine lv_aload_n hC.x hC.b dX1_right_26 rfl (lv_at hl 1 rfl) ?_
    refine lv_iload_n hC.x hC.b dX1_right_27 rfl (lv_at hl 0 rfl) ?_
    refine go_i (run_V (rest := []) hC (m1_no l hw215) v1_1_no h1_no 0 0 gCl_X1 rfl rfl ⟨rfl, rfl, Nat.le_of_ble_eq_true rfl, Nat.le_of_ble_eq_true rfl⟩ ⟨Nat.le_refl _, Nat.le_refl _⟩ hP hD hS hl.1 (Nat.le_of_ble_eq_true rfl) dX1_right_28 rfl) hS (fun r7 S8 H locs hw216 hP hD hS => ?_)
    refine lv_goto (tgt := 42) hC.x hC.b dX1_right_31 (by decide) ?_
    exact rt_i hC hw216 hP hD hS dX1_right_42
def w1_right (post : Int32 → CS → Prop) (tw : Option TD) (S : CS) (x1 : Int32) : Prop :=
  (w1_anew (fun S2 => ((tw = none → (j1_right_17 post tw S2 x1 0)) ∧ ((∃ τ, tw = some τ) → (j1_right_17 post tw S2 x1 1)))) S)
set_option maxHeartbeats 4000000 in
theorem m1_right (l : Launch) {post : Int32 → CS → Prop} {S : CS} {x1 : Int32} (hw : w1_right post tw S x1) : Met l yX1_right (ws_ yX1_right cX1_right 3 (some .int)) ({ frames := 124, cells := 0, slots := 0, locals := 6093 } : Room) (va_Pc [.ref (ad 0), .int x1] (PcG D gCl nwG Z Hb A (wC D ad sc tw S))) (va_Qi post (BW D gCl A (fun u => (wC D ad sc tw u))) A) 0 0 A := by
  refine Met.ofG (by decide) (Nat.le_of_ble_eq_true rfl) ?_
  intro p e s m below meth c ls hC _ hP hD hS hl
  have hC : CX RX1 cX1_right 3 (some .int) D gCl nwG Z Hb A p s m _ meth c := hC
  have hl : lv_has ls 3 [(0, .ref (ad 0)), (1, .int x1)] := hl
  unfold w1_right at hw
  refine lv_aload_n hC.x hC.b dX1_right_0 rfl (lv_at hl 0 rfl) ?_
  refine go_v (run_V (rest := []) hC (m1_anew l hw) v1_1_anew h1_anew 0 0 gCl_X1 rfl rfl ⟨rfl, rfl, Nat.le_of_ble_eq_true rfl, Nat.le_of_ble_eq_true rfl⟩ ⟨Nat.le_refl _, Nat.le_refl _⟩ hP hD hS hl.1 (Nat.le_of_ble_eq_true rfl) dX1_right_1 rfl) hS (fun S2 H locs hw210 hP hD hS => ?_)
  refine lv_aload_n hC.x hC.b dX1_right_4 rfl (lv_at hl 0 rfl) ?_
  refine lv_aload_n hC.x hC.b dX1_right_5 rfl (lv_at hl 0 rfl) ?_
  refine gO_3 hC hP dX1_right_6 ?_
  rcases va_o2 tw with c3 | ⟨τ, c3⟩
  · have hw211 := hw210.1 c3
    subst c3
    refine lv_ifnullN (tgt := 16) hC.x hC.b dX1_right_9 (by decide) ?_
    refine lv_iconst (v := 0) hC.x hC.b dX1_right_16 (by decide) ?_
    exact k1_right_17 hC hw211 H locs ls hP hD hS (lv_sub hl [0, 1] rfl)
  · have hw217 := hw210.2 ⟨τ, c3⟩
    subst c3
    refine lv_ifnull hC.x hC.b dX1_right_9 ?_
    refine lv_iconst (v := 1) hC.x hC.b dX1_right_12 (by decide) ?_
    refine lv_goto (tgt := 17) hC.x hC.b dX1_right_13 (by decide) ?_
    exact k1_right_17 hC hw217 H locs ls hP hD hS (lv_sub hl [0, 1] rfl)
theorem v1_1_ones : GoodIn lw_all (va_wsS RX1 199 yX1_ones (ws_ yX1_ones cX1_ones 3 (some .int))) := lw_S q1019 q1020 q118 q1021
theorem h1_medium : yX1_medium.cls = RX1 ∧ yX1_medium.cls ≠ "java/lang/invoke/MethodHandle" ∧ yX1_medium.cls ≠ "java/lang/invoke/VarHandle" ∧ (parseMethodDescriptor yX1_medium.desc).map (fun d => d.parameters.length) = some 1 := by decide +kernel
def f1_medium_37 (post : Int32 → CS → Prop) (tw : Option TD) (S : CS) (x1 : Int32) (K37 : (Int32 × Int32) → Prop) (x3 : Int32) (x4 : Int32) : Prop :=
  ((∃ τ, tw = some τ) ∧ (((S.1.1 50 8) ≤ x4 → (post x3 S)) ∧ (¬ (S.1.1 50 8) ≤ x4 → (w4_heard (fun r7 => (w1_ones (fun r8 => (w4_heard (fun r9 => (w1_ones (fun r10 => ((r8 ≤ r10 → (K37 (x3, (x4 + 1)))) ∧ (¬ r8 ≤ r10 → (K37 (x4, (x4 + 1)))))) r9)) tw S 0 x3 x1)) r7)) tw S 0 x4 x1))))
set_option maxHeartbeats 4000000 in
theorem k1_medium_37 {post : Int32 → CS → Prop} {S : CS} {x1 : Int32} (hC : CX RX1 cX1_medium 5 (some .int) D gCl nwG Z Hb A p s m args meth c) : ∀ z : (Int32 × Int32), lp (fun (K : (Int32 × Int32) → Prop) (z : (Int32 × Int32)) => f1_medium_37 post tw S x1 K z.1 z.2) z → ∀ (H : Heap) (locs : List Loc) (ls : Array Slot), va_P D gCl (wC D ad sc tw S) H → va_D A (wC D ad sc tw S) → va_S A s.heap H locs → lv_has ls 5 [(0, .ref (ad 0)), (1, .int x1), (3, .int z.1), (4, .int z.2)] → W p l e ({ frames := 123, cells := 0, slots := 0, locals := 6071 } : Room) s m args below meth c H locs 0 0 (MQ below (va_Qi post (BW D gCl A (fun u => (wC D ad sc tw u))) A) args s 0 0 A) (F0 m 37 ls []) := by
  refine lp_ind ?_
  rintro K37 ⟨x3, x4⟩ hK37 hw H locs ls hP hD hS hl
  have hw : f1_medium_37 post tw S x1 K37 x3 x4 := hw
  unfold f1_medium_37 at hw
  have hP : va_P D gCl (wC D ad sc tw S) H := hP
  have hD : va_D A (wC D ad sc tw S) := hD
  have hl : lv_has ls 5 [(0, .ref (ad 0)), (1, .int x1), (3, .int x3), (4, .int x4)] := hl
  refine lv_iload hC.x hC.b dX1_medium_37 (lv_at hl 3 rfl) ?_
  refine lv_aload_n hC.x hC.b dX1_medium_39 rfl (lv_at hl 0 rfl) ?_
  refine gO_3 hC hP dX1_medium_40 ?_
  obtain ⟨⟨τ, rfl⟩, hw222⟩ := hw
  refine gX1T_8 hC hP dX1_medium_43 ?_
  refine lv_icmp_ge (tgt := 86) hC.x hC.b dX1_medium_46 (by decide) (fun c6 => ?_) (fun c6 => ?_)
  · have hw223 := hw222.1 c6
    refine lv_iload_n hC.x hC.b dX1_medium_86 rfl (lv_at hl 2 rfl) ?_
    exact rt_i hC hw223 hP hD hS dX1_medium_87
  · have hw224 := hw222.2 c6
    refine lv_aload_n hC.x hC.b dX1_medium_49 rfl (lv_at hl 0 rfl) ?_
    refine gO_9 hC hP dX1_medium_50 ?_
    refine lv_iload hC.x hC.b dX1_medium_53 (lv_at hl 3 rfl) ?_
    refine lv_iload_n hC.x hC.b dX1_medium_55 rfl (lv_at hl 1 rfl) ?_
    refine go_i (run_V (rest := []) hC (m4_heard l (by decide) hw224) v1_4_heard h4_heard (17 + 4 * 0) 3 gCl_X4 (wC_so (by decide)) rfl ⟨rfl, rfl, Nat.le_of_ble_eq_true rfl, Nat.le_of_ble_eq_true rfl⟩ ⟨Nat.le_refl _, Nat.le_refl _⟩ hP hD hS hl.1 (Nat.le_of_ble_eq_true rfl) dX1_medium_56 rfl) hS (fun r7 u H locs hw225 hP hD hS => ?_)
    refine go_i (run_S (rest := []) hC (m1_ones l hw225) v1_1_ones h1_ones ⟨rfl, rfl, Nat.le_of_ble_eq_true rfl, Nat.le_of_ble_eq_true rfl⟩ ⟨Nat.le_refl _, Nat.le_refl _⟩ hP hD hS hl.1 (Nat.le_of_ble_eq_true rfl) dX1_medium_59 rfl) hS (fun r8 u H locs hw226 hP hD hS => ?_)
    refine lv_aload_n hC.x hC.b dX1_medium_62 rfl (lv_at hl 0 rfl) ?_
    refine gO_9 hC hP dX1_medium_63 ?_
    refine lv_iload_n hC.x hC.b dX1_medium_66 rfl (lv_at hl 2 rfl) ?_
    refine lv_iload_n hC.x hC.b dX1_medium_67 rfl (lv_at hl 1 rfl) ?_
    refine go_i (run_V (rest := [.int r8]) hC (m4_heard l (by decide) hw226) v1_4_heard h4_heard (17 + 4 * 0) 3 gCl_X4 (wC_so (by decide)) rfl ⟨rfl, rfl, Nat.le_of_ble_eq_true rfl, Nat.le_of_ble_eq_true rfl⟩ ⟨Nat.le_refl _, Nat.le_refl _⟩ hP hD hS hl.1 (Nat.le_of_ble_eq_true rfl) dX1_medium_68 rfl) hS (fun r9 u H locs hw227 hP hD hS => ?_)
    refine go_i (run_S (rest := [.int r8]) hC (m1_ones l hw227) v1_1_ones h1_ones ⟨rfl, rfl, Nat.le_of_ble_eq_true rfl, Nat.le_of_ble_eq_true rfl⟩ ⟨Nat.le_refl _, Nat.le_refl _⟩ hP hD hS hl.1 (Nat.le_of_ble_eq_true rfl) dX1_medium_71 rfl) hS (fun r10 u H locs hw228 hP hD hS => ?_)
    refine lv_icmp_le (tgt := 80) hC.x hC.b dX1_medium_74 (by decide) (fun c11 => ?_) (fun c11 => ?_)
    · have hw229 := hw228.1 c11
      refine lv_iinc (v := (x4 + 1)) (lv' := [(4, .int (x4 + 1)), (0, .ref (ad 0)), (1, .int x1), (3, .int x3)]) hC.x hC.b dX1_medium_80 hl (k := 3) rfl rfl (by decide) rfl (fun ls hl => ?_)
      refine lv_goto (tgt := 37) hC.x hC.b dX1_medium_83 (by decide) ?_
      exact hK37 (x3, (x4 + 1)) hw229 H locs ls hP hD hS (lv_sub hl [1, 2, 3, 0] rfl)
    · have hw230 := hw228.2 c11
      refine lv_iload hC.x hC.b dX1_medium_77 (lv_at hl 3 rfl) ?_
      refine lv_istore_n (lv' := [(3, .int x4), (0, .ref (ad 0)), (1, .int x1), (4, .int x4)]) hC.x hC.b dX1_medium_79 rfl hl (by decide) rfl (fun ls hl => ?_)
      refine lv_iinc (v := (x4 + 1)) (lv' := [(4, .int (x4 + 1)), (3, .int x4), (0, .ref (ad 0)), (1, .int x1)]) hC.x hC.b dX1_medium_80 hl (k := 3) rfl rfl (by decide) rfl (fun ls hl => ?_)
      refine lv_goto (tgt := 37) hC.x hC.b dX1_medium_83 (by decide) ?_
      exact hK37 (x4, (x4 + 1)) hw230 H locs ls hP hD hS (lv_sub hl [2, 3, 1, 0] rfl)
def j1_medium_17 (post : Int32 → CS → Prop) (tw : Option TD) (S : CS) (x1 : Int32) (y1 : Int32) : Prop :=
  (w1_nightWhy (fun r4 => ((r4 = 0 → (lp (fun (K : (Int32 × Int32) → Prop) (z : (Int32 × Int32)) => f1_medium_37 post tw S x1 K z.1 z.2) (0, 1))) ∧ (¬ r4 = 0 → (w1_no (fun r12 S13 => (post r12 S13)) S r4)))) S y1 x1)
set_option maxHeartbeats 4000000 in
theorem k1_medium_17 {post : Int32 → CS → Prop} {S : CS} {x1 : Int32} {y1 : Int32} (hC : CX RX1 cX1_medium 5 (some .int) D gCl nwG Z Hb A p s m args meth c) (hw : j1_medium_17 post tw S x1 y1) : ∀ (H : Heap) (locs : List Loc) (ls : Array Slot), va_P D gCl (wC D ad sc tw S) H → va_D A (wC D ad sc tw S) → va_S A s.heap H locs → lv_has ls 5 [(0, .ref (ad 0)), (1, .int x1)] → W p l e ({ frames := 123, cells := 0, slots := 0, locals := 6071 } : Room) s m args below meth c H locs 0 0 (MQ below (va_Qi post (BW D gCl A (fun u => (wC D ad sc tw u))) A) args s 0 0 A) (F0 m 17 ls [.int y1, .ref (ad 0)]) := by
  intro H locs ls hP hD hS hl
  unfold j1_medium_17 at hw
  refine lv_iload_n hC.x hC.b dX1_medium_17 rfl (lv_at hl 1 rfl) ?_
  refine go_i (run_V (rest := []) hC (m1_nightWhy l hw) v1_1_nightWhy h1_nightWhy 0 0 gCl_X1 rfl rfl ⟨rfl, rfl, Nat.le_of_ble_eq_true rfl, Nat.le_of_ble_eq_true rfl⟩ ⟨Nat.le_refl _, Nat.le_refl _⟩ hP hD hS hl.1 (Nat.le_of_ble_eq_true rfl) dX1_medium_18 rfl) hS (fun r4 u H locs hw220 hP hD hS => ?_)
  refine lv_istore_n (lv' := [(2, .int r4), (0, .ref (ad 0)), (1, .int x1)]) hC.x hC.b dX1_medium_21 rfl hl (by decide) rfl (fun ls hl => ?_)
  refine lv_iload_n hC.x hC.b dX1_medium_22 rfl (lv_at hl 0 rfl) ?_
  refine lv_if_eq (tgt := 32) hC.x hC.b dX1_medium_23 (by decide) (fun c5 => ?_) (fun c5 => ?_)
  · have hw221 := hw220.1 c5
    refine lv_iconst (v := 0) hC.x hC.b dX1_medium_32 (by decide) ?_
    refine lv_istore_n (lv' := [(3, .int 0), (2, .int r4), (0, .ref (ad 0)), (1, .int x1)]) hC.x hC.b dX1_medium_33 rfl hl (by decide) rfl (fun ls hl => ?_)
    refine lv_iconst (v := 1) hC.x hC.b dX1_medium_34 (by decide) ?_
    refine lv_istore (lv' := [(4, .int 1), (3, .int 0), (2, .int r4), (0, .ref (ad 0)), (1, .int x1)]) hC.x hC.b dX1_medium_35 hl (by decide) rfl (fun ls hl => ?_)
    exact k1_medium_37 hC (0, 1) hw221 H locs ls hP hD hS (lv_sub hl [3, 4, 1, 0] rfl)
  · have hw231 := hw220.2 c5
    refine lv_aload_n hC.x hC.b dX1_medium_26 rfl (lv_at hl 1 rfl) ?_
    refine lv_iload_n hC.x hC.b dX1_medium_27 rfl (lv_at hl 0 rfl) ?_
    refine go_i (run_V (rest := []) hC (m1_no l hw231) v1_1_no h1_no 0 0 gCl_X1 rfl rfl ⟨rfl, rfl, Nat.le_of_ble_eq_true rfl, Nat.le_of_ble_eq_true rfl⟩ ⟨Nat.le_refl _, Nat.le_refl _⟩ hP hD hS hl.1 (Nat.le_of_ble_eq_true rfl) dX1_medium_28 rfl) hS (fun r12 S13 H locs hw232 hP hD hS => ?_)
    exact rt_i hC hw232 hP hD hS dX1_medium_31
def w1_medium (post : Int32 → CS → Prop) (tw : Option TD) (S : CS) (x1 : Int32) : Prop :=
  (w1_anew (fun S2 => ((tw = none → (j1_medium_17 post tw S2 x1 0)) ∧ ((∃ τ, tw = some τ) → (j1_medium_17 post tw S2 x1 1)))) S)
set_option maxHeartbeats 4000000 in
theorem m1_medium (l : Launch) {post : Int32 → CS → Prop} {S : CS} {x1 : Int32} (hw : w1_medium post tw S x1) : Met l yX1_medium (ws_ yX1_medium cX1_medium 5 (some .int)) ({ frames := 123, cells := 0, slots := 0, locals := 6071 } : Room) (va_Pc [.ref (ad 0), .int x1] (PcG D gCl nwG Z Hb A (wC D ad sc tw S))) (va_Qi post (BW D gCl A (fun u => (wC D ad sc tw u))) A) 0 0 A := by
  refine Met.ofG (by decide) (Nat.le_of_ble_eq_true rfl) ?_
  intro p e s m below meth c ls hC _ hP hD hS hl
  have hC : CX RX1 cX1_medium 5 (some .int) D gCl nwG Z Hb A p s m _ meth c := hC
  have hl : lv_has ls 5 [(0, .ref (ad 0)), (1, .int x1)] := hl
  unfold w1_medium at hw
  refine lv_aload_n hC.x hC.b dX1_medium_0 rfl (lv_at hl 0 rfl) ?_
  refine go_v (run_V (rest := []) hC (m1_anew l hw) v1_1_anew h1_anew 0 0 gCl_X1 rfl rfl ⟨rfl, rfl, Nat.le_of_ble_eq_true rfl, Nat.le_of_ble_eq_true rfl⟩ ⟨Nat.le_refl _, Nat.le_refl _⟩ hP hD hS hl.1 (Nat.le_of_ble_eq_true rfl) dX1_medium_1 rfl) hS (fun S2 H locs hw218 hP hD hS => ?_)
  refine lv_aload_n hC.x hC.b dX1_medium_4 rfl (lv_at hl 0 rfl) ?_
  refine lv_aload_n hC.x hC.b dX1_medium_5 rfl (lv_at hl 0 rfl) ?_
  refine gO_3 hC hP dX1_medium_6 ?_
  rcases va_o2 tw with c3 | ⟨τ, c3⟩
  · have hw219 := hw218.1 c3
    subst c3
    refine lv_ifnullN (tgt := 16) hC.x hC.b dX1_medium_9 (by decide) ?_
    refine lv_iconst (v := 0) hC.x hC.b dX1_medium_16 (by decide) ?_
    exact k1_medium_17 hC hw219 H locs ls hP hD hS (lv_sub hl [0, 1] rfl)
  · have hw233 := hw218.2 ⟨τ, c3⟩
    subst c3
    refine lv_ifnull hC.x hC.b dX1_medium_9 ?_
    refine lv_iconst (v := 1) hC.x hC.b dX1_medium_12 (by decide) ?_
    refine lv_goto (tgt := 17) hC.x hC.b dX1_medium_13 (by decide) ?_
    exact k1_medium_17 hC hw233 H locs ls hP hD hS (lv_sub hl [0, 1] rfl)
theorem h1_silent : yX1_silent.cls = RX1 ∧ yX1_silent.cls ≠ "java/lang/invoke/MethodHandle" ∧ yX1_silent.cls ≠ "java/lang/invoke/VarHandle" ∧ (parseMethodDescriptor yX1_silent.desc).map (fun d => d.parameters.length) = some 1 := by decide +kernel
def f1_silent_37 (post : Int32 → CS → Prop) (tw : Option TD) (S : CS) (x1 : Int32) (K37 : (Int32 × Int32) → Prop) (x3 : Int32) (x4 : Int32) : Prop :=
  ((∃ τ, tw = some τ) ∧ (((S.1.1 50 8) ≤ x4 → (post x3 S)) ∧ (¬ (S.1.1 50 8) ≤ x4 → (w4_heard (fun r7 => ((¬ r7 = 0 → (K37 ((x3 ||| 0), (x4 + 1)))) ∧ (r7 = 0 → (K37 ((x3 ||| ((1 : Int32) <<< (x4 &&& 31))), (x4 + 1)))))) tw S 0 x4 x1))))
set_option maxHeartbeats 4000000 in
theorem k1_silent_37 {post : Int32 → CS → Prop} {S : CS} {x1 : Int32} (hC : CX RX1 cX1_silent 5 (some .int) D gCl nwG Z Hb A p s m args meth c) : ∀ z : (Int32 × Int32), lp (fun (K : (Int32 × Int32) → Prop) (z : (Int32 × Int32)) => f1_silent_37 post tw S x1 K z.1 z.2) z → ∀ (H : Heap) (locs : List Loc) (ls : Array Slot), va_P D gCl (wC D ad sc tw S) H → va_D A (wC D ad sc tw S) → va_S A s.heap H locs → lv_has ls 5 [(0, .ref (ad 0)), (1, .int x1), (3, .int z.1), (4, .int z.2)] → W p l e ({ frames := 123, cells := 0, slots := 0, locals := 6071 } : Room) s m args below meth c H locs 0 0 (MQ below (va_Qi post (BW D gCl A (fun u => (wC D ad sc tw u))) A) args s 0 0 A) (F0 m 37 ls []) := by
  refine lp_ind ?_
  rintro K37 ⟨x3, x4⟩ hK37 hw H locs ls hP hD hS hl
  have hw : f1_silent_37 post tw S x1 K37 x3 x4 := hw
  unfold f1_silent_37 at hw
  have hP : va_P D gCl (wC D ad sc tw S) H := hP
  have hD : va_D A (wC D ad sc tw S) := hD
  have hl : lv_has ls 5 [(0, .ref (ad 0)), (1, .int x1), (3, .int x3), (4, .int x4)] := hl
  refine lv_iload hC.x hC.b dX1_silent_37 (lv_at hl 3 rfl) ?_
  refine lv_aload_n hC.x hC.b dX1_silent_39 rfl (lv_at hl 0 rfl) ?_
  refine gO_3 hC hP dX1_silent_40 ?_
  obtain ⟨⟨τ, rfl⟩, hw238⟩ := hw
  refine gX1T_8 hC hP dX1_silent_43 ?_
  refine lv_icmp_ge (tgt := 79) hC.x hC.b dX1_silent_46 (by decide) (fun c6 => ?_) (fun c6 => ?_)
  · have hw239 := hw238.1 c6
    refine lv_iload_n hC.x hC.b dX1_silent_79 rfl (lv_at hl 2 rfl) ?_
    exact rt_i hC hw239 hP hD hS dX1_silent_80
  · have hw240 := hw238.2 c6
    refine lv_iload_n hC.x hC.b dX1_silent_49 rfl (lv_at hl 2 rfl) ?_
    refine lv_aload_n hC.x hC.b dX1_silent_50 rfl (lv_at hl 0 rfl) ?_
    refine gO_9 hC hP dX1_silent_51 ?_
    refine lv_iload hC.x hC.b dX1_silent_54 (lv_at hl 3 rfl) ?_
    refine lv_iload_n hC.x hC.b dX1_silent_56 rfl (lv_at hl 1 rfl) ?_
    refine go_i (run_V (rest := [.int x3]) hC (m4_heard l (by decide) hw240) v1_4_heard h4_heard (17 + 4 * 0) 3 gCl_X4 (wC_so (by decide)) rfl ⟨rfl, rfl, Nat.le_of_ble_eq_true rfl, Nat.le_of_ble_eq_true rfl⟩ ⟨Nat.le_refl _, Nat.le_refl _⟩ hP hD hS hl.1 (Nat.le_of_ble_eq_true rfl) dX1_silent_57 rfl) hS (fun r7 u H locs hw241 hP hD hS => ?_)
    refine lv_if_ne (tgt := 70) hC.x hC.b dX1_silent_60 (by decide) (fun c8 => ?_) (fun c8 => ?_)
    · have hw242 := hw241.1 c8
      refine lv_iconst (v := 0) hC.x hC.b dX1_silent_70 (by decide) ?_
      refine lv_ior hC.x hC.b dX1_silent_71 ?_
      refine lv_istore_n (lv' := [(3, .int (x3 ||| 0)), (0, .ref (ad 0)), (1, .int x1), (4, .int x4)]) hC.x hC.b dX1_silent_72 rfl hl (by decide) rfl (fun ls hl => ?_)
      refine lv_iinc (v := (x4 + 1)) (lv' := [(4, .int (x4 + 1)), (3, .int (x3 ||| 0)), (0, .ref (ad 0)), (1, .int x1)]) hC.x hC.b dX1_silent_73 hl (k := 3) rfl rfl (by decide) rfl (fun ls hl => ?_)
      refine lv_goto (tgt := 37) hC.x hC.b dX1_silent_76 (by decide) ?_
      exact hK37 ((x3 ||| 0), (x4 + 1)) hw242 H locs ls hP hD hS (lv_sub hl [2, 3, 1, 0] rfl)
    · have hw243 := hw241.2 c8
      refine lv_iconst (v := 1) hC.x hC.b dX1_silent_63 (by decide) ?_
      refine lv_iload hC.x hC.b dX1_silent_64 (lv_at hl 3 rfl) ?_
      refine lv_ishl hC.x hC.b dX1_silent_66 ?_
      refine lv_goto (tgt := 71) hC.x hC.b dX1_silent_67 (by decide) ?_
      refine lv_ior hC.x hC.b dX1_silent_71 ?_
      refine lv_istore_n (lv' := [(3, .int (x3 ||| ((1 : Int32) <<< (x4 &&& 31)))), (0, .ref (ad 0)), (1, .int x1), (4, .int x4)]) hC.x hC.b dX1_silent_72 rfl hl (by decide) rfl (fun ls hl => ?_)
      refine lv_iinc (v := (x4 + 1)) (lv' := [(4, .int (x4 + 1)), (3, .int (x3 ||| ((1 : Int32) <<< (x4 &&& 31)))), (0, .ref (ad 0)), (1, .int x1)]) hC.x hC.b dX1_silent_73 hl (k := 3) rfl rfl (by decide) rfl (fun ls hl => ?_)
      refine lv_goto (tgt := 37) hC.x hC.b dX1_silent_76 (by decide) ?_
      exact hK37 ((x3 ||| ((1 : Int32) <<< (x4 &&& 31))), (x4 + 1)) hw243 H locs ls hP hD hS (lv_sub hl [2, 3, 1, 0] rfl)
def j1_silent_17 (post : Int32 → CS → Prop) (tw : Option TD) (S : CS) (x1 : Int32) (y1 : Int32) : Prop :=
  (w1_nightWhy (fun r4 => ((r4 = 0 → (lp (fun (K : (Int32 × Int32) → Prop) (z : (Int32 × Int32)) => f1_silent_37 post tw S x1 K z.1 z.2) (0, 0))) ∧ (¬ r4 = 0 → (w1_no (fun r9 S10 => (post r9 S10)) S r4)))) S y1 x1)
set_option maxHeartbeats 4000000 in
theorem k1_silent_17 {post : Int32 → CS → Prop} {S : CS} {x1 : Int32} {y1 : Int32} (hC : CX RX1 cX1_silent 5 (some .int) D gCl nwG Z Hb A p s m args meth c) (hw : j1_silent_17 post tw S x1 y1) : ∀ (H : Heap) (locs : List Loc) (ls : Array Slot), va_P D gCl (wC D ad sc tw S) H → va_D A (wC D ad sc tw S) → va_S A s.heap H locs → lv_has ls 5 [(0, .ref (ad 0)), (1, .int x1)] → W p l e ({ frames := 123, cells := 0, slots := 0, locals := 6071 } : Room) s m args below meth c H locs 0 0 (MQ below (va_Qi post (BW D gCl A (fun u => (wC D ad sc tw u))) A) args s 0 0 A) (F0 m 17 ls [.int y1, .ref (ad 0)]) := by
  intro H locs ls hP hD hS hl
  unfold j1_silent_17 at hw
  refine lv_iload_n hC.x hC.b dX1_silent_17 rfl (lv_at hl 1 rfl) ?_
  refine go_i (run_V (rest := []) hC (m1_nightWhy l hw) v1_1_nightWhy h1_nightWhy 0 0 gCl_X1 rfl rfl ⟨rfl, rfl, Nat.le_of_ble_eq_true rfl, Nat.le_of_ble_eq_true rfl⟩ ⟨Nat.le_refl _, Nat.le_refl _⟩ hP hD hS hl.1 (Nat.le_of_ble_eq_true rfl) dX1_silent_18 rfl) hS (fun r4 u H locs hw236 hP hD hS => ?_)
  refine lv_istore_n (lv' := [(2, .int r4), (0, .ref (ad 0)), (1, .int x1)]) hC.x hC.b dX1_silent_21 rfl hl (by decide) rfl (fun ls hl => ?_)
  refine lv_iload_n hC.x hC.b dX1_silent_22 rfl (lv_at hl 0 rfl) ?_
  refine lv_if_eq (tgt := 32) hC.x hC.b dX1_silent_23 (by decide) (fun c5 => ?_) (fun c5 => ?_)
  · have hw237 := hw236.1 c5
    refine lv_iconst (v := 0) hC.x hC.b dX1_silent_32 (by decide) ?_
    refine lv_istore_n (lv' := [(3, .int 0), (2, .int r4), (0, .ref (ad 0)), (1, .int x1)]) hC.x hC.b dX1_silent_33 rfl hl (by decide) rfl (fun ls hl => ?_)
    refine lv_iconst (v := 0) hC.x hC.b dX1_silent_34 (by decide) ?_
    refine lv_istore (lv' := [(4, .int 0), (3, .int 0), (2, .int r4), (0, .ref (ad 0)), (1, .int x1)]) hC.x hC.b dX1_silent_35 hl (by decide) rfl (fun ls hl => ?_)
    exact k1_silent_37 hC (0, 0) hw237 H locs ls hP hD hS (lv_sub hl [3, 4, 1, 0] rfl)
  · have hw244 := hw236.2 c5
    refine lv_aload_n hC.x hC.b dX1_silent_26 rfl (lv_at hl 1 rfl) ?_
    refine lv_iload_n hC.x hC.b dX1_silent_27 rfl (lv_at hl 0 rfl) ?_
    refine go_i (run_V (rest := []) hC (m1_no l hw244) v1_1_no h1_no 0 0 gCl_X1 rfl rfl ⟨rfl, rfl, Nat.le_of_ble_eq_true rfl, Nat.le_of_ble_eq_true rfl⟩ ⟨Nat.le_refl _, Nat.le_refl _⟩ hP hD hS hl.1 (Nat.le_of_ble_eq_true rfl) dX1_silent_28 rfl) hS (fun r9 S10 H locs hw245 hP hD hS => ?_)
    exact rt_i hC hw245 hP hD hS dX1_silent_31
def w1_silent (post : Int32 → CS → Prop) (tw : Option TD) (S : CS) (x1 : Int32) : Prop :=
  (w1_anew (fun S2 => ((tw = none → (j1_silent_17 post tw S2 x1 0)) ∧ ((∃ τ, tw = some τ) → (j1_silent_17 post tw S2 x1 1)))) S)
set_option maxHeartbeats 4000000 in
theorem m1_silent (l : Launch) {post : Int32 → CS → Prop} {S : CS} {x1 : Int32} (hw : w1_silent post tw S x1) : Met l yX1_silent (ws_ yX1_silent cX1_silent 5 (some .int)) ({ frames := 123, cells := 0, slots := 0, locals := 6071 } : Room) (va_Pc [.ref (ad 0), .int x1] (PcG D gCl nwG Z Hb A (wC D ad sc tw S))) (va_Qi post (BW D gCl A (fun u => (wC D ad sc tw u))) A) 0 0 A := by
  refine Met.ofG (by decide) (Nat.le_of_ble_eq_true rfl) ?_
  intro p e s m below meth c ls hC _ hP hD hS hl
  have hC : CX RX1 cX1_silent 5 (some .int) D gCl nwG Z Hb A p s m _ meth c := hC
  have hl : lv_has ls 5 [(0, .ref (ad 0)), (1, .int x1)] := hl
  unfold w1_silent at hw
  refine lv_aload_n hC.x hC.b dX1_silent_0 rfl (lv_at hl 0 rfl) ?_
  refine go_v (run_V (rest := []) hC (m1_anew l hw) v1_1_anew h1_anew 0 0 gCl_X1 rfl rfl ⟨rfl, rfl, Nat.le_of_ble_eq_true rfl, Nat.le_of_ble_eq_true rfl⟩ ⟨Nat.le_refl _, Nat.le_refl _⟩ hP hD hS hl.1 (Nat.le_of_ble_eq_true rfl) dX1_silent_1 rfl) hS (fun S2 H locs hw234 hP hD hS => ?_)
  refine lv_aload_n hC.x hC.b dX1_silent_4 rfl (lv_at hl 0 rfl) ?_
  refine lv_aload_n hC.x hC.b dX1_silent_5 rfl (lv_at hl 0 rfl) ?_
  refine gO_3 hC hP dX1_silent_6 ?_
  rcases va_o2 tw with c3 | ⟨τ, c3⟩
  · have hw235 := hw234.1 c3
    subst c3
    refine lv_ifnullN (tgt := 16) hC.x hC.b dX1_silent_9 (by decide) ?_
    refine lv_iconst (v := 0) hC.x hC.b dX1_silent_16 (by decide) ?_
    exact k1_silent_17 hC hw235 H locs ls hP hD hS (lv_sub hl [0, 1] rfl)
  · have hw246 := hw234.2 ⟨τ, c3⟩
    subst c3
    refine lv_ifnull hC.x hC.b dX1_silent_9 ?_
    refine lv_iconst (v := 1) hC.x hC.b dX1_silent_12 (by decide) ?_
    refine lv_goto (tgt := 17) hC.x hC.b dX1_silent_13 (by decide) ?_
    exact k1_silent_17 hC hw246 H locs ls hP hD hS (lv_sub hl [0, 1] rfl)
theorem v1_4_isRight : GoodIn lw_all (wsV RX1 202 RX4 yX4_isRight (ws_ yX4_isRight cX4_isRight 4 (some .boolean))) := lw_V q1030 q1012 q1013 q124 q1014
theorem h1_rightFrom : yX1_rightFrom.cls = RX1 ∧ yX1_rightFrom.cls ≠ "java/lang/invoke/MethodHandle" ∧ yX1_rightFrom.cls ≠ "java/lang/invoke/VarHandle" ∧ (parseMethodDescriptor yX1_rightFrom.desc).map (fun d => d.parameters.length) = some 2 := by decide +kernel
def f1_rightFrom_28 (post : Int32 → CS → Prop) (tw : Option TD) (S : CS) (x1 : Int32) (K28 : Int32 → Prop) (x4 : Int32) : Prop :=
  ((99 < x4 → (post (-2) S)) ∧ (¬ 99 < x4 → (w4_isRight (fun r7 => ((r7 = 0 → (K28 (x4 + 1))) ∧ (¬ r7 = 0 → (post x4 S)))) tw S 0 x1 x4 0)))
set_option maxHeartbeats 4000000 in
theorem k1_rightFrom_28 {post : Int32 → CS → Prop} {S : CS} {x1 : Int32} (hC : CX RX1 cX1_rightFrom 5 (some .int) D gCl nwG Z Hb A p s m args meth c) : ∀ z : Int32, lp (fun (K : Int32 → Prop) (z : Int32) => f1_rightFrom_28 post tw S x1 K z) z → ∀ (H : Heap) (locs : List Loc) (ls : Array Slot), va_P D gCl (wC D ad sc tw S) H → va_D A (wC D ad sc tw S) → va_S A s.heap H locs → lv_has ls 5 [(0, .ref (ad 0)), (1, .int x1), (4, .int z)] → W p l e ({ frames := 123, cells := 0, slots := 0, locals := 6070 } : Room) s m args below meth c H locs 0 0 (MQ below (va_Qi post (BW D gCl A (fun u => (wC D ad sc tw u))) A) args s 0 0 A) (F0 m 28 ls []) := by
  refine lp_ind ?_
  rintro K28 x4 hK28 hw H locs ls hP hD hS hl
  have hw : f1_rightFrom_28 post tw S x1 K28 x4 := hw
  unfold f1_rightFrom_28 at hw
  have hP : va_P D gCl (wC D ad sc tw S) H := hP
  have hD : va_D A (wC D ad sc tw S) := hD
  have hl : lv_has ls 5 [(0, .ref (ad 0)), (1, .int x1), (4, .int x4)] := hl
  refine lv_iload hC.x hC.b dX1_rightFrom_28 (lv_at hl 2 rfl) ?_
  refine lv_bipush (v := 99) hC.x hC.b dX1_rightFrom_30 (by decide) ?_
  refine lv_icmp_gt (tgt := 58) hC.x hC.b dX1_rightFrom_32 (by decide) (fun c6 => ?_) (fun c6 => ?_)
  · have hw251 := hw.1 c6
    refine lv_bipush (v := (-2)) hC.x hC.b dX1_rightFrom_58 (by decide) ?_
    exact rt_i hC hw251 hP hD hS dX1_rightFrom_60
  · have hw252 := hw.2 c6
    refine lv_aload_n hC.x hC.b dX1_rightFrom_35 rfl (lv_at hl 0 rfl) ?_
    refine gO_9 hC hP dX1_rightFrom_36 ?_
    refine lv_iload_n hC.x hC.b dX1_rightFrom_39 rfl (lv_at hl 1 rfl) ?_
    refine lv_iload hC.x hC.b dX1_rightFrom_40 (lv_at hl 2 rfl) ?_
    refine lv_iconst (v := 0) hC.x hC.b dX1_rightFrom_42 (by decide) ?_
    refine go_i (run_V (rest := []) hC (m4_isRight l (by decide) hw252) v1_4_isRight h4_isRight (17 + 4 * 0) 3 gCl_X4 (wC_so (by decide)) rfl ⟨rfl, rfl, Nat.le_of_ble_eq_true rfl, Nat.le_of_ble_eq_true rfl⟩ ⟨Nat.le_refl _, Nat.le_refl _⟩ hP hD hS hl.1 (Nat.le_of_ble_eq_true rfl) dX1_rightFrom_43 rfl) hS (fun r7 u H locs hw253 hP hD hS => ?_)
    refine lv_if_eq (tgt := 52) hC.x hC.b dX1_rightFrom_46 (by decide) (fun c8 => ?_) (fun c8 => ?_)
    · have hw254 := hw253.1 c8
      refine lv_iinc (v := (x4 + 1)) (lv' := [(4, .int (x4 + 1)), (0, .ref (ad 0)), (1, .int x1)]) hC.x hC.b dX1_rightFrom_52 hl (k := 2) rfl rfl (by decide) rfl (fun ls hl => ?_)
      refine lv_goto (tgt := 28) hC.x hC.b dX1_rightFrom_55 (by decide) ?_
      exact hK28 (x4 + 1) hw254 H locs ls hP hD hS (lv_sub hl [1, 2, 0] rfl)
    · have hw255 := hw253.2 c8
      refine lv_iload hC.x hC.b dX1_rightFrom_49 (lv_at hl 2 rfl) ?_
      exact rt_i hC hw255 hP hD hS dX1_rightFrom_51
def w1_rightFrom (post : Int32 → CS → Prop) (tw : Option TD) (S : CS) (x1 : Int32) (x2 : Int32) : Prop :=
  (w1_anew (fun S2 => (w1_isDead (fun r3 => (w1_nightWhy (fun r4 => ((r4 = 0 → (lp (fun (K : Int32 → Prop) (z : Int32) => f1_rightFrom_28 post tw S2 x1 K z) x2)) ∧ (¬ r4 = 0 → (w1_no (fun r9 S10 => (post r9 S10)) S2 r4)))) S2 r3 x2)) tw S2 x1)) S)
set_option maxHeartbeats 4000000 in
theorem m1_rightFrom (l : Launch) {post : Int32 → CS → Prop} {S : CS} {x1 : Int32} {x2 : Int32} (hw : w1_rightFrom post tw S x1 x2) : Met l yX1_rightFrom (ws_ yX1_rightFrom cX1_rightFrom 5 (some .int)) ({ frames := 123, cells := 0, slots := 0, locals := 6070 } : Room) (va_Pc [.ref (ad 0), .int x1, .int x2] (PcG D gCl nwG Z Hb A (wC D ad sc tw S))) (va_Qi post (BW D gCl A (fun u => (wC D ad sc tw u))) A) 0 0 A := by
  refine Met.ofG (by decide) (Nat.le_of_ble_eq_true rfl) ?_
  intro p e s m below meth c ls hC _ hP hD hS hl
  have hC : CX RX1 cX1_rightFrom 5 (some .int) D gCl nwG Z Hb A p s m _ meth c := hC
  have hl : lv_has ls 5 [(0, .ref (ad 0)), (1, .int x1), (2, .int x2)] := hl
  unfold w1_rightFrom at hw
  refine lv_aload_n hC.x hC.b dX1_rightFrom_0 rfl (lv_at hl 0 rfl) ?_
  refine go_v (run_V (rest := []) hC (m1_anew l hw) v1_1_anew h1_anew 0 0 gCl_X1 rfl rfl ⟨rfl, rfl, Nat.le_of_ble_eq_true rfl, Nat.le_of_ble_eq_true rfl⟩ ⟨Nat.le_refl _, Nat.le_refl _⟩ hP hD hS hl.1 (Nat.le_of_ble_eq_true rfl) dX1_rightFrom_1 rfl) hS (fun S2 H locs hw247 hP hD hS => ?_)
  refine lv_aload_n hC.x hC.b dX1_rightFrom_4 rfl (lv_at hl 0 rfl) ?_
  refine lv_aload_n hC.x hC.b dX1_rightFrom_5 rfl (lv_at hl 0 rfl) ?_
  refine lv_iload_n hC.x hC.b dX1_rightFrom_6 rfl (lv_at hl 1 rfl) ?_
  refine go_i (run_V (rest := [.ref (ad 0)]) hC (m1_isDead l hw247) v1_1_isDead h1_isDead 0 0 gCl_X1 rfl rfl ⟨rfl, rfl, Nat.le_of_ble_eq_true rfl, Nat.le_of_ble_eq_true rfl⟩ ⟨Nat.le_refl _, Nat.le_refl _⟩ hP hD hS hl.1 (Nat.le_of_ble_eq_true rfl) dX1_rightFrom_7 rfl) hS (fun r3 u H locs hw248 hP hD hS => ?_)
  refine lv_iload_n hC.x hC.b dX1_rightFrom_10 rfl (lv_at hl 2 rfl) ?_
  refine go_i (run_V (rest := []) hC (m1_nightWhy l hw248) v1_1_nightWhy h1_nightWhy 0 0 gCl_X1 rfl rfl ⟨rfl, rfl, Nat.le_of_ble_eq_true rfl, Nat.le_of_ble_eq_true rfl⟩ ⟨Nat.le_refl _, Nat.le_refl _⟩ hP hD hS hl.1 (Nat.le_of_ble_eq_true rfl) dX1_rightFrom_11 rfl) hS (fun r4 u H locs hw249 hP hD hS => ?_)
  refine lv_istore_n (lv' := [(3, .int r4), (0, .ref (ad 0)), (1, .int x1), (2, .int x2)]) hC.x hC.b dX1_rightFrom_14 rfl hl (by decide) rfl (fun ls hl => ?_)
  refine lv_iload_n hC.x hC.b dX1_rightFrom_15 rfl (lv_at hl 0 rfl) ?_
  refine lv_if_eq (tgt := 25) hC.x hC.b dX1_rightFrom_16 (by decide) (fun c5 => ?_) (fun c5 => ?_)
  · have hw250 := hw249.1 c5
    refine lv_iload_n hC.x hC.b dX1_rightFrom_25 rfl (lv_at hl 3 rfl) ?_
    refine lv_istore (lv' := [(4, .int x2), (3, .int r4), (0, .ref (ad 0)), (1, .int x1), (2, .int x2)]) hC.x hC.b dX1_rightFrom_26 hl (by decide) rfl (fun ls hl => ?_)
    exact k1_rightFrom_28 hC x2 hw250 H locs ls hP hD hS (lv_sub hl [2, 3, 0] rfl)
  · have hw256 := hw249.2 c5
    refine lv_aload_n hC.x hC.b dX1_rightFrom_19 rfl (lv_at hl 1 rfl) ?_
    refine lv_iload_n hC.x hC.b dX1_rightFrom_20 rfl (lv_at hl 0 rfl) ?_
    refine go_i (run_V (rest := []) hC (m1_no l hw256) v1_1_no h1_no 0 0 gCl_X1 rfl rfl ⟨rfl, rfl, Nat.le_of_ble_eq_true rfl, Nat.le_of_ble_eq_true rfl⟩ ⟨Nat.le_refl _, Nat.le_refl _⟩ hP hD hS hl.1 (Nat.le_of_ble_eq_true rfl) dX1_rightFrom_21 rfl) hS (fun r9 S10 H locs hw257 hP hD hS => ?_)
    exact rt_i hC hw257 hP hD hS dX1_rightFrom_24
theorem h1_nightsOf : yX1_nightsOf.cls = RX1 ∧ yX1_nightsOf.cls ≠ "java/lang/invoke/MethodHandle" ∧ yX1_nightsOf.cls ≠ "java/lang/invoke/VarHandle" ∧ (parseMethodDescriptor yX1_nightsOf.desc).map (fun d => d.parameters.length) = some 2 := by decide +kernel
def f1_nightsOf_31 (post : Int32 → CS → Prop) (tw : Option TD) (S : CS) (x1 : Int32) (x2 : Int32) (K31 : (Int32 × Int32) → Prop) (x3 : Int32) (x4 : Int32) : Prop :=
  ((99 < x4 → (post x3 S)) ∧ (¬ 99 < x4 → (w4_ear (fun r10 => ((¬ r10 = x1 → (K31 ((x3 + 0), (x4 + 1)))) ∧ (r10 = x1 → (K31 ((x3 + 1), (x4 + 1)))))) tw S 0 x2 x4 0)))
set_option maxHeartbeats 4000000 in
theorem k1_nightsOf_31 {post : Int32 → CS → Prop} {S : CS} {x1 : Int32} {x2 : Int32} (hC : CX RX1 cX1_nightsOf 5 (some .int) D gCl nwG Z Hb A p s m args meth c) : ∀ z : (Int32 × Int32), lp (fun (K : (Int32 × Int32) → Prop) (z : (Int32 × Int32)) => f1_nightsOf_31 post tw S x1 x2 K z.1 z.2) z → ∀ (H : Heap) (locs : List Loc) (ls : Array Slot), va_P D gCl (wC D ad sc tw S) H → va_D A (wC D ad sc tw S) → va_S A s.heap H locs → lv_has ls 5 [(0, .ref (ad 0)), (1, .int x1), (2, .int x2), (3, .int z.1), (4, .int z.2)] → W p l e ({ frames := 122, cells := 0, slots := 0, locals := 6047 } : Room) s m args below meth c H locs 0 0 (MQ below (va_Qi post (BW D gCl A (fun u => (wC D ad sc tw u))) A) args s 0 0 A) (F0 m 31 ls []) := by
  refine lp_ind ?_
  rintro K31 ⟨x3, x4⟩ hK31 hw H locs ls hP hD hS hl
  have hw : f1_nightsOf_31 post tw S x1 x2 K31 x3 x4 := hw
  unfold f1_nightsOf_31 at hw
  have hP : va_P D gCl (wC D ad sc tw S) H := hP
  have hD : va_D A (wC D ad sc tw S) := hD
  have hl : lv_has ls 5 [(0, .ref (ad 0)), (1, .int x1), (2, .int x2), (3, .int x3), (4, .int x4)] := hl
  refine lv_iload hC.x hC.b dX1_nightsOf_31 (lv_at hl 4 rfl) ?_
  refine lv_bipush (v := 99) hC.x hC.b dX1_nightsOf_33 (by decide) ?_
  refine lv_icmp_gt (tgt := 67) hC.x hC.b dX1_nightsOf_35 (by decide) (fun c9 => ?_) (fun c9 => ?_)
  · have hw265 := hw.1 c9
    refine lv_iload_n hC.x hC.b dX1_nightsOf_67 rfl (lv_at hl 3 rfl) ?_
    exact rt_i hC hw265 hP hD hS dX1_nightsOf_68
  · have hw266 := hw.2 c9
    refine lv_iload_n hC.x hC.b dX1_nightsOf_38 rfl (lv_at hl 3 rfl) ?_
    refine lv_aload_n hC.x hC.b dX1_nightsOf_39 rfl (lv_at hl 0 rfl) ?_
    refine gO_9 hC hP dX1_nightsOf_40 ?_
    refine lv_iload_n hC.x hC.b dX1_nightsOf_43 rfl (lv_at hl 2 rfl) ?_
    refine lv_iload hC.x hC.b dX1_nightsOf_44 (lv_at hl 4 rfl) ?_
    refine lv_iconst (v := 0) hC.x hC.b dX1_nightsOf_46 (by decide) ?_
    refine go_i (run_V (rest := [.int x3]) hC (m4_ear l (by decide) hw266) v1_4_ear h4_ear (17 + 4 * 0) 3 gCl_X4 (wC_so (by decide)) rfl ⟨rfl, rfl, Nat.le_of_ble_eq_true rfl, Nat.le_of_ble_eq_true rfl⟩ ⟨Nat.le_refl _, Nat.le_refl _⟩ hP hD hS hl.1 (Nat.le_of_ble_eq_true rfl) dX1_nightsOf_47 rfl) hS (fun r10 u H locs hw267 hP hD hS => ?_)
    refine lv_iload_n hC.x hC.b dX1_nightsOf_50 rfl (lv_at hl 1 rfl) ?_
    refine lv_icmp_ne (tgt := 58) hC.x hC.b dX1_nightsOf_51 (by decide) (fun c11 => ?_) (fun c11 => ?_)
    · have hw268 := hw267.1 c11
      refine lv_iconst (v := 0) hC.x hC.b dX1_nightsOf_58 (by decide) ?_
      refine lv_iadd hC.x hC.b dX1_nightsOf_59 ?_
      refine lv_istore_n (lv' := [(3, .int (x3 + 0)), (0, .ref (ad 0)), (1, .int x1), (2, .int x2), (4, .int x4)]) hC.x hC.b dX1_nightsOf_60 rfl hl (by decide) rfl (fun ls hl => ?_)
      refine lv_iinc (v := (x4 + 1)) (lv' := [(4, .int (x4 + 1)), (3, .int (x3 + 0)), (0, .ref (ad 0)), (1, .int x1), (2, .int x2)]) hC.x hC.b dX1_nightsOf_61 hl (k := 4) rfl rfl (by decide) rfl (fun ls hl => ?_)
      refine lv_goto (tgt := 31) hC.x hC.b dX1_nightsOf_64 (by decide) ?_
      exact hK31 ((x3 + 0), (x4 + 1)) hw268 H locs ls hP hD hS (lv_sub hl [2, 3, 4, 1, 0] rfl)
    · have hw269 := hw267.2 c11
      refine lv_iconst (v := 1) hC.x hC.b dX1_nightsOf_54 (by decide) ?_
      refine lv_goto (tgt := 59) hC.x hC.b dX1_nightsOf_55 (by decide) ?_
      refine lv_iadd hC.x hC.b dX1_nightsOf_59 ?_
      refine lv_istore_n (lv' := [(3, .int (x3 + 1)), (0, .ref (ad 0)), (1, .int x1), (2, .int x2), (4, .int x4)]) hC.x hC.b dX1_nightsOf_60 rfl hl (by decide) rfl (fun ls hl => ?_)
      refine lv_iinc (v := (x4 + 1)) (lv' := [(4, .int (x4 + 1)), (3, .int (x3 + 1)), (0, .ref (ad 0)), (1, .int x1), (2, .int x2)]) hC.x hC.b dX1_nightsOf_61 hl (k := 4) rfl rfl (by decide) rfl (fun ls hl => ?_)
      refine lv_goto (tgt := 31) hC.x hC.b dX1_nightsOf_64 (by decide) ?_
      exact hK31 ((x3 + 1), (x4 + 1)) hw269 H locs ls hP hD hS (lv_sub hl [2, 3, 4, 1, 0] rfl)
def w1_nightsOf (post : Int32 → CS → Prop) (tw : Option TD) (S : CS) (x1 : Int32) (x2 : Int32) : Prop :=
  (w1_anew (fun S2 => (w1_isPerson (fun r3 => ((r3 = 0 → (w1_no (fun r5 S6 => (post r5 S6)) S2 1)) ∧ (¬ r3 = 0 → (w1_isDead (fun r7 => ((¬ r7 = 0 → (lp (fun (K : (Int32 × Int32) → Prop) (z : (Int32 × Int32)) => f1_nightsOf_31 post tw S2 x1 x2 K z.1 z.2) (0, 0))) ∧ (r7 = 0 → (w1_no (fun r12 S13 => (post r12 S13)) S2 1)))) tw S2 x2)))) tw S2 x1)) S)
set_option maxHeartbeats 4000000 in
theorem m1_nightsOf (l : Launch) {post : Int32 → CS → Prop} {S : CS} {x1 : Int32} {x2 : Int32} (hw : w1_nightsOf post tw S x1 x2) : Met l yX1_nightsOf (ws_ yX1_nightsOf cX1_nightsOf 5 (some .int)) ({ frames := 122, cells := 0, slots := 0, locals := 6047 } : Room) (va_Pc [.ref (ad 0), .int x1, .int x2] (PcG D gCl nwG Z Hb A (wC D ad sc tw S))) (va_Qi post (BW D gCl A (fun u => (wC D ad sc tw u))) A) 0 0 A := by
  refine Met.ofG (by decide) (Nat.le_of_ble_eq_true rfl) ?_
  intro p e s m below meth c ls hC _ hP hD hS hl
  have hC : CX RX1 cX1_nightsOf 5 (some .int) D gCl nwG Z Hb A p s m _ meth c := hC
  have hl : lv_has ls 5 [(0, .ref (ad 0)), (1, .int x1), (2, .int x2)] := hl
  unfold w1_nightsOf at hw
  refine lv_aload_n hC.x hC.b dX1_nightsOf_0 rfl (lv_at hl 0 rfl) ?_
  refine go_v (run_V (rest := []) hC (m1_anew l hw) v1_1_anew h1_anew 0 0 gCl_X1 rfl rfl ⟨rfl, rfl, Nat.le_of_ble_eq_true rfl, Nat.le_of_ble_eq_true rfl⟩ ⟨Nat.le_refl _, Nat.le_refl _⟩ hP hD hS hl.1 (Nat.le_of_ble_eq_true rfl) dX1_nightsOf_1 rfl) hS (fun S2 H locs hw258 hP hD hS => ?_)
  refine lv_aload_n hC.x hC.b dX1_nightsOf_4 rfl (lv_at hl 0 rfl) ?_
  refine lv_iload_n hC.x hC.b dX1_nightsOf_5 rfl (lv_at hl 1 rfl) ?_
  refine go_i (run_V (rest := []) hC (m1_isPerson l hw258) v1_1_isPerson h1_isPerson 0 0 gCl_X1 rfl rfl ⟨rfl, rfl, Nat.le_of_ble_eq_true rfl, Nat.le_of_ble_eq_true rfl⟩ ⟨Nat.le_refl _, Nat.le_refl _⟩ hP hD hS hl.1 (Nat.le_of_ble_eq_true rfl) dX1_nightsOf_6 rfl) hS (fun r3 u H locs hw259 hP hD hS => ?_)
  refine lv_if_eq (tgt := 20) hC.x hC.b dX1_nightsOf_9 (by decide) (fun c4 => ?_) (fun c4 => ?_)
  · have hw260 := hw259.1 c4
    refine lv_aload_n hC.x hC.b dX1_nightsOf_20 rfl (lv_at hl 0 rfl) ?_
    refine lv_iconst (v := 1) hC.x hC.b dX1_nightsOf_21 (by decide) ?_
    refine go_i (run_V (rest := []) hC (m1_no l hw260) v1_1_no h1_no 0 0 gCl_X1 rfl rfl ⟨rfl, rfl, Nat.le_of_ble_eq_true rfl, Nat.le_of_ble_eq_true rfl⟩ ⟨Nat.le_refl _, Nat.le_refl _⟩ hP hD hS hl.1 (Nat.le_of_ble_eq_true rfl) dX1_nightsOf_22 rfl) hS (fun r5 S6 H locs hw261 hP hD hS => ?_)
    exact rt_i hC hw261 hP hD hS dX1_nightsOf_25
  · have hw262 := hw259.2 c4
    refine lv_aload_n hC.x hC.b dX1_nightsOf_12 rfl (lv_at hl 0 rfl) ?_
    refine lv_iload_n hC.x hC.b dX1_nightsOf_13 rfl (lv_at hl 2 rfl) ?_
    refine go_i (run_V (rest := []) hC (m1_isDead l hw262) v1_1_isDead h1_isDead 0 0 gCl_X1 rfl rfl ⟨rfl, rfl, Nat.le_of_ble_eq_true rfl, Nat.le_of_ble_eq_true rfl⟩ ⟨Nat.le_refl _, Nat.le_refl _⟩ hP hD hS hl.1 (Nat.le_of_ble_eq_true rfl) dX1_nightsOf_14 rfl) hS (fun r7 u H locs hw263 hP hD hS => ?_)
    refine lv_if_ne (tgt := 26) hC.x hC.b dX1_nightsOf_17 (by decide) (fun c8 => ?_) (fun c8 => ?_)
    · have hw264 := hw263.1 c8
      refine lv_iconst (v := 0) hC.x hC.b dX1_nightsOf_26 (by decide) ?_
      refine lv_istore_n (lv' := [(3, .int 0), (0, .ref (ad 0)), (1, .int x1), (2, .int x2)]) hC.x hC.b dX1_nightsOf_27 rfl hl (by decide) rfl (fun ls hl => ?_)
      refine lv_iconst (v := 0) hC.x hC.b dX1_nightsOf_28 (by decide) ?_
      refine lv_istore (lv' := [(4, .int 0), (3, .int 0), (0, .ref (ad 0)), (1, .int x1), (2, .int x2)]) hC.x hC.b dX1_nightsOf_29 hl (by decide) rfl (fun ls hl => ?_)
      exact k1_nightsOf_31 hC (0, 0) hw264 H locs ls hP hD hS (lv_sub hl [2, 3, 4, 1, 0] rfl)
    · have hw270 := hw263.2 c8
      refine lv_aload_n hC.x hC.b dX1_nightsOf_20 rfl (lv_at hl 0 rfl) ?_
      refine lv_iconst (v := 1) hC.x hC.b dX1_nightsOf_21 (by decide) ?_
      refine go_i (run_V (rest := []) hC (m1_no l hw270) v1_1_no h1_no 0 0 gCl_X1 rfl rfl ⟨rfl, rfl, Nat.le_of_ble_eq_true rfl, Nat.le_of_ble_eq_true rfl⟩ ⟨Nat.le_refl _, Nat.le_refl _⟩ hP hD hS hl.1 (Nat.le_of_ble_eq_true rfl) dX1_nightsOf_22 rfl) hS (fun r12 S13 H locs hw271 hP hD hS => ?_)
      exact rt_i hC hw271 hP hD hS dX1_nightsOf_25
theorem h1_round : yX1_round.cls = RX1 ∧ yX1_round.cls ≠ "java/lang/invoke/MethodHandle" ∧ yX1_round.cls ≠ "java/lang/invoke/VarHandle" ∧ (parseMethodDescriptor yX1_round.desc).map (fun d => d.parameters.length) = some 1 := by decide +kernel
def w1_round (post : Int32 → CS → Prop) (tw : Option TD) (S : CS) (x1 : Int32) : Prop :=
  (w1_anew (fun S2 => (w1_isDead (fun r3 => ((r3 = 0 → (w1_no (fun r5 S6 => (post r5 S6)) S2 1)) ∧ (¬ r3 = 0 → ((∃ τ, tw = some τ) ∧ (vp_in x1 6 ∧ (x1.toNatClampNeg < tG tw ∧ (vp_in x1 6 ∧ (wg_rounds (fun v10 => (post v10 S2)) tw x1.toNatClampNeg (S2.1.1 (300 + 4 * 0 + 3) x1.toNatClampNeg) (S2.1.1 50 6))))))))) tw S2 x1)) S)
set_option maxHeartbeats 4000000 in
theorem m1_round (l : Launch) {post : Int32 → CS → Prop} {S : CS} {x1 : Int32} (hw : w1_round post tw S x1) : Met l yX1_round (ws_ yX1_round cX1_round 2 (some .int)) ({ frames := 120, cells := 0, slots := 0, locals := 6000 } : Room) (va_Pc [.ref (ad 0), .int x1] (PcG D gCl nwG Z Hb A (wC D ad sc tw S))) (va_Qi post (BW D gCl A (fun u => (wC D ad sc tw u))) A) 0 0 A := by
  refine Met.ofG (by decide) (Nat.le_of_ble_eq_true rfl) ?_
  intro p e s m below meth c ls hC _ hP hD hS hl
  have hC : CX RX1 cX1_round 2 (some .int) D gCl nwG Z Hb A p s m _ meth c := hC
  have hl : lv_has ls 2 [(0, .ref (ad 0)), (1, .int x1)] := hl
  unfold w1_round at hw
  refine lv_aload_n hC.x hC.b dX1_round_0 rfl (lv_at hl 0 rfl) ?_
  refine go_v (run_V (rest := []) hC (m1_anew l hw) v1_1_anew h1_anew 0 0 gCl_X1 rfl rfl ⟨rfl, rfl, Nat.le_of_ble_eq_true rfl, Nat.le_of_ble_eq_true rfl⟩ ⟨Nat.le_refl _, Nat.le_refl _⟩ hP hD hS hl.1 (Nat.le_of_ble_eq_true rfl) dX1_round_1 rfl) hS (fun S2 H locs hw272 hP hD hS => ?_)
  refine lv_aload_n hC.x hC.b dX1_round_4 rfl (lv_at hl 0 rfl) ?_
  refine lv_iload_n hC.x hC.b dX1_round_5 rfl (lv_at hl 1 rfl) ?_
  refine go_i (run_V (rest := []) hC (m1_isDead l hw272) v1_1_isDead h1_isDead 0 0 gCl_X1 rfl rfl ⟨rfl, rfl, Nat.le_of_ble_eq_true rfl, Nat.le_of_ble_eq_true rfl⟩ ⟨Nat.le_refl _, Nat.le_refl _⟩ hP hD hS hl.1 (Nat.le_of_ble_eq_true rfl) dX1_round_6 rfl) hS (fun r3 u H locs hw273 hP hD hS => ?_)
  refine lv_if_eq (tgt := 43) hC.x hC.b dX1_round_9 (by decide) (fun c4 => ?_) (fun c4 => ?_)
  · have hw274 := hw273.1 c4
    refine lv_aload_n hC.x hC.b dX1_round_43 rfl (lv_at hl 0 rfl) ?_
    refine lv_iconst (v := 1) hC.x hC.b dX1_round_44 (by decide) ?_
    refine go_i (run_V (rest := []) hC (m1_no l hw274) v1_1_no h1_no 0 0 gCl_X1 rfl rfl ⟨rfl, rfl, Nat.le_of_ble_eq_true rfl, Nat.le_of_ble_eq_true rfl⟩ ⟨Nat.le_refl _, Nat.le_refl _⟩ hP hD hS hl.1 (Nat.le_of_ble_eq_true rfl) dX1_round_45 rfl) hS (fun r5 S6 H locs hw275 hP hD hS => ?_)
    exact rt_i hC hw275 hP hD hS dX1_round_48
  · have hw276 := hw273.2 c4
    refine lv_aload_n hC.x hC.b dX1_round_12 rfl (lv_at hl 0 rfl) ?_
    refine gO_3 hC hP dX1_round_13 ?_
    obtain ⟨⟨τ, rfl⟩, hw277⟩ := hw276
    refine gX1T_1 hC hP dX1_round_16 ?_
    refine lv_iload_n hC.x hC.b dX1_round_19 rfl (lv_at hl 1 rfl) ?_
    obtain ⟨hin7, hw278⟩ := hw277
    obtain ⟨hg8, hw279⟩ := hw278
    refine lGh hC hP hin7 rfl hg8 dX1_round_20 ?_
    refine lv_aload_n hC.x hC.b dX1_round_21 rfl (lv_at hl 0 rfl) ?_
    refine gO_9 hC hP dX1_round_22 ?_
    refine gX1S_2 (r := 0) (by decide) hC hP dX1_round_25 ?_
    refine lv_iload_n hC.x hC.b dX1_round_28 rfl (lv_at hl 1 rfl) ?_
    obtain ⟨hin9, hw280⟩ := hw279
    refine lS_3 (r := 0) (by decide) hC hP hin9 rfl dX1_round_29 ?_
    refine lv_aload_n hC.x hC.b dX1_round_30 rfl (lv_at hl 0 rfl) ?_
    refine gO_3 hC hP dX1_round_31 ?_
    refine gX1T_6 hC hP dX1_round_34 ?_
    refine go_i (run_rounds (rest := []) (i := x1.toNatClampNeg) hg8 hC hw280 hP hD hS hl.1 (Nat.le_of_ble_eq_true rfl) (Nat.le_of_ble_eq_true rfl) (Nat.le_of_ble_eq_true rfl) dX1_round_37) hS (fun v10 u H locs hw281 hP hD hS => ?_)
    refine lv_goto (tgt := 48) hC.x hC.b dX1_round_40 (by decide) ?_
    exact rt_i hC hw281 hP hD hS dX1_round_48
theorem h1_bestNight : yX1_bestNight.cls = RX1 ∧ yX1_bestNight.cls ≠ "java/lang/invoke/MethodHandle" ∧ yX1_bestNight.cls ≠ "java/lang/invoke/VarHandle" ∧ (parseMethodDescriptor yX1_bestNight.desc).map (fun d => d.parameters.length) = some 0 := by decide +kernel
def f1_bestNight_21 (post : Int32 → CS → Prop) (tw : Option TD) (S : CS) (K21 : (Int32 × Int32) → Prop) (x1 : Int32) (x2 : Int32) : Prop :=
  ((99 < x2 → (post x1 S)) ∧ (¬ 99 < x2 → (w4_rightOnes (fun r7 => (w1_ones (fun r8 => (w4_rightOnes (fun r9 => (w1_ones (fun r10 => ((r8 ≤ r10 → (K21 (x1, (x2 + 1)))) ∧ (¬ r8 ≤ r10 → (K21 (x2, (x2 + 1)))))) r9)) tw S 0 x1)) r7)) tw S 0 x2)))
set_option maxHeartbeats 4000000 in
theorem k1_bestNight_21 {post : Int32 → CS → Prop} {S : CS} (hC : CX RX1 cX1_bestNight 3 (some .int) D gCl nwG Z Hb A p s m args meth c) : ∀ z : (Int32 × Int32), lp (fun (K : (Int32 × Int32) → Prop) (z : (Int32 × Int32)) => f1_bestNight_21 post (some τ) S K z.1 z.2) z → ∀ (H : Heap) (locs : List Loc) (ls : Array Slot), va_P D gCl (wC D ad sc (some τ) S) H → va_D A (wC D ad sc (some τ) S) → va_S A s.heap H locs → lv_has ls 3 [(0, .ref (ad 0)), (1, .int z.1), (2, .int z.2)] → W p l e ({ frames := 124, cells := 0, slots := 0, locals := 6093 } : Room) s m args below meth c H locs 0 0 (MQ below (va_Qi post (BW D gCl A (fun u => (wC D ad sc (some τ) u))) A) args s 0 0 A) (F0 m 21 ls []) := by
  refine lp_ind ?_
  rintro K21 ⟨x1, x2⟩ hK21 hw H locs ls hP hD hS hl
  have hw : f1_bestNight_21 post (some τ) S K21 x1 x2 := hw
  unfold f1_bestNight_21 at hw
  have hP : va_P D gCl (wC D ad sc (some τ) S) H := hP
  have hD : va_D A (wC D ad sc (some τ) S) := hD
  have hl : lv_has ls 3 [(0, .ref (ad 0)), (1, .int x1), (2, .int x2)] := hl
  refine lv_iload_n hC.x hC.b dX1_bestNight_21 rfl (lv_at hl 2 rfl) ?_
  refine lv_bipush (v := 99) hC.x hC.b dX1_bestNight_22 (by decide) ?_
  refine lv_icmp_gt (tgt := 60) hC.x hC.b dX1_bestNight_24 (by decide) (fun c6 => ?_) (fun c6 => ?_)
  · have hw286 := hw.1 c6
    refine lv_iload_n hC.x hC.b dX1_bestNight_60 rfl (lv_at hl 1 rfl) ?_
    exact rt_i hC hw286 hP hD hS dX1_bestNight_61
  · have hw287 := hw.2 c6
    refine lv_aload_n hC.x hC.b dX1_bestNight_27 rfl (lv_at hl 0 rfl) ?_
    refine gO_9 hC hP dX1_bestNight_28 ?_
    refine lv_iload_n hC.x hC.b dX1_bestNight_31 rfl (lv_at hl 2 rfl) ?_
    refine go_i (run_V (rest := []) hC (m4_rightOnes l (by decide) hw287) v1_4_rightOnes h4_rightOnes (17 + 4 * 0) 3 gCl_X4 (wC_so (by decide)) rfl ⟨rfl, rfl, Nat.le_of_ble_eq_true rfl, Nat.le_of_ble_eq_true rfl⟩ ⟨Nat.le_refl _, Nat.le_refl _⟩ hP hD hS hl.1 (Nat.le_of_ble_eq_true rfl) dX1_bestNight_32 rfl) hS (fun r7 u H locs hw288 hP hD hS => ?_)
    refine go_i (run_S (rest := []) hC (m1_ones l hw288) v1_1_ones h1_ones ⟨rfl, rfl, Nat.le_of_ble_eq_true rfl, Nat.le_of_ble_eq_true rfl⟩ ⟨Nat.le_refl _, Nat.le_refl _⟩ hP hD hS hl.1 (Nat.le_of_ble_eq_true rfl) dX1_bestNight_35 rfl) hS (fun r8 u H locs hw289 hP hD hS => ?_)
    refine lv_aload_n hC.x hC.b dX1_bestNight_38 rfl (lv_at hl 0 rfl) ?_
    refine gO_9 hC hP dX1_bestNight_39 ?_
    refine lv_iload_n hC.x hC.b dX1_bestNight_42 rfl (lv_at hl 1 rfl) ?_
    refine go_i (run_V (rest := [.int r8]) hC (m4_rightOnes l (by decide) hw289) v1_4_rightOnes h4_rightOnes (17 + 4 * 0) 3 gCl_X4 (wC_so (by decide)) rfl ⟨rfl, rfl, Nat.le_of_ble_eq_true rfl, Nat.le_of_ble_eq_true rfl⟩ ⟨Nat.le_refl _, Nat.le_refl _⟩ hP hD hS hl.1 (Nat.le_of_ble_eq_true rfl) dX1_bestNight_43 rfl) hS (fun r9 u H locs hw290 hP hD hS => ?_)
    refine go_i (run_S (rest := [.int r8]) hC (m1_ones l hw290) v1_1_ones h1_ones ⟨rfl, rfl, Nat.le_of_ble_eq_true rfl, Nat.le_of_ble_eq_true rfl⟩ ⟨Nat.le_refl _, Nat.le_refl _⟩ hP hD hS hl.1 (Nat.le_of_ble_eq_true rfl) dX1_bestNight_46 rfl) hS (fun r10 u H locs hw291 hP hD hS => ?_)
    refine lv_icmp_le (tgt := 54) hC.x hC.b dX1_bestNight_49 (by decide) (fun c11 => ?_) (fun c11 => ?_)
    · have hw292 := hw291.1 c11
      refine lv_iinc (v := (x2 + 1)) (lv' := [(2, .int (x2 + 1)), (0, .ref (ad 0)), (1, .int x1)]) hC.x hC.b dX1_bestNight_54 hl (k := 2) rfl rfl (by decide) rfl (fun ls hl => ?_)
      refine lv_goto (tgt := 21) hC.x hC.b dX1_bestNight_57 (by decide) ?_
      exact hK21 (x1, (x2 + 1)) hw292 H locs ls hP hD hS (lv_sub hl [1, 2, 0] rfl)
    · have hw293 := hw291.2 c11
      refine lv_iload_n hC.x hC.b dX1_bestNight_52 rfl (lv_at hl 2 rfl) ?_
      refine lv_istore_n (lv' := [(1, .int x2), (0, .ref (ad 0)), (2, .int x2)]) hC.x hC.b dX1_bestNight_53 rfl hl (by decide) rfl (fun ls hl => ?_)
      refine lv_iinc (v := (x2 + 1)) (lv' := [(2, .int (x2 + 1)), (1, .int x2), (0, .ref (ad 0))]) hC.x hC.b dX1_bestNight_54 hl (k := 2) rfl rfl (by decide) rfl (fun ls hl => ?_)
      refine lv_goto (tgt := 21) hC.x hC.b dX1_bestNight_57 (by decide) ?_
      exact hK21 (x2, (x2 + 1)) hw293 H locs ls hP hD hS (lv_sub hl [2, 1, 0] rfl)
def w1_bestNight (post : Int32 → CS → Prop) (tw : Option TD) (S : CS) : Prop :=
  (w1_anew (fun S2 => ((tw = none → (w1_no (fun r4 S5 => (post r4 S5)) S2 1)) ∧ ((∃ τ, tw = some τ) → (lp (fun (K : (Int32 × Int32) → Prop) (z : (Int32 × Int32)) => f1_bestNight_21 post tw S2 K z.1 z.2) (0, 1))))) S)
set_option maxHeartbeats 4000000 in
theorem m1_bestNight (l : Launch) {post : Int32 → CS → Prop} {S : CS} (hw : w1_bestNight post tw S) : Met l yX1_bestNight (ws_ yX1_bestNight cX1_bestNight 3 (some .int)) ({ frames := 124, cells := 0, slots := 0, locals := 6093 } : Room) (va_Pc [.ref (ad 0)] (PcG D gCl nwG Z Hb A (wC D ad sc tw S))) (va_Qi post (BW D gCl A (fun u => (wC D ad sc tw u))) A) 0 0 A := by
  refine Met.ofG (by decide) (Nat.le_of_ble_eq_true rfl) ?_
  intro p e s m below meth c ls hC _ hP hD hS hl
  have hC : CX RX1 cX1_bestNight 3 (some .int) D gCl nwG Z Hb A p s m _ meth c := hC
  have hl : lv_has ls 3 [(0, .ref (ad 0))] := hl
  unfold w1_bestNight at hw
  refine lv_aload_n hC.x hC.b dX1_bestNight_0 rfl (lv_at hl 0 rfl) ?_
  refine go_v (run_V (rest := []) hC (m1_anew l hw) v1_1_anew h1_anew 0 0 gCl_X1 rfl rfl ⟨rfl, rfl, Nat.le_of_ble_eq_true rfl, Nat.le_of_ble_eq_true rfl⟩ ⟨Nat.le_refl _, Nat.le_refl _⟩ hP hD hS hl.1 (Nat.le_of_ble_eq_true rfl) dX1_bestNight_1 rfl) hS (fun S2 H locs hw282 hP hD hS => ?_)
  refine lv_aload_n hC.x hC.b dX1_bestNight_4 rfl (lv_at hl 0 rfl) ?_
  refine gO_3 hC hP dX1_bestNight_5 ?_
  rcases va_o2 tw with c3 | ⟨τ, c3⟩
  · have hw283 := hw282.1 c3
    subst c3
    refine lv_ifnonnullN hC.x hC.b dX1_bestNight_8 ?_
    refine lv_aload_n hC.x hC.b dX1_bestNight_11 rfl (lv_at hl 0 rfl) ?_
    refine lv_iconst (v := 1) hC.x hC.b dX1_bestNight_12 (by decide) ?_
    refine go_i (run_V (rest := []) hC (m1_no l hw283) v1_1_no h1_no 0 0 gCl_X1 rfl rfl ⟨rfl, rfl, Nat.le_of_ble_eq_true rfl, Nat.le_of_ble_eq_true rfl⟩ ⟨Nat.le_refl _, Nat.le_refl _⟩ hP hD hS hl.1 (Nat.le_of_ble_eq_true rfl) dX1_bestNight_13 rfl) hS (fun r4 S5 H locs hw284 hP hD hS => ?_)
    exact rt_i hC hw284 hP hD hS dX1_bestNight_16
  · have hw285 := hw282.2 ⟨τ, c3⟩
    subst c3
    refine lv_ifnonnull (tgt := 17) hC.x hC.b dX1_bestNight_8 (by decide) ?_
    refine lv_iconst (v := 0) hC.x hC.b dX1_bestNight_17 (by decide) ?_
    refine lv_istore_n (lv' := [(1, .int 0), (0, .ref (ad 0))]) hC.x hC.b dX1_bestNight_18 rfl hl (by decide) rfl (fun ls hl => ?_)
    refine lv_iconst (v := 1) hC.x hC.b dX1_bestNight_19 (by decide) ?_
    refine lv_istore_n (lv' := [(2, .int 1), (1, .int 0), (0, .ref (ad 0))]) hC.x hC.b dX1_bestNight_20 rfl hl (by decide) rfl (fun ls hl => ?_)
    exact k1_bestNight_21 hC (0, 1) hw285 H locs ls hP hD hS (lv_sub hl [2, 1, 0] rfl)
theorem h1_perfect : yX1_perfect.cls = RX1 ∧ yX1_perfect.cls ≠ "java/lang/invoke/MethodHandle" ∧ yX1_perfect.cls ≠ "java/lang/invoke/VarHandle" ∧ (parseMethodDescriptor yX1_perfect.desc).map (fun d => d.parameters.length) = some 0 := by decide +kernel
def f1_perfect_21 (post : Int32 → CS → Prop) (tw : Option TD) (S : CS) (K21 : (Int32 × Int32) → Prop) (x1 : Int32) (x2 : Int32) : Prop :=
  ((99 < x2 → (post x1 S)) ∧ (¬ 99 < x2 → (w4_rightOnes (fun r7 => (w1_ones (fun r8 => ((¬ r8 = (S.1.1 50 9) → (K21 ((x1 + 0), (x2 + 1)))) ∧ (r8 = (S.1.1 50 9) → (K21 ((x1 + 1), (x2 + 1)))))) r7)) tw S 0 x2)))
set_option maxHeartbeats 4000000 in
theorem k1_perfect_21 {post : Int32 → CS → Prop} {S : CS} (hC : CX RX1 cX1_perfect 3 (some .int) D gCl nwG Z Hb A p s m args meth c) : ∀ z : (Int32 × Int32), lp (fun (K : (Int32 × Int32) → Prop) (z : (Int32 × Int32)) => f1_perfect_21 post (some τ) S K z.1 z.2) z → ∀ (H : Heap) (locs : List Loc) (ls : Array Slot), va_P D gCl (wC D ad sc (some τ) S) H → va_D A (wC D ad sc (some τ) S) → va_S A s.heap H locs → lv_has ls 3 [(0, .ref (ad 0)), (1, .int z.1), (2, .int z.2)] → W p l e ({ frames := 124, cells := 0, slots := 0, locals := 6093 } : Room) s m args below meth c H locs 0 0 (MQ below (va_Qi post (BW D gCl A (fun u => (wC D ad sc (some τ) u))) A) args s 0 0 A) (F0 m 21 ls []) := by
  refine lp_ind ?_
  rintro K21 ⟨x1, x2⟩ hK21 hw H locs ls hP hD hS hl
  have hw : f1_perfect_21 post (some τ) S K21 x1 x2 := hw
  unfold f1_perfect_21 at hw
  have hP : va_P D gCl (wC D ad sc (some τ) S) H := hP
  have hD : va_D A (wC D ad sc (some τ) S) := hD
  have hl : lv_has ls 3 [(0, .ref (ad 0)), (1, .int x1), (2, .int x2)] := hl
  refine lv_iload_n hC.x hC.b dX1_perfect_21 rfl (lv_at hl 2 rfl) ?_
  refine lv_bipush (v := 99) hC.x hC.b dX1_perfect_22 (by decide) ?_
  refine lv_icmp_gt (tgt := 62) hC.x hC.b dX1_perfect_24 (by decide) (fun c6 => ?_) (fun c6 => ?_)
  · have hw298 := hw.1 c6
    refine lv_iload_n hC.x hC.b dX1_perfect_62 rfl (lv_at hl 1 rfl) ?_
    exact rt_i hC hw298 hP hD hS dX1_perfect_63
  · have hw299 := hw.2 c6
    refine lv_iload_n hC.x hC.b dX1_perfect_27 rfl (lv_at hl 1 rfl) ?_
    refine lv_aload_n hC.x hC.b dX1_perfect_28 rfl (lv_at hl 0 rfl) ?_
    refine gO_9 hC hP dX1_perfect_29 ?_
    refine lv_iload_n hC.x hC.b dX1_perfect_32 rfl (lv_at hl 2 rfl) ?_
    refine go_i (run_V (rest := [.int x1]) hC (m4_rightOnes l (by decide) hw299) v1_4_rightOnes h4_rightOnes (17 + 4 * 0) 3 gCl_X4 (wC_so (by decide)) rfl ⟨rfl, rfl, Nat.le_of_ble_eq_true rfl, Nat.le_of_ble_eq_true rfl⟩ ⟨Nat.le_refl _, Nat.le_refl _⟩ hP hD hS hl.1 (Nat.le_of_ble_eq_true rfl) dX1_perfect_33 rfl) hS (fun r7 u H locs hw300 hP hD hS => ?_)
    refine go_i (run_S (rest := [.int x1]) hC (m1_ones l hw300) v1_1_ones h1_ones ⟨rfl, rfl, Nat.le_of_ble_eq_true rfl, Nat.le_of_ble_eq_true rfl⟩ ⟨Nat.le_refl _, Nat.le_refl _⟩ hP hD hS hl.1 (Nat.le_of_ble_eq_true rfl) dX1_perfect_36 rfl) hS (fun r8 u H locs hw301 hP hD hS => ?_)
    refine lv_aload_n hC.x hC.b dX1_perfect_39 rfl (lv_at hl 0 rfl) ?_
    refine gO_3 hC hP dX1_perfect_40 ?_
    refine gX1T_9 hC hP dX1_perfect_43 ?_
    refine lv_icmp_ne (tgt := 53) hC.x hC.b dX1_perfect_46 (by decide) (fun c9 => ?_) (fun c9 => ?_)
    · have hw302 := hw301.1 c9
      refine lv_iconst (v := 0) hC.x hC.b dX1_perfect_53 (by decide) ?_
      refine lv_iadd hC.x hC.b dX1_perfect_54 ?_
      refine lv_istore_n (lv' := [(1, .int (x1 + 0)), (0, .ref (ad 0)), (2, .int x2)]) hC.x hC.b dX1_perfect_55 rfl hl (by decide) rfl (fun ls hl => ?_)
      refine lv_iinc (v := (x2 + 1)) (lv' := [(2, .int (x2 + 1)), (1, .int (x1 + 0)), (0, .ref (ad 0))]) hC.x hC.b dX1_perfect_56 hl (k := 2) rfl rfl (by decide) rfl (fun ls hl => ?_)
      refine lv_goto (tgt := 21) hC.x hC.b dX1_perfect_59 (by decide) ?_
      exact hK21 ((x1 + 0), (x2 + 1)) hw302 H locs ls hP hD hS (lv_sub hl [2, 1, 0] rfl)
    · have hw303 := hw301.2 c9
      refine lv_iconst (v := 1) hC.x hC.b dX1_perfect_49 (by decide) ?_
      refine lv_goto (tgt := 54) hC.x hC.b dX1_perfect_50 (by decide) ?_
      refine lv_iadd hC.x hC.b dX1_perfect_54 ?_
      refine lv_istore_n (lv' := [(1, .int (x1 + 1)), (0, .ref (ad 0)), (2, .int x2)]) hC.x hC.b dX1_perfect_55 rfl hl (by decide) rfl (fun ls hl => ?_)
      refine lv_iinc (v := (x2 + 1)) (lv' := [(2, .int (x2 + 1)), (1, .int (x1 + 1)), (0, .ref (ad 0))]) hC.x hC.b dX1_perfect_56 hl (k := 2) rfl rfl (by decide) rfl (fun ls hl => ?_)
      refine lv_goto (tgt := 21) hC.x hC.b dX1_perfect_59 (by decide) ?_
      exact hK21 ((x1 + 1), (x2 + 1)) hw303 H locs ls hP hD hS (lv_sub hl [2, 1, 0] rfl)
def w1_perfect (post : Int32 → CS → Prop) (tw : Option TD) (S : CS) : Prop :=
  (w1_anew (fun S2 => ((tw = none → (w1_no (fun r4 S5 => (post r4 S5)) S2 1)) ∧ ((∃ τ, tw = some τ) → (lp (fun (K : (Int32 × Int32) → Prop) (z : (Int32 × Int32)) => f1_perfect_21 post tw S2 K z.1 z.2) (0, 0))))) S)
set_option maxHeartbeats 4000000 in
theorem m1_perfect (l : Launch) {post : Int32 → CS → Prop} {S : CS} (hw : w1_perfect post tw S) : Met l yX1_perfect (ws_ yX1_perfect cX1_perfect 3 (some .int)) ({ frames := 124, cells := 0, slots := 0, locals := 6093 } : Room) (va_Pc [.ref (ad 0)] (PcG D gCl nwG Z Hb A (wC D ad sc tw S))) (va_Qi post (BW D gCl A (fun u => (wC D ad sc tw u))) A) 0 0 A := by
  refine Met.ofG (by decide) (Nat.le_of_ble_eq_true rfl) ?_
  intro p e s m below meth c ls hC _ hP hD hS hl
  have hC : CX RX1 cX1_perfect 3 (some .int) D gCl nwG Z Hb A p s m _ meth c := hC
  have hl : lv_has ls 3 [(0, .ref (ad 0))] := hl
  unfold w1_perfect at hw
  refine lv_aload_n hC.x hC.b dX1_perfect_0 rfl (lv_at hl 0 rfl) ?_
  refine go_v (run_V (rest := []) hC (m1_anew l hw) v1_1_anew h1_anew 0 0 gCl_X1 rfl rfl ⟨rfl, rfl, Nat.le_of_ble_eq_true rfl, Nat.le_of_ble_eq_true rfl⟩ ⟨Nat.le_refl _, Nat.le_refl _⟩ hP hD hS hl.1 (Nat.le_of_ble_eq_true rfl) dX1_perfect_1 rfl) hS (fun S2 H locs hw294 hP hD hS => ?_)
  refine lv_aload_n hC.x hC.b dX1_perfect_4 rfl (lv_at hl 0 rfl) ?_
  refine gO_3 hC hP dX1_perfect_5 ?_
  rcases va_o2 tw with c3 | ⟨τ, c3⟩
  · have hw295 := hw294.1 c3
    subst c3
    refine lv_ifnonnullN hC.x hC.b dX1_perfect_8 ?_
    refine lv_aload_n hC.x hC.b dX1_perfect_11 rfl (lv_at hl 0 rfl) ?_
    refine lv_iconst (v := 1) hC.x hC.b dX1_perfect_12 (by decide) ?_
    refine go_i (run_V (rest := []) hC (m1_no l hw295) v1_1_no h1_no 0 0 gCl_X1 rfl rfl ⟨rfl, rfl, Nat.le_of_ble_eq_true rfl, Nat.le_of_ble_eq_true rfl⟩ ⟨Nat.le_refl _, Nat.le_refl _⟩ hP hD hS hl.1 (Nat.le_of_ble_eq_true rfl) dX1_perfect_13 rfl) hS (fun r4 S5 H locs hw296 hP hD hS => ?_)
    exact rt_i hC hw296 hP hD hS dX1_perfect_16
  · have hw297 := hw294.2 ⟨τ, c3⟩
    subst c3
    refine lv_ifnonnull (tgt := 17) hC.x hC.b dX1_perfect_8 (by decide) ?_
    refine lv_iconst (v := 0) hC.x hC.b dX1_perfect_17 (by decide) ?_
    refine lv_istore_n (lv' := [(1, .int 0), (0, .ref (ad 0))]) hC.x hC.b dX1_perfect_18 rfl hl (by decide) rfl (fun ls hl => ?_)
    refine lv_iconst (v := 0) hC.x hC.b dX1_perfect_19 (by decide) ?_
    refine lv_istore_n (lv' := [(2, .int 0), (1, .int 0), (0, .ref (ad 0))]) hC.x hC.b dX1_perfect_20 rfl hl (by decide) rfl (fun ls hl => ?_)
    exact k1_perfect_21 hC (0, 0) hw297 H locs ls hP hD hS (lv_sub hl [2, 1, 0] rfl)
end CWc1
