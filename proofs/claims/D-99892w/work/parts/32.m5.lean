set_option maxRecDepth 100000
section MWm5
variable {p : Program} {l : Launch} {w0 : va_W} {e : Env} {s : State} {m : MethodId} {args : Array Value} {below : List Frame} {meth : Method} {c : Code} {D : va_G} {Z : State → Prop} {Hb : Heap} {A : Nat → Prop} {ad : Nat → Nat} {rd tw : Option (Nat → Nat)} {rdv : Option Nat} {t rt : Nat → Nat}
theorem h15_find : yX15_find.cls = RX15 ∧ yX15_find.cls ≠ "java/lang/invoke/MethodHandle" ∧ yX15_find.cls ≠ "java/lang/invoke/VarHandle" ∧ (parseMethodDescriptor yX15_find.desc).map (fun d => d.parameters.length) = some 1 := by decide +kernel
def f15_find_2 (post : Int32 → Prop) (S : MS) (x1 : Int64) (K2 : Int32 → Prop) (x3 : Int32) : Prop :=
  (((S.1 40 7) ≤ x3 → (post (-1))) ∧ (¬ (S.1 40 7) ≤ x3 → (vp_in x3 12 ∧ ((¬ (lg_cmp (S.2 51 x3.toNatClampNeg) x1) = 0 → (K2 (x3 + 1))) ∧ ((lg_cmp (S.2 51 x3.toNatClampNeg) x1) = 0 → (post x3))))))
set_option maxHeartbeats 4000000 in
theorem k15_find_2 {post : Int32 → Prop} {S : MS} {x1 : Int64} (hC : CX RX15 cX15_find 4 (some .int) D gCl nwG Z Hb A p s m args meth c) : ∀ z : Int32, lp (fun (K : Int32 → Prop) (z : Int32) => f15_find_2 post S x1 K z) z → ∀ (H : Heap) (locs : List Loc) (ls : Array Slot), va_P D gCl (wM D ad (some rt) (some (rt 0)) tw S) H → va_D A (wM D ad (some rt) (some (rt 0)) tw S) → va_S A s.heap H locs → lv_has ls 4 [(0, .ref (rt 0)), (1, .long x1), (3, .int z)] → W p l e ({ frames := 0, cells := 0, slots := 0, locals := 0 } : Room) s m args below meth c H locs 0 0 (MQ below (va_Qi (fun r (_ : Unit) => post r) (BW D gCl A (fun _ => (wM D ad (some rt) (some (rt 0)) tw S))) A) args s 0 0 A) (F0 m 2 ls []) := by
  refine lp_ind ?_
  rintro K2 x3 hK2 hw H locs ls hP hD hS hl
  have hw : f15_find_2 post S x1 K2 x3 := hw
  unfold f15_find_2 at hw
  have hP : va_P D gCl (wM D ad (some rt) (some (rt 0)) tw S) H := hP
  have hD : va_D A (wM D ad (some rt) (some (rt 0)) tw S) := hD
  have hl : lv_has ls 4 [(0, .ref (rt 0)), (1, .long x1), (3, .int x3)] := hl
  refine lv_iload_n hC.x hC.b dX15_find_2 rfl (lv_at hl 2 rfl) ?_
  refine lv_aload_n hC.x hC.b dX15_find_3 rfl (lv_at hl 0 rfl) ?_
  refine gQ_7 hC hP dX15_find_4 ?_
  refine lv_icmp_ge (tgt := 29) hC.x hC.b dX15_find_7 (by decide) (fun c1 => ?_) (fun c1 => ?_)
  · have hw41 := hw.1 c1
    refine lv_iconst (v := (-1)) hC.x hC.b dX15_find_29 (by decide) ?_
    exact rt_i (u := ()) hC hw41 hP hD hS dX15_find_30
  · have hw42 := hw.2 c1
    refine lv_aload_n hC.x hC.b dX15_find_10 rfl (lv_at hl 0 rfl) ?_
    refine gQ_18 hC hP dX15_find_11 ?_
    refine lv_iload_n hC.x hC.b dX15_find_14 rfl (lv_at hl 2 rfl) ?_
    obtain ⟨hin, hw43⟩ := hw42
    refine lQ_11 hC hP hin rfl dX15_find_15 ?_
    refine lv_lload_n hC.x hC.b dX15_find_16 rfl (lv_at hl 1 rfl) ?_
    refine W.lcmp hC.x hC.b dX15_find_17 ?_
    refine lv_if_ne (tgt := 23) hC.x hC.b dX15_find_18 (by decide) (fun c2 => ?_) (fun c2 => ?_)
    · have hw44 := hw43.1 c2
      refine lv_iinc (v := (x3 + 1)) (lv' := [(3, .int (x3 + 1)), (0, .ref (rt 0)), (1, .long x1)]) hC.x hC.b dX15_find_23 hl (k := 2) rfl rfl (by decide) rfl (fun ls hl => ?_)
      refine lv_goto (tgt := 2) hC.x hC.b dX15_find_26 (by decide) ?_
      exact hK2 (x3 + 1) hw44 H locs ls hP hD hS (lv_sub hl [1, 2, 0] rfl)
    · have hw45 := hw43.2 c2
      refine lv_iload_n hC.x hC.b dX15_find_21 rfl (lv_at hl 2 rfl) ?_
      exact rt_i (u := ()) hC hw45 hP hD hS dX15_find_22
def w15_find (post : Int32 → Prop) (S : MS) (x1 : Int64) : Prop :=
  (lp (fun (K : Int32 → Prop) (z : Int32) => f15_find_2 post S x1 K z) 0)
set_option maxHeartbeats 4000000 in
theorem m15_find (l : Launch) {post : Int32 → Prop} {S : MS} {x1 : Int64} (hw : w15_find post S x1) : Met l yX15_find (ws_ yX15_find cX15_find 4 (some .int)) ({ frames := 0, cells := 0, slots := 0, locals := 0 } : Room) (va_Pc [.ref (rt 0), .long x1] (PcG D gCl nwG Z Hb A (wM D ad (some rt) (some (rt 0)) tw S))) (va_Qi (fun r (_ : Unit) => post r) (BW D gCl A (fun _ => (wM D ad (some rt) (some (rt 0)) tw S))) A) 0 0 A := by
  refine Met.ofG (by decide) (Nat.le_of_ble_eq_true rfl) ?_
  intro p e s m below meth c ls hC _ hP hD hS hl
  have hC : CX RX15 cX15_find 4 (some .int) D gCl nwG Z Hb A p s m _ meth c := hC
  have hl : lv_has ls 4 [(0, .ref (rt 0)), (1, .long x1)] := hl
  unfold w15_find at hw
  refine lv_iconst (v := 0) hC.x hC.b dX15_find_0 (by decide) ?_
  refine lv_istore_n (lv' := [(3, .int 0), (0, .ref (rt 0)), (1, .long x1)]) hC.x hC.b dX15_find_1 rfl hl (by decide) rfl (fun ls hl => ?_)
  exact k15_find_2 hC 0 hw s.heap [] ls hP hD hS (lv_sub hl [1, 2, 0] rfl)
theorem h15_isTaken : yX15_isTaken.cls = RX15 ∧ yX15_isTaken.cls ≠ "java/lang/invoke/MethodHandle" ∧ yX15_isTaken.cls ≠ "java/lang/invoke/VarHandle" ∧ (parseMethodDescriptor yX15_isTaken.desc).map (fun d => d.parameters.length) = some 1 := by decide +kernel
def f15_isTaken_2 (post : Int32 → Prop) (S : MS) (x1 : Int32) (K2 : Int32 → Prop) (x2 : Int32) : Prop :=
  (((S.1 40 2) ≤ x2 → (post 0)) ∧ (¬ (S.1 40 2) ≤ x2 → (vp_in x2 6 ∧ ((¬ (S.1 41 x2.toNatClampNeg) = x1 → (K2 (x2 + 1))) ∧ ((S.1 41 x2.toNatClampNeg) = x1 → (post 1))))))
set_option maxHeartbeats 4000000 in
theorem k15_isTaken_2 {post : Int32 → Prop} {S : MS} {x1 : Int32} (hC : CX RX15 cX15_isTaken 3 (some .boolean) D gCl nwG Z Hb A p s m args meth c) : ∀ z : Int32, lp (fun (K : Int32 → Prop) (z : Int32) => f15_isTaken_2 post S x1 K z) z → ∀ (H : Heap) (locs : List Loc) (ls : Array Slot), va_P D gCl (wM D ad (some rt) (some (rt 0)) tw S) H → va_D A (wM D ad (some rt) (some (rt 0)) tw S) → va_S A s.heap H locs → lv_has ls 3 [(0, .ref (rt 0)), (1, .int x1), (2, .int z)] → W p l e ({ frames := 0, cells := 0, slots := 0, locals := 0 } : Room) s m args below meth c H locs 0 0 (MQ below (va_Qi (fun r (_ : Unit) => post r) (BW D gCl A (fun _ => (wM D ad (some rt) (some (rt 0)) tw S))) A) args s 0 0 A) (F0 m 2 ls []) := by
  refine lp_ind ?_
  rintro K2 x2 hK2 hw H locs ls hP hD hS hl
  have hw : f15_isTaken_2 post S x1 K2 x2 := hw
  unfold f15_isTaken_2 at hw
  have hP : va_P D gCl (wM D ad (some rt) (some (rt 0)) tw S) H := hP
  have hD : va_D A (wM D ad (some rt) (some (rt 0)) tw S) := hD
  have hl : lv_has ls 3 [(0, .ref (rt 0)), (1, .int x1), (2, .int x2)] := hl
  refine lv_iload_n hC.x hC.b dX15_isTaken_2 rfl (lv_at hl 2 rfl) ?_
  refine lv_aload_n hC.x hC.b dX15_isTaken_3 rfl (lv_at hl 0 rfl) ?_
  refine gQ_2 hC hP dX15_isTaken_4 ?_
  refine lv_icmp_ge (tgt := 28) hC.x hC.b dX15_isTaken_7 (by decide) (fun c1 => ?_) (fun c1 => ?_)
  · have hw46 := hw.1 c1
    refine lv_iconst (v := 0) hC.x hC.b dX15_isTaken_28 (by decide) ?_
    exact rt_z (u := ()) hC (Or.inl rfl) hw46 hP hD hS dX15_isTaken_29
  · have hw47 := hw.2 c1
    refine lv_aload_n hC.x hC.b dX15_isTaken_10 rfl (lv_at hl 0 rfl) ?_
    refine gQ_8 hC hP dX15_isTaken_11 ?_
    refine lv_iload_n hC.x hC.b dX15_isTaken_14 rfl (lv_at hl 2 rfl) ?_
    obtain ⟨hin, hw48⟩ := hw47
    refine lQ_1 hC hP hin rfl dX15_isTaken_15 ?_
    refine lv_iload_n hC.x hC.b dX15_isTaken_16 rfl (lv_at hl 1 rfl) ?_
    refine lv_icmp_ne (tgt := 22) hC.x hC.b dX15_isTaken_17 (by decide) (fun c2 => ?_) (fun c2 => ?_)
    · have hw49 := hw48.1 c2
      refine lv_iinc (v := (x2 + 1)) (lv' := [(2, .int (x2 + 1)), (0, .ref (rt 0)), (1, .int x1)]) hC.x hC.b dX15_isTaken_22 hl (k := 2) rfl rfl (by decide) rfl (fun ls hl => ?_)
      refine lv_goto (tgt := 2) hC.x hC.b dX15_isTaken_25 (by decide) ?_
      exact hK2 (x2 + 1) hw49 H locs ls hP hD hS (lv_sub hl [1, 2, 0] rfl)
    · have hw50 := hw48.2 c2
      refine lv_iconst (v := 1) hC.x hC.b dX15_isTaken_20 (by decide) ?_
      exact rt_z (u := ()) hC (Or.inr rfl) hw50 hP hD hS dX15_isTaken_21
def w15_isTaken (post : Int32 → Prop) (S : MS) (x1 : Int32) : Prop :=
  (lp (fun (K : Int32 → Prop) (z : Int32) => f15_isTaken_2 post S x1 K z) 0)
set_option maxHeartbeats 4000000 in
theorem m15_isTaken (l : Launch) {post : Int32 → Prop} {S : MS} {x1 : Int32} (hw : w15_isTaken post S x1) : Met l yX15_isTaken (ws_ yX15_isTaken cX15_isTaken 3 (some .boolean)) ({ frames := 0, cells := 0, slots := 0, locals := 0 } : Room) (va_Pc [.ref (rt 0), .int x1] (PcG D gCl nwG Z Hb A (wM D ad (some rt) (some (rt 0)) tw S))) (va_Qi (fun r (_ : Unit) => post r) (BW D gCl A (fun _ => (wM D ad (some rt) (some (rt 0)) tw S))) A) 0 0 A := by
  refine Met.ofG (by decide) (Nat.le_of_ble_eq_true rfl) ?_
  intro p e s m below meth c ls hC _ hP hD hS hl
  have hC : CX RX15 cX15_isTaken 3 (some .boolean) D gCl nwG Z Hb A p s m _ meth c := hC
  have hl : lv_has ls 3 [(0, .ref (rt 0)), (1, .int x1)] := hl
  unfold w15_isTaken at hw
  refine lv_iconst (v := 0) hC.x hC.b dX15_isTaken_0 (by decide) ?_
  refine lv_istore_n (lv' := [(2, .int 0), (0, .ref (rt 0)), (1, .int x1)]) hC.x hC.b dX15_isTaken_1 rfl hl (by decide) rfl (fun ls hl => ?_)
  exact k15_isTaken_2 hC 0 hw s.heap [] ls hP hD hS (lv_sub hl [1, 2, 0] rfl)
theorem h15_isUnsure : yX15_isUnsure.cls = RX15 ∧ yX15_isUnsure.cls ≠ "java/lang/invoke/MethodHandle" ∧ yX15_isUnsure.cls ≠ "java/lang/invoke/VarHandle" ∧ (parseMethodDescriptor yX15_isUnsure.desc).map (fun d => d.parameters.length) = some 1 := by decide +kernel
def f15_isUnsure_2 (post : Int32 → Prop) (S : MS) (x1 : Int32) (K2 : Int32 → Prop) (x2 : Int32) : Prop :=
  (((S.1 40 5) ≤ x2 → (post 0)) ∧ (¬ (S.1 40 5) ≤ x2 → (vp_in x2 4 ∧ ((¬ (S.1 46 x2.toNatClampNeg) = x1 → (K2 (x2 + 1))) ∧ ((S.1 46 x2.toNatClampNeg) = x1 → (post 1))))))
set_option maxHeartbeats 4000000 in
theorem k15_isUnsure_2 {post : Int32 → Prop} {S : MS} {x1 : Int32} (hC : CX RX15 cX15_isUnsure 3 (some .boolean) D gCl nwG Z Hb A p s m args meth c) : ∀ z : Int32, lp (fun (K : Int32 → Prop) (z : Int32) => f15_isUnsure_2 post S x1 K z) z → ∀ (H : Heap) (locs : List Loc) (ls : Array Slot), va_P D gCl (wM D ad (some rt) (some (rt 0)) tw S) H → va_D A (wM D ad (some rt) (some (rt 0)) tw S) → va_S A s.heap H locs → lv_has ls 3 [(0, .ref (rt 0)), (1, .int x1), (2, .int z)] → W p l e ({ frames := 0, cells := 0, slots := 0, locals := 0 } : Room) s m args below meth c H locs 0 0 (MQ below (va_Qi (fun r (_ : Unit) => post r) (BW D gCl A (fun _ => (wM D ad (some rt) (some (rt 0)) tw S))) A) args s 0 0 A) (F0 m 2 ls []) := by
  refine lp_ind ?_
  rintro K2 x2 hK2 hw H locs ls hP hD hS hl
  have hw : f15_isUnsure_2 post S x1 K2 x2 := hw
  unfold f15_isUnsure_2 at hw
  have hP : va_P D gCl (wM D ad (some rt) (some (rt 0)) tw S) H := hP
  have hD : va_D A (wM D ad (some rt) (some (rt 0)) tw S) := hD
  have hl : lv_has ls 3 [(0, .ref (rt 0)), (1, .int x1), (2, .int x2)] := hl
  refine lv_iload_n hC.x hC.b dX15_isUnsure_2 rfl (lv_at hl 2 rfl) ?_
  refine lv_aload_n hC.x hC.b dX15_isUnsure_3 rfl (lv_at hl 0 rfl) ?_
  refine gQ_5 hC hP dX15_isUnsure_4 ?_
  refine lv_icmp_ge (tgt := 28) hC.x hC.b dX15_isUnsure_7 (by decide) (fun c1 => ?_) (fun c1 => ?_)
  · have hw51 := hw.1 c1
    refine lv_iconst (v := 0) hC.x hC.b dX15_isUnsure_28 (by decide) ?_
    exact rt_z (u := ()) hC (Or.inl rfl) hw51 hP hD hS dX15_isUnsure_29
  · have hw52 := hw.2 c1
    refine lv_aload_n hC.x hC.b dX15_isUnsure_10 rfl (lv_at hl 0 rfl) ?_
    refine gQ_13 hC hP dX15_isUnsure_11 ?_
    refine lv_iload_n hC.x hC.b dX15_isUnsure_14 rfl (lv_at hl 2 rfl) ?_
    obtain ⟨hin, hw53⟩ := hw52
    refine lQ_6 hC hP hin rfl dX15_isUnsure_15 ?_
    refine lv_iload_n hC.x hC.b dX15_isUnsure_16 rfl (lv_at hl 1 rfl) ?_
    refine lv_icmp_ne (tgt := 22) hC.x hC.b dX15_isUnsure_17 (by decide) (fun c2 => ?_) (fun c2 => ?_)
    · have hw54 := hw53.1 c2
      refine lv_iinc (v := (x2 + 1)) (lv' := [(2, .int (x2 + 1)), (0, .ref (rt 0)), (1, .int x1)]) hC.x hC.b dX15_isUnsure_22 hl (k := 2) rfl rfl (by decide) rfl (fun ls hl => ?_)
      refine lv_goto (tgt := 2) hC.x hC.b dX15_isUnsure_25 (by decide) ?_
      exact hK2 (x2 + 1) hw54 H locs ls hP hD hS (lv_sub hl [1, 2, 0] rfl)
    · have hw55 := hw53.2 c2
      refine lv_iconst (v := 1) hC.x hC.b dX15_isUnsure_20 (by decide) ?_
      exact rt_z (u := ()) hC (Or.inr rfl) hw55 hP hD hS dX15_isUnsure_21
def w15_isUnsure (post : Int32 → Prop) (S : MS) (x1 : Int32) : Prop :=
  (lp (fun (K : Int32 → Prop) (z : Int32) => f15_isUnsure_2 post S x1 K z) 0)
set_option maxHeartbeats 4000000 in
theorem m15_isUnsure (l : Launch) {post : Int32 → Prop} {S : MS} {x1 : Int32} (hw : w15_isUnsure post S x1) : Met l yX15_isUnsure (ws_ yX15_isUnsure cX15_isUnsure 3 (some .boolean)) ({ frames := 0, cells := 0, slots := 0, locals := 0 } : Room) (va_Pc [.ref (rt 0), .int x1] (PcG D gCl nwG Z Hb A (wM D ad (some rt) (some (rt 0)) tw S))) (va_Qi (fun r (_ : Unit) => post r) (BW D gCl A (fun _ => (wM D ad (some rt) (some (rt 0)) tw S))) A) 0 0 A := by
  refine Met.ofG (by decide) (Nat.le_of_ble_eq_true rfl) ?_
  intro p e s m below meth c ls hC _ hP hD hS hl
  have hC : CX RX15 cX15_isUnsure 3 (some .boolean) D gCl nwG Z Hb A p s m _ meth c := hC
  have hl : lv_has ls 3 [(0, .ref (rt 0)), (1, .int x1)] := hl
  unfold w15_isUnsure at hw
  refine lv_iconst (v := 0) hC.x hC.b dX15_isUnsure_0 (by decide) ?_
  refine lv_istore_n (lv' := [(2, .int 0), (0, .ref (rt 0)), (1, .int x1)]) hC.x hC.b dX15_isUnsure_1 rfl hl (by decide) rfl (fun ls hl => ?_)
  exact k15_isUnsure_2 hC 0 hw s.heap [] ls hP hD hS (lv_sub hl [1, 2, 0] rfl)
theorem h15_isHeard : yX15_isHeard.cls = RX15 ∧ yX15_isHeard.cls ≠ "java/lang/invoke/MethodHandle" ∧ yX15_isHeard.cls ≠ "java/lang/invoke/VarHandle" ∧ (parseMethodDescriptor yX15_isHeard.desc).map (fun d => d.parameters.length) = some 2 := by decide +kernel
def f15_isHeard_2 (post : Int32 → Prop) (S : MS) (x1 : Int32) (x2 : Int32) (K2 : Int32 → Prop) (x3 : Int32) : Prop :=
  (((S.1 40 6) ≤ x3 → (post 0)) ∧ (¬ (S.1 40 6) ≤ x3 → (vp_in x3 8 ∧ ((¬ (S.1 49 x3.toNatClampNeg) = x1 → (K2 (x3 + 1))) ∧ ((S.1 49 x3.toNatClampNeg) = x1 → (vp_in x3 8 ∧ ((¬ (S.1 50 x3.toNatClampNeg) = x2 → (K2 (x3 + 1))) ∧ ((S.1 50 x3.toNatClampNeg) = x2 → (post 1)))))))))
set_option maxHeartbeats 4000000 in
theorem k15_isHeard_2 {post : Int32 → Prop} {S : MS} {x1 : Int32} {x2 : Int32} (hC : CX RX15 cX15_isHeard 4 (some .boolean) D gCl nwG Z Hb A p s m args meth c) : ∀ z : Int32, lp (fun (K : Int32 → Prop) (z : Int32) => f15_isHeard_2 post S x1 x2 K z) z → ∀ (H : Heap) (locs : List Loc) (ls : Array Slot), va_P D gCl (wM D ad (some rt) (some (rt 0)) tw S) H → va_D A (wM D ad (some rt) (some (rt 0)) tw S) → va_S A s.heap H locs → lv_has ls 4 [(0, .ref (rt 0)), (1, .int x1), (2, .int x2), (3, .int z)] → W p l e ({ frames := 0, cells := 0, slots := 0, locals := 0 } : Room) s m args below meth c H locs 0 0 (MQ below (va_Qi (fun r (_ : Unit) => post r) (BW D gCl A (fun _ => (wM D ad (some rt) (some (rt 0)) tw S))) A) args s 0 0 A) (F0 m 2 ls []) := by
  refine lp_ind ?_
  rintro K2 x3 hK2 hw H locs ls hP hD hS hl
  have hw : f15_isHeard_2 post S x1 x2 K2 x3 := hw
  unfold f15_isHeard_2 at hw
  have hP : va_P D gCl (wM D ad (some rt) (some (rt 0)) tw S) H := hP
  have hD : va_D A (wM D ad (some rt) (some (rt 0)) tw S) := hD
  have hl : lv_has ls 4 [(0, .ref (rt 0)), (1, .int x1), (2, .int x2), (3, .int x3)] := hl
  refine lv_iload_n hC.x hC.b dX15_isHeard_2 rfl (lv_at hl 3 rfl) ?_
  refine lv_aload_n hC.x hC.b dX15_isHeard_3 rfl (lv_at hl 0 rfl) ?_
  refine gQ_6 hC hP dX15_isHeard_4 ?_
  refine lv_icmp_ge (tgt := 38) hC.x hC.b dX15_isHeard_7 (by decide) (fun c1 => ?_) (fun c1 => ?_)
  · have hw56 := hw.1 c1
    refine lv_iconst (v := 0) hC.x hC.b dX15_isHeard_38 (by decide) ?_
    exact rt_z (u := ()) hC (Or.inl rfl) hw56 hP hD hS dX15_isHeard_39
  · have hw57 := hw.2 c1
    refine lv_aload_n hC.x hC.b dX15_isHeard_10 rfl (lv_at hl 0 rfl) ?_
    refine gQ_16 hC hP dX15_isHeard_11 ?_
    refine lv_iload_n hC.x hC.b dX15_isHeard_14 rfl (lv_at hl 3 rfl) ?_
    obtain ⟨hin, hw58⟩ := hw57
    refine lQ_9 hC hP hin rfl dX15_isHeard_15 ?_
    refine lv_iload_n hC.x hC.b dX15_isHeard_16 rfl (lv_at hl 1 rfl) ?_
    refine lv_icmp_ne (tgt := 32) hC.x hC.b dX15_isHeard_17 (by decide) (fun c2 => ?_) (fun c2 => ?_)
    · have hw59 := hw58.1 c2
      refine lv_iinc (v := (x3 + 1)) (lv' := [(3, .int (x3 + 1)), (0, .ref (rt 0)), (1, .int x1), (2, .int x2)]) hC.x hC.b dX15_isHeard_32 hl (k := 3) rfl rfl (by decide) rfl (fun ls hl => ?_)
      refine lv_goto (tgt := 2) hC.x hC.b dX15_isHeard_35 (by decide) ?_
      exact hK2 (x3 + 1) hw59 H locs ls hP hD hS (lv_sub hl [1, 2, 3, 0] rfl)
    · have hw60 := hw58.2 c2
      refine lv_aload_n hC.x hC.b dX15_isHeard_20 rfl (lv_at hl 0 rfl) ?_
      refine gQ_17 hC hP dX15_isHeard_21 ?_
      refine lv_iload_n hC.x hC.b dX15_isHeard_24 rfl (lv_at hl 3 rfl) ?_
      obtain ⟨hin, hw61⟩ := hw60
      refine lQ_10 hC hP hin rfl dX15_isHeard_25 ?_
      refine lv_iload_n hC.x hC.b dX15_isHeard_26 rfl (lv_at hl 2 rfl) ?_
      refine lv_icmp_ne (tgt := 32) hC.x hC.b dX15_isHeard_27 (by decide) (fun c3 => ?_) (fun c3 => ?_)
      · have hw62 := hw61.1 c3
        refine lv_iinc (v := (x3 + 1)) (lv' := [(3, .int (x3 + 1)), (0, .ref (rt 0)), (1, .int x1), (2, .int x2)]) hC.x hC.b dX15_isHeard_32 hl (k := 3) rfl rfl (by decide) rfl (fun ls hl => ?_)
        refine lv_goto (tgt := 2) hC.x hC.b dX15_isHeard_35 (by decide) ?_
        exact hK2 (x3 + 1) hw62 H locs ls hP hD hS (lv_sub hl [1, 2, 3, 0] rfl)
      · have hw63 := hw61.2 c3
        refine lv_iconst (v := 1) hC.x hC.b dX15_isHeard_30 (by decide) ?_
        exact rt_z (u := ()) hC (Or.inr rfl) hw63 hP hD hS dX15_isHeard_31
def w15_isHeard (post : Int32 → Prop) (S : MS) (x1 : Int32) (x2 : Int32) : Prop :=
  (lp (fun (K : Int32 → Prop) (z : Int32) => f15_isHeard_2 post S x1 x2 K z) 0)
set_option maxHeartbeats 4000000 in
theorem m15_isHeard (l : Launch) {post : Int32 → Prop} {S : MS} {x1 : Int32} {x2 : Int32} (hw : w15_isHeard post S x1 x2) : Met l yX15_isHeard (ws_ yX15_isHeard cX15_isHeard 4 (some .boolean)) ({ frames := 0, cells := 0, slots := 0, locals := 0 } : Room) (va_Pc [.ref (rt 0), .int x1, .int x2] (PcG D gCl nwG Z Hb A (wM D ad (some rt) (some (rt 0)) tw S))) (va_Qi (fun r (_ : Unit) => post r) (BW D gCl A (fun _ => (wM D ad (some rt) (some (rt 0)) tw S))) A) 0 0 A := by
  refine Met.ofG (by decide) (Nat.le_of_ble_eq_true rfl) ?_
  intro p e s m below meth c ls hC _ hP hD hS hl
  have hC : CX RX15 cX15_isHeard 4 (some .boolean) D gCl nwG Z Hb A p s m _ meth c := hC
  have hl : lv_has ls 4 [(0, .ref (rt 0)), (1, .int x1), (2, .int x2)] := hl
  unfold w15_isHeard at hw
  refine lv_iconst (v := 0) hC.x hC.b dX15_isHeard_0 (by decide) ?_
  refine lv_istore_n (lv' := [(3, .int 0), (0, .ref (rt 0)), (1, .int x1), (2, .int x2)]) hC.x hC.b dX15_isHeard_1 rfl hl (by decide) rfl (fun ls hl => ?_)
  exact k15_isHeard_2 hC 0 hw s.heap [] ls hP hD hS (lv_sub hl [1, 2, 3, 0] rfl)
theorem vX6_J3_length : GoodIn lw_all (wsV RX6 69 RJ3 yJ3_length (ws_ yJ3_length cJ3_length 1 (some .int))) := lw_V q1630 q1631 q1632 q128 q1633
theorem vX6_J3_charAt : GoodIn lw_all (wsV RX6 77 RJ3 yJ3_charAt (ws_ yJ3_charAt cJ3_charAt 2 (some .char))) := lw_V q1638 q1639 q1640 q128 q1641
theorem h6_packed : yX6_packed.cls ≠ "java/lang/invoke/MethodHandle" ∧ yX6_packed.cls ≠ "java/lang/invoke/VarHandle" ∧ (parseMethodDescriptor yX6_packed.desc).map (fun d => d.parameters.length) = some 1 := by decide +kernel
def f6_packed_4 (post : Int64 → Prop) (B0 : List Int32) (K4 : (Int64 × Int32) → Prop) (x1 : Int64) (x3 : Int32) : Prop :=
  (wJ3_length (fun r1 => ((r1 ≤ x3 → (post x1)) ∧ (¬ r1 ≤ x3 → (wJ3_charAt (fun r3 => (K4 (((32 * x1) + (((r3 - 97) + 1).toInt64)), (x3 + 1)))) B0 x3)))) B0)
set_option maxHeartbeats 4000000 in
theorem k6_packed_4 {post : Int64 → Prop} {x0 : Nat} {B0 : List Int32} (hC : CX RX6 cX6_packed 4 (some .long) D gCl nwG Z Hb A p s m args meth c) {adK adV : Nat → Nat} (hZ : ∀ U, Z U → zS adK adV A Hb U) (h_x0 : CStr A Hb Z x0 B0) : ∀ z : (Int64 × Int32), lp (fun (K : (Int64 × Int32) → Prop) (z : (Int64 × Int32)) => f6_packed_4 post B0 K z.1 z.2) z → ∀ (H : Heap) (locs : List Loc) (ls : Array Slot), va_P D gCl w0 H → va_D A w0 → va_S A s.heap H locs → lv_has ls 4 [(0, .ref x0), (1, .long z.1), (3, .int z.2)] → W p l e ({ frames := 4, cells := 0, slots := 0, locals := 85 } : Room) s m args below meth c H locs 0 0 (MQ below (va_Ql (fun r (_ : Unit) => post r) (BW D gCl A (fun _ => w0)) A) args s 0 0 A) (F0 m 4 ls []) := by
  refine lp_ind ?_
  rintro K4 ⟨x1, x3⟩ hK4 hw H locs ls hP hD hS hl
  have hw : f6_packed_4 post B0 K4 x1 x3 := hw
  unfold f6_packed_4 at hw
  have hP : va_P D gCl w0 H := hP
  have hD : va_D A w0 := hD
  have hl : lv_has ls 4 [(0, .ref x0), (1, .long x1), (3, .int x3)] := hl
  refine lv_iload_n hC.x hC.b dX6_packed_4 rfl (lv_at hl 2 rfl) ?_
  refine lv_aload_n hC.x hC.b dX6_packed_5 rfl (lv_at hl 0 rfl) ?_
  refine go_i (run_Vc (rest := [.int x3]) hC (mJ3_length l hZ (Or.inr h_x0) hw) vX6_J3_length hJ3_length (s_cell hC hP hS (Or.inr h_x0)) ⟨rfl, rfl, Nat.le_of_ble_eq_true rfl, Nat.le_of_ble_eq_true rfl⟩ ⟨Nat.le_refl _, Nat.le_refl _⟩ hP hD hS hl.1 (Nat.le_of_ble_eq_true rfl) dX6_packed_6 rfl) hS (fun r1 u H locs hw1428 hP hD hS => ?_)
  refine lv_icmp_ge (tgt := 36) hC.x hC.b dX6_packed_9 (by decide) (fun c2 => ?_) (fun c2 => ?_)
  · have hw1429 := hw1428.1 c2
    refine lv_lload_n hC.x hC.b dX6_packed_36 rfl (lv_at hl 1 rfl) ?_
    exact rt_l (u := ()) hC hw1429 hP hD hS dX6_packed_37
  · have hw1430 := hw1428.2 c2
    refine lv_ldc2 (v := 32) hC.x hC.b hC.ow (hC.ts _ q1610) dX6_packed_12 ?_
    refine lv_lload_n hC.x hC.b dX6_packed_15 rfl (lv_at hl 1 rfl) ?_
    refine lv_lmul hC.x hC.b dX6_packed_16 ?_
    refine lv_aload_n hC.x hC.b dX6_packed_17 rfl (lv_at hl 0 rfl) ?_
    refine lv_iload_n hC.x hC.b dX6_packed_18 rfl (lv_at hl 2 rfl) ?_
    refine go_i (run_Vc (rest := [.long (32 * x1)]) hC (mJ3_charAt l hZ (Or.inr h_x0) hw1430) vX6_J3_charAt hJ3_charAt (s_cell hC hP hS (Or.inr h_x0)) ⟨rfl, rfl, Nat.le_of_ble_eq_true rfl, Nat.le_of_ble_eq_true rfl⟩ ⟨Nat.le_refl _, Nat.le_refl _⟩ hP hD hS hl.1 (Nat.le_of_ble_eq_true rfl) dX6_packed_19 rfl) hS (fun r3 u H locs hw1431 hP hD hS => ?_)
    refine lv_bipush (v := 97) hC.x hC.b dX6_packed_22 (by decide) ?_
    refine lv_isub hC.x hC.b dX6_packed_24 ?_
    refine lv_iconst (v := 1) hC.x hC.b dX6_packed_25 (by decide) ?_
    refine lv_iadd hC.x hC.b dX6_packed_26 ?_
    refine lv_i2l (v := (((r3 - 97) + 1).toInt64)) hC.x hC.b dX6_packed_27 rfl ?_
    refine lv_ladd hC.x hC.b dX6_packed_28 ?_
    refine lv_lstore_n (lv' := [(1, .long ((32 * x1) + (((r3 - 97) + 1).toInt64))), (0, .ref x0), (3, .int x3)]) hC.x hC.b dX6_packed_29 rfl hl (by decide) rfl (fun ls hl => ?_)
    refine lv_iinc (v := (x3 + 1)) (lv' := [(3, .int (x3 + 1)), (1, .long ((32 * x1) + (((r3 - 97) + 1).toInt64))), (0, .ref x0)]) hC.x hC.b dX6_packed_30 hl (k := 2) rfl rfl (by decide) rfl (fun ls hl => ?_)
    refine lv_goto (tgt := 4) hC.x hC.b dX6_packed_33 (by decide) ?_
    exact hK4 (((32 * x1) + (((r3 - 97) + 1).toInt64)), (x3 + 1)) hw1431 H locs ls hP hD hS (lv_sub hl [2, 1, 0] rfl)
def w6_packed (post : Int64 → Prop) (B0 : List Int32) : Prop :=
  (lp (fun (K : (Int64 × Int32) → Prop) (z : (Int64 × Int32)) => f6_packed_4 post B0 K z.1 z.2) (0, 0))
set_option maxHeartbeats 4000000 in
theorem m6_packed (l : Launch) {post : Int64 → Prop} {x0 : Nat} {B0 : List Int32} {adK adV : Nat → Nat} (hZ : ∀ U, Z U → zS adK adV A Hb U) (h_x0 : CStr A Hb Z x0 B0) (hw : w6_packed post B0) : Met l yX6_packed (ws_ yX6_packed cX6_packed 4 (some .long)) ({ frames := 4, cells := 0, slots := 0, locals := 85 } : Room) (va_Pc [.ref x0] (PcG D gCl nwG Z Hb A w0)) (va_Ql (fun r (_ : Unit) => post r) (BW D gCl A (fun _ => w0)) A) 0 0 A := by
  refine Met.ofG (by decide) (Nat.le_of_ble_eq_true rfl) ?_
  intro p e s m below meth c ls hC _ hP hD hS hl
  have hC : CX RX6 cX6_packed 4 (some .long) D gCl nwG Z Hb A p s m _ meth c := hC
  have hl : lv_has ls 4 [(0, .ref x0)] := hl
  unfold w6_packed at hw
  refine lv_lconst (v := 0) hC.x hC.b dX6_packed_0 rfl ?_
  refine lv_lstore_n (lv' := [(1, .long 0), (0, .ref x0)]) hC.x hC.b dX6_packed_1 rfl hl (by decide) rfl (fun ls hl => ?_)
  refine lv_iconst (v := 0) hC.x hC.b dX6_packed_2 (by decide) ?_
  refine lv_istore_n (lv' := [(3, .int 0), (1, .long 0), (0, .ref x0)]) hC.x hC.b dX6_packed_3 rfl hl (by decide) rfl (fun ls hl => ?_)
  exact k6_packed_4 hC hZ h_x0 (0, 0) hw s.heap [] ls hP hD hS (lv_sub hl [2, 1, 0] rfl)
theorem v6_6_packed : GoodIn lw_all (va_wsS RX6 113 yX6_packed (ws_ yX6_packed cX6_packed 4 (some .long))) := lw_S q1627 q1628 q126 q1629
theorem h6_isWord : yX6_isWord.cls = RX6 ∧ yX6_isWord.cls ≠ "java/lang/invoke/MethodHandle" ∧ yX6_isWord.cls ≠ "java/lang/invoke/VarHandle" ∧ (parseMethodDescriptor yX6_isWord.desc).map (fun d => d.parameters.length) = some 1 := by decide +kernel
def w6_isWord (post : Int32 → Prop) (S : MS) (B1 : List Int32) : Prop :=
  ((¬ (S.1 0 9) = 2 → (post 0)) ∧ ((S.1 0 9) = 2 → (w6_packed (fun r2 => ((¬ (lg_cmp (S.2 0 14) r2) = 0 → (post 0)) ∧ ((lg_cmp (S.2 0 14) r2) = 0 → (post 1)))) B1)))
set_option maxHeartbeats 4000000 in
theorem m6_isWord (l : Launch) {post : Int32 → Prop} {S : MS} {x1 : Nat} {B1 : List Int32} {adK adV : Nat → Nat} (hZ : ∀ U, Z U → zS adK adV A Hb U) (h_x1 : CStr A Hb Z x1 B1) (hw : w6_isWord post S B1) : Met l yX6_isWord (ws_ yX6_isWord cX6_isWord 2 (some .boolean)) ({ frames := 5, cells := 0, slots := 0, locals := 108 } : Room) (va_Pc [.ref (ad 0), .ref x1] (PcG D gCl nwG Z Hb A (wM D ad rd rdv tw S))) (va_Qi (fun r (_ : Unit) => post r) (BW D gCl A (fun _ => (wM D ad rd rdv tw S))) A) 0 0 A := by
  refine Met.ofG (by decide) (Nat.le_of_ble_eq_true rfl) ?_
  intro p e s m below meth c ls hC _ hP hD hS hl
  have hC : CX RX6 cX6_isWord 2 (some .boolean) D gCl nwG Z Hb A p s m _ meth c := hC
  have hl : lv_has ls 2 [(0, .ref (ad 0)), (1, .ref x1)] := hl
  unfold w6_isWord at hw
  refine lv_aload_n hC.x hC.b dX6_isWord_0 rfl (lv_at hl 0 rfl) ?_
  refine gM_9 hC hP dX6_isWord_1 ?_
  refine lv_iconst (v := 2) hC.x hC.b dX6_isWord_4 (by decide) ?_
  refine lv_icmp_ne (tgt := 24) hC.x hC.b dX6_isWord_5 (by decide) (fun c1 => ?_) (fun c1 => ?_)
  · have hw1432 := hw.1 c1
    refine lv_iconst (v := 0) hC.x hC.b dX6_isWord_24 (by decide) ?_
    exact rt_z (u := ()) hC (Or.inl rfl) hw1432 hP hD hS dX6_isWord_25
  · have hw1433 := hw.2 c1
    refine lv_aload_n hC.x hC.b dX6_isWord_8 rfl (lv_at hl 0 rfl) ?_
    refine gM_14 hC hP dX6_isWord_9 ?_
    refine lv_aload_n hC.x hC.b dX6_isWord_12 rfl (lv_at hl 1 rfl) ?_
    refine go_l (run_S (rest := [.long (S.2 0 14)]) hC (m6_packed l hZ h_x1 hw1433) v6_6_packed h6_packed ⟨rfl, rfl, Nat.le_of_ble_eq_true rfl, Nat.le_of_ble_eq_true rfl⟩ ⟨Nat.le_refl _, Nat.le_refl _⟩ hP hD hS hl.1 (Nat.le_of_ble_eq_true rfl) dX6_isWord_13 rfl) hS (fun r2 u H locs hw1434 hP hD hS => ?_)
    refine W.lcmp hC.x hC.b dX6_isWord_16 ?_
    refine lv_if_ne (tgt := 24) hC.x hC.b dX6_isWord_17 (by decide) (fun c3 => ?_) (fun c3 => ?_)
    · have hw1435 := hw1434.1 c3
      refine lv_iconst (v := 0) hC.x hC.b dX6_isWord_24 (by decide) ?_
      exact rt_z (u := ()) hC (Or.inl rfl) hw1435 hP hD hS dX6_isWord_25
    · have hw1436 := hw1434.2 c3
      refine lv_iconst (v := 1) hC.x hC.b dX6_isWord_20 (by decide) ?_
      refine lv_goto (tgt := 25) hC.x hC.b dX6_isWord_21 (by decide) ?_
      exact rt_z (u := ()) hC (Or.inr rfl) hw1436 hP hD hS dX6_isWord_25
theorem v6_6_isWord : GoodIn lw_all (wsV RX6 120 RX6 yX6_isWord (ws_ yX6_isWord cX6_isWord 2 (some .boolean))) := lw_V q1623 q1625 qs54 q126 q1626
theorem h6_needs : yX6_needs.cls = RX6 ∧ yX6_needs.cls ≠ "java/lang/invoke/MethodHandle" ∧ yX6_needs.cls ≠ "java/lang/invoke/VarHandle" ∧ (parseMethodDescriptor yX6_needs.desc).map (fun d => d.parameters.length) = some 1 := by decide +kernel
def w6_needs (post : MS → Prop) (S : MS) (B1 : List Int32) : Prop :=
  (w6_isWord (fun r1 => ((¬ r1 = 0 → (w6_goesOn (fun S4 => (post S4)) S)) ∧ (r1 = 0 → (w6_flaw (fun S6 => (w6_goesOn (fun S8 => (post S8)) S6)) S 1)))) S B1)
set_option maxHeartbeats 4000000 in
theorem m6_needs (l : Launch) {post : MS → Prop} {S : MS} {x1 : Nat} {B1 : List Int32} {adK adV : Nat → Nat} (hZ : ∀ U, Z U → zS adK adV A Hb U) (h_x1 : CStr A Hb Z x1 B1) (hw : w6_needs post S B1) : Met l yX6_needs (ws_ yX6_needs cX6_needs 2 none) ({ frames := 6, cells := 0, slots := 0, locals := 129 } : Room) (va_Pc [.ref (ad 0), .ref x1] (PcG D gCl nwG Z Hb A (wM D ad rd rdv tw S))) (va_Qv post (BW D gCl A (fun u => (wM D ad rd rdv tw u))) A) 0 0 A := by
  refine Met.ofG (by decide) (Nat.le_of_ble_eq_true rfl) ?_
  intro p e s m below meth c ls hC _ hP hD hS hl
  have hC : CX RX6 cX6_needs 2 none D gCl nwG Z Hb A p s m _ meth c := hC
  have hl : lv_has ls 2 [(0, .ref (ad 0)), (1, .ref x1)] := hl
  unfold w6_needs at hw
  refine lv_aload_n hC.x hC.b dX6_needs_0 rfl (lv_at hl 0 rfl) ?_
  refine lv_aload_n hC.x hC.b dX6_needs_1 rfl (lv_at hl 1 rfl) ?_
  refine go_i (run_V (rest := []) hC (m6_isWord l hZ h_x1 hw) v6_6_isWord h6_isWord 0 5 gCl_X6 rfl rfl ⟨rfl, rfl, Nat.le_of_ble_eq_true rfl, Nat.le_of_ble_eq_true rfl⟩ ⟨Nat.le_refl _, Nat.le_refl _⟩ hP hD hS hl.1 (Nat.le_of_ble_eq_true rfl) dX6_needs_2 rfl) hS (fun r1 u H locs hw1437 hP hD hS => ?_)
  refine lv_if_ne (tgt := 13) hC.x hC.b dX6_needs_5 (by decide) (fun c2 => ?_) (fun c2 => ?_)
  · have hw1438 := hw1437.1 c2
    refine lv_aload_n hC.x hC.b dX6_needs_13 rfl (lv_at hl 0 rfl) ?_
    refine go_v (run_V (rest := []) hC (m6_goesOn l hw1438) v6_6_goesOn h6_goesOn 0 5 gCl_X6 rfl rfl ⟨rfl, rfl, Nat.le_of_ble_eq_true rfl, Nat.le_of_ble_eq_true rfl⟩ ⟨Nat.le_refl _, Nat.le_refl _⟩ hP hD hS hl.1 (Nat.le_of_ble_eq_true rfl) dX6_needs_14 rfl) hS (fun S4 H locs hw1439 hP hD hS => ?_)
    exact rt_v hC hw1439 hP hD hS dX6_needs_17
  · have hw1440 := hw1437.2 c2
    refine lv_aload_n hC.x hC.b dX6_needs_8 rfl (lv_at hl 0 rfl) ?_
    refine lv_iconst (v := 1) hC.x hC.b dX6_needs_9 (by decide) ?_
    refine go_v (run_V (rest := []) hC (m6_flaw l hw1440) v6_6_flaw h6_flaw 0 5 gCl_X6 rfl rfl ⟨rfl, rfl, Nat.le_of_ble_eq_true rfl, Nat.le_of_ble_eq_true rfl⟩ ⟨Nat.le_refl _, Nat.le_refl _⟩ hP hD hS hl.1 (Nat.le_of_ble_eq_true rfl) dX6_needs_10 rfl) hS (fun S6 H locs hw1441 hP hD hS => ?_)
    refine lv_aload_n hC.x hC.b dX6_needs_13 rfl (lv_at hl 0 rfl) ?_
    refine go_v (run_V (rest := []) hC (m6_goesOn l hw1441) v6_6_goesOn h6_goesOn 0 5 gCl_X6 rfl rfl ⟨rfl, rfl, Nat.le_of_ble_eq_true rfl, Nat.le_of_ble_eq_true rfl⟩ ⟨Nat.le_refl _, Nat.le_refl _⟩ hP hD hS hl.1 (Nat.le_of_ble_eq_true rfl) dX6_needs_14 rfl) hS (fun S8 H locs hw1442 hP hD hS => ?_)
    exact rt_v hC hw1442 hP hD hS dX6_needs_17
theorem v6_6_needs : GoodIn lw_all (wsV RX6 136 RX6 yX6_needs (ws_ yX6_needs cX6_needs 2 none)) := lw_V q1671 q1673 qs58 q126 q1674
theorem v6_6_readWhole : GoodIn lw_all (wsV RX6 140 RX6 yX6_readWhole (ws_ yX6_readWhole cX6_readWhole 4 (some .int))) := lw_V q1675 q1677 qs59 q126 q1678
theorem h6_readPart : yX6_readPart.cls = RX6 ∧ yX6_readPart.cls ≠ "java/lang/invoke/MethodHandle" ∧ yX6_readPart.cls ≠ "java/lang/invoke/VarHandle" ∧ (parseMethodDescriptor yX6_readPart.desc).map (fun d => d.parameters.length) = some 3 := by decide +kernel
def w6_readPart (post : Int32 → MS → Prop) (S : MS) (B1 : List Int32) (x2 : Int32) (x3 : Int32) : Prop :=
  (w6_needs (fun S2 => (w6_readWhole (fun r3 S4 => (post r3 S4)) S2 x2 x3)) S B1)
set_option maxHeartbeats 4000000 in
theorem m6_readPart (l : Launch) {post : Int32 → MS → Prop} {S : MS} {x1 : Nat} {B1 : List Int32} {x2 : Int32} {x3 : Int32} {adK adV : Nat → Nat} (hZ : ∀ U, Z U → zS adK adV A Hb U) (h_x1 : CStr A Hb Z x1 B1) (hw : w6_readPart post S B1 x2 x3) : Met l yX6_readPart (ws_ yX6_readPart cX6_readPart 4 (some .int)) ({ frames := 7, cells := 0, slots := 0, locals := 150 } : Room) (va_Pc [.ref (ad 0), .ref x1, .int x2, .int x3] (PcG D gCl nwG Z Hb A (wM D ad rd rdv tw S))) (va_Qi post (BW D gCl A (fun u => (wM D ad rd rdv tw u))) A) 0 0 A := by
  refine Met.ofG (by decide) (Nat.le_of_ble_eq_true rfl) ?_
  intro p e s m below meth c ls hC _ hP hD hS hl
  have hC : CX RX6 cX6_readPart 4 (some .int) D gCl nwG Z Hb A p s m _ meth c := hC
  have hl : lv_has ls 4 [(0, .ref (ad 0)), (1, .ref x1), (2, .int x2), (3, .int x3)] := hl
  unfold w6_readPart at hw
  refine lv_aload_n hC.x hC.b dX6_readPart_0 rfl (lv_at hl 0 rfl) ?_
  refine lv_aload_n hC.x hC.b dX6_readPart_1 rfl (lv_at hl 1 rfl) ?_
  refine go_v (run_V (rest := []) hC (m6_needs l hZ h_x1 hw) v6_6_needs h6_needs 0 5 gCl_X6 rfl rfl ⟨rfl, rfl, Nat.le_of_ble_eq_true rfl, Nat.le_of_ble_eq_true rfl⟩ ⟨Nat.le_refl _, Nat.le_refl _⟩ hP hD hS hl.1 (Nat.le_of_ble_eq_true rfl) dX6_readPart_2 rfl) hS (fun S2 H locs hw1443 hP hD hS => ?_)
  refine lv_aload_n hC.x hC.b dX6_readPart_5 rfl (lv_at hl 0 rfl) ?_
  refine lv_iload_n hC.x hC.b dX6_readPart_6 rfl (lv_at hl 2 rfl) ?_
  refine lv_iload_n hC.x hC.b dX6_readPart_7 rfl (lv_at hl 3 rfl) ?_
  refine go_i (run_V (rest := []) hC (m6_readWhole l hw1443) v6_6_readWhole h6_readWhole 0 5 gCl_X6 rfl rfl ⟨rfl, rfl, Nat.le_of_ble_eq_true rfl, Nat.le_of_ble_eq_true rfl⟩ ⟨Nat.le_refl _, Nat.le_refl _⟩ hP hD hS hl.1 (Nat.le_of_ble_eq_true rfl) dX6_readPart_8 rfl) hS (fun r3 S4 H locs hw1444 hP hD hS => ?_)
  exact rt_i hC hw1444 hP hD hS dX6_readPart_11
theorem h6_isName : yX6_isName.cls = RX6 ∧ yX6_isName.cls ≠ "java/lang/invoke/MethodHandle" ∧ yX6_isName.cls ≠ "java/lang/invoke/VarHandle" ∧ (parseMethodDescriptor yX6_isName.desc).map (fun d => d.parameters.length) = some 0 := by decide +kernel
def w6_isName (post : Int32 → Prop) (S : MS) : Prop :=
  ((¬ (S.1 0 9) = 2 → (post 0)) ∧ ((S.1 0 9) = 2 → (w6_isWord (fun r2 => ((¬ r2 = 0 → (post 0)) ∧ (r2 = 0 → (w6_isWord (fun r4 => ((¬ r4 = 0 → (post 0)) ∧ (r4 = 0 → (w6_isWord (fun r6 => ((r6 = 0 → (w6_isWord (fun r8 => ((¬ r8 = 0 → (post 0)) ∧ (r8 = 0 → (w6_isWord (fun r10 => ((¬ r10 = 0 → (post 0)) ∧ (r10 = 0 → (w6_isWord (fun r12 => ((¬ r12 = 0 → (post 0)) ∧ (r12 = 0 → (post 1)))) S (kB 24))))) S (kB 23))))) S (kB 22))) ∧ (¬ r6 = 0 → (post 0)))) S (kB 21))))) S (kB 20))))) S (kB 17))))
set_option maxHeartbeats 4000000 in
theorem m6_isName (l : Launch) {post : Int32 → Prop} {S : MS} {adK adV : Nat → Nat} (hZ : ∀ U, Z U → zS adK adV A Hb U) (hw : w6_isName post S) : Met l yX6_isName (ws_ yX6_isName cX6_isName 1 (some .boolean)) ({ frames := 6, cells := 0, slots := 0, locals := 129 } : Room) (va_Pc [.ref (ad 0)] (PcG D gCl nwG Z Hb A (wM D ad rd rdv tw S))) (va_Qi (fun r (_ : Unit) => post r) (BW D gCl A (fun _ => (wM D ad rd rdv tw S))) A) 0 0 A := by
  refine Met.ofG (by decide) (Nat.le_of_ble_eq_true rfl) ?_
  intro p e s m below meth c ls hC _ hP hD hS hl
  have hC : CX RX6 cX6_isName 1 (some .boolean) D gCl nwG Z Hb A p s m _ meth c := hC
  have hl : lv_has ls 1 [(0, .ref (ad 0))] := hl
  unfold w6_isName at hw
  refine lv_aload_n hC.x hC.b dX6_isName_0 rfl (lv_at hl 0 rfl) ?_
  refine gM_9 hC hP dX6_isName_1 ?_
  refine lv_iconst (v := 2) hC.x hC.b dX6_isName_4 (by decide) ?_
  refine lv_icmp_ne (tgt := 35) hC.x hC.b dX6_isName_5 (by decide) (fun c1 => ?_) (fun c1 => ?_)
  · have hw1445 := hw.1 c1
    refine lv_iconst (v := 0) hC.x hC.b dX6_isName_35 (by decide) ?_
    exact rt_z (u := ()) hC (Or.inl rfl) hw1445 hP hD hS dX6_isName_36
  · have hw1446 := hw.2 c1
    refine lv_aload_n hC.x hC.b dX6_isName_8 rfl (lv_at hl 0 rfl) ?_
    refine va_ldcS hC.x hC.b hC.ow ((hZ s hC.K.2.2.2).2.2.2.1 17 _ rfl).1 dX6_isName_9 ?_
    refine go_i (run_V (rest := []) hC (m6_isWord l hZ (kCs hZ 17 (by decide)) hw1446) v6_6_isWord h6_isWord 0 5 gCl_X6 rfl rfl ⟨rfl, rfl, Nat.le_of_ble_eq_true rfl, Nat.le_of_ble_eq_true rfl⟩ ⟨Nat.le_refl _, Nat.le_refl _⟩ hP hD hS hl.1 (Nat.le_of_ble_eq_true rfl) dX6_isName_11 rfl) hS (fun r2 u H locs hw1447 hP hD hS => ?_)
    refine lv_if_ne (tgt := 35) hC.x hC.b dX6_isName_14 (by decide) (fun c3 => ?_) (fun c3 => ?_)
    · have hw1448 := hw1447.1 c3
      refine lv_iconst (v := 0) hC.x hC.b dX6_isName_35 (by decide) ?_
      exact rt_z (u := ()) hC (Or.inl rfl) hw1448 hP hD hS dX6_isName_36
    · have hw1449 := hw1447.2 c3
      refine lv_aload_n hC.x hC.b dX6_isName_17 rfl (lv_at hl 0 rfl) ?_
      refine va_ldcS hC.x hC.b hC.ow ((hZ s hC.K.2.2.2).2.2.2.1 20 _ rfl).1 dX6_isName_18 ?_
      refine go_i (run_V (rest := []) hC (m6_isWord l hZ (kCs hZ 20 (by decide)) hw1449) v6_6_isWord h6_isWord 0 5 gCl_X6 rfl rfl ⟨rfl, rfl, Nat.le_of_ble_eq_true rfl, Nat.le_of_ble_eq_true rfl⟩ ⟨Nat.le_refl _, Nat.le_refl _⟩ hP hD hS hl.1 (Nat.le_of_ble_eq_true rfl) dX6_isName_20 rfl) hS (fun r4 u H locs hw1450 hP hD hS => ?_)
      refine lv_if_ne (tgt := 35) hC.x hC.b dX6_isName_23 (by decide) (fun c5 => ?_) (fun c5 => ?_)
      · have hw1451 := hw1450.1 c5
        refine lv_iconst (v := 0) hC.x hC.b dX6_isName_35 (by decide) ?_
        exact rt_z (u := ()) hC (Or.inl rfl) hw1451 hP hD hS dX6_isName_36
      · have hw1452 := hw1450.2 c5
        refine lv_aload_n hC.x hC.b dX6_isName_26 rfl (lv_at hl 0 rfl) ?_
        refine va_ldcS hC.x hC.b hC.ow ((hZ s hC.K.2.2.2).2.2.2.1 21 _ rfl).1 dX6_isName_27 ?_
        refine go_i (run_V (rest := []) hC (m6_isWord l hZ (kCs hZ 21 (by decide)) hw1452) v6_6_isWord h6_isWord 0 5 gCl_X6 rfl rfl ⟨rfl, rfl, Nat.le_of_ble_eq_true rfl, Nat.le_of_ble_eq_true rfl⟩ ⟨Nat.le_refl _, Nat.le_refl _⟩ hP hD hS hl.1 (Nat.le_of_ble_eq_true rfl) dX6_isName_29 rfl) hS (fun r6 u H locs hw1453 hP hD hS => ?_)
        refine lv_if_eq (tgt := 37) hC.x hC.b dX6_isName_32 (by decide) (fun c7 => ?_) (fun c7 => ?_)
        · have hw1454 := hw1453.1 c7
          refine lv_aload_n hC.x hC.b dX6_isName_37 rfl (lv_at hl 0 rfl) ?_
          refine va_ldcS hC.x hC.b hC.ow ((hZ s hC.K.2.2.2).2.2.2.1 22 _ rfl).1 dX6_isName_38 ?_
          refine go_i (run_V (rest := []) hC (m6_isWord l hZ (kCs hZ 22 (by decide)) hw1454) v6_6_isWord h6_isWord 0 5 gCl_X6 rfl rfl ⟨rfl, rfl, Nat.le_of_ble_eq_true rfl, Nat.le_of_ble_eq_true rfl⟩ ⟨Nat.le_refl _, Nat.le_refl _⟩ hP hD hS hl.1 (Nat.le_of_ble_eq_true rfl) dX6_isName_40 rfl) hS (fun r8 u H locs hw1455 hP hD hS => ?_)
          refine lv_if_ne (tgt := 68) hC.x hC.b dX6_isName_43 (by decide) (fun c9 => ?_) (fun c9 => ?_)
          · have hw1456 := hw1455.1 c9
            refine lv_iconst (v := 0) hC.x hC.b dX6_isName_68 (by decide) ?_
            exact rt_z (u := ()) hC (Or.inl rfl) hw1456 hP hD hS dX6_isName_69
          · have hw1457 := hw1455.2 c9
            refine lv_aload_n hC.x hC.b dX6_isName_46 rfl (lv_at hl 0 rfl) ?_
            refine va_ldcS hC.x hC.b hC.ow ((hZ s hC.K.2.2.2).2.2.2.1 23 _ rfl).1 dX6_isName_47 ?_
            refine go_i (run_V (rest := []) hC (m6_isWord l hZ (kCs hZ 23 (by decide)) hw1457) v6_6_isWord h6_isWord 0 5 gCl_X6 rfl rfl ⟨rfl, rfl, Nat.le_of_ble_eq_true rfl, Nat.le_of_ble_eq_true rfl⟩ ⟨Nat.le_refl _, Nat.le_refl _⟩ hP hD hS hl.1 (Nat.le_of_ble_eq_true rfl) dX6_isName_49 rfl) hS (fun r10 u H locs hw1458 hP hD hS => ?_)
            refine lv_if_ne (tgt := 68) hC.x hC.b dX6_isName_52 (by decide) (fun c11 => ?_) (fun c11 => ?_)
            · have hw1459 := hw1458.1 c11
              refine lv_iconst (v := 0) hC.x hC.b dX6_isName_68 (by decide) ?_
              exact rt_z (u := ()) hC (Or.inl rfl) hw1459 hP hD hS dX6_isName_69
            · have hw1460 := hw1458.2 c11
              refine lv_aload_n hC.x hC.b dX6_isName_55 rfl (lv_at hl 0 rfl) ?_
              refine va_ldcS hC.x hC.b hC.ow ((hZ s hC.K.2.2.2).2.2.2.1 24 _ rfl).1 dX6_isName_56 ?_
              refine go_i (run_V (rest := []) hC (m6_isWord l hZ (kCs hZ 24 (by decide)) hw1460) v6_6_isWord h6_isWord 0 5 gCl_X6 rfl rfl ⟨rfl, rfl, Nat.le_of_ble_eq_true rfl, Nat.le_of_ble_eq_true rfl⟩ ⟨Nat.le_refl _, Nat.le_refl _⟩ hP hD hS hl.1 (Nat.le_of_ble_eq_true rfl) dX6_isName_58 rfl) hS (fun r12 u H locs hw1461 hP hD hS => ?_)
              refine lv_if_ne (tgt := 68) hC.x hC.b dX6_isName_61 (by decide) (fun c13 => ?_) (fun c13 => ?_)
              · have hw1462 := hw1461.1 c13
                refine lv_iconst (v := 0) hC.x hC.b dX6_isName_68 (by decide) ?_
                exact rt_z (u := ()) hC (Or.inl rfl) hw1462 hP hD hS dX6_isName_69
              · have hw1463 := hw1461.2 c13
                refine lv_iconst (v := 1) hC.x hC.b dX6_isName_64 (by decide) ?_
                refine lv_goto (tgt := 69) hC.x hC.b dX6_isName_65 (by decide) ?_
                exact rt_z (u := ()) hC (Or.inr rfl) hw1463 hP hD hS dX6_isName_69
        · have hw1464 := hw1453.2 c7
          refine lv_iconst (v := 0) hC.x hC.b dX6_isName_35 (by decide) ?_
          exact rt_z (u := ()) hC (Or.inl rfl) hw1464 hP hD hS dX6_isName_36
theorem v6_6_readPart : GoodIn lw_all (wsV RX6 215 RX6 yX6_readPart (ws_ yX6_readPart cX6_readPart 4 (some .int))) := lw_V q1667 q1669 qs57 q126 q1670
theorem h6_readTown : yX6_readTown.cls = RX6 ∧ yX6_readTown.cls ≠ "java/lang/invoke/MethodHandle" ∧ yX6_readTown.cls ≠ "java/lang/invoke/VarHandle" ∧ (parseMethodDescriptor yX6_readTown.desc).map (fun d => d.parameters.length) = some 0 := by decide +kernel
def j6_readTown_15 (post : MS → Prop) (S : MS) : Prop :=
  (w6_goesOn (fun S3 => (w6_readPart (fun r4 S5 => (w6_readPart (fun r6 S7 => ((¬ (S7.1 0 9) = 5 → (∀ S9, S9 = uI S7 40 0 r4 → (∀ S10, S10 = uI S9 40 1 r6 → (post S10)))) ∧ ((S7.1 0 9) = 5 → (post S7)))) S5 (kB 19) 0 100)) S3 (kB 18) 2 40)) S)
set_option maxHeartbeats 4000000 in
theorem k6_readTown_15 {post : MS → Prop} {S : MS} (hC : CX RX6 cX6_readTown 3 none D gCl nwG Z Hb A p s m args meth c) {adK adV : Nat → Nat} (hZ : ∀ U, Z U → zS adK adV A Hb U) (hw : j6_readTown_15 post S) : ∀ (H : Heap) (locs : List Loc) (ls : Array Slot), va_P D gCl (wM D ad (some rt) (some (rt 0)) tw S) H → va_D A (wM D ad (some rt) (some (rt 0)) tw S) → va_S A s.heap H locs → lv_has ls 3 [(0, .ref (ad 0))] → W p l e ({ frames := 8, cells := 0, slots := 0, locals := 173 } : Room) s m args below meth c H locs 0 0 (MQ below (va_Qv post (BW D gCl A (fun u => (wM D ad (some rt) (some (rt 0)) tw u))) A) args s 0 0 A) (F0 m 15 ls []) := by
  intro H locs ls hP hD hS hl
  unfold j6_readTown_15 at hw
  refine lv_aload_n hC.x hC.b dX6_readTown_15 rfl (lv_at hl 0 rfl) ?_
  refine go_v (run_V (rest := []) hC (m6_goesOn l hw) v6_6_goesOn h6_goesOn 0 5 gCl_X6 rfl rfl ⟨rfl, rfl, Nat.le_of_ble_eq_true rfl, Nat.le_of_ble_eq_true rfl⟩ ⟨Nat.le_refl _, Nat.le_refl _⟩ hP hD hS hl.1 (Nat.le_of_ble_eq_true rfl) dX6_readTown_16 rfl) hS (fun S3 H locs hw1466 hP hD hS => ?_)
  refine lv_aload_n hC.x hC.b dX6_readTown_19 rfl (lv_at hl 0 rfl) ?_
  refine va_ldcS hC.x hC.b hC.ow ((hZ s hC.K.2.2.2).2.2.2.1 18 _ rfl).1 dX6_readTown_20 ?_
  refine lv_iconst (v := 2) hC.x hC.b dX6_readTown_22 (by decide) ?_
  refine lv_bipush (v := 40) hC.x hC.b dX6_readTown_23 (by decide) ?_
  refine go_i (run_V (rest := []) hC (m6_readPart l hZ (kCs hZ 18 (by decide)) hw1466) v6_6_readPart h6_readPart 0 5 gCl_X6 rfl rfl ⟨rfl, rfl, Nat.le_of_ble_eq_true rfl, Nat.le_of_ble_eq_true rfl⟩ ⟨Nat.le_refl _, Nat.le_refl _⟩ hP hD hS hl.1 (Nat.le_of_ble_eq_true rfl) dX6_readTown_25 rfl) hS (fun r4 S5 H locs hw1467 hP hD hS => ?_)
  refine lv_istore_n (lv' := [(1, .int r4), (0, .ref (ad 0))]) hC.x hC.b dX6_readTown_28 rfl hl (by decide) rfl (fun ls hl => ?_)
  refine lv_aload_n hC.x hC.b dX6_readTown_29 rfl (lv_at hl 1 rfl) ?_
  refine va_ldcS hC.x hC.b hC.ow ((hZ s hC.K.2.2.2).2.2.2.1 19 _ rfl).1 dX6_readTown_30 ?_
  refine lv_iconst (v := 0) hC.x hC.b dX6_readTown_32 (by decide) ?_
  refine lv_bipush (v := 100) hC.x hC.b dX6_readTown_33 (by decide) ?_
  refine go_i (run_V (rest := []) hC (m6_readPart l hZ (kCs hZ 19 (by decide)) hw1467) v6_6_readPart h6_readPart 0 5 gCl_X6 rfl rfl ⟨rfl, rfl, Nat.le_of_ble_eq_true rfl, Nat.le_of_ble_eq_true rfl⟩ ⟨Nat.le_refl _, Nat.le_refl _⟩ hP hD hS hl.1 (Nat.le_of_ble_eq_true rfl) dX6_readTown_35 rfl) hS (fun r6 S7 H locs hw1468 hP hD hS => ?_)
  refine lv_istore_n (lv' := [(2, .int r6), (1, .int r4), (0, .ref (ad 0))]) hC.x hC.b dX6_readTown_38 rfl hl (by decide) rfl (fun ls hl => ?_)
  refine lv_aload_n hC.x hC.b dX6_readTown_39 rfl (lv_at hl 2 rfl) ?_
  refine gM_9 hC hP dX6_readTown_40 ?_
  refine lv_iconst (v := 5) hC.x hC.b dX6_readTown_43 (by decide) ?_
  refine lv_icmp_ne (tgt := 48) hC.x hC.b dX6_readTown_44 (by decide) (fun c8 => ?_) (fun c8 => ?_)
  · have hw1469 := hw1468.1 c8
    refine lv_aload_n hC.x hC.b dX6_readTown_48 rfl (lv_at hl 2 rfl) ?_
    refine gM_4 hC hP dX6_readTown_49 ?_
    refine lv_iload_n hC.x hC.b dX6_readTown_52 rfl (lv_at hl 1 rfl) ?_
    refine pR_0 hC hP hD hS (v := r4) dX6_readTown_53 (fun S9 eS9 H locs hP hD hS => ?_)
    have hw1470 := hw1469 S9 eS9
    refine lv_aload_n hC.x hC.b dX6_readTown_56 rfl (lv_at hl 2 rfl) ?_
    refine gM_4 hC hP dX6_readTown_57 ?_
    refine lv_iload_n hC.x hC.b dX6_readTown_60 rfl (lv_at hl 0 rfl) ?_
    refine pR_1 hC hP hD hS (v := r6) dX6_readTown_61 (fun S10 eS10 H locs hP hD hS => ?_)
    have hw1471 := hw1470 S10 eS10
    exact rt_v hC hw1471 hP hD hS dX6_readTown_64
  · have hw1472 := hw1468.2 c8
    exact rt_v hC hw1472 hP hD hS dX6_readTown_47
def w6_readTown (post : MS → Prop) (S : MS) : Prop :=
  (((S.1 40 0) ≤ 0 → (j6_readTown_15 post S)) ∧ (¬ (S.1 40 0) ≤ 0 → (w6_flaw (fun S12 => (j6_readTown_15 post S12)) S 3)))
set_option maxHeartbeats 4000000 in
theorem m6_readTown (l : Launch) {post : MS → Prop} {S : MS} {adK adV : Nat → Nat} (hZ : ∀ U, Z U → zS adK adV A Hb U) (hw : w6_readTown post S) : Met l yX6_readTown (ws_ yX6_readTown cX6_readTown 3 none) ({ frames := 8, cells := 0, slots := 0, locals := 173 } : Room) (va_Pc [.ref (ad 0)] (PcG D gCl nwG Z Hb A (wM D ad (some rt) (some (rt 0)) tw S))) (va_Qv post (BW D gCl A (fun u => (wM D ad (some rt) (some (rt 0)) tw u))) A) 0 0 A := by
  refine Met.ofG (by decide) (Nat.le_of_ble_eq_true rfl) ?_
  intro p e s m below meth c ls hC _ hP hD hS hl
  have hC : CX RX6 cX6_readTown 3 none D gCl nwG Z Hb A p s m _ meth c := hC
  have hl : lv_has ls 3 [(0, .ref (ad 0))] := hl
  unfold w6_readTown at hw
  refine lv_aload_n hC.x hC.b dX6_readTown_0 rfl (lv_at hl 0 rfl) ?_
  refine gM_4 hC hP dX6_readTown_1 ?_
  refine gR_0 hC hP dX6_readTown_4 ?_
  refine lv_if_le (tgt := 15) hC.x hC.b dX6_readTown_7 (by decide) (fun c1 => ?_) (fun c1 => ?_)
  · have hw1465 := hw.1 c1
    exact k6_readTown_15 hC hZ hw1465 s.heap [] ls hP hD hS (lv_sub hl [0] rfl)
  · have hw1473 := hw.2 c1
    refine lv_aload_n hC.x hC.b dX6_readTown_10 rfl (lv_at hl 0 rfl) ?_
    refine lv_iconst (v := 3) hC.x hC.b dX6_readTown_11 (by decide) ?_
    refine go_v (run_V (rest := []) hC (m6_flaw l hw1473) v6_6_flaw h6_flaw 0 5 gCl_X6 rfl rfl ⟨rfl, rfl, Nat.le_of_ble_eq_true rfl, Nat.le_of_ble_eq_true rfl⟩ ⟨Nat.le_refl _, Nat.le_refl _⟩ hP hD hS hl.1 (Nat.le_of_ble_eq_true rfl) dX6_readTown_12 rfl) hS (fun S12 H locs hw1474 hP hD hS => ?_)
    exact k6_readTown_15 hC hZ hw1474 H locs ls hP hD hS (lv_sub hl [0] rfl)
theorem v6_6_isName : GoodIn lw_all (wsV RX6 164 RX6 yX6_isName (ws_ yX6_isName cX6_isName 1 (some .boolean))) := lw_V q1700 q1702 qs64 q126 q1703
theorem v6_15_find : GoodIn lw_all (wsV RX6 168 RX15 yX15_find (ws_ yX15_find cX15_find 4 (some .int))) := lw_V q1708 q1709 q1710 q140 q1711
theorem h6_readFresh : yX6_readFresh.cls = RX6 ∧ yX6_readFresh.cls ≠ "java/lang/invoke/MethodHandle" ∧ yX6_readFresh.cls ≠ "java/lang/invoke/VarHandle" ∧ (parseMethodDescriptor yX6_readFresh.desc).map (fun d => d.parameters.length) = some 0 := by decide +kernel
def j6_readFresh_12 (post : Int64 → MS → Prop) (S : MS) : Prop :=
  (w15_find (fun r3 => ((r3 = (-1) → (w6_goesOn (fun S6 => (post (S.2 0 14) S6)) S)) ∧ (¬ r3 = (-1) → (w6_flaw (fun S8 => (w6_goesOn (fun S10 => (post (S8.2 0 14) S10)) S8)) S 3)))) S (S.2 0 14))
set_option maxHeartbeats 4000000 in
theorem k6_readFresh_12 {post : Int64 → MS → Prop} {S : MS} (hC : CX RX6 cX6_readFresh 3 (some .long) D gCl nwG Z Hb A p s m args meth c) {adK adV : Nat → Nat} (hZ : ∀ U, Z U → zS adK adV A Hb U) (hw : j6_readFresh_12 post S) : ∀ (H : Heap) (locs : List Loc) (ls : Array Slot), va_P D gCl (wM D ad (some rt) (some (rt 0)) tw S) H → va_D A (wM D ad (some rt) (some (rt 0)) tw S) → va_S A s.heap H locs → lv_has ls 3 [(0, .ref (ad 0))] → W p l e ({ frames := 7, cells := 0, slots := 0, locals := 149 } : Room) s m args below meth c H locs 0 0 (MQ below (va_Ql post (BW D gCl A (fun u => (wM D ad (some rt) (some (rt 0)) tw u))) A) args s 0 0 A) (F0 m 12 ls []) := by
  intro H locs ls hP hD hS hl
  unfold j6_readFresh_12 at hw
  refine lv_aload_n hC.x hC.b dX6_readFresh_12 rfl (lv_at hl 0 rfl) ?_
  refine gM_4 hC hP dX6_readFresh_13 ?_
  refine lv_aload_n hC.x hC.b dX6_readFresh_16 rfl (lv_at hl 0 rfl) ?_
  refine gM_14 hC hP dX6_readFresh_17 ?_
  refine go_i (run_V (rest := []) hC (m15_find l hw) v6_15_find h15_find 12 12 gCl_X15 rfl rfl ⟨rfl, rfl, Nat.le_of_ble_eq_true rfl, Nat.le_of_ble_eq_true rfl⟩ ⟨Nat.le_refl _, Nat.le_refl _⟩ hP hD hS hl.1 (Nat.le_of_ble_eq_true rfl) dX6_readFresh_20 rfl) hS (fun r3 u H locs hw1477 hP hD hS => ?_)
  refine lv_iconst (v := (-1)) hC.x hC.b dX6_readFresh_23 (by decide) ?_
  refine lv_icmp_eq (tgt := 32) hC.x hC.b dX6_readFresh_24 (by decide) (fun c4 => ?_) (fun c4 => ?_)
  · have hw1478 := hw1477.1 c4
    refine lv_aload_n hC.x hC.b dX6_readFresh_32 rfl (lv_at hl 0 rfl) ?_
    refine gM_14 hC hP dX6_readFresh_33 ?_
    refine lv_lstore_n (lv' := [(1, .long (S.2 0 14)), (0, .ref (ad 0))]) hC.x hC.b dX6_readFresh_36 rfl hl (by decide) rfl (fun ls hl => ?_)
    refine lv_aload_n hC.x hC.b dX6_readFresh_37 rfl (lv_at hl 1 rfl) ?_
    refine go_v (run_V (rest := []) hC (m6_goesOn l hw1478) v6_6_goesOn h6_goesOn 0 5 gCl_X6 rfl rfl ⟨rfl, rfl, Nat.le_of_ble_eq_true rfl, Nat.le_of_ble_eq_true rfl⟩ ⟨Nat.le_refl _, Nat.le_refl _⟩ hP hD hS hl.1 (Nat.le_of_ble_eq_true rfl) dX6_readFresh_38 rfl) hS (fun S6 H locs hw1479 hP hD hS => ?_)
    refine lv_lload_n hC.x hC.b dX6_readFresh_41 rfl (lv_at hl 0 rfl) ?_
    exact rt_l hC hw1479 hP hD hS dX6_readFresh_42
  · have hw1480 := hw1477.2 c4
    refine lv_aload_n hC.x hC.b dX6_readFresh_27 rfl (lv_at hl 0 rfl) ?_
    refine lv_iconst (v := 3) hC.x hC.b dX6_readFresh_28 (by decide) ?_
    refine go_v (run_V (rest := []) hC (m6_flaw l hw1480) v6_6_flaw h6_flaw 0 5 gCl_X6 rfl rfl ⟨rfl, rfl, Nat.le_of_ble_eq_true rfl, Nat.le_of_ble_eq_true rfl⟩ ⟨Nat.le_refl _, Nat.le_refl _⟩ hP hD hS hl.1 (Nat.le_of_ble_eq_true rfl) dX6_readFresh_29 rfl) hS (fun S8 H locs hw1481 hP hD hS => ?_)
    refine lv_aload_n hC.x hC.b dX6_readFresh_32 rfl (lv_at hl 0 rfl) ?_
    refine gM_14 hC hP dX6_readFresh_33 ?_
    refine lv_lstore_n (lv' := [(1, .long (S8.2 0 14)), (0, .ref (ad 0))]) hC.x hC.b dX6_readFresh_36 rfl hl (by decide) rfl (fun ls hl => ?_)
    refine lv_aload_n hC.x hC.b dX6_readFresh_37 rfl (lv_at hl 1 rfl) ?_
    refine go_v (run_V (rest := []) hC (m6_goesOn l hw1481) v6_6_goesOn h6_goesOn 0 5 gCl_X6 rfl rfl ⟨rfl, rfl, Nat.le_of_ble_eq_true rfl, Nat.le_of_ble_eq_true rfl⟩ ⟨Nat.le_refl _, Nat.le_refl _⟩ hP hD hS hl.1 (Nat.le_of_ble_eq_true rfl) dX6_readFresh_38 rfl) hS (fun S10 H locs hw1482 hP hD hS => ?_)
    refine lv_lload_n hC.x hC.b dX6_readFresh_41 rfl (lv_at hl 0 rfl) ?_
    exact rt_l hC hw1482 hP hD hS dX6_readFresh_42
def w6_readFresh (post : Int64 → MS → Prop) (S : MS) : Prop :=
  (w6_isName (fun r1 => ((¬ r1 = 0 → (j6_readFresh_12 post S)) ∧ (r1 = 0 → (w6_flaw (fun S12 => (j6_readFresh_12 post S12)) S 1)))) S)
set_option maxHeartbeats 4000000 in
theorem m6_readFresh (l : Launch) {post : Int64 → MS → Prop} {S : MS} {adK adV : Nat → Nat} (hZ : ∀ U, Z U → zS adK adV A Hb U) (hw : w6_readFresh post S) : Met l yX6_readFresh (ws_ yX6_readFresh cX6_readFresh 3 (some .long)) ({ frames := 7, cells := 0, slots := 0, locals := 149 } : Room) (va_Pc [.ref (ad 0)] (PcG D gCl nwG Z Hb A (wM D ad (some rt) (some (rt 0)) tw S))) (va_Ql post (BW D gCl A (fun u => (wM D ad (some rt) (some (rt 0)) tw u))) A) 0 0 A := by
  refine Met.ofG (by decide) (Nat.le_of_ble_eq_true rfl) ?_
  intro p e s m below meth c ls hC _ hP hD hS hl
  have hC : CX RX6 cX6_readFresh 3 (some .long) D gCl nwG Z Hb A p s m _ meth c := hC
  have hl : lv_has ls 3 [(0, .ref (ad 0))] := hl
  unfold w6_readFresh at hw
  refine lv_aload_n hC.x hC.b dX6_readFresh_0 rfl (lv_at hl 0 rfl) ?_
  refine go_i (run_V (rest := []) hC (m6_isName l hZ hw) v6_6_isName h6_isName 0 5 gCl_X6 rfl rfl ⟨rfl, rfl, Nat.le_of_ble_eq_true rfl, Nat.le_of_ble_eq_true rfl⟩ ⟨Nat.le_refl _, Nat.le_refl _⟩ hP hD hS hl.1 (Nat.le_of_ble_eq_true rfl) dX6_readFresh_1 rfl) hS (fun r1 u H locs hw1475 hP hD hS => ?_)
  refine lv_if_ne (tgt := 12) hC.x hC.b dX6_readFresh_4 (by decide) (fun c2 => ?_) (fun c2 => ?_)
  · have hw1476 := hw1475.1 c2
    exact k6_readFresh_12 hC hZ hw1476 H locs ls hP hD hS (lv_sub hl [0] rfl)
  · have hw1483 := hw1475.2 c2
    refine lv_aload_n hC.x hC.b dX6_readFresh_7 rfl (lv_at hl 0 rfl) ?_
    refine lv_iconst (v := 1) hC.x hC.b dX6_readFresh_8 (by decide) ?_
    refine go_v (run_V (rest := []) hC (m6_flaw l hw1483) v6_6_flaw h6_flaw 0 5 gCl_X6 rfl rfl ⟨rfl, rfl, Nat.le_of_ble_eq_true rfl, Nat.le_of_ble_eq_true rfl⟩ ⟨Nat.le_refl _, Nat.le_refl _⟩ hP hD hS hl.1 (Nat.le_of_ble_eq_true rfl) dX6_readFresh_9 rfl) hS (fun S12 H locs hw1484 hP hD hS => ?_)
    exact k6_readFresh_12 hC hZ hw1484 H locs ls hP hD hS (lv_sub hl [0] rfl)
theorem v6_6_lineBegins : GoodIn lw_all (wsV RX6 223 RX6 yX6_lineBegins (ws_ yX6_lineBegins cX6_lineBegins 3 none)) := lw_V q1692 q1694 qs62 q126 q1695
theorem v6_6_readFresh : GoodIn lw_all (wsV RX6 227 RX6 yX6_readFresh (ws_ yX6_readFresh cX6_readFresh 3 (some .long))) := lw_V q1696 q1698 qs63 q126 q1699
theorem v6_15_isTaken : GoodIn lw_all (wsV RX6 233 RX15 yX15_isTaken (ws_ yX15_isTaken cX15_isTaken 3 (some .boolean))) := lw_V q1713 q1714 q1715 q140 q1716
theorem v6_6_names : GoodIn lw_all (wsV RX6 236 RX6 yX6_names (ws_ yX6_names cX6_names 5 none)) := lw_V q1717 q1719 qs65 q126 q1720
theorem h6_readPerson : yX6_readPerson.cls = RX6 ∧ yX6_readPerson.cls ≠ "java/lang/invoke/MethodHandle" ∧ yX6_readPerson.cls ≠ "java/lang/invoke/VarHandle" ∧ (parseMethodDescriptor yX6_readPerson.desc).map (fun d => d.parameters.length) = some 0 := by decide +kernel
def j6_readPerson_63 (post : MS → Prop) (S : MS) (x1 : Int64) (x3 : Int32) : Prop :=
  (w6_goesOn (fun S11 => ((¬ (S11.1 0 9) = 5 → (w6_names (fun S14 => (vp_in (S14.1 40 2) 6 ∧ (∀ S15, S15 = uI S14 41 (S14.1 40 2).toNatClampNeg x3 → (∀ S16, S16 = uI S15 40 2 ((S15.1 40 2) + 1) → (post S16))))) S11 x1 0 (S11.1 40 2))) ∧ ((S11.1 0 9) = 5 → (post S11)))) S)
set_option maxHeartbeats 4000000 in
theorem k6_readPerson_63 {post : MS → Prop} {S : MS} {x1 : Int64} {x3 : Int32} (hC : CX RX6 cX6_readPerson 4 none D gCl nwG Z Hb A p s m args meth c) {adK adV : Nat → Nat} (hZ : ∀ U, Z U → zS adK adV A Hb U) (hw : j6_readPerson_63 post S x1 x3) : ∀ (H : Heap) (locs : List Loc) (ls : Array Slot), va_P D gCl (wM D ad (some rt) (some (rt 0)) tw S) H → va_D A (wM D ad (some rt) (some (rt 0)) tw S) → va_S A s.heap H locs → lv_has ls 4 [(0, .ref (ad 0)), (1, .long x1), (3, .int x3)] → W p l e ({ frames := 8, cells := 0, slots := 0, locals := 171 } : Room) s m args below meth c H locs 0 0 (MQ below (va_Qv post (BW D gCl A (fun u => (wM D ad (some rt) (some (rt 0)) tw u))) A) args s 0 0 A) (F0 m 63 ls []) := by
  intro H locs ls hP hD hS hl
  unfold j6_readPerson_63 at hw
  refine lv_aload_n hC.x hC.b dX6_readPerson_63 rfl (lv_at hl 0 rfl) ?_
  refine go_v (run_V (rest := []) hC (m6_goesOn l hw) v6_6_goesOn h6_goesOn 0 5 gCl_X6 rfl rfl ⟨rfl, rfl, Nat.le_of_ble_eq_true rfl, Nat.le_of_ble_eq_true rfl⟩ ⟨Nat.le_refl _, Nat.le_refl _⟩ hP hD hS hl.1 (Nat.le_of_ble_eq_true rfl) dX6_readPerson_64 rfl) hS (fun S11 H locs hw1490 hP hD hS => ?_)
  refine lv_aload_n hC.x hC.b dX6_readPerson_67 rfl (lv_at hl 0 rfl) ?_
  refine gM_9 hC hP dX6_readPerson_68 ?_
  refine lv_iconst (v := 5) hC.x hC.b dX6_readPerson_71 (by decide) ?_
  refine lv_icmp_ne (tgt := 76) hC.x hC.b dX6_readPerson_72 (by decide) (fun c12 => ?_) (fun c12 => ?_)
  · have hw1491 := hw1490.1 c12
    refine lv_aload_n hC.x hC.b dX6_readPerson_76 rfl (lv_at hl 0 rfl) ?_
    refine lv_lload_n hC.x hC.b dX6_readPerson_77 rfl (lv_at hl 1 rfl) ?_
    refine lv_iconst (v := 0) hC.x hC.b dX6_readPerson_78 (by decide) ?_
    refine lv_aload_n hC.x hC.b dX6_readPerson_79 rfl (lv_at hl 0 rfl) ?_
    refine gM_4 hC hP dX6_readPerson_80 ?_
    refine gR_2 hC hP dX6_readPerson_83 ?_
    refine go_v (run_V (rest := []) hC (m6_names l hw1491) v6_6_names h6_names 0 5 gCl_X6 rfl rfl ⟨rfl, rfl, Nat.le_of_ble_eq_true rfl, Nat.le_of_ble_eq_true rfl⟩ ⟨Nat.le_refl _, Nat.le_refl _⟩ hP hD hS hl.1 (Nat.le_of_ble_eq_true rfl) dX6_readPerson_86 rfl) hS (fun S14 H locs hw1492 hP hD hS => ?_)
    refine lv_aload_n hC.x hC.b dX6_readPerson_89 rfl (lv_at hl 0 rfl) ?_
    refine gM_4 hC hP dX6_readPerson_90 ?_
    refine gR_8 hC hP dX6_readPerson_93 ?_
    refine lv_aload_n hC.x hC.b dX6_readPerson_96 rfl (lv_at hl 0 rfl) ?_
    refine gM_4 hC hP dX6_readPerson_97 ?_
    refine gR_2 hC hP dX6_readPerson_100 ?_
    refine lv_iload_n hC.x hC.b dX6_readPerson_103 rfl (lv_at hl 2 rfl) ?_
    obtain ⟨hin, hw1493⟩ := hw1492
    refine sR_1 hC hP hD hS (v := x3) hin rfl dX6_readPerson_104 (fun S15 eS15 H locs hP hD hS => ?_)
    have hw1494 := hw1493 S15 eS15
    refine lv_aload_n hC.x hC.b dX6_readPerson_105 rfl (lv_at hl 0 rfl) ?_
    refine gM_4 hC hP dX6_readPerson_106 ?_
    refine lv_dup hC.x hC.b dX6_readPerson_109 rfl ?_
    refine gR_2 hC hP dX6_readPerson_110 ?_
    refine lv_iconst (v := 1) hC.x hC.b dX6_readPerson_113 (by decide) ?_
    refine lv_iadd hC.x hC.b dX6_readPerson_114 ?_
    refine pR_2 hC hP hD hS (v := ((S15.1 40 2) + 1)) dX6_readPerson_115 (fun S16 eS16 H locs hP hD hS => ?_)
    have hw1495 := hw1494 S16 eS16
    exact rt_v hC hw1495 hP hD hS dX6_readPerson_118
  · have hw1496 := hw1490.2 c12
    exact rt_v hC hw1496 hP hD hS dX6_readPerson_75
def w6_readPerson (post : MS → Prop) (S : MS) : Prop :=
  (w6_lineBegins (fun S2 => (w6_readFresh (fun r3 S4 => (w6_needs (fun S6 => (w6_wholeAt (fun r7 S8 => (((S8.1 0 9) = 5 → (j6_readPerson_63 post S8 r3 r7)) ∧ (¬ (S8.1 0 9) = 5 → (w15_isTaken (fun r17 => ((r17 = 0 → (j6_readPerson_63 post S8 r3 r7)) ∧ (¬ r17 = 0 → (w6_flaw (fun S20 => (j6_readPerson_63 post S20 r3 r7)) S8 3)))) S8 r7)))) S6 0 ((S6.1 40 0) - 1))) S4 (kB 25))) S2)) S (S.1 40 2) 6)
set_option maxHeartbeats 4000000 in
theorem m6_readPerson (l : Launch) {post : MS → Prop} {S : MS} {adK adV : Nat → Nat} (hZ : ∀ U, Z U → zS adK adV A Hb U) (hw : w6_readPerson post S) : Met l yX6_readPerson (ws_ yX6_readPerson cX6_readPerson 4 none) ({ frames := 8, cells := 0, slots := 0, locals := 171 } : Room) (va_Pc [.ref (ad 0)] (PcG D gCl nwG Z Hb A (wM D ad (some rt) (some (rt 0)) tw S))) (va_Qv post (BW D gCl A (fun u => (wM D ad (some rt) (some (rt 0)) tw u))) A) 0 0 A := by
  refine Met.ofG (by decide) (Nat.le_of_ble_eq_true rfl) ?_
  intro p e s m below meth c ls hC _ hP hD hS hl
  have hC : CX RX6 cX6_readPerson 4 none D gCl nwG Z Hb A p s m _ meth c := hC
  have hl : lv_has ls 4 [(0, .ref (ad 0))] := hl
  unfold w6_readPerson at hw
  refine lv_aload_n hC.x hC.b dX6_readPerson_0 rfl (lv_at hl 0 rfl) ?_
  refine lv_aload_n hC.x hC.b dX6_readPerson_1 rfl (lv_at hl 0 rfl) ?_
  refine gM_4 hC hP dX6_readPerson_2 ?_
  refine gR_2 hC hP dX6_readPerson_5 ?_
  refine lv_bipush (v := 6) hC.x hC.b dX6_readPerson_8 (by decide) ?_
  refine go_v (run_V (rest := []) hC (m6_lineBegins l hw) v6_6_lineBegins h6_lineBegins 0 5 gCl_X6 rfl rfl ⟨rfl, rfl, Nat.le_of_ble_eq_true rfl, Nat.le_of_ble_eq_true rfl⟩ ⟨Nat.le_refl _, Nat.le_refl _⟩ hP hD hS hl.1 (Nat.le_of_ble_eq_true rfl) dX6_readPerson_10 rfl) hS (fun S2 H locs hw1485 hP hD hS => ?_)
  refine lv_aload_n hC.x hC.b dX6_readPerson_13 rfl (lv_at hl 0 rfl) ?_
  refine go_l (run_V (rest := []) hC (m6_readFresh l hZ hw1485) v6_6_readFresh h6_readFresh 0 5 gCl_X6 rfl rfl ⟨rfl, rfl, Nat.le_of_ble_eq_true rfl, Nat.le_of_ble_eq_true rfl⟩ ⟨Nat.le_refl _, Nat.le_refl _⟩ hP hD hS hl.1 (Nat.le_of_ble_eq_true rfl) dX6_readPerson_14 rfl) hS (fun r3 S4 H locs hw1486 hP hD hS => ?_)
  refine lv_lstore_n (lv' := [(1, .long r3), (0, .ref (ad 0))]) hC.x hC.b dX6_readPerson_17 rfl hl (by decide) rfl (fun ls hl => ?_)
  refine lv_aload_n hC.x hC.b dX6_readPerson_18 rfl (lv_at hl 1 rfl) ?_
  refine va_ldcS hC.x hC.b hC.ow ((hZ s hC.K.2.2.2).2.2.2.1 25 _ rfl).1 dX6_readPerson_19 ?_
  refine go_v (run_V (rest := []) hC (m6_needs l hZ (kCs hZ 25 (by decide)) hw1486) v6_6_needs h6_needs 0 5 gCl_X6 rfl rfl ⟨rfl, rfl, Nat.le_of_ble_eq_true rfl, Nat.le_of_ble_eq_true rfl⟩ ⟨Nat.le_refl _, Nat.le_refl _⟩ hP hD hS hl.1 (Nat.le_of_ble_eq_true rfl) dX6_readPerson_21 rfl) hS (fun S6 H locs hw1487 hP hD hS => ?_)
  refine lv_aload_n hC.x hC.b dX6_readPerson_24 rfl (lv_at hl 1 rfl) ?_
  refine lv_iconst (v := 0) hC.x hC.b dX6_readPerson_25 (by decide) ?_
  refine lv_aload_n hC.x hC.b dX6_readPerson_26 rfl (lv_at hl 1 rfl) ?_
  refine gM_4 hC hP dX6_readPerson_27 ?_
  refine gR_0 hC hP dX6_readPerson_30 ?_
  refine lv_iconst (v := 1) hC.x hC.b dX6_readPerson_33 (by decide) ?_
  refine lv_isub hC.x hC.b dX6_readPerson_34 ?_
  refine go_i (run_V (rest := []) hC (m6_wholeAt l hw1487) v6_6_wholeAt h6_wholeAt 0 5 gCl_X6 rfl rfl ⟨rfl, rfl, Nat.le_of_ble_eq_true rfl, Nat.le_of_ble_eq_true rfl⟩ ⟨Nat.le_refl _, Nat.le_refl _⟩ hP hD hS hl.1 (Nat.le_of_ble_eq_true rfl) dX6_readPerson_35 rfl) hS (fun r7 S8 H locs hw1488 hP hD hS => ?_)
  refine lv_istore_n (lv' := [(3, .int r7), (1, .long r3), (0, .ref (ad 0))]) hC.x hC.b dX6_readPerson_38 rfl hl (by decide) rfl (fun ls hl => ?_)
  refine lv_aload_n hC.x hC.b dX6_readPerson_39 rfl (lv_at hl 2 rfl) ?_
  refine gM_9 hC hP dX6_readPerson_40 ?_
  refine lv_iconst (v := 5) hC.x hC.b dX6_readPerson_43 (by decide) ?_
  refine lv_icmp_eq (tgt := 63) hC.x hC.b dX6_readPerson_44 (by decide) (fun c9 => ?_) (fun c9 => ?_)
  · have hw1489 := hw1488.1 c9
    exact k6_readPerson_63 hC hZ hw1489 H locs ls hP hD hS (lv_sub hl [2, 1, 0] rfl)
  · have hw1497 := hw1488.2 c9
    refine lv_aload_n hC.x hC.b dX6_readPerson_47 rfl (lv_at hl 2 rfl) ?_
    refine gM_4 hC hP dX6_readPerson_48 ?_
    refine lv_iload_n hC.x hC.b dX6_readPerson_51 rfl (lv_at hl 0 rfl) ?_
    refine go_i (run_V (rest := []) hC (m15_isTaken l hw1497) v6_15_isTaken h15_isTaken 12 12 gCl_X15 rfl rfl ⟨rfl, rfl, Nat.le_of_ble_eq_true rfl, Nat.le_of_ble_eq_true rfl⟩ ⟨Nat.le_refl _, Nat.le_refl _⟩ hP hD hS hl.1 (Nat.le_of_ble_eq_true rfl) dX6_readPerson_52 rfl) hS (fun r17 u H locs hw1498 hP hD hS => ?_)
    refine lv_if_eq (tgt := 63) hC.x hC.b dX6_readPerson_55 (by decide) (fun c18 => ?_) (fun c18 => ?_)
    · have hw1499 := hw1498.1 c18
      exact k6_readPerson_63 hC hZ hw1499 H locs ls hP hD hS (lv_sub hl [2, 1, 0] rfl)
    · have hw1500 := hw1498.2 c18
      refine lv_aload_n hC.x hC.b dX6_readPerson_58 rfl (lv_at hl 2 rfl) ?_
      refine lv_iconst (v := 3) hC.x hC.b dX6_readPerson_59 (by decide) ?_
      refine go_v (run_V (rest := []) hC (m6_flaw l hw1500) v6_6_flaw h6_flaw 0 5 gCl_X6 rfl rfl ⟨rfl, rfl, Nat.le_of_ble_eq_true rfl, Nat.le_of_ble_eq_true rfl⟩ ⟨Nat.le_refl _, Nat.le_refl _⟩ hP hD hS hl.1 (Nat.le_of_ble_eq_true rfl) dX6_readPerson_60 rfl) hS (fun S20 H locs hw1501 hP hD hS => ?_)
      exact k6_readPerson_63 hC hZ hw1501 H locs ls hP hD hS (lv_sub hl [2, 1, 0] rfl)
theorem h6_knownOne : yX6_knownOne.cls = RX6 ∧ yX6_knownOne.cls ≠ "java/lang/invoke/MethodHandle" ∧ yX6_knownOne.cls ≠ "java/lang/invoke/VarHandle" ∧ (parseMethodDescriptor yX6_knownOne.desc).map (fun d => d.parameters.length) = some 1 := by decide +kernel
def j6_knownOne_47 (post : Int32 → MS → Prop) (S : MS) (x2 : Int32) : Prop :=
  ((¬ (S.1 0 9) = 5 → (vp_in x2 12 ∧ (post (S.1 53 x2.toNatClampNeg) S))) ∧ ((S.1 0 9) = 5 → (post 0 S)))
set_option maxHeartbeats 4000000 in
theorem k6_knownOne_47 {post : Int32 → MS → Prop} {S : MS} {x2 : Int32} (hC : CX RX6 cX6_knownOne 3 (some .int) D gCl nwG Z Hb A p s m args meth c) {adK adV : Nat → Nat} (hZ : ∀ U, Z U → zS adK adV A Hb U) (hw : j6_knownOne_47 post S x2) : ∀ (H : Heap) (locs : List Loc) (ls : Array Slot), va_P D gCl (wM D ad (some rt) (some (rt 0)) tw S) H → va_D A (wM D ad (some rt) (some (rt 0)) tw S) → va_S A s.heap H locs → lv_has ls 3 [(0, .ref (ad 0)), (2, .int x2)] → W p l e ({ frames := 7, cells := 0, slots := 0, locals := 149 } : Room) s m args below meth c H locs 0 0 (MQ below (va_Qi post (BW D gCl A (fun u => (wM D ad (some rt) (some (rt 0)) tw u))) A) args s 0 0 A) (F0 m 47 ls []) := by
  intro H locs ls hP hD hS hl
  unfold j6_knownOne_47 at hw
  refine lv_aload_n hC.x hC.b dX6_knownOne_47 rfl (lv_at hl 0 rfl) ?_
  refine gM_9 hC hP dX6_knownOne_48 ?_
  refine lv_iconst (v := 5) hC.x hC.b dX6_knownOne_51 (by decide) ?_
  refine lv_icmp_ne (tgt := 59) hC.x hC.b dX6_knownOne_52 (by decide) (fun c7 => ?_) (fun c7 => ?_)
  · have hw1507 := hw.1 c7
    refine lv_aload_n hC.x hC.b dX6_knownOne_59 rfl (lv_at hl 0 rfl) ?_
    refine gM_4 hC hP dX6_knownOne_60 ?_
    refine gR_20 hC hP dX6_knownOne_63 ?_
    refine lv_iload_n hC.x hC.b dX6_knownOne_66 rfl (lv_at hl 1 rfl) ?_
    obtain ⟨hin, hw1508⟩ := hw1507
    refine lR_13 hC hP hin rfl dX6_knownOne_67 ?_
    exact rt_i hC hw1508 hP hD hS dX6_knownOne_68
  · have hw1509 := hw.2 c7
    refine lv_iconst (v := 0) hC.x hC.b dX6_knownOne_55 (by decide) ?_
    refine lv_goto (tgt := 68) hC.x hC.b dX6_knownOne_56 (by decide) ?_
    exact rt_i hC hw1509 hP hD hS dX6_knownOne_68
def j6_knownOne_42 (post : Int32 → MS → Prop) (S : MS) (x2 : Int32) : Prop :=
  (w6_flaw (fun S6 => (j6_knownOne_47 post S6 x2)) S 2)
set_option maxHeartbeats 4000000 in
theorem k6_knownOne_42 {post : Int32 → MS → Prop} {S : MS} {x2 : Int32} (hC : CX RX6 cX6_knownOne 3 (some .int) D gCl nwG Z Hb A p s m args meth c) {adK adV : Nat → Nat} (hZ : ∀ U, Z U → zS adK adV A Hb U) (hw : j6_knownOne_42 post S x2) : ∀ (H : Heap) (locs : List Loc) (ls : Array Slot), va_P D gCl (wM D ad (some rt) (some (rt 0)) tw S) H → va_D A (wM D ad (some rt) (some (rt 0)) tw S) → va_S A s.heap H locs → lv_has ls 3 [(0, .ref (ad 0)), (2, .int x2)] → W p l e ({ frames := 7, cells := 0, slots := 0, locals := 149 } : Room) s m args below meth c H locs 0 0 (MQ below (va_Qi post (BW D gCl A (fun u => (wM D ad (some rt) (some (rt 0)) tw u))) A) args s 0 0 A) (F0 m 42 ls []) := by
  intro H locs ls hP hD hS hl
  unfold j6_knownOne_42 at hw
  refine lv_aload_n hC.x hC.b dX6_knownOne_42 rfl (lv_at hl 0 rfl) ?_
  refine lv_iconst (v := 2) hC.x hC.b dX6_knownOne_43 (by decide) ?_
  refine go_v (run_V (rest := []) hC (m6_flaw l hw) v6_6_flaw h6_flaw 0 5 gCl_X6 rfl rfl ⟨rfl, rfl, Nat.le_of_ble_eq_true rfl, Nat.le_of_ble_eq_true rfl⟩ ⟨Nat.le_refl _, Nat.le_refl _⟩ hP hD hS hl.1 (Nat.le_of_ble_eq_true rfl) dX6_knownOne_44 rfl) hS (fun S6 H locs hw1506 hP hD hS => ?_)
  exact k6_knownOne_47 hC hZ hw1506 H locs ls hP hD hS (lv_sub hl [0, 1] rfl)
def j6_knownOne_12 (post : Int32 → MS → Prop) (S : MS) (x1 : Int32) : Prop :=
  (w15_find (fun r3 => ((r3 = (-1) → (j6_knownOne_42 post S r3)) ∧ (¬ r3 = (-1) → (vp_in r3 12 ∧ (((S.1 52 r3.toNatClampNeg) = x1 → (j6_knownOne_47 post S r3)) ∧ (¬ (S.1 52 r3.toNatClampNeg) = x1 → (j6_knownOne_42 post S r3))))))) S (S.2 0 14))
set_option maxHeartbeats 4000000 in
theorem k6_knownOne_12 {post : Int32 → MS → Prop} {S : MS} {x1 : Int32} (hC : CX RX6 cX6_knownOne 3 (some .int) D gCl nwG Z Hb A p s m args meth c) {adK adV : Nat → Nat} (hZ : ∀ U, Z U → zS adK adV A Hb U) (hw : j6_knownOne_12 post S x1) : ∀ (H : Heap) (locs : List Loc) (ls : Array Slot), va_P D gCl (wM D ad (some rt) (some (rt 0)) tw S) H → va_D A (wM D ad (some rt) (some (rt 0)) tw S) → va_S A s.heap H locs → lv_has ls 3 [(0, .ref (ad 0)), (1, .int x1)] → W p l e ({ frames := 7, cells := 0, slots := 0, locals := 149 } : Room) s m args below meth c H locs 0 0 (MQ below (va_Qi post (BW D gCl A (fun u => (wM D ad (some rt) (some (rt 0)) tw u))) A) args s 0 0 A) (F0 m 12 ls []) := by
  intro H locs ls hP hD hS hl
  unfold j6_knownOne_12 at hw
  refine lv_aload_n hC.x hC.b dX6_knownOne_12 rfl (lv_at hl 0 rfl) ?_
  refine gM_4 hC hP dX6_knownOne_13 ?_
  refine lv_aload_n hC.x hC.b dX6_knownOne_16 rfl (lv_at hl 0 rfl) ?_
  refine gM_14 hC hP dX6_knownOne_17 ?_
  refine go_i (run_V (rest := []) hC (m15_find l hw) v6_15_find h15_find 12 12 gCl_X15 rfl rfl ⟨rfl, rfl, Nat.le_of_ble_eq_true rfl, Nat.le_of_ble_eq_true rfl⟩ ⟨Nat.le_refl _, Nat.le_refl _⟩ hP hD hS hl.1 (Nat.le_of_ble_eq_true rfl) dX6_knownOne_20 rfl) hS (fun r3 u H locs hw1504 hP hD hS => ?_)
  refine lv_istore_n (lv' := [(2, .int r3), (0, .ref (ad 0)), (1, .int x1)]) hC.x hC.b dX6_knownOne_23 rfl hl (by decide) rfl (fun ls hl => ?_)
  refine lv_iload_n hC.x hC.b dX6_knownOne_24 rfl (lv_at hl 0 rfl) ?_
  refine lv_iconst (v := (-1)) hC.x hC.b dX6_knownOne_25 (by decide) ?_
  refine lv_icmp_eq (tgt := 42) hC.x hC.b dX6_knownOne_26 (by decide) (fun c4 => ?_) (fun c4 => ?_)
  · have hw1505 := hw1504.1 c4
    exact k6_knownOne_42 hC hZ hw1505 H locs ls hP hD hS (lv_sub hl [1, 0] rfl)
  · have hw1510 := hw1504.2 c4
    refine lv_aload_n hC.x hC.b dX6_knownOne_29 rfl (lv_at hl 1 rfl) ?_
    refine gM_4 hC hP dX6_knownOne_30 ?_
    refine gR_19 hC hP dX6_knownOne_33 ?_
    refine lv_iload_n hC.x hC.b dX6_knownOne_36 rfl (lv_at hl 0 rfl) ?_
    obtain ⟨hin, hw1511⟩ := hw1510
    refine lR_12 hC hP hin rfl dX6_knownOne_37 ?_
    refine lv_iload_n hC.x hC.b dX6_knownOne_38 rfl (lv_at hl 2 rfl) ?_
    refine lv_icmp_eq (tgt := 47) hC.x hC.b dX6_knownOne_39 (by decide) (fun c8 => ?_) (fun c8 => ?_)
    · have hw1512 := hw1511.1 c8
      exact k6_knownOne_47 hC hZ hw1512 H locs ls hP hD hS (lv_sub hl [1, 0] rfl)
    · have hw1513 := hw1511.2 c8
      exact k6_knownOne_42 hC hZ hw1513 H locs ls hP hD hS (lv_sub hl [1, 0] rfl)
def w6_knownOne (post : Int32 → MS → Prop) (S : MS) (x1 : Int32) : Prop :=
  (w6_isName (fun r1 => ((¬ r1 = 0 → (j6_knownOne_12 post S x1)) ∧ (r1 = 0 → (w6_flaw (fun S10 => (j6_knownOne_12 post S10 x1)) S 1)))) S)
set_option maxHeartbeats 4000000 in
theorem m6_knownOne (l : Launch) {post : Int32 → MS → Prop} {S : MS} {x1 : Int32} {adK adV : Nat → Nat} (hZ : ∀ U, Z U → zS adK adV A Hb U) (hw : w6_knownOne post S x1) : Met l yX6_knownOne (ws_ yX6_knownOne cX6_knownOne 3 (some .int)) ({ frames := 7, cells := 0, slots := 0, locals := 149 } : Room) (va_Pc [.ref (ad 0), .int x1] (PcG D gCl nwG Z Hb A (wM D ad (some rt) (some (rt 0)) tw S))) (va_Qi post (BW D gCl A (fun u => (wM D ad (some rt) (some (rt 0)) tw u))) A) 0 0 A := by
  refine Met.ofG (by decide) (Nat.le_of_ble_eq_true rfl) ?_
  intro p e s m below meth c ls hC _ hP hD hS hl
  have hC : CX RX6 cX6_knownOne 3 (some .int) D gCl nwG Z Hb A p s m _ meth c := hC
  have hl : lv_has ls 3 [(0, .ref (ad 0)), (1, .int x1)] := hl
  unfold w6_knownOne at hw
  refine lv_aload_n hC.x hC.b dX6_knownOne_0 rfl (lv_at hl 0 rfl) ?_
  refine go_i (run_V (rest := []) hC (m6_isName l hZ hw) v6_6_isName h6_isName 0 5 gCl_X6 rfl rfl ⟨rfl, rfl, Nat.le_of_ble_eq_true rfl, Nat.le_of_ble_eq_true rfl⟩ ⟨Nat.le_refl _, Nat.le_refl _⟩ hP hD hS hl.1 (Nat.le_of_ble_eq_true rfl) dX6_knownOne_1 rfl) hS (fun r1 u H locs hw1502 hP hD hS => ?_)
  refine lv_if_ne (tgt := 12) hC.x hC.b dX6_knownOne_4 (by decide) (fun c2 => ?_) (fun c2 => ?_)
  · have hw1503 := hw1502.1 c2
    exact k6_knownOne_12 hC hZ hw1503 H locs ls hP hD hS (lv_sub hl [0, 1] rfl)
  · have hw1514 := hw1502.2 c2
    refine lv_aload_n hC.x hC.b dX6_knownOne_7 rfl (lv_at hl 0 rfl) ?_
    refine lv_iconst (v := 1) hC.x hC.b dX6_knownOne_8 (by decide) ?_
    refine go_v (run_V (rest := []) hC (m6_flaw l hw1514) v6_6_flaw h6_flaw 0 5 gCl_X6 rfl rfl ⟨rfl, rfl, Nat.le_of_ble_eq_true rfl, Nat.le_of_ble_eq_true rfl⟩ ⟨Nat.le_refl _, Nat.le_refl _⟩ hP hD hS hl.1 (Nat.le_of_ble_eq_true rfl) dX6_knownOne_9 rfl) hS (fun S10 H locs hw1515 hP hD hS => ?_)
    exact k6_knownOne_12 hC hZ hw1515 H locs ls hP hD hS (lv_sub hl [0, 1] rfl)
theorem v6_6_knownOne : GoodIn lw_all (wsV RX6 184 RX6 yX6_knownOne (ws_ yX6_knownOne cX6_knownOne 3 (some .int))) := lw_V q1735 q1737 qs68 q126 q1738
theorem h6_readKnown : yX6_readKnown.cls = RX6 ∧ yX6_readKnown.cls ≠ "java/lang/invoke/MethodHandle" ∧ yX6_readKnown.cls ≠ "java/lang/invoke/VarHandle" ∧ (parseMethodDescriptor yX6_readKnown.desc).map (fun d => d.parameters.length) = some 1 := by decide +kernel
def w6_readKnown (post : Int32 → MS → Prop) (S : MS) (x1 : Int32) : Prop :=
  (w6_knownOne (fun r1 S2 => (w6_goesOn (fun S4 => (post r1 S4)) S2)) S x1)
set_option maxHeartbeats 4000000 in
theorem m6_readKnown (l : Launch) {post : Int32 → MS → Prop} {S : MS} {x1 : Int32} {adK adV : Nat → Nat} (hZ : ∀ U, Z U → zS adK adV A Hb U) (hw : w6_readKnown post S x1) : Met l yX6_readKnown (ws_ yX6_readKnown cX6_readKnown 3 (some .int)) ({ frames := 8, cells := 0, slots := 0, locals := 171 } : Room) (va_Pc [.ref (ad 0), .int x1] (PcG D gCl nwG Z Hb A (wM D ad (some rt) (some (rt 0)) tw S))) (va_Qi post (BW D gCl A (fun u => (wM D ad (some rt) (some (rt 0)) tw u))) A) 0 0 A := by
  refine Met.ofG (by decide) (Nat.le_of_ble_eq_true rfl) ?_
  intro p e s m below meth c ls hC _ hP hD hS hl
  have hC : CX RX6 cX6_readKnown 3 (some .int) D gCl nwG Z Hb A p s m _ meth c := hC
  have hl : lv_has ls 3 [(0, .ref (ad 0)), (1, .int x1)] := hl
  unfold w6_readKnown at hw
  refine lv_aload_n hC.x hC.b dX6_readKnown_0 rfl (lv_at hl 0 rfl) ?_
  refine lv_iload_n hC.x hC.b dX6_readKnown_1 rfl (lv_at hl 1 rfl) ?_
  refine go_i (run_V (rest := []) hC (m6_knownOne l hZ hw) v6_6_knownOne h6_knownOne 0 5 gCl_X6 rfl rfl ⟨rfl, rfl, Nat.le_of_ble_eq_true rfl, Nat.le_of_ble_eq_true rfl⟩ ⟨Nat.le_refl _, Nat.le_refl _⟩ hP hD hS hl.1 (Nat.le_of_ble_eq_true rfl) dX6_readKnown_2 rfl) hS (fun r1 S2 H locs hw1516 hP hD hS => ?_)
  refine lv_istore_n (lv' := [(2, .int r1), (0, .ref (ad 0)), (1, .int x1)]) hC.x hC.b dX6_readKnown_5 rfl hl (by decide) rfl (fun ls hl => ?_)
  refine lv_aload_n hC.x hC.b dX6_readKnown_6 rfl (lv_at hl 1 rfl) ?_
  refine go_v (run_V (rest := []) hC (m6_goesOn l hw1516) v6_6_goesOn h6_goesOn 0 5 gCl_X6 rfl rfl ⟨rfl, rfl, Nat.le_of_ble_eq_true rfl, Nat.le_of_ble_eq_true rfl⟩ ⟨Nat.le_refl _, Nat.le_refl _⟩ hP hD hS hl.1 (Nat.le_of_ble_eq_true rfl) dX6_readKnown_7 rfl) hS (fun S4 H locs hw1517 hP hD hS => ?_)
  refine lv_iload_n hC.x hC.b dX6_readKnown_10 rfl (lv_at hl 0 rfl) ?_
  exact rt_i hC hw1517 hP hD hS dX6_readKnown_11
theorem v6_6_readKnown : GoodIn lw_all (wsV RX6 255 RX6 yX6_readKnown (ws_ yX6_readKnown cX6_readKnown 3 (some .int))) := lw_V q1731 q1733 qs67 q126 q1734
theorem h6_readDead : yX6_readDead.cls = RX6 ∧ yX6_readDead.cls ≠ "java/lang/invoke/MethodHandle" ∧ yX6_readDead.cls ≠ "java/lang/invoke/VarHandle" ∧ (parseMethodDescriptor yX6_readDead.desc).map (fun d => d.parameters.length) = some 0 := by decide +kernel
def j6_readDead_82 (post : MS → Prop) (S : MS) (x1 : Int64) (x3 : Int32) : Prop :=
  (w6_goesOn (fun S15 => (w6_readPart (fun r16 S17 => (w6_needs (fun S19 => (w6_readKnown (fun r20 S21 => ((¬ (S21.1 0 9) = 5 → (w6_names (fun S24 => (vp_in (S24.1 40 3) 6 ∧ (∀ S25, S25 = uI S24 42 (S24.1 40 3).toNatClampNeg x3 → (vp_in (S25.1 40 3) 6 ∧ (∀ S26, S26 = uI S25 43 (S25.1 40 3).toNatClampNeg r16 → (vp_in (S26.1 40 3) 6 ∧ (∀ S27, S27 = uI S26 44 (S26.1 40 3).toNatClampNeg r20 → (vp_in (S27.1 40 3) 6 ∧ (∀ S28, S28 = uI S27 45 (S27.1 40 3).toNatClampNeg (-2) → (∀ S29, S29 = uI S28 40 3 ((S28.1 40 3) + 1) → (post S29))))))))))) S21 x1 1 (S21.1 40 3))) ∧ ((S21.1 0 9) = 5 → (post S21)))) S19 0)) S17 (kB 31))) S15 (kB 30) 0 39)) S)
set_option maxHeartbeats 4000000 in
theorem k6_readDead_82 {post : MS → Prop} {S : MS} {x1 : Int64} {x3 : Int32} (hC : CX RX6 cX6_readDead 6 none D gCl nwG Z Hb A p s m args meth c) {adK adV : Nat → Nat} (hZ : ∀ U, Z U → zS adK adV A Hb U) (hw : j6_readDead_82 post S x1 x3) : ∀ (H : Heap) (locs : List Loc) (ls : Array Slot), va_P D gCl (wM D ad (some rt) (some (rt 0)) tw S) H → va_D A (wM D ad (some rt) (some (rt 0)) tw S) → va_S A s.heap H locs → lv_has ls 6 [(0, .ref (ad 0)), (1, .long x1), (3, .int x3)] → W p l e ({ frames := 9, cells := 0, slots := 0, locals := 193 } : Room) s m args below meth c H locs 0 0 (MQ below (va_Qv post (BW D gCl A (fun u => (wM D ad (some rt) (some (rt 0)) tw u))) A) args s 0 0 A) (F0 m 82 ls []) := by
  intro H locs ls hP hD hS hl
  unfold j6_readDead_82 at hw
  refine lv_aload_n hC.x hC.b dX6_readDead_82 rfl (lv_at hl 0 rfl) ?_
  refine go_v (run_V (rest := []) hC (m6_goesOn l hw) v6_6_goesOn h6_goesOn 0 5 gCl_X6 rfl rfl ⟨rfl, rfl, Nat.le_of_ble_eq_true rfl, Nat.le_of_ble_eq_true rfl⟩ ⟨Nat.le_refl _, Nat.le_refl _⟩ hP hD hS hl.1 (Nat.le_of_ble_eq_true rfl) dX6_readDead_83 rfl) hS (fun S15 H locs hw1529 hP hD hS => ?_)
  refine lv_aload_n hC.x hC.b dX6_readDead_86 rfl (lv_at hl 0 rfl) ?_
  refine va_ldcS hC.x hC.b hC.ow ((hZ s hC.K.2.2.2).2.2.2.1 30 _ rfl).1 dX6_readDead_87 ?_
  refine lv_iconst (v := 0) hC.x hC.b dX6_readDead_89 (by decide) ?_
  refine lv_bipush (v := 39) hC.x hC.b dX6_readDead_90 (by decide) ?_
  refine go_i (run_V (rest := []) hC (m6_readPart l hZ (kCs hZ 30 (by decide)) hw1529) v6_6_readPart h6_readPart 0 5 gCl_X6 rfl rfl ⟨rfl, rfl, Nat.le_of_ble_eq_true rfl, Nat.le_of_ble_eq_true rfl⟩ ⟨Nat.le_refl _, Nat.le_refl _⟩ hP hD hS hl.1 (Nat.le_of_ble_eq_true rfl) dX6_readDead_92 rfl) hS (fun r16 S17 H locs hw1530 hP hD hS => ?_)
  refine lv_istore (lv' := [(4, .int r16), (0, .ref (ad 0)), (1, .long x1), (3, .int x3)]) hC.x hC.b dX6_readDead_95 hl (by decide) rfl (fun ls hl => ?_)
  refine lv_aload_n hC.x hC.b dX6_readDead_97 rfl (lv_at hl 1 rfl) ?_
  refine va_ldcS hC.x hC.b hC.ow ((hZ s hC.K.2.2.2).2.2.2.1 31 _ rfl).1 dX6_readDead_98 ?_
  refine go_v (run_V (rest := []) hC (m6_needs l hZ (kCs hZ 31 (by decide)) hw1530) v6_6_needs h6_needs 0 5 gCl_X6 rfl rfl ⟨rfl, rfl, Nat.le_of_ble_eq_true rfl, Nat.le_of_ble_eq_true rfl⟩ ⟨Nat.le_refl _, Nat.le_refl _⟩ hP hD hS hl.1 (Nat.le_of_ble_eq_true rfl) dX6_readDead_100 rfl) hS (fun S19 H locs hw1531 hP hD hS => ?_)
  refine lv_aload_n hC.x hC.b dX6_readDead_103 rfl (lv_at hl 1 rfl) ?_
  refine lv_iconst (v := 0) hC.x hC.b dX6_readDead_104 (by decide) ?_
  refine go_i (run_V (rest := []) hC (m6_readKnown l hZ hw1531) v6_6_readKnown h6_readKnown 0 5 gCl_X6 rfl rfl ⟨rfl, rfl, Nat.le_of_ble_eq_true rfl, Nat.le_of_ble_eq_true rfl⟩ ⟨Nat.le_refl _, Nat.le_refl _⟩ hP hD hS hl.1 (Nat.le_of_ble_eq_true rfl) dX6_readDead_105 rfl) hS (fun r20 S21 H locs hw1532 hP hD hS => ?_)
  refine lv_istore (lv' := [(5, .int r20), (4, .int r16), (0, .ref (ad 0)), (1, .long x1), (3, .int x3)]) hC.x hC.b dX6_readDead_108 hl (by decide) rfl (fun ls hl => ?_)
  refine lv_aload_n hC.x hC.b dX6_readDead_110 rfl (lv_at hl 2 rfl) ?_
  refine gM_9 hC hP dX6_readDead_111 ?_
  refine lv_iconst (v := 5) hC.x hC.b dX6_readDead_114 (by decide) ?_
  refine lv_icmp_ne (tgt := 119) hC.x hC.b dX6_readDead_115 (by decide) (fun c22 => ?_) (fun c22 => ?_)
  · have hw1533 := hw1532.1 c22
    refine lv_aload_n hC.x hC.b dX6_readDead_119 rfl (lv_at hl 2 rfl) ?_
    refine lv_lload_n hC.x hC.b dX6_readDead_120 rfl (lv_at hl 3 rfl) ?_
    refine lv_iconst (v := 1) hC.x hC.b dX6_readDead_121 (by decide) ?_
    refine lv_aload_n hC.x hC.b dX6_readDead_122 rfl (lv_at hl 2 rfl) ?_
    refine gM_4 hC hP dX6_readDead_123 ?_
    refine gR_3 hC hP dX6_readDead_126 ?_
    refine go_v (run_V (rest := []) hC (m6_names l hw1533) v6_6_names h6_names 0 5 gCl_X6 rfl rfl ⟨rfl, rfl, Nat.le_of_ble_eq_true rfl, Nat.le_of_ble_eq_true rfl⟩ ⟨Nat.le_refl _, Nat.le_refl _⟩ hP hD hS hl.1 (Nat.le_of_ble_eq_true rfl) dX6_readDead_129 rfl) hS (fun S24 H locs hw1534 hP hD hS => ?_)
    refine lv_aload_n hC.x hC.b dX6_readDead_132 rfl (lv_at hl 2 rfl) ?_
    refine gM_4 hC hP dX6_readDead_133 ?_
    refine gR_9 hC hP dX6_readDead_136 ?_
    refine lv_aload_n hC.x hC.b dX6_readDead_139 rfl (lv_at hl 2 rfl) ?_
    refine gM_4 hC hP dX6_readDead_140 ?_
    refine gR_3 hC hP dX6_readDead_143 ?_
    refine lv_iload_n hC.x hC.b dX6_readDead_146 rfl (lv_at hl 4 rfl) ?_
    obtain ⟨hin, hw1535⟩ := hw1534
    refine sR_2 hC hP hD hS (v := x3) hin rfl dX6_readDead_147 (fun S25 eS25 H locs hP hD hS => ?_)
    have hw1536 := hw1535 S25 eS25
    refine lv_aload_n hC.x hC.b dX6_readDead_148 rfl (lv_at hl 2 rfl) ?_
    refine gM_4 hC hP dX6_readDead_149 ?_
    refine gR_10 hC hP dX6_readDead_152 ?_
    refine lv_aload_n hC.x hC.b dX6_readDead_155 rfl (lv_at hl 2 rfl) ?_
    refine gM_4 hC hP dX6_readDead_156 ?_
    refine gR_3 hC hP dX6_readDead_159 ?_
    refine lv_iload hC.x hC.b dX6_readDead_162 (lv_at hl 1 rfl) ?_
    obtain ⟨hin, hw1537⟩ := hw1536
    refine sR_3 hC hP hD hS (v := r16) hin rfl dX6_readDead_164 (fun S26 eS26 H locs hP hD hS => ?_)
    have hw1538 := hw1537 S26 eS26
    refine lv_aload_n hC.x hC.b dX6_readDead_165 rfl (lv_at hl 2 rfl) ?_
    refine gM_4 hC hP dX6_readDead_166 ?_
    refine gR_11 hC hP dX6_readDead_169 ?_
    refine lv_aload_n hC.x hC.b dX6_readDead_172 rfl (lv_at hl 2 rfl) ?_
    refine gM_4 hC hP dX6_readDead_173 ?_
    refine gR_3 hC hP dX6_readDead_176 ?_
    refine lv_iload hC.x hC.b dX6_readDead_179 (lv_at hl 0 rfl) ?_
    obtain ⟨hin, hw1539⟩ := hw1538
    refine sR_4 hC hP hD hS (v := r20) hin rfl dX6_readDead_181 (fun S27 eS27 H locs hP hD hS => ?_)
    have hw1540 := hw1539 S27 eS27
    refine lv_aload_n hC.x hC.b dX6_readDead_182 rfl (lv_at hl 2 rfl) ?_
    refine gM_4 hC hP dX6_readDead_183 ?_
    refine gR_12 hC hP dX6_readDead_186 ?_
    refine lv_aload_n hC.x hC.b dX6_readDead_189 rfl (lv_at hl 2 rfl) ?_
    refine gM_4 hC hP dX6_readDead_190 ?_
    refine gR_3 hC hP dX6_readDead_193 ?_
    refine lv_bipush (v := (-2)) hC.x hC.b dX6_readDead_196 (by decide) ?_
    obtain ⟨hin, hw1541⟩ := hw1540
    refine sR_5 hC hP hD hS (v := (-2)) hin rfl dX6_readDead_198 (fun S28 eS28 H locs hP hD hS => ?_)
    have hw1542 := hw1541 S28 eS28
    refine lv_aload_n hC.x hC.b dX6_readDead_199 rfl (lv_at hl 2 rfl) ?_
    refine gM_4 hC hP dX6_readDead_200 ?_
    refine lv_dup hC.x hC.b dX6_readDead_203 rfl ?_
    refine gR_3 hC hP dX6_readDead_204 ?_
    refine lv_iconst (v := 1) hC.x hC.b dX6_readDead_207 (by decide) ?_
    refine lv_iadd hC.x hC.b dX6_readDead_208 ?_
    refine pR_3 hC hP hD hS (v := ((S28.1 40 3) + 1)) dX6_readDead_209 (fun S29 eS29 H locs hP hD hS => ?_)
    have hw1543 := hw1542 S29 eS29
    exact rt_v hC hw1543 hP hD hS dX6_readDead_212
  · have hw1544 := hw1532.2 c22
    exact rt_v hC hw1544 hP hD hS dX6_readDead_118
def j6_readDead_71 (post : MS → Prop) (S : MS) (x1 : Int64) (y0 : Int32) : Prop :=
  ((¬ y0 = (-1) → (j6_readDead_82 post S x1 y0)) ∧ (y0 = (-1) → (w6_flaw (fun S31 => (j6_readDead_82 post S31 x1 y0)) S 1)))
set_option maxHeartbeats 4000000 in
theorem k6_readDead_71 {post : MS → Prop} {S : MS} {x1 : Int64} {y0 : Int32} (hC : CX RX6 cX6_readDead 6 none D gCl nwG Z Hb A p s m args meth c) {adK adV : Nat → Nat} (hZ : ∀ U, Z U → zS adK adV A Hb U) (hw : j6_readDead_71 post S x1 y0) : ∀ (H : Heap) (locs : List Loc) (ls : Array Slot), va_P D gCl (wM D ad (some rt) (some (rt 0)) tw S) H → va_D A (wM D ad (some rt) (some (rt 0)) tw S) → va_S A s.heap H locs → lv_has ls 6 [(0, .ref (ad 0)), (1, .long x1)] → W p l e ({ frames := 9, cells := 0, slots := 0, locals := 193 } : Room) s m args below meth c H locs 0 0 (MQ below (va_Qv post (BW D gCl A (fun u => (wM D ad (some rt) (some (rt 0)) tw u))) A) args s 0 0 A) (F0 m 71 ls [.int y0]) := by
  intro H locs ls hP hD hS hl
  unfold j6_readDead_71 at hw
  refine lv_istore_n (lv' := [(3, .int y0), (0, .ref (ad 0)), (1, .long x1)]) hC.x hC.b dX6_readDead_71 rfl hl (by decide) rfl (fun ls hl => ?_)
  refine lv_iload_n hC.x hC.b dX6_readDead_72 rfl (lv_at hl 0 rfl) ?_
  refine lv_iconst (v := (-1)) hC.x hC.b dX6_readDead_73 (by decide) ?_
  refine lv_icmp_ne (tgt := 82) hC.x hC.b dX6_readDead_74 (by decide) (fun c13 => ?_) (fun c13 => ?_)
  · have hw1528 := hw.1 c13
    exact k6_readDead_82 hC hZ hw1528 H locs ls hP hD hS (lv_sub hl [1, 2, 0] rfl)
  · have hw1545 := hw.2 c13
    refine lv_aload_n hC.x hC.b dX6_readDead_77 rfl (lv_at hl 1 rfl) ?_
    refine lv_iconst (v := 1) hC.x hC.b dX6_readDead_78 (by decide) ?_
    refine go_v (run_V (rest := []) hC (m6_flaw l hw1545) v6_6_flaw h6_flaw 0 5 gCl_X6 rfl rfl ⟨rfl, rfl, Nat.le_of_ble_eq_true rfl, Nat.le_of_ble_eq_true rfl⟩ ⟨Nat.le_refl _, Nat.le_refl _⟩ hP hD hS hl.1 (Nat.le_of_ble_eq_true rfl) dX6_readDead_79 rfl) hS (fun S31 H locs hw1546 hP hD hS => ?_)
    exact k6_readDead_82 hC hZ hw1546 H locs ls hP hD hS (lv_sub hl [1, 2, 0] rfl)
def w6_readDead (post : MS → Prop) (S : MS) : Prop :=
  (w6_lineBegins (fun S2 => (w6_readFresh (fun r3 S4 => (w6_isWord (fun r5 => ((r5 = 0 → (w6_isWord (fun r7 => ((r7 = 0 → (w6_isWord (fun r9 => ((r9 = 0 → (w6_isWord (fun r11 => ((r11 = 0 → (j6_readDead_71 post S4 r3 (-1))) ∧ (¬ r11 = 0 → (j6_readDead_71 post S4 r3 3)))) S4 (kB 29))) ∧ (¬ r9 = 0 → (j6_readDead_71 post S4 r3 2)))) S4 (kB 28))) ∧ (¬ r7 = 0 → (j6_readDead_71 post S4 r3 1)))) S4 (kB 27))) ∧ (¬ r5 = 0 → (j6_readDead_71 post S4 r3 0)))) S4 (kB 26))) S2)) S (S.1 40 3) 6)
set_option maxHeartbeats 4000000 in
theorem m6_readDead (l : Launch) {post : MS → Prop} {S : MS} {adK adV : Nat → Nat} (hZ : ∀ U, Z U → zS adK adV A Hb U) (hw : w6_readDead post S) : Met l yX6_readDead (ws_ yX6_readDead cX6_readDead 6 none) ({ frames := 9, cells := 0, slots := 0, locals := 193 } : Room) (va_Pc [.ref (ad 0)] (PcG D gCl nwG Z Hb A (wM D ad (some rt) (some (rt 0)) tw S))) (va_Qv post (BW D gCl A (fun u => (wM D ad (some rt) (some (rt 0)) tw u))) A) 0 0 A := by
  refine Met.ofG (by decide) (Nat.le_of_ble_eq_true rfl) ?_
  intro p e s m below meth c ls hC _ hP hD hS hl
  have hC : CX RX6 cX6_readDead 6 none D gCl nwG Z Hb A p s m _ meth c := hC
  have hl : lv_has ls 6 [(0, .ref (ad 0))] := hl
  unfold w6_readDead at hw
  refine lv_aload_n hC.x hC.b dX6_readDead_0 rfl (lv_at hl 0 rfl) ?_
  refine lv_aload_n hC.x hC.b dX6_readDead_1 rfl (lv_at hl 0 rfl) ?_
  refine gM_4 hC hP dX6_readDead_2 ?_
  refine gR_3 hC hP dX6_readDead_5 ?_
  refine lv_bipush (v := 6) hC.x hC.b dX6_readDead_8 (by decide) ?_
  refine go_v (run_V (rest := []) hC (m6_lineBegins l hw) v6_6_lineBegins h6_lineBegins 0 5 gCl_X6 rfl rfl ⟨rfl, rfl, Nat.le_of_ble_eq_true rfl, Nat.le_of_ble_eq_true rfl⟩ ⟨Nat.le_refl _, Nat.le_refl _⟩ hP hD hS hl.1 (Nat.le_of_ble_eq_true rfl) dX6_readDead_10 rfl) hS (fun S2 H locs hw1518 hP hD hS => ?_)
  refine lv_aload_n hC.x hC.b dX6_readDead_13 rfl (lv_at hl 0 rfl) ?_
  refine go_l (run_V (rest := []) hC (m6_readFresh l hZ hw1518) v6_6_readFresh h6_readFresh 0 5 gCl_X6 rfl rfl ⟨rfl, rfl, Nat.le_of_ble_eq_true rfl, Nat.le_of_ble_eq_true rfl⟩ ⟨Nat.le_refl _, Nat.le_refl _⟩ hP hD hS hl.1 (Nat.le_of_ble_eq_true rfl) dX6_readDead_14 rfl) hS (fun r3 S4 H locs hw1519 hP hD hS => ?_)
  refine lv_lstore_n (lv' := [(1, .long r3), (0, .ref (ad 0))]) hC.x hC.b dX6_readDead_17 rfl hl (by decide) rfl (fun ls hl => ?_)
  refine lv_aload_n hC.x hC.b dX6_readDead_18 rfl (lv_at hl 1 rfl) ?_
  refine va_ldcS hC.x hC.b hC.ow ((hZ s hC.K.2.2.2).2.2.2.1 26 _ rfl).1 dX6_readDead_19 ?_
  refine go_i (run_V (rest := []) hC (m6_isWord l hZ (kCs hZ 26 (by decide)) hw1519) v6_6_isWord h6_isWord 0 5 gCl_X6 rfl rfl ⟨rfl, rfl, Nat.le_of_ble_eq_true rfl, Nat.le_of_ble_eq_true rfl⟩ ⟨Nat.le_refl _, Nat.le_refl _⟩ hP hD hS hl.1 (Nat.le_of_ble_eq_true rfl) dX6_readDead_21 rfl) hS (fun r5 u H locs hw1520 hP hD hS => ?_)
  refine lv_if_eq (tgt := 31) hC.x hC.b dX6_readDead_24 (by decide) (fun c6 => ?_) (fun c6 => ?_)
  · have hw1521 := hw1520.1 c6
    refine lv_aload_n hC.x hC.b dX6_readDead_31 rfl (lv_at hl 1 rfl) ?_
    refine va_ldcS hC.x hC.b hC.ow ((hZ s hC.K.2.2.2).2.2.2.1 27 _ rfl).1 dX6_readDead_32 ?_
    refine go_i (run_V (rest := []) hC (m6_isWord l hZ (kCs hZ 27 (by decide)) hw1521) v6_6_isWord h6_isWord 0 5 gCl_X6 rfl rfl ⟨rfl, rfl, Nat.le_of_ble_eq_true rfl, Nat.le_of_ble_eq_true rfl⟩ ⟨Nat.le_refl _, Nat.le_refl _⟩ hP hD hS hl.1 (Nat.le_of_ble_eq_true rfl) dX6_readDead_34 rfl) hS (fun r7 u H locs hw1522 hP hD hS => ?_)
    refine lv_if_eq (tgt := 44) hC.x hC.b dX6_readDead_37 (by decide) (fun c8 => ?_) (fun c8 => ?_)
    · have hw1523 := hw1522.1 c8
      refine lv_aload_n hC.x hC.b dX6_readDead_44 rfl (lv_at hl 1 rfl) ?_
      refine va_ldcS hC.x hC.b hC.ow ((hZ s hC.K.2.2.2).2.2.2.1 28 _ rfl).1 dX6_readDead_45 ?_
      refine go_i (run_V (rest := []) hC (m6_isWord l hZ (kCs hZ 28 (by decide)) hw1523) v6_6_isWord h6_isWord 0 5 gCl_X6 rfl rfl ⟨rfl, rfl, Nat.le_of_ble_eq_true rfl, Nat.le_of_ble_eq_true rfl⟩ ⟨Nat.le_refl _, Nat.le_refl _⟩ hP hD hS hl.1 (Nat.le_of_ble_eq_true rfl) dX6_readDead_47 rfl) hS (fun r9 u H locs hw1524 hP hD hS => ?_)
      refine lv_if_eq (tgt := 57) hC.x hC.b dX6_readDead_50 (by decide) (fun c10 => ?_) (fun c10 => ?_)
      · have hw1525 := hw1524.1 c10
        refine lv_aload_n hC.x hC.b dX6_readDead_57 rfl (lv_at hl 1 rfl) ?_
        refine va_ldcS hC.x hC.b hC.ow ((hZ s hC.K.2.2.2).2.2.2.1 29 _ rfl).1 dX6_readDead_58 ?_
        refine go_i (run_V (rest := []) hC (m6_isWord l hZ (kCs hZ 29 (by decide)) hw1525) v6_6_isWord h6_isWord 0 5 gCl_X6 rfl rfl ⟨rfl, rfl, Nat.le_of_ble_eq_true rfl, Nat.le_of_ble_eq_true rfl⟩ ⟨Nat.le_refl _, Nat.le_refl _⟩ hP hD hS hl.1 (Nat.le_of_ble_eq_true rfl) dX6_readDead_60 rfl) hS (fun r11 u H locs hw1526 hP hD hS => ?_)
        refine lv_if_eq (tgt := 70) hC.x hC.b dX6_readDead_63 (by decide) (fun c12 => ?_) (fun c12 => ?_)
        · have hw1527 := hw1526.1 c12
          refine lv_iconst (v := (-1)) hC.x hC.b dX6_readDead_70 (by decide) ?_
          exact k6_readDead_71 hC hZ hw1527 H locs ls hP hD hS (lv_sub hl [1, 0] rfl)
        · have hw1547 := hw1526.2 c12
          refine lv_iconst (v := 3) hC.x hC.b dX6_readDead_66 (by decide) ?_
          refine lv_goto (tgt := 71) hC.x hC.b dX6_readDead_67 (by decide) ?_
          exact k6_readDead_71 hC hZ hw1547 H locs ls hP hD hS (lv_sub hl [1, 0] rfl)
      · have hw1548 := hw1524.2 c10
        refine lv_iconst (v := 2) hC.x hC.b dX6_readDead_53 (by decide) ?_
        refine lv_goto (tgt := 71) hC.x hC.b dX6_readDead_54 (by decide) ?_
        exact k6_readDead_71 hC hZ hw1548 H locs ls hP hD hS (lv_sub hl [1, 0] rfl)
    · have hw1549 := hw1522.2 c8
      refine lv_iconst (v := 1) hC.x hC.b dX6_readDead_40 (by decide) ?_
      refine lv_goto (tgt := 71) hC.x hC.b dX6_readDead_41 (by decide) ?_
      exact k6_readDead_71 hC hZ hw1549 H locs ls hP hD hS (lv_sub hl [1, 0] rfl)
  · have hw1550 := hw1520.2 c6
    refine lv_iconst (v := 0) hC.x hC.b dX6_readDead_27 (by decide) ?_
    refine lv_goto (tgt := 71) hC.x hC.b dX6_readDead_28 (by decide) ?_
    exact k6_readDead_71 hC hZ hw1550 H locs ls hP hD hS (lv_sub hl [1, 0] rfl)
theorem h6_readMirror : yX6_readMirror.cls = RX6 ∧ yX6_readMirror.cls ≠ "java/lang/invoke/MethodHandle" ∧ yX6_readMirror.cls ≠ "java/lang/invoke/VarHandle" ∧ (parseMethodDescriptor yX6_readMirror.desc).map (fun d => d.parameters.length) = some 0 := by decide +kernel
def j6_readMirror_39 (post : MS → Prop) (S : MS) (x1 : Int32) : Prop :=
  (w6_goesOn (fun S7 => (w6_readWhole (fun r8 S9 => (((S9.1 0 9) = 5 → (post S9)) ∧ (¬ (S9.1 0 9) = 5 → (vp_in x1 6 ∧ (∀ S11, S11 = uI S9 45 x1.toNatClampNeg r8 → (post S11)))))) S7 0 ((S7.1 40 0) - 1))) S)
set_option maxHeartbeats 4000000 in
theorem k6_readMirror_39 {post : MS → Prop} {S : MS} {x1 : Int32} (hC : CX RX6 cX6_readMirror 3 none D gCl nwG Z Hb A p s m args meth c) {adK adV : Nat → Nat} (hZ : ∀ U, Z U → zS adK adV A Hb U) (hw : j6_readMirror_39 post S x1) : ∀ (H : Heap) (locs : List Loc) (ls : Array Slot), va_P D gCl (wM D ad (some rt) (some (rt 0)) tw S) H → va_D A (wM D ad (some rt) (some (rt 0)) tw S) → va_S A s.heap H locs → lv_has ls 3 [(0, .ref (ad 0)), (1, .int x1)] → W p l e ({ frames := 8, cells := 0, slots := 0, locals := 171 } : Room) s m args below meth c H locs 0 0 (MQ below (va_Qv post (BW D gCl A (fun u => (wM D ad (some rt) (some (rt 0)) tw u))) A) args s 0 0 A) (F0 m 39 ls []) := by
  intro H locs ls hP hD hS hl
  unfold j6_readMirror_39 at hw
  refine lv_aload_n hC.x hC.b dX6_readMirror_39 rfl (lv_at hl 0 rfl) ?_
  refine go_v (run_V (rest := []) hC (m6_goesOn l hw) v6_6_goesOn h6_goesOn 0 5 gCl_X6 rfl rfl ⟨rfl, rfl, Nat.le_of_ble_eq_true rfl, Nat.le_of_ble_eq_true rfl⟩ ⟨Nat.le_refl _, Nat.le_refl _⟩ hP hD hS hl.1 (Nat.le_of_ble_eq_true rfl) dX6_readMirror_40 rfl) hS (fun S7 H locs hw1554 hP hD hS => ?_)
  refine lv_aload_n hC.x hC.b dX6_readMirror_43 rfl (lv_at hl 0 rfl) ?_
  refine lv_iconst (v := 0) hC.x hC.b dX6_readMirror_44 (by decide) ?_
  refine lv_aload_n hC.x hC.b dX6_readMirror_45 rfl (lv_at hl 0 rfl) ?_
  refine gM_4 hC hP dX6_readMirror_46 ?_
  refine gR_0 hC hP dX6_readMirror_49 ?_
  refine lv_iconst (v := 1) hC.x hC.b dX6_readMirror_52 (by decide) ?_
  refine lv_isub hC.x hC.b dX6_readMirror_53 ?_
  refine go_i (run_V (rest := []) hC (m6_readWhole l hw1554) v6_6_readWhole h6_readWhole 0 5 gCl_X6 rfl rfl ⟨rfl, rfl, Nat.le_of_ble_eq_true rfl, Nat.le_of_ble_eq_true rfl⟩ ⟨Nat.le_refl _, Nat.le_refl _⟩ hP hD hS hl.1 (Nat.le_of_ble_eq_true rfl) dX6_readMirror_54 rfl) hS (fun r8 S9 H locs hw1555 hP hD hS => ?_)
  refine lv_istore_n (lv' := [(2, .int r8), (0, .ref (ad 0)), (1, .int x1)]) hC.x hC.b dX6_readMirror_57 rfl hl (by decide) rfl (fun ls hl => ?_)
  refine lv_aload_n hC.x hC.b dX6_readMirror_58 rfl (lv_at hl 1 rfl) ?_
  refine gM_9 hC hP dX6_readMirror_59 ?_
  refine lv_iconst (v := 5) hC.x hC.b dX6_readMirror_62 (by decide) ?_
  refine lv_icmp_eq (tgt := 76) hC.x hC.b dX6_readMirror_63 (by decide) (fun c10 => ?_) (fun c10 => ?_)
  · have hw1556 := hw1555.1 c10
    exact rt_v hC hw1556 hP hD hS dX6_readMirror_76
  · have hw1557 := hw1555.2 c10
    refine lv_aload_n hC.x hC.b dX6_readMirror_66 rfl (lv_at hl 1 rfl) ?_
    refine gM_4 hC hP dX6_readMirror_67 ?_
    refine gR_12 hC hP dX6_readMirror_70 ?_
    refine lv_iload_n hC.x hC.b dX6_readMirror_73 rfl (lv_at hl 2 rfl) ?_
    refine lv_iload_n hC.x hC.b dX6_readMirror_74 rfl (lv_at hl 0 rfl) ?_
    obtain ⟨hin, hw1558⟩ := hw1557
    refine sR_5 hC hP hD hS (v := r8) hin rfl dX6_readMirror_75 (fun S11 eS11 H locs hP hD hS => ?_)
    have hw1559 := hw1558 S11 eS11
    exact rt_v hC hw1559 hP hD hS dX6_readMirror_76
def w6_readMirror (post : MS → Prop) (S : MS) : Prop :=
  (w6_lineBegins (fun S2 => (w6_knownOne (fun r3 S4 => (((S4.1 0 9) = 5 → (j6_readMirror_39 post S4 r3)) ∧ (¬ (S4.1 0 9) = 5 → (vp_in r3 6 ∧ (((S4.1 45 r3.toNatClampNeg) = (-2) → (j6_readMirror_39 post S4 r3)) ∧ (¬ (S4.1 45 r3.toNatClampNeg) = (-2) → (w6_flaw (fun S14 => (j6_readMirror_39 post S14 r3)) S4 3))))))) S2 1)) S 0 1)
set_option maxHeartbeats 4000000 in
theorem m6_readMirror (l : Launch) {post : MS → Prop} {S : MS} {adK adV : Nat → Nat} (hZ : ∀ U, Z U → zS adK adV A Hb U) (hw : w6_readMirror post S) : Met l yX6_readMirror (ws_ yX6_readMirror cX6_readMirror 3 none) ({ frames := 8, cells := 0, slots := 0, locals := 171 } : Room) (va_Pc [.ref (ad 0)] (PcG D gCl nwG Z Hb A (wM D ad (some rt) (some (rt 0)) tw S))) (va_Qv post (BW D gCl A (fun u => (wM D ad (some rt) (some (rt 0)) tw u))) A) 0 0 A := by
  refine Met.ofG (by decide) (Nat.le_of_ble_eq_true rfl) ?_
  intro p e s m below meth c ls hC _ hP hD hS hl
  have hC : CX RX6 cX6_readMirror 3 none D gCl nwG Z Hb A p s m _ meth c := hC
  have hl : lv_has ls 3 [(0, .ref (ad 0))] := hl
  unfold w6_readMirror at hw
  refine lv_aload_n hC.x hC.b dX6_readMirror_0 rfl (lv_at hl 0 rfl) ?_
  refine lv_iconst (v := 0) hC.x hC.b dX6_readMirror_1 (by decide) ?_
  refine lv_iconst (v := 1) hC.x hC.b dX6_readMirror_2 (by decide) ?_
  refine go_v (run_V (rest := []) hC (m6_lineBegins l hw) v6_6_lineBegins h6_lineBegins 0 5 gCl_X6 rfl rfl ⟨rfl, rfl, Nat.le_of_ble_eq_true rfl, Nat.le_of_ble_eq_true rfl⟩ ⟨Nat.le_refl _, Nat.le_refl _⟩ hP hD hS hl.1 (Nat.le_of_ble_eq_true rfl) dX6_readMirror_3 rfl) hS (fun S2 H locs hw1551 hP hD hS => ?_)
  refine lv_aload_n hC.x hC.b dX6_readMirror_6 rfl (lv_at hl 0 rfl) ?_
  refine lv_iconst (v := 1) hC.x hC.b dX6_readMirror_7 (by decide) ?_
  refine go_i (run_V (rest := []) hC (m6_knownOne l hZ hw1551) v6_6_knownOne h6_knownOne 0 5 gCl_X6 rfl rfl ⟨rfl, rfl, Nat.le_of_ble_eq_true rfl, Nat.le_of_ble_eq_true rfl⟩ ⟨Nat.le_refl _, Nat.le_refl _⟩ hP hD hS hl.1 (Nat.le_of_ble_eq_true rfl) dX6_readMirror_8 rfl) hS (fun r3 S4 H locs hw1552 hP hD hS => ?_)
  refine lv_istore_n (lv' := [(1, .int r3), (0, .ref (ad 0))]) hC.x hC.b dX6_readMirror_11 rfl hl (by decide) rfl (fun ls hl => ?_)
  refine lv_aload_n hC.x hC.b dX6_readMirror_12 rfl (lv_at hl 1 rfl) ?_
  refine gM_9 hC hP dX6_readMirror_13 ?_
  refine lv_iconst (v := 5) hC.x hC.b dX6_readMirror_16 (by decide) ?_
  refine lv_icmp_eq (tgt := 39) hC.x hC.b dX6_readMirror_17 (by decide) (fun c5 => ?_) (fun c5 => ?_)
  · have hw1553 := hw1552.1 c5
    exact k6_readMirror_39 hC hZ hw1553 H locs ls hP hD hS (lv_sub hl [1, 0] rfl)
  · have hw1560 := hw1552.2 c5
    refine lv_aload_n hC.x hC.b dX6_readMirror_20 rfl (lv_at hl 1 rfl) ?_
    refine gM_4 hC hP dX6_readMirror_21 ?_
    refine gR_12 hC hP dX6_readMirror_24 ?_
    refine lv_iload_n hC.x hC.b dX6_readMirror_27 rfl (lv_at hl 0 rfl) ?_
    obtain ⟨hin, hw1561⟩ := hw1560
    refine lR_5 hC hP hin rfl dX6_readMirror_28 ?_
    refine lv_bipush (v := (-2)) hC.x hC.b dX6_readMirror_29 (by decide) ?_
    refine lv_icmp_eq (tgt := 39) hC.x hC.b dX6_readMirror_31 (by decide) (fun c12 => ?_) (fun c12 => ?_)
    · have hw1562 := hw1561.1 c12
      exact k6_readMirror_39 hC hZ hw1562 H locs ls hP hD hS (lv_sub hl [1, 0] rfl)
    · have hw1563 := hw1561.2 c12
      refine lv_aload_n hC.x hC.b dX6_readMirror_34 rfl (lv_at hl 1 rfl) ?_
      refine lv_iconst (v := 3) hC.x hC.b dX6_readMirror_35 (by decide) ?_
      refine go_v (run_V (rest := []) hC (m6_flaw l hw1563) v6_6_flaw h6_flaw 0 5 gCl_X6 rfl rfl ⟨rfl, rfl, Nat.le_of_ble_eq_true rfl, Nat.le_of_ble_eq_true rfl⟩ ⟨Nat.le_refl _, Nat.le_refl _⟩ hP hD hS hl.1 (Nat.le_of_ble_eq_true rfl) dX6_readMirror_36 rfl) hS (fun S14 H locs hw1564 hP hD hS => ?_)
      exact k6_readMirror_39 hC hZ hw1564 H locs ls hP hD hS (lv_sub hl [1, 0] rfl)
theorem v6_15_isUnsure : GoodIn lw_all (wsV RX6 271 RX15 yX15_isUnsure (ws_ yX15_isUnsure cX15_isUnsure 3 (some .boolean))) := lw_V q1747 q1748 q1749 q140 q1750
theorem h6_readUnsure : yX6_readUnsure.cls = RX6 ∧ yX6_readUnsure.cls ≠ "java/lang/invoke/MethodHandle" ∧ yX6_readUnsure.cls ≠ "java/lang/invoke/VarHandle" ∧ (parseMethodDescriptor yX6_readUnsure.desc).map (fun d => d.parameters.length) = some 0 := by decide +kernel
def j6_readUnsure_42 (post : MS → Prop) (S : MS) (x1 : Int32) : Prop :=
  (w6_goesOn (fun S7 => (w6_readWhole (fun r8 S9 => ((¬ (S9.1 0 9) = 5 → (vp_in (S9.1 40 5) 4 ∧ (∀ S11, S11 = uI S9 46 (S9.1 40 5).toNatClampNeg x1 → (vp_in (S11.1 40 5) 4 ∧ (∀ S12, S12 = uI S11 47 (S11.1 40 5).toNatClampNeg r8 → (∀ S13, S13 = uI S12 40 5 ((S12.1 40 5) + 1) → (post S13))))))) ∧ ((S9.1 0 9) = 5 → (post S9)))) S7 0 39)) S)
set_option maxHeartbeats 4000000 in
theorem k6_readUnsure_42 {post : MS → Prop} {S : MS} {x1 : Int32} (hC : CX RX6 cX6_readUnsure 3 none D gCl nwG Z Hb A p s m args meth c) {adK adV : Nat → Nat} (hZ : ∀ U, Z U → zS adK adV A Hb U) (hw : j6_readUnsure_42 post S x1) : ∀ (H : Heap) (locs : List Loc) (ls : Array Slot), va_P D gCl (wM D ad (some rt) (some (rt 0)) tw S) H → va_D A (wM D ad (some rt) (some (rt 0)) tw S) → va_S A s.heap H locs → lv_has ls 3 [(0, .ref (ad 0)), (1, .int x1)] → W p l e ({ frames := 8, cells := 0, slots := 0, locals := 171 } : Room) s m args below meth c H locs 0 0 (MQ below (va_Qv post (BW D gCl A (fun u => (wM D ad (some rt) (some (rt 0)) tw u))) A) args s 0 0 A) (F0 m 42 ls []) := by
  intro H locs ls hP hD hS hl
  unfold j6_readUnsure_42 at hw
  refine lv_aload_n hC.x hC.b dX6_readUnsure_42 rfl (lv_at hl 0 rfl) ?_
  refine go_v (run_V (rest := []) hC (m6_goesOn l hw) v6_6_goesOn h6_goesOn 0 5 gCl_X6 rfl rfl ⟨rfl, rfl, Nat.le_of_ble_eq_true rfl, Nat.le_of_ble_eq_true rfl⟩ ⟨Nat.le_refl _, Nat.le_refl _⟩ hP hD hS hl.1 (Nat.le_of_ble_eq_true rfl) dX6_readUnsure_43 rfl) hS (fun S7 H locs hw1568 hP hD hS => ?_)
  refine lv_aload_n hC.x hC.b dX6_readUnsure_46 rfl (lv_at hl 0 rfl) ?_
  refine lv_iconst (v := 0) hC.x hC.b dX6_readUnsure_47 (by decide) ?_
  refine lv_bipush (v := 39) hC.x hC.b dX6_readUnsure_48 (by decide) ?_
  refine go_i (run_V (rest := []) hC (m6_readWhole l hw1568) v6_6_readWhole h6_readWhole 0 5 gCl_X6 rfl rfl ⟨rfl, rfl, Nat.le_of_ble_eq_true rfl, Nat.le_of_ble_eq_true rfl⟩ ⟨Nat.le_refl _, Nat.le_refl _⟩ hP hD hS hl.1 (Nat.le_of_ble_eq_true rfl) dX6_readUnsure_50 rfl) hS (fun r8 S9 H locs hw1569 hP hD hS => ?_)
  refine lv_istore_n (lv' := [(2, .int r8), (0, .ref (ad 0)), (1, .int x1)]) hC.x hC.b dX6_readUnsure_53 rfl hl (by decide) rfl (fun ls hl => ?_)
  refine lv_aload_n hC.x hC.b dX6_readUnsure_54 rfl (lv_at hl 1 rfl) ?_
  refine gM_9 hC hP dX6_readUnsure_55 ?_
  refine lv_iconst (v := 5) hC.x hC.b dX6_readUnsure_58 (by decide) ?_
  refine lv_icmp_ne (tgt := 63) hC.x hC.b dX6_readUnsure_59 (by decide) (fun c10 => ?_) (fun c10 => ?_)
  · have hw1570 := hw1569.1 c10
    refine lv_aload_n hC.x hC.b dX6_readUnsure_63 rfl (lv_at hl 1 rfl) ?_
    refine gM_4 hC hP dX6_readUnsure_64 ?_
    refine gR_13 hC hP dX6_readUnsure_67 ?_
    refine lv_aload_n hC.x hC.b dX6_readUnsure_70 rfl (lv_at hl 1 rfl) ?_
    refine gM_4 hC hP dX6_readUnsure_71 ?_
    refine gR_5 hC hP dX6_readUnsure_74 ?_
    refine lv_iload_n hC.x hC.b dX6_readUnsure_77 rfl (lv_at hl 2 rfl) ?_
    obtain ⟨hin, hw1571⟩ := hw1570
    refine sR_6 hC hP hD hS (v := x1) hin rfl dX6_readUnsure_78 (fun S11 eS11 H locs hP hD hS => ?_)
    have hw1572 := hw1571 S11 eS11
    refine lv_aload_n hC.x hC.b dX6_readUnsure_79 rfl (lv_at hl 1 rfl) ?_
    refine gM_4 hC hP dX6_readUnsure_80 ?_
    refine gR_14 hC hP dX6_readUnsure_83 ?_
    refine lv_aload_n hC.x hC.b dX6_readUnsure_86 rfl (lv_at hl 1 rfl) ?_
    refine gM_4 hC hP dX6_readUnsure_87 ?_
    refine gR_5 hC hP dX6_readUnsure_90 ?_
    refine lv_iload_n hC.x hC.b dX6_readUnsure_93 rfl (lv_at hl 0 rfl) ?_
    obtain ⟨hin, hw1573⟩ := hw1572
    refine sR_7 hC hP hD hS (v := r8) hin rfl dX6_readUnsure_94 (fun S12 eS12 H locs hP hD hS => ?_)
    have hw1574 := hw1573 S12 eS12
    refine lv_aload_n hC.x hC.b dX6_readUnsure_95 rfl (lv_at hl 1 rfl) ?_
    refine gM_4 hC hP dX6_readUnsure_96 ?_
    refine lv_dup hC.x hC.b dX6_readUnsure_99 rfl ?_
    refine gR_5 hC hP dX6_readUnsure_100 ?_
    refine lv_iconst (v := 1) hC.x hC.b dX6_readUnsure_103 (by decide) ?_
    refine lv_iadd hC.x hC.b dX6_readUnsure_104 ?_
    refine pR_5 hC hP hD hS (v := ((S12.1 40 5) + 1)) dX6_readUnsure_105 (fun S13 eS13 H locs hP hD hS => ?_)
    have hw1575 := hw1574 S13 eS13
    exact rt_v hC hw1575 hP hD hS dX6_readUnsure_108
  · have hw1576 := hw1569.2 c10
    exact rt_v hC hw1576 hP hD hS dX6_readUnsure_62
def w6_readUnsure (post : MS → Prop) (S : MS) : Prop :=
  (w6_lineBegins (fun S2 => (w6_knownOne (fun r3 S4 => (((S4.1 0 9) = 5 → (j6_readUnsure_42 post S4 r3)) ∧ (¬ (S4.1 0 9) = 5 → (w15_isUnsure (fun r14 => ((r14 = 0 → (j6_readUnsure_42 post S4 r3)) ∧ (¬ r14 = 0 → (w6_flaw (fun S17 => (j6_readUnsure_42 post S17 r3)) S4 3)))) S4 r3)))) S2 1)) S (S.1 40 5) 4)
set_option maxHeartbeats 4000000 in
theorem m6_readUnsure (l : Launch) {post : MS → Prop} {S : MS} {adK adV : Nat → Nat} (hZ : ∀ U, Z U → zS adK adV A Hb U) (hw : w6_readUnsure post S) : Met l yX6_readUnsure (ws_ yX6_readUnsure cX6_readUnsure 3 none) ({ frames := 8, cells := 0, slots := 0, locals := 171 } : Room) (va_Pc [.ref (ad 0)] (PcG D gCl nwG Z Hb A (wM D ad (some rt) (some (rt 0)) tw S))) (va_Qv post (BW D gCl A (fun u => (wM D ad (some rt) (some (rt 0)) tw u))) A) 0 0 A := by
  refine Met.ofG (by decide) (Nat.le_of_ble_eq_true rfl) ?_
  intro p e s m below meth c ls hC _ hP hD hS hl
  have hC : CX RX6 cX6_readUnsure 3 none D gCl nwG Z Hb A p s m _ meth c := hC
  have hl : lv_has ls 3 [(0, .ref (ad 0))] := hl
  unfold w6_readUnsure at hw
  refine lv_aload_n hC.x hC.b dX6_readUnsure_0 rfl (lv_at hl 0 rfl) ?_
  refine lv_aload_n hC.x hC.b dX6_readUnsure_1 rfl (lv_at hl 0 rfl) ?_
  refine gM_4 hC hP dX6_readUnsure_2 ?_
  refine gR_5 hC hP dX6_readUnsure_5 ?_
  refine lv_iconst (v := 4) hC.x hC.b dX6_readUnsure_8 (by decide) ?_
  refine go_v (run_V (rest := []) hC (m6_lineBegins l hw) v6_6_lineBegins h6_lineBegins 0 5 gCl_X6 rfl rfl ⟨rfl, rfl, Nat.le_of_ble_eq_true rfl, Nat.le_of_ble_eq_true rfl⟩ ⟨Nat.le_refl _, Nat.le_refl _⟩ hP hD hS hl.1 (Nat.le_of_ble_eq_true rfl) dX6_readUnsure_9 rfl) hS (fun S2 H locs hw1565 hP hD hS => ?_)
  refine lv_aload_n hC.x hC.b dX6_readUnsure_12 rfl (lv_at hl 0 rfl) ?_
  refine lv_iconst (v := 1) hC.x hC.b dX6_readUnsure_13 (by decide) ?_
  refine go_i (run_V (rest := []) hC (m6_knownOne l hZ hw1565) v6_6_knownOne h6_knownOne 0 5 gCl_X6 rfl rfl ⟨rfl, rfl, Nat.le_of_ble_eq_true rfl, Nat.le_of_ble_eq_true rfl⟩ ⟨Nat.le_refl _, Nat.le_refl _⟩ hP hD hS hl.1 (Nat.le_of_ble_eq_true rfl) dX6_readUnsure_14 rfl) hS (fun r3 S4 H locs hw1566 hP hD hS => ?_)
  refine lv_istore_n (lv' := [(1, .int r3), (0, .ref (ad 0))]) hC.x hC.b dX6_readUnsure_17 rfl hl (by decide) rfl (fun ls hl => ?_)
  refine lv_aload_n hC.x hC.b dX6_readUnsure_18 rfl (lv_at hl 1 rfl) ?_
  refine gM_9 hC hP dX6_readUnsure_19 ?_
  refine lv_iconst (v := 5) hC.x hC.b dX6_readUnsure_22 (by decide) ?_
  refine lv_icmp_eq (tgt := 42) hC.x hC.b dX6_readUnsure_23 (by decide) (fun c5 => ?_) (fun c5 => ?_)
  · have hw1567 := hw1566.1 c5
    exact k6_readUnsure_42 hC hZ hw1567 H locs ls hP hD hS (lv_sub hl [1, 0] rfl)
  · have hw1577 := hw1566.2 c5
    refine lv_aload_n hC.x hC.b dX6_readUnsure_26 rfl (lv_at hl 1 rfl) ?_
    refine gM_4 hC hP dX6_readUnsure_27 ?_
    refine lv_iload_n hC.x hC.b dX6_readUnsure_30 rfl (lv_at hl 0 rfl) ?_
    refine go_i (run_V (rest := []) hC (m15_isUnsure l hw1577) v6_15_isUnsure h15_isUnsure 12 12 gCl_X15 rfl rfl ⟨rfl, rfl, Nat.le_of_ble_eq_true rfl, Nat.le_of_ble_eq_true rfl⟩ ⟨Nat.le_refl _, Nat.le_refl _⟩ hP hD hS hl.1 (Nat.le_of_ble_eq_true rfl) dX6_readUnsure_31 rfl) hS (fun r14 u H locs hw1578 hP hD hS => ?_)
    refine lv_if_eq (tgt := 42) hC.x hC.b dX6_readUnsure_34 (by decide) (fun c15 => ?_) (fun c15 => ?_)
    · have hw1579 := hw1578.1 c15
      exact k6_readUnsure_42 hC hZ hw1579 H locs ls hP hD hS (lv_sub hl [1, 0] rfl)
    · have hw1580 := hw1578.2 c15
      refine lv_aload_n hC.x hC.b dX6_readUnsure_37 rfl (lv_at hl 1 rfl) ?_
      refine lv_iconst (v := 3) hC.x hC.b dX6_readUnsure_38 (by decide) ?_
      refine go_v (run_V (rest := []) hC (m6_flaw l hw1580) v6_6_flaw h6_flaw 0 5 gCl_X6 rfl rfl ⟨rfl, rfl, Nat.le_of_ble_eq_true rfl, Nat.le_of_ble_eq_true rfl⟩ ⟨Nat.le_refl _, Nat.le_refl _⟩ hP hD hS hl.1 (Nat.le_of_ble_eq_true rfl) dX6_readUnsure_39 rfl) hS (fun S17 H locs hw1581 hP hD hS => ?_)
      exact k6_readUnsure_42 hC hZ hw1581 H locs ls hP hD hS (lv_sub hl [1, 0] rfl)
theorem v6_15_isHeard : GoodIn lw_all (wsV RX6 284 RX15 yX15_isHeard (ws_ yX15_isHeard cX15_isHeard 4 (some .boolean))) := lw_V q1756 q1757 q1758 q140 q1759
theorem h6_readHeard : yX6_readHeard.cls = RX6 ∧ yX6_readHeard.cls ≠ "java/lang/invoke/MethodHandle" ∧ yX6_readHeard.cls ≠ "java/lang/invoke/VarHandle" ∧ (parseMethodDescriptor yX6_readHeard.desc).map (fun d => d.parameters.length) = some 0 := by decide +kernel
def j6_readHeard_65 (post : MS → Prop) (S : MS) (x1 : Int32) (x2 : Int32) (x3 : Int32) : Prop :=
  (w6_goesOn (fun S13 => ((¬ (S13.1 0 9) = 5 → (vp_in (S13.1 40 6) 8 ∧ (∀ S15, S15 = uI S13 48 (S13.1 40 6).toNatClampNeg x1 → (vp_in (S15.1 40 6) 8 ∧ (∀ S16, S16 = uI S15 49 (S15.1 40 6).toNatClampNeg x2 → (vp_in (S16.1 40 6) 8 ∧ (∀ S17, S17 = uI S16 50 (S16.1 40 6).toNatClampNeg x3 → (∀ S18, S18 = uI S17 40 6 ((S17.1 40 6) + 1) → (post S18))))))))) ∧ ((S13.1 0 9) = 5 → (post S13)))) S)
set_option maxHeartbeats 4000000 in
theorem k6_readHeard_65 {post : MS → Prop} {S : MS} {x1 : Int32} {x2 : Int32} {x3 : Int32} (hC : CX RX6 cX6_readHeard 4 none D gCl nwG Z Hb A p s m args meth c) {adK adV : Nat → Nat} (hZ : ∀ U, Z U → zS adK adV A Hb U) (hw : j6_readHeard_65 post S x1 x2 x3) : ∀ (H : Heap) (locs : List Loc) (ls : Array Slot), va_P D gCl (wM D ad (some rt) (some (rt 0)) tw S) H → va_D A (wM D ad (some rt) (some (rt 0)) tw S) → va_S A s.heap H locs → lv_has ls 4 [(0, .ref (ad 0)), (1, .int x1), (2, .int x2), (3, .int x3)] → W p l e ({ frames := 9, cells := 0, slots := 0, locals := 193 } : Room) s m args below meth c H locs 0 0 (MQ below (va_Qv post (BW D gCl A (fun u => (wM D ad (some rt) (some (rt 0)) tw u))) A) args s 0 0 A) (F0 m 65 ls []) := by
  intro H locs ls hP hD hS hl
  unfold j6_readHeard_65 at hw
  refine lv_aload_n hC.x hC.b dX6_readHeard_65 rfl (lv_at hl 0 rfl) ?_
  refine go_v (run_V (rest := []) hC (m6_goesOn l hw) v6_6_goesOn h6_goesOn 0 5 gCl_X6 rfl rfl ⟨rfl, rfl, Nat.le_of_ble_eq_true rfl, Nat.le_of_ble_eq_true rfl⟩ ⟨Nat.le_refl _, Nat.le_refl _⟩ hP hD hS hl.1 (Nat.le_of_ble_eq_true rfl) dX6_readHeard_66 rfl) hS (fun S13 H locs hw1588 hP hD hS => ?_)
  refine lv_aload_n hC.x hC.b dX6_readHeard_69 rfl (lv_at hl 0 rfl) ?_
  refine gM_9 hC hP dX6_readHeard_70 ?_
  refine lv_iconst (v := 5) hC.x hC.b dX6_readHeard_73 (by decide) ?_
  refine lv_icmp_ne (tgt := 78) hC.x hC.b dX6_readHeard_74 (by decide) (fun c14 => ?_) (fun c14 => ?_)
  · have hw1589 := hw1588.1 c14
    refine lv_aload_n hC.x hC.b dX6_readHeard_78 rfl (lv_at hl 0 rfl) ?_
    refine gM_4 hC hP dX6_readHeard_79 ?_
    refine gR_15 hC hP dX6_readHeard_82 ?_
    refine lv_aload_n hC.x hC.b dX6_readHeard_85 rfl (lv_at hl 0 rfl) ?_
    refine gM_4 hC hP dX6_readHeard_86 ?_
    refine gR_6 hC hP dX6_readHeard_89 ?_
    refine lv_iload_n hC.x hC.b dX6_readHeard_92 rfl (lv_at hl 1 rfl) ?_
    obtain ⟨hin, hw1590⟩ := hw1589
    refine sR_8 hC hP hD hS (v := x1) hin rfl dX6_readHeard_93 (fun S15 eS15 H locs hP hD hS => ?_)
    have hw1591 := hw1590 S15 eS15
    refine lv_aload_n hC.x hC.b dX6_readHeard_94 rfl (lv_at hl 0 rfl) ?_
    refine gM_4 hC hP dX6_readHeard_95 ?_
    refine gR_16 hC hP dX6_readHeard_98 ?_
    refine lv_aload_n hC.x hC.b dX6_readHeard_101 rfl (lv_at hl 0 rfl) ?_
    refine gM_4 hC hP dX6_readHeard_102 ?_
    refine gR_6 hC hP dX6_readHeard_105 ?_
    refine lv_iload_n hC.x hC.b dX6_readHeard_108 rfl (lv_at hl 2 rfl) ?_
    obtain ⟨hin, hw1592⟩ := hw1591
    refine sR_9 hC hP hD hS (v := x2) hin rfl dX6_readHeard_109 (fun S16 eS16 H locs hP hD hS => ?_)
    have hw1593 := hw1592 S16 eS16
    refine lv_aload_n hC.x hC.b dX6_readHeard_110 rfl (lv_at hl 0 rfl) ?_
    refine gM_4 hC hP dX6_readHeard_111 ?_
    refine gR_17 hC hP dX6_readHeard_114 ?_
    refine lv_aload_n hC.x hC.b dX6_readHeard_117 rfl (lv_at hl 0 rfl) ?_
    refine gM_4 hC hP dX6_readHeard_118 ?_
    refine gR_6 hC hP dX6_readHeard_121 ?_
    refine lv_iload_n hC.x hC.b dX6_readHeard_124 rfl (lv_at hl 3 rfl) ?_
    obtain ⟨hin, hw1594⟩ := hw1593
    refine sR_10 hC hP hD hS (v := x3) hin rfl dX6_readHeard_125 (fun S17 eS17 H locs hP hD hS => ?_)
    have hw1595 := hw1594 S17 eS17
    refine lv_aload_n hC.x hC.b dX6_readHeard_126 rfl (lv_at hl 0 rfl) ?_
    refine gM_4 hC hP dX6_readHeard_127 ?_
    refine lv_dup hC.x hC.b dX6_readHeard_130 rfl ?_
    refine gR_6 hC hP dX6_readHeard_131 ?_
    refine lv_iconst (v := 1) hC.x hC.b dX6_readHeard_134 (by decide) ?_
    refine lv_iadd hC.x hC.b dX6_readHeard_135 ?_
    refine pR_6 hC hP hD hS (v := ((S17.1 40 6) + 1)) dX6_readHeard_136 (fun S18 eS18 H locs hP hD hS => ?_)
    have hw1596 := hw1595 S18 eS18
    exact rt_v hC hw1596 hP hD hS dX6_readHeard_139
  · have hw1597 := hw1588.2 c14
    exact rt_v hC hw1597 hP hD hS dX6_readHeard_77
def w6_readHeard (post : MS → Prop) (S : MS) : Prop :=
  (w6_lineBegins (fun S2 => (w6_readKnown (fun r3 S4 => (w6_readKnown (fun r5 S6 => (w6_needs (fun S8 => (w6_wholeAt (fun r9 S10 => (((S10.1 0 9) = 5 → (j6_readHeard_65 post S10 r3 r5 r9)) ∧ (¬ (S10.1 0 9) = 5 → (w15_isHeard (fun r19 => ((r19 = 0 → (j6_readHeard_65 post S10 r3 r5 r9)) ∧ (¬ r19 = 0 → (w6_flaw (fun S22 => (j6_readHeard_65 post S22 r3 r5 r9)) S10 3)))) S10 r5 r9)))) S8 0 60)) S6 (kB 32))) S4 1)) S2 0)) S (S.1 40 6) 8)
set_option maxHeartbeats 4000000 in
theorem m6_readHeard (l : Launch) {post : MS → Prop} {S : MS} {adK adV : Nat → Nat} (hZ : ∀ U, Z U → zS adK adV A Hb U) (hw : w6_readHeard post S) : Met l yX6_readHeard (ws_ yX6_readHeard cX6_readHeard 4 none) ({ frames := 9, cells := 0, slots := 0, locals := 193 } : Room) (va_Pc [.ref (ad 0)] (PcG D gCl nwG Z Hb A (wM D ad (some rt) (some (rt 0)) tw S))) (va_Qv post (BW D gCl A (fun u => (wM D ad (some rt) (some (rt 0)) tw u))) A) 0 0 A := by
  refine Met.ofG (by decide) (Nat.le_of_ble_eq_true rfl) ?_
  intro p e s m below meth c ls hC _ hP hD hS hl
  have hC : CX RX6 cX6_readHeard 4 none D gCl nwG Z Hb A p s m _ meth c := hC
  have hl : lv_has ls 4 [(0, .ref (ad 0))] := hl
  unfold w6_readHeard at hw
  refine lv_aload_n hC.x hC.b dX6_readHeard_0 rfl (lv_at hl 0 rfl) ?_
  refine lv_aload_n hC.x hC.b dX6_readHeard_1 rfl (lv_at hl 0 rfl) ?_
  refine gM_4 hC hP dX6_readHeard_2 ?_
  refine gR_6 hC hP dX6_readHeard_5 ?_
  refine lv_bipush (v := 8) hC.x hC.b dX6_readHeard_8 (by decide) ?_
  refine go_v (run_V (rest := []) hC (m6_lineBegins l hw) v6_6_lineBegins h6_lineBegins 0 5 gCl_X6 rfl rfl ⟨rfl, rfl, Nat.le_of_ble_eq_true rfl, Nat.le_of_ble_eq_true rfl⟩ ⟨Nat.le_refl _, Nat.le_refl _⟩ hP hD hS hl.1 (Nat.le_of_ble_eq_true rfl) dX6_readHeard_10 rfl) hS (fun S2 H locs hw1582 hP hD hS => ?_)
  refine lv_aload_n hC.x hC.b dX6_readHeard_13 rfl (lv_at hl 0 rfl) ?_
  refine lv_iconst (v := 0) hC.x hC.b dX6_readHeard_14 (by decide) ?_
  refine go_i (run_V (rest := []) hC (m6_readKnown l hZ hw1582) v6_6_readKnown h6_readKnown 0 5 gCl_X6 rfl rfl ⟨rfl, rfl, Nat.le_of_ble_eq_true rfl, Nat.le_of_ble_eq_true rfl⟩ ⟨Nat.le_refl _, Nat.le_refl _⟩ hP hD hS hl.1 (Nat.le_of_ble_eq_true rfl) dX6_readHeard_15 rfl) hS (fun r3 S4 H locs hw1583 hP hD hS => ?_)
  refine lv_istore_n (lv' := [(1, .int r3), (0, .ref (ad 0))]) hC.x hC.b dX6_readHeard_18 rfl hl (by decide) rfl (fun ls hl => ?_)
  refine lv_aload_n hC.x hC.b dX6_readHeard_19 rfl (lv_at hl 1 rfl) ?_
  refine lv_iconst (v := 1) hC.x hC.b dX6_readHeard_20 (by decide) ?_
  refine go_i (run_V (rest := []) hC (m6_readKnown l hZ hw1583) v6_6_readKnown h6_readKnown 0 5 gCl_X6 rfl rfl ⟨rfl, rfl, Nat.le_of_ble_eq_true rfl, Nat.le_of_ble_eq_true rfl⟩ ⟨Nat.le_refl _, Nat.le_refl _⟩ hP hD hS hl.1 (Nat.le_of_ble_eq_true rfl) dX6_readHeard_21 rfl) hS (fun r5 S6 H locs hw1584 hP hD hS => ?_)
  refine lv_istore_n (lv' := [(2, .int r5), (1, .int r3), (0, .ref (ad 0))]) hC.x hC.b dX6_readHeard_24 rfl hl (by decide) rfl (fun ls hl => ?_)
  refine lv_aload_n hC.x hC.b dX6_readHeard_25 rfl (lv_at hl 2 rfl) ?_
  refine va_ldcwS hC ((hZ s hC.K.2.2.2).2.2.2.1 32 _ rfl).1 dX6_readHeard_26 ?_
  refine go_v (run_V (rest := []) hC (m6_needs l hZ (kCs hZ 32 (by decide)) hw1584) v6_6_needs h6_needs 0 5 gCl_X6 rfl rfl ⟨rfl, rfl, Nat.le_of_ble_eq_true rfl, Nat.le_of_ble_eq_true rfl⟩ ⟨Nat.le_refl _, Nat.le_refl _⟩ hP hD hS hl.1 (Nat.le_of_ble_eq_true rfl) dX6_readHeard_29 rfl) hS (fun S8 H locs hw1585 hP hD hS => ?_)
  refine lv_aload_n hC.x hC.b dX6_readHeard_32 rfl (lv_at hl 2 rfl) ?_
  refine lv_iconst (v := 0) hC.x hC.b dX6_readHeard_33 (by decide) ?_
  refine lv_bipush (v := 60) hC.x hC.b dX6_readHeard_34 (by decide) ?_
  refine go_i (run_V (rest := []) hC (m6_wholeAt l hw1585) v6_6_wholeAt h6_wholeAt 0 5 gCl_X6 rfl rfl ⟨rfl, rfl, Nat.le_of_ble_eq_true rfl, Nat.le_of_ble_eq_true rfl⟩ ⟨Nat.le_refl _, Nat.le_refl _⟩ hP hD hS hl.1 (Nat.le_of_ble_eq_true rfl) dX6_readHeard_36 rfl) hS (fun r9 S10 H locs hw1586 hP hD hS => ?_)
  refine lv_istore_n (lv' := [(3, .int r9), (2, .int r5), (1, .int r3), (0, .ref (ad 0))]) hC.x hC.b dX6_readHeard_39 rfl hl (by decide) rfl (fun ls hl => ?_)
  refine lv_aload_n hC.x hC.b dX6_readHeard_40 rfl (lv_at hl 3 rfl) ?_
  refine gM_9 hC hP dX6_readHeard_41 ?_
  refine lv_iconst (v := 5) hC.x hC.b dX6_readHeard_44 (by decide) ?_
  refine lv_icmp_eq (tgt := 65) hC.x hC.b dX6_readHeard_45 (by decide) (fun c11 => ?_) (fun c11 => ?_)
  · have hw1587 := hw1586.1 c11
    exact k6_readHeard_65 hC hZ hw1587 H locs ls hP hD hS (lv_sub hl [3, 2, 1, 0] rfl)
  · have hw1598 := hw1586.2 c11
    refine lv_aload_n hC.x hC.b dX6_readHeard_48 rfl (lv_at hl 3 rfl) ?_
    refine gM_4 hC hP dX6_readHeard_49 ?_
    refine lv_iload_n hC.x hC.b dX6_readHeard_52 rfl (lv_at hl 1 rfl) ?_
    refine lv_iload_n hC.x hC.b dX6_readHeard_53 rfl (lv_at hl 0 rfl) ?_
    refine go_i (run_V (rest := []) hC (m15_isHeard l hw1598) v6_15_isHeard h15_isHeard 12 12 gCl_X15 rfl rfl ⟨rfl, rfl, Nat.le_of_ble_eq_true rfl, Nat.le_of_ble_eq_true rfl⟩ ⟨Nat.le_refl _, Nat.le_refl _⟩ hP hD hS hl.1 (Nat.le_of_ble_eq_true rfl) dX6_readHeard_54 rfl) hS (fun r19 u H locs hw1599 hP hD hS => ?_)
    refine lv_if_eq (tgt := 65) hC.x hC.b dX6_readHeard_57 (by decide) (fun c20 => ?_) (fun c20 => ?_)
    · have hw1600 := hw1599.1 c20
      exact k6_readHeard_65 hC hZ hw1600 H locs ls hP hD hS (lv_sub hl [3, 2, 1, 0] rfl)
    · have hw1601 := hw1599.2 c20
      refine lv_aload_n hC.x hC.b dX6_readHeard_60 rfl (lv_at hl 3 rfl) ?_
      refine lv_iconst (v := 3) hC.x hC.b dX6_readHeard_61 (by decide) ?_
      refine go_v (run_V (rest := []) hC (m6_flaw l hw1601) v6_6_flaw h6_flaw 0 5 gCl_X6 rfl rfl ⟨rfl, rfl, Nat.le_of_ble_eq_true rfl, Nat.le_of_ble_eq_true rfl⟩ ⟨Nat.le_refl _, Nat.le_refl _⟩ hP hD hS hl.1 (Nat.le_of_ble_eq_true rfl) dX6_readHeard_62 rfl) hS (fun S22 H locs hw1602 hP hD hS => ?_)
      exact k6_readHeard_65 hC hZ hw1602 H locs ls hP hD hS (lv_sub hl [3, 2, 1, 0] rfl)
theorem v6_6_readTown : GoodIn lw_all (wsV RX6 196 RX6 yX6_readTown (ws_ yX6_readTown cX6_readTown 3 none)) := lw_V q1658 q1660 qs55 q126 q1661
theorem v6_6_readPerson : GoodIn lw_all (wsV RX6 199 RX6 yX6_readPerson (ws_ yX6_readPerson cX6_readPerson 4 none)) := lw_V q1688 q1690 qs61 q126 q1691
theorem v6_6_readDead : GoodIn lw_all (wsV RX6 202 RX6 yX6_readDead (ws_ yX6_readDead cX6_readDead 6 none)) := lw_V q1721 q1723 qs66 q126 q1724
theorem v6_6_readMirror : GoodIn lw_all (wsV RX6 205 RX6 yX6_readMirror (ws_ yX6_readMirror cX6_readMirror 3 none)) := lw_V q1739 q1741 qs69 q126 q1742
theorem v6_6_readUnsure : GoodIn lw_all (wsV RX6 208 RX6 yX6_readUnsure (ws_ yX6_readUnsure cX6_readUnsure 3 none)) := lw_V q1743 q1745 qs70 q126 q1746
theorem v6_6_readHeard : GoodIn lw_all (wsV RX6 211 RX6 yX6_readHeard (ws_ yX6_readHeard cX6_readHeard 4 none)) := lw_V q1751 q1753 qs71 q126 q1754
theorem h6_readLine : yX6_readLine.cls = RX6 ∧ yX6_readLine.cls ≠ "java/lang/invoke/MethodHandle" ∧ yX6_readLine.cls ≠ "java/lang/invoke/VarHandle" ∧ (parseMethodDescriptor yX6_readLine.desc).map (fun d => d.parameters.length) = some 0 := by decide +kernel
def w6_readLine (post : MS → Prop) (S : MS) : Prop :=
  (w6_isWord (fun r1 => ((r1 = 0 → (w6_isWord (fun r3 => ((r3 = 0 → (w6_isWord (fun r5 => ((r5 = 0 → (w6_isWord (fun r7 => ((r7 = 0 → (w6_isWord (fun r9 => ((r9 = 0 → (w6_isWord (fun r11 => ((r11 = 0 → (w6_flaw (fun S14 => (post S14)) S 1)) ∧ (¬ r11 = 0 → (w6_readHeard (fun S16 => (post S16)) S)))) S (kB 24))) ∧ (¬ r9 = 0 → (w6_readUnsure (fun S18 => (post S18)) S)))) S (kB 23))) ∧ (¬ r7 = 0 → (w6_readMirror (fun S20 => (post S20)) S)))) S (kB 22))) ∧ (¬ r5 = 0 → (w6_readDead (fun S22 => (post S22)) S)))) S (kB 21))) ∧ (¬ r3 = 0 → (w6_readPerson (fun S24 => (post S24)) S)))) S (kB 20))) ∧ (¬ r1 = 0 → (w6_readTown (fun S26 => (post S26)) S)))) S (kB 17))
set_option maxHeartbeats 4000000 in
theorem m6_readLine (l : Launch) {post : MS → Prop} {S : MS} {adK adV : Nat → Nat} (hZ : ∀ U, Z U → zS adK adV A Hb U) (hw : w6_readLine post S) : Met l yX6_readLine (ws_ yX6_readLine cX6_readLine 1 none) ({ frames := 10, cells := 0, slots := 0, locals := 218 } : Room) (va_Pc [.ref (ad 0)] (PcG D gCl nwG Z Hb A (wM D ad (some rt) (some (rt 0)) tw S))) (va_Qv post (BW D gCl A (fun u => (wM D ad (some rt) (some (rt 0)) tw u))) A) 0 0 A := by
  refine Met.ofG (by decide) (Nat.le_of_ble_eq_true rfl) ?_
  intro p e s m below meth c ls hC _ hP hD hS hl
  have hC : CX RX6 cX6_readLine 1 none D gCl nwG Z Hb A p s m _ meth c := hC
  have hl : lv_has ls 1 [(0, .ref (ad 0))] := hl
  unfold w6_readLine at hw
  refine lv_aload_n hC.x hC.b dX6_readLine_0 rfl (lv_at hl 0 rfl) ?_
  refine va_ldcS hC.x hC.b hC.ow ((hZ s hC.K.2.2.2).2.2.2.1 17 _ rfl).1 dX6_readLine_1 ?_
  refine go_i (run_V (rest := []) hC (m6_isWord l hZ (kCs hZ 17 (by decide)) hw) v6_6_isWord h6_isWord 0 5 gCl_X6 rfl rfl ⟨rfl, rfl, Nat.le_of_ble_eq_true rfl, Nat.le_of_ble_eq_true rfl⟩ ⟨Nat.le_refl _, Nat.le_refl _⟩ hP hD hS hl.1 (Nat.le_of_ble_eq_true rfl) dX6_readLine_3 rfl) hS (fun r1 u H locs hw1603 hP hD hS => ?_)
  refine lv_if_eq (tgt := 16) hC.x hC.b dX6_readLine_6 (by decide) (fun c2 => ?_) (fun c2 => ?_)
  · have hw1604 := hw1603.1 c2
    refine lv_aload_n hC.x hC.b dX6_readLine_16 rfl (lv_at hl 0 rfl) ?_
    refine va_ldcS hC.x hC.b hC.ow ((hZ s hC.K.2.2.2).2.2.2.1 20 _ rfl).1 dX6_readLine_17 ?_
    refine go_i (run_V (rest := []) hC (m6_isWord l hZ (kCs hZ 20 (by decide)) hw1604) v6_6_isWord h6_isWord 0 5 gCl_X6 rfl rfl ⟨rfl, rfl, Nat.le_of_ble_eq_true rfl, Nat.le_of_ble_eq_true rfl⟩ ⟨Nat.le_refl _, Nat.le_refl _⟩ hP hD hS hl.1 (Nat.le_of_ble_eq_true rfl) dX6_readLine_19 rfl) hS (fun r3 u H locs hw1605 hP hD hS => ?_)
    refine lv_if_eq (tgt := 32) hC.x hC.b dX6_readLine_22 (by decide) (fun c4 => ?_) (fun c4 => ?_)
    · have hw1606 := hw1605.1 c4
      refine lv_aload_n hC.x hC.b dX6_readLine_32 rfl (lv_at hl 0 rfl) ?_
      refine va_ldcS hC.x hC.b hC.ow ((hZ s hC.K.2.2.2).2.2.2.1 21 _ rfl).1 dX6_readLine_33 ?_
      refine go_i (run_V (rest := []) hC (m6_isWord l hZ (kCs hZ 21 (by decide)) hw1606) v6_6_isWord h6_isWord 0 5 gCl_X6 rfl rfl ⟨rfl, rfl, Nat.le_of_ble_eq_true rfl, Nat.le_of_ble_eq_true rfl⟩ ⟨Nat.le_refl _, Nat.le_refl _⟩ hP hD hS hl.1 (Nat.le_of_ble_eq_true rfl) dX6_readLine_35 rfl) hS (fun r5 u H locs hw1607 hP hD hS => ?_)
      refine lv_if_eq (tgt := 48) hC.x hC.b dX6_readLine_38 (by decide) (fun c6 => ?_) (fun c6 => ?_)
      · have hw1608 := hw1607.1 c6
        refine lv_aload_n hC.x hC.b dX6_readLine_48 rfl (lv_at hl 0 rfl) ?_
        refine va_ldcS hC.x hC.b hC.ow ((hZ s hC.K.2.2.2).2.2.2.1 22 _ rfl).1 dX6_readLine_49 ?_
        refine go_i (run_V (rest := []) hC (m6_isWord l hZ (kCs hZ 22 (by decide)) hw1608) v6_6_isWord h6_isWord 0 5 gCl_X6 rfl rfl ⟨rfl, rfl, Nat.le_of_ble_eq_true rfl, Nat.le_of_ble_eq_true rfl⟩ ⟨Nat.le_refl _, Nat.le_refl _⟩ hP hD hS hl.1 (Nat.le_of_ble_eq_true rfl) dX6_readLine_51 rfl) hS (fun r7 u H locs hw1609 hP hD hS => ?_)
        refine lv_if_eq (tgt := 64) hC.x hC.b dX6_readLine_54 (by decide) (fun c8 => ?_) (fun c8 => ?_)
        · have hw1610 := hw1609.1 c8
          refine lv_aload_n hC.x hC.b dX6_readLine_64 rfl (lv_at hl 0 rfl) ?_
          refine va_ldcS hC.x hC.b hC.ow ((hZ s hC.K.2.2.2).2.2.2.1 23 _ rfl).1 dX6_readLine_65 ?_
          refine go_i (run_V (rest := []) hC (m6_isWord l hZ (kCs hZ 23 (by decide)) hw1610) v6_6_isWord h6_isWord 0 5 gCl_X6 rfl rfl ⟨rfl, rfl, Nat.le_of_ble_eq_true rfl, Nat.le_of_ble_eq_true rfl⟩ ⟨Nat.le_refl _, Nat.le_refl _⟩ hP hD hS hl.1 (Nat.le_of_ble_eq_true rfl) dX6_readLine_67 rfl) hS (fun r9 u H locs hw1611 hP hD hS => ?_)
          refine lv_if_eq (tgt := 80) hC.x hC.b dX6_readLine_70 (by decide) (fun c10 => ?_) (fun c10 => ?_)
          · have hw1612 := hw1611.1 c10
            refine lv_aload_n hC.x hC.b dX6_readLine_80 rfl (lv_at hl 0 rfl) ?_
            refine va_ldcS hC.x hC.b hC.ow ((hZ s hC.K.2.2.2).2.2.2.1 24 _ rfl).1 dX6_readLine_81 ?_
            refine go_i (run_V (rest := []) hC (m6_isWord l hZ (kCs hZ 24 (by decide)) hw1612) v6_6_isWord h6_isWord 0 5 gCl_X6 rfl rfl ⟨rfl, rfl, Nat.le_of_ble_eq_true rfl, Nat.le_of_ble_eq_true rfl⟩ ⟨Nat.le_refl _, Nat.le_refl _⟩ hP hD hS hl.1 (Nat.le_of_ble_eq_true rfl) dX6_readLine_83 rfl) hS (fun r11 u H locs hw1613 hP hD hS => ?_)
            refine lv_if_eq (tgt := 96) hC.x hC.b dX6_readLine_86 (by decide) (fun c12 => ?_) (fun c12 => ?_)
            · have hw1614 := hw1613.1 c12
              refine lv_aload_n hC.x hC.b dX6_readLine_96 rfl (lv_at hl 0 rfl) ?_
              refine lv_iconst (v := 1) hC.x hC.b dX6_readLine_97 (by decide) ?_
              refine go_v (run_V (rest := []) hC (m6_flaw l hw1614) v6_6_flaw h6_flaw 0 5 gCl_X6 rfl rfl ⟨rfl, rfl, Nat.le_of_ble_eq_true rfl, Nat.le_of_ble_eq_true rfl⟩ ⟨Nat.le_refl _, Nat.le_refl _⟩ hP hD hS hl.1 (Nat.le_of_ble_eq_true rfl) dX6_readLine_98 rfl) hS (fun S14 H locs hw1615 hP hD hS => ?_)
              exact rt_v hC hw1615 hP hD hS dX6_readLine_101
            · have hw1616 := hw1613.2 c12
              refine lv_aload_n hC.x hC.b dX6_readLine_89 rfl (lv_at hl 0 rfl) ?_
              refine go_v (run_V (rest := []) hC (m6_readHeard l hZ hw1616) v6_6_readHeard h6_readHeard 0 5 gCl_X6 rfl rfl ⟨rfl, rfl, Nat.le_of_ble_eq_true rfl, Nat.le_of_ble_eq_true rfl⟩ ⟨Nat.le_refl _, Nat.le_refl _⟩ hP hD hS hl.1 (Nat.le_of_ble_eq_true rfl) dX6_readLine_90 rfl) hS (fun S16 H locs hw1617 hP hD hS => ?_)
              refine lv_goto (tgt := 101) hC.x hC.b dX6_readLine_93 (by decide) ?_
              exact rt_v hC hw1617 hP hD hS dX6_readLine_101
          · have hw1618 := hw1611.2 c10
            refine lv_aload_n hC.x hC.b dX6_readLine_73 rfl (lv_at hl 0 rfl) ?_
            refine go_v (run_V (rest := []) hC (m6_readUnsure l hZ hw1618) v6_6_readUnsure h6_readUnsure 0 5 gCl_X6 rfl rfl ⟨rfl, rfl, Nat.le_of_ble_eq_true rfl, Nat.le_of_ble_eq_true rfl⟩ ⟨Nat.le_refl _, Nat.le_refl _⟩ hP hD hS hl.1 (Nat.le_of_ble_eq_true rfl) dX6_readLine_74 rfl) hS (fun S18 H locs hw1619 hP hD hS => ?_)
            refine lv_goto (tgt := 101) hC.x hC.b dX6_readLine_77 (by decide) ?_
            exact rt_v hC hw1619 hP hD hS dX6_readLine_101
        · have hw1620 := hw1609.2 c8
          refine lv_aload_n hC.x hC.b dX6_readLine_57 rfl (lv_at hl 0 rfl) ?_
          refine go_v (run_V (rest := []) hC (m6_readMirror l hZ hw1620) v6_6_readMirror h6_readMirror 0 5 gCl_X6 rfl rfl ⟨rfl, rfl, Nat.le_of_ble_eq_true rfl, Nat.le_of_ble_eq_true rfl⟩ ⟨Nat.le_refl _, Nat.le_refl _⟩ hP hD hS hl.1 (Nat.le_of_ble_eq_true rfl) dX6_readLine_58 rfl) hS (fun S20 H locs hw1621 hP hD hS => ?_)
          refine lv_goto (tgt := 101) hC.x hC.b dX6_readLine_61 (by decide) ?_
          exact rt_v hC hw1621 hP hD hS dX6_readLine_101
      · have hw1622 := hw1607.2 c6
        refine lv_aload_n hC.x hC.b dX6_readLine_41 rfl (lv_at hl 0 rfl) ?_
        refine go_v (run_V (rest := []) hC (m6_readDead l hZ hw1622) v6_6_readDead h6_readDead 0 5 gCl_X6 rfl rfl ⟨rfl, rfl, Nat.le_of_ble_eq_true rfl, Nat.le_of_ble_eq_true rfl⟩ ⟨Nat.le_refl _, Nat.le_refl _⟩ hP hD hS hl.1 (Nat.le_of_ble_eq_true rfl) dX6_readLine_42 rfl) hS (fun S22 H locs hw1623 hP hD hS => ?_)
        refine lv_goto (tgt := 101) hC.x hC.b dX6_readLine_45 (by decide) ?_
        exact rt_v hC hw1623 hP hD hS dX6_readLine_101
    · have hw1624 := hw1605.2 c4
      refine lv_aload_n hC.x hC.b dX6_readLine_25 rfl (lv_at hl 0 rfl) ?_
      refine go_v (run_V (rest := []) hC (m6_readPerson l hZ hw1624) v6_6_readPerson h6_readPerson 0 5 gCl_X6 rfl rfl ⟨rfl, rfl, Nat.le_of_ble_eq_true rfl, Nat.le_of_ble_eq_true rfl⟩ ⟨Nat.le_refl _, Nat.le_refl _⟩ hP hD hS hl.1 (Nat.le_of_ble_eq_true rfl) dX6_readLine_26 rfl) hS (fun S24 H locs hw1625 hP hD hS => ?_)
      refine lv_goto (tgt := 101) hC.x hC.b dX6_readLine_29 (by decide) ?_
      exact rt_v hC hw1625 hP hD hS dX6_readLine_101
  · have hw1626 := hw1603.2 c2
    refine lv_aload_n hC.x hC.b dX6_readLine_9 rfl (lv_at hl 0 rfl) ?_
    refine go_v (run_V (rest := []) hC (m6_readTown l hZ hw1626) v6_6_readTown h6_readTown 0 5 gCl_X6 rfl rfl ⟨rfl, rfl, Nat.le_of_ble_eq_true rfl, Nat.le_of_ble_eq_true rfl⟩ ⟨Nat.le_refl _, Nat.le_refl _⟩ hP hD hS hl.1 (Nat.le_of_ble_eq_true rfl) dX6_readLine_10 rfl) hS (fun S26 H locs hw1627 hP hD hS => ?_)
    refine lv_goto (tgt := 101) hC.x hC.b dX6_readLine_13 (by decide) ?_
    exact rt_v hC hw1627 hP hD hS dX6_readLine_101
theorem v6_6_readLine : GoodIn lw_all (wsV RX6 187 RX6 yX6_readLine (ws_ yX6_readLine cX6_readLine 1 none)) := lw_V q1618 q1620 qs53 q126 q1621
theorem v6_6_eatsSemicolon : GoodIn lw_all (wsV RX6 190 RX6 yX6_eatsSemicolon (ws_ yX6_eatsSemicolon cX6_eatsSemicolon 2 (some .boolean))) := lw_V q1760 q1762 qs72 q126 q1763
theorem h6_readAll : yX6_readAll.cls = RX6 ∧ yX6_readAll.cls ≠ "java/lang/invoke/MethodHandle" ∧ yX6_readAll.cls ≠ "java/lang/invoke/VarHandle" ∧ (parseMethodDescriptor yX6_readAll.desc).map (fun d => d.parameters.length) = some 0 := by decide +kernel
def f6_readAll_2 (post : MS → Prop) (K2 : (MS × Int32) → Prop) (S : MS) (x1 : Int32) : Prop :=
  ((x1 = 0 → (((S.1 0 9) = 1 → ((¬ (S.1 40 2) = 0 → (post S)) ∧ ((S.1 40 2) = 0 → (w6_flaw (fun S5 => (post S5)) S 6)))) ∧ (¬ (S.1 0 9) = 1 → (w6_flaw (fun S7 => ((¬ (S7.1 40 2) = 0 → (post S7)) ∧ ((S7.1 40 2) = 0 → (w6_flaw (fun S10 => (post S10)) S7 6)))) S 1)))) ∧ (¬ x1 = 0 → (w6_readLine (fun S12 => (w6_eatsSemicolon (fun r13 S14 => (K2 (S14, r13))) S12)) S)))
set_option maxHeartbeats 4000000 in
theorem k6_readAll_2 {post : MS → Prop} (hC : CX RX6 cX6_readAll 2 none D gCl nwG Z Hb A p s m args meth c) {adK adV : Nat → Nat} (hZ : ∀ U, Z U → zS adK adV A Hb U) : ∀ z : (MS × Int32), lp (fun (K : (MS × Int32) → Prop) (z : (MS × Int32)) => f6_readAll_2 post K z.1 z.2) z → ∀ (H : Heap) (locs : List Loc) (ls : Array Slot), va_P D gCl (wM D ad (some rt) (some (rt 0)) tw z.1) H → va_D A (wM D ad (some rt) (some (rt 0)) tw z.1) → va_S A s.heap H locs → lv_has ls 2 [(0, .ref (ad 0)), (1, .int z.2)] → W p l e ({ frames := 11, cells := 0, slots := 0, locals := 238 } : Room) s m args below meth c H locs 0 0 (MQ below (va_Qv post (BW D gCl A (fun u => (wM D ad (some rt) (some (rt 0)) tw u))) A) args s 0 0 A) (F0 m 2 ls []) := by
  refine lp_ind ?_
  rintro K2 ⟨S, x1⟩ hK2 hw H locs ls hP hD hS hl
  have hw : f6_readAll_2 post K2 S x1 := hw
  unfold f6_readAll_2 at hw
  have hP : va_P D gCl (wM D ad (some rt) (some (rt 0)) tw S) H := hP
  have hD : va_D A (wM D ad (some rt) (some (rt 0)) tw S) := hD
  have hl : lv_has ls 2 [(0, .ref (ad 0)), (1, .int x1)] := hl
  refine lv_iload_n hC.x hC.b dX6_readAll_2 rfl (lv_at hl 1 rfl) ?_
  refine lv_if_eq (tgt := 18) hC.x hC.b dX6_readAll_3 (by decide) (fun c1 => ?_) (fun c1 => ?_)
  · have hw1628 := hw.1 c1
    refine lv_aload_n hC.x hC.b dX6_readAll_18 rfl (lv_at hl 0 rfl) ?_
    refine gM_9 hC hP dX6_readAll_19 ?_
    refine lv_iconst (v := 1) hC.x hC.b dX6_readAll_22 (by decide) ?_
    refine lv_icmp_eq (tgt := 31) hC.x hC.b dX6_readAll_23 (by decide) (fun c2 => ?_) (fun c2 => ?_)
    · have hw1629 := hw1628.1 c2
      refine lv_aload_n hC.x hC.b dX6_readAll_31 rfl (lv_at hl 0 rfl) ?_
      refine gM_4 hC hP dX6_readAll_32 ?_
      refine gR_2 hC hP dX6_readAll_35 ?_
      refine lv_if_ne (tgt := 47) hC.x hC.b dX6_readAll_38 (by decide) (fun c3 => ?_) (fun c3 => ?_)
      · have hw1630 := hw1629.1 c3
        exact rt_v hC hw1630 hP hD hS dX6_readAll_47
      · have hw1631 := hw1629.2 c3
        refine lv_aload_n hC.x hC.b dX6_readAll_41 rfl (lv_at hl 0 rfl) ?_
        refine lv_bipush (v := 6) hC.x hC.b dX6_readAll_42 (by decide) ?_
        refine go_v (run_V (rest := []) hC (m6_flaw l hw1631) v6_6_flaw h6_flaw 0 5 gCl_X6 rfl rfl ⟨rfl, rfl, Nat.le_of_ble_eq_true rfl, Nat.le_of_ble_eq_true rfl⟩ ⟨Nat.le_refl _, Nat.le_refl _⟩ hP hD hS hl.1 (Nat.le_of_ble_eq_true rfl) dX6_readAll_44 rfl) hS (fun S5 H locs hw1632 hP hD hS => ?_)
        exact rt_v hC hw1632 hP hD hS dX6_readAll_47
    · have hw1633 := hw1628.2 c2
      refine lv_aload_n hC.x hC.b dX6_readAll_26 rfl (lv_at hl 0 rfl) ?_
      refine lv_iconst (v := 1) hC.x hC.b dX6_readAll_27 (by decide) ?_
      refine go_v (run_V (rest := []) hC (m6_flaw l hw1633) v6_6_flaw h6_flaw 0 5 gCl_X6 rfl rfl ⟨rfl, rfl, Nat.le_of_ble_eq_true rfl, Nat.le_of_ble_eq_true rfl⟩ ⟨Nat.le_refl _, Nat.le_refl _⟩ hP hD hS hl.1 (Nat.le_of_ble_eq_true rfl) dX6_readAll_28 rfl) hS (fun S7 H locs hw1634 hP hD hS => ?_)
      refine lv_aload_n hC.x hC.b dX6_readAll_31 rfl (lv_at hl 0 rfl) ?_
      refine gM_4 hC hP dX6_readAll_32 ?_
      refine gR_2 hC hP dX6_readAll_35 ?_
      refine lv_if_ne (tgt := 47) hC.x hC.b dX6_readAll_38 (by decide) (fun c8 => ?_) (fun c8 => ?_)
      · have hw1635 := hw1634.1 c8
        exact rt_v hC hw1635 hP hD hS dX6_readAll_47
      · have hw1636 := hw1634.2 c8
        refine lv_aload_n hC.x hC.b dX6_readAll_41 rfl (lv_at hl 0 rfl) ?_
        refine lv_bipush (v := 6) hC.x hC.b dX6_readAll_42 (by decide) ?_
        refine go_v (run_V (rest := []) hC (m6_flaw l hw1636) v6_6_flaw h6_flaw 0 5 gCl_X6 rfl rfl ⟨rfl, rfl, Nat.le_of_ble_eq_true rfl, Nat.le_of_ble_eq_true rfl⟩ ⟨Nat.le_refl _, Nat.le_refl _⟩ hP hD hS hl.1 (Nat.le_of_ble_eq_true rfl) dX6_readAll_44 rfl) hS (fun S10 H locs hw1637 hP hD hS => ?_)
        exact rt_v hC hw1637 hP hD hS dX6_readAll_47
  · have hw1638 := hw.2 c1
    refine lv_aload_n hC.x hC.b dX6_readAll_6 rfl (lv_at hl 0 rfl) ?_
    refine go_v (run_V (rest := []) hC (m6_readLine l hZ hw1638) v6_6_readLine h6_readLine 0 5 gCl_X6 rfl rfl ⟨rfl, rfl, Nat.le_of_ble_eq_true rfl, Nat.le_of_ble_eq_true rfl⟩ ⟨Nat.le_refl _, Nat.le_refl _⟩ hP hD hS hl.1 (Nat.le_of_ble_eq_true rfl) dX6_readAll_7 rfl) hS (fun S12 H locs hw1639 hP hD hS => ?_)
    refine lv_aload_n hC.x hC.b dX6_readAll_10 rfl (lv_at hl 0 rfl) ?_
    refine go_i (run_V (rest := []) hC (m6_eatsSemicolon l hw1639) v6_6_eatsSemicolon h6_eatsSemicolon 0 5 gCl_X6 rfl rfl ⟨rfl, rfl, Nat.le_of_ble_eq_true rfl, Nat.le_of_ble_eq_true rfl⟩ ⟨Nat.le_refl _, Nat.le_refl _⟩ hP hD hS hl.1 (Nat.le_of_ble_eq_true rfl) dX6_readAll_11 rfl) hS (fun r13 S14 H locs hw1640 hP hD hS => ?_)
    refine lv_istore_n (lv' := [(1, .int r13), (0, .ref (ad 0))]) hC.x hC.b dX6_readAll_14 rfl hl (by decide) rfl (fun ls hl => ?_)
    refine lv_goto (tgt := 2) hC.x hC.b dX6_readAll_15 (by decide) ?_
    exact hK2 (S14, r13) hw1640 H locs ls hP hD hS (lv_sub hl [1, 0] rfl)
def w6_readAll (post : MS → Prop) (S : MS) : Prop :=
  (lp (fun (K : (MS × Int32) → Prop) (z : (MS × Int32)) => f6_readAll_2 post K z.1 z.2) (S, 1))
set_option maxHeartbeats 4000000 in
theorem m6_readAll (l : Launch) {post : MS → Prop} {S : MS} {adK adV : Nat → Nat} (hZ : ∀ U, Z U → zS adK adV A Hb U) (hw : w6_readAll post S) : Met l yX6_readAll (ws_ yX6_readAll cX6_readAll 2 none) ({ frames := 11, cells := 0, slots := 0, locals := 238 } : Room) (va_Pc [.ref (ad 0)] (PcG D gCl nwG Z Hb A (wM D ad (some rt) (some (rt 0)) tw S))) (va_Qv post (BW D gCl A (fun u => (wM D ad (some rt) (some (rt 0)) tw u))) A) 0 0 A := by
  refine Met.ofG (by decide) (Nat.le_of_ble_eq_true rfl) ?_
  intro p e s m below meth c ls hC _ hP hD hS hl
  have hC : CX RX6 cX6_readAll 2 none D gCl nwG Z Hb A p s m _ meth c := hC
  have hl : lv_has ls 2 [(0, .ref (ad 0))] := hl
  unfold w6_readAll at hw
  refine lv_iconst (v := 1) hC.x hC.b dX6_readAll_0 (by decide) ?_
  refine lv_istore_n (lv' := [(1, .int 1), (0, .ref (ad 0))]) hC.x hC.b dX6_readAll_1 rfl hl (by decide) rfl (fun ls hl => ?_)
  exact k6_readAll_2 hC hZ (S, 1) hw s.heap [] ls hP hD hS (lv_sub hl [1, 0] rfl)
end MWm5
