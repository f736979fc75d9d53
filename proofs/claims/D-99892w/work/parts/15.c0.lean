set_option maxRecDepth 100000
section CWc0
variable {p : Program} {l : Launch} {e : Env} {s : State} {m : MethodId} {args : Array Value} {below : List Frame} {meth : Method} {c : Code} {D : va_G} {Z : State → Prop} {Hb : Heap} {A : Nat → Prop} {ad : Nat → Nat} {sc : Option Nat × Option Nat × (Nat → Value)} {tw : Option TD} {τ : TD} {w0 : va_W} {b0 : Nat}
theorem h1_in : yX1_in.cls ≠ "java/lang/invoke/MethodHandle" ∧ yX1_in.cls ≠ "java/lang/invoke/VarHandle" ∧ (parseMethodDescriptor yX1_in.desc).map (fun d => d.parameters.length) = some 3 := by decide +kernel
def w1_in (post : Int32 → Prop) (x0 : Int32) (x1 : Int32) (x2 : Int32) : Prop :=
  ((x0 < x1 → (post 0)) ∧ (¬ x0 < x1 → ((x2 < x0 → (post 0)) ∧ (¬ x2 < x0 → (post 1)))))
set_option maxHeartbeats 4000000 in
theorem m1_in (l : Launch) {post : Int32 → Prop} {x0 : Int32} {x1 : Int32} {x2 : Int32} (hw : w1_in post x0 x1 x2) : Met l yX1_in (ws_ yX1_in cX1_in 3 (some .boolean)) ({ frames := 0, cells := 0, slots := 0, locals := 0 } : Room) (va_Pc [.int x0, .int x1, .int x2] (PcG D gCl nwG Z Hb A w0)) (va_Qi (fun r (_ : Unit) => post r) (BW D gCl A (fun _ => w0)) A) 0 0 A := by
  refine Met.ofG (by decide) (Nat.le_of_ble_eq_true rfl) ?_
  intro p e s m below meth c ls hC _ hP hD hS hl
  have hC : CX RX1 cX1_in 3 (some .boolean) D gCl nwG Z Hb A p s m _ meth c := hC
  have hl : lv_has ls 3 [(0, .int x0), (1, .int x1), (2, .int x2)] := hl
  unfold w1_in at hw
  refine lv_iload_n hC.x hC.b dX1_in_0 rfl (lv_at hl 0 rfl) ?_
  refine lv_iload_n hC.x hC.b dX1_in_1 rfl (lv_at hl 1 rfl) ?_
  refine lv_icmp_lt (tgt := 14) hC.x hC.b dX1_in_2 (by decide) (fun c1 => ?_) (fun c1 => ?_)
  · have hw1 := hw.1 c1
    refine lv_iconst (v := 0) hC.x hC.b dX1_in_14 (by decide) ?_
    exact rt_z (u := ()) hC (Or.inl rfl) hw1 hP hD hS dX1_in_15
  · have hw2 := hw.2 c1
    refine lv_iload_n hC.x hC.b dX1_in_5 rfl (lv_at hl 0 rfl) ?_
    refine lv_iload_n hC.x hC.b dX1_in_6 rfl (lv_at hl 2 rfl) ?_
    refine lv_icmp_gt (tgt := 14) hC.x hC.b dX1_in_7 (by decide) (fun c2 => ?_) (fun c2 => ?_)
    · have hw3 := hw2.1 c2
      refine lv_iconst (v := 0) hC.x hC.b dX1_in_14 (by decide) ?_
      exact rt_z (u := ()) hC (Or.inl rfl) hw3 hP hD hS dX1_in_15
    · have hw4 := hw2.2 c2
      refine lv_iconst (v := 1) hC.x hC.b dX1_in_10 (by decide) ?_
      refine lv_goto (tgt := 15) hC.x hC.b dX1_in_11 (by decide) ?_
      exact rt_z (u := ()) hC (Or.inr rfl) hw4 hP hD hS dX1_in_15
theorem h1_has : yX1_has.cls ≠ "java/lang/invoke/MethodHandle" ∧ yX1_has.cls ≠ "java/lang/invoke/VarHandle" ∧ (parseMethodDescriptor yX1_has.desc).map (fun d => d.parameters.length) = some 2 := by decide +kernel
def w1_has (post : Int32 → Prop) (x0 : Int32) (x1 : Int32) : Prop :=
  ((¬ ((x0 >>> (x1 &&& 31)) &&& 1) = 1 → (post 0)) ∧ (((x0 >>> (x1 &&& 31)) &&& 1) = 1 → (post 1)))
set_option maxHeartbeats 4000000 in
theorem m1_has (l : Launch) {post : Int32 → Prop} {x0 : Int32} {x1 : Int32} (hw : w1_has post x0 x1) : Met l yX1_has (ws_ yX1_has cX1_has 2 (some .boolean)) ({ frames := 0, cells := 0, slots := 0, locals := 0 } : Room) (va_Pc [.int x0, .int x1] (PcG D gCl nwG Z Hb A w0)) (va_Qi (fun r (_ : Unit) => post r) (BW D gCl A (fun _ => w0)) A) 0 0 A := by
  refine Met.ofG (by decide) (Nat.le_of_ble_eq_true rfl) ?_
  intro p e s m below meth c ls hC _ hP hD hS hl
  have hC : CX RX1 cX1_has 2 (some .boolean) D gCl nwG Z Hb A p s m _ meth c := hC
  have hl : lv_has ls 2 [(0, .int x0), (1, .int x1)] := hl
  unfold w1_has at hw
  refine lv_iload_n hC.x hC.b dX1_has_0 rfl (lv_at hl 0 rfl) ?_
  refine lv_iload_n hC.x hC.b dX1_has_1 rfl (lv_at hl 1 rfl) ?_
  refine lv_ishr hC.x hC.b dX1_has_2 ?_
  refine lv_iconst (v := 1) hC.x hC.b dX1_has_3 (by decide) ?_
  refine lv_iand hC.x hC.b dX1_has_4 ?_
  refine lv_iconst (v := 1) hC.x hC.b dX1_has_5 (by decide) ?_
  refine lv_icmp_ne (tgt := 13) hC.x hC.b dX1_has_6 (by decide) (fun c1 => ?_) (fun c1 => ?_)
  · have hw5 := hw.1 c1
    refine lv_iconst (v := 0) hC.x hC.b dX1_has_13 (by decide) ?_
    exact rt_z (u := ()) hC (Or.inl rfl) hw5 hP hD hS dX1_has_14
  · have hw6 := hw.2 c1
    refine lv_iconst (v := 1) hC.x hC.b dX1_has_9 (by decide) ?_
    refine lv_goto (tgt := 14) hC.x hC.b dX1_has_10 (by decide) ?_
    exact rt_z (u := ()) hC (Or.inr rfl) hw6 hP hD hS dX1_has_14
theorem h1_ones : yX1_ones.cls ≠ "java/lang/invoke/MethodHandle" ∧ yX1_ones.cls ≠ "java/lang/invoke/VarHandle" ∧ (parseMethodDescriptor yX1_ones.desc).map (fun d => d.parameters.length) = some 1 := by decide +kernel
def f1_ones_4 (post : Int32 → Prop) (K4 : (Int32 × Int32) → Prop) (x1 : Int32) (x2 : Int32) : Prop :=
  ((x2 = 0 → (post x1)) ∧ (¬ x2 = 0 → (K4 ((x1 + 1), (x2 &&& (x2 - 1))))))
set_option maxHeartbeats 4000000 in
theorem k1_ones_4 {post : Int32 → Prop} (hC : CX RX1 cX1_ones 3 (some .int) D gCl nwG Z Hb A p s m args meth c) : ∀ z : (Int32 × Int32), lp (fun (K : (Int32 × Int32) → Prop) (z : (Int32 × Int32)) => f1_ones_4 post K z.1 z.2) z → ∀ (H : Heap) (locs : List Loc) (ls : Array Slot), va_P D gCl w0 H → va_D A w0 → va_S A s.heap H locs → lv_has ls 3 [(1, .int z.1), (2, .int z.2)] → W p l e ({ frames := 0, cells := 0, slots := 0, locals := 0 } : Room) s m args below meth c H locs 0 0 (MQ below (va_Qi (fun r (_ : Unit) => post r) (BW D gCl A (fun _ => w0)) A) args s 0 0 A) (F0 m 4 ls []) := by
  refine lp_ind ?_
  rintro K4 ⟨x1, x2⟩ hK4 hw H locs ls hP hD hS hl
  have hw : f1_ones_4 post K4 x1 x2 := hw
  unfold f1_ones_4 at hw
  have hP : va_P D gCl w0 H := hP
  have hD : va_D A w0 := hD
  have hl : lv_has ls 3 [(1, .int x1), (2, .int x2)] := hl
  refine lv_iload_n hC.x hC.b dX1_ones_4 rfl (lv_at hl 1 rfl) ?_
  refine lv_if_eq (tgt := 20) hC.x hC.b dX1_ones_5 (by decide) (fun c1 => ?_) (fun c1 => ?_)
  · have hw7 := hw.1 c1
    refine lv_iload_n hC.x hC.b dX1_ones_20 rfl (lv_at hl 0 rfl) ?_
    exact rt_i (u := ()) hC hw7 hP hD hS dX1_ones_21
  · have hw8 := hw.2 c1
    refine lv_iinc (v := (x1 + 1)) (lv' := [(1, .int (x1 + 1)), (2, .int x2)]) hC.x hC.b dX1_ones_8 hl (k := 0) rfl rfl (by decide) rfl (fun ls hl => ?_)
    refine lv_iload_n hC.x hC.b dX1_ones_11 rfl (lv_at hl 1 rfl) ?_
    refine lv_iload_n hC.x hC.b dX1_ones_12 rfl (lv_at hl 1 rfl) ?_
    refine lv_iconst (v := 1) hC.x hC.b dX1_ones_13 (by decide) ?_
    refine lv_isub hC.x hC.b dX1_ones_14 ?_
    refine lv_iand hC.x hC.b dX1_ones_15 ?_
    refine lv_istore_n (lv' := [(2, .int (x2 &&& (x2 - 1))), (1, .int (x1 + 1))]) hC.x hC.b dX1_ones_16 rfl hl (by decide) rfl (fun ls hl => ?_)
    refine lv_goto (tgt := 4) hC.x hC.b dX1_ones_17 (by decide) ?_
    exact hK4 ((x1 + 1), (x2 &&& (x2 - 1))) hw8 H locs ls hP hD hS (lv_sub hl [1, 0] rfl)
def w1_ones (post : Int32 → Prop) (x0 : Int32) : Prop :=
  (lp (fun (K : (Int32 × Int32) → Prop) (z : (Int32 × Int32)) => f1_ones_4 post K z.1 z.2) (0, x0))
set_option maxHeartbeats 4000000 in
theorem m1_ones (l : Launch) {post : Int32 → Prop} {x0 : Int32} (hw : w1_ones post x0) : Met l yX1_ones (ws_ yX1_ones cX1_ones 3 (some .int)) ({ frames := 0, cells := 0, slots := 0, locals := 0 } : Room) (va_Pc [.int x0] (PcG D gCl nwG Z Hb A w0)) (va_Qi (fun r (_ : Unit) => post r) (BW D gCl A (fun _ => w0)) A) 0 0 A := by
  refine Met.ofG (by decide) (Nat.le_of_ble_eq_true rfl) ?_
  intro p e s m below meth c ls hC _ hP hD hS hl
  have hC : CX RX1 cX1_ones 3 (some .int) D gCl nwG Z Hb A p s m _ meth c := hC
  have hl : lv_has ls 3 [(0, .int x0)] := hl
  unfold w1_ones at hw
  refine lv_iconst (v := 0) hC.x hC.b dX1_ones_0 (by decide) ?_
  refine lv_istore_n (lv' := [(1, .int 0), (0, .int x0)]) hC.x hC.b dX1_ones_1 rfl hl (by decide) rfl (fun ls hl => ?_)
  refine lv_iload_n hC.x hC.b dX1_ones_2 rfl (lv_at hl 1 rfl) ?_
  refine lv_istore_n (lv' := [(2, .int x0), (1, .int 0), (0, .int x0)]) hC.x hC.b dX1_ones_3 rfl hl (by decide) rfl (fun ls hl => ?_)
  exact k1_ones_4 hC (0, x0) hw s.heap [] ls hP hD hS (lv_sub hl [1, 0] rfl)
theorem v1_1_dividing : GoodIn lw_all (va_wsS RX1 1 yX1_dividing (ws_ yX1_dividing cX1_dividing 4 (some .long))) := lw_S q1048 q1046 q118 q1047
theorem h1_dividing : yX1_dividing.cls ≠ "java/lang/invoke/MethodHandle" ∧ yX1_dividing.cls ≠ "java/lang/invoke/VarHandle" ∧ (parseMethodDescriptor yX1_dividing.desc).map (fun d => d.parameters.length) = some 2 := by decide +kernel
def wn1_dividing : Nat → (Int64 → Prop) → Int64 → Int64 → Prop
  | 0 => fun _ _ _ => False
  | n + 1 => fun post x0 x2 =>
    ((¬ (lg_cmp x2 0) = 0 → ((¬ x2 = 0) ∧ ((wn1_dividing n) (fun v2 => (post v2)) x2 (x0 - x0 / x2 * x2)))) ∧ ((lg_cmp x2 0) = 0 → (post x0)))
def cn1_dividing (l : Launch) (D : va_G) (Z : State → Prop) (Hb : Heap) (A : Nat → Prop) (n : Nat) : Prop := ∀ {post : Int64 → Prop} {x0 : Int64} {x2 : Int64} {w0 : va_W}, wn1_dividing n post x0 x2 → Met l yX1_dividing (ws_ yX1_dividing cX1_dividing 4 (some .long)) ({ frames := n + 0, cells := 0, slots := 0, locals := n * 23 + 0 } : Room) (va_Pc [.long x0, .long x2] (PcG D gCl nwG Z Hb A w0)) (va_Ql (fun r (_ : Unit) => post r) (BW D gCl A (fun _ => w0)) A) 0 0 A
set_option maxHeartbeats 4000000 in
theorem cm1_dividing (l : Launch) : ∀ n, cn1_dividing l D Z Hb A n := by
  intro n
  induction n with
  | zero => intro post x0 x2 w0 hw; exact hw.elim
  | succ n ih =>
    intro post x0 x2 w0 hw
    refine Met.ofG (by decide) (Nat.le_of_ble_eq_true rfl) ?_
    intro p e s m below meth c ls hC _ hP hD hS hl
    have hC : CX RX1 cX1_dividing 4 (some .long) D gCl nwG Z Hb A p s m _ meth c := hC
    have hl : lv_has ls 4 [(0, .long x0), (2, .long x2)] := hl
    unfold wn1_dividing at hw
    refine lv_lload_n hC.x hC.b dX1_dividing_0 rfl (lv_at hl 1 rfl) ?_
    refine lv_lconst (v := 0) hC.x hC.b dX1_dividing_1 rfl ?_
    refine W.lcmp hC.x hC.b dX1_dividing_2 ?_
    refine lv_if_ne (tgt := 10) hC.x hC.b dX1_dividing_3 (by decide) (fun c1 => ?_) (fun c1 => ?_)
    · have hw9 := hw.1 c1
      refine lv_lload_n hC.x hC.b dX1_dividing_10 rfl (lv_at hl 1 rfl) ?_
      refine lv_lload_n hC.x hC.b dX1_dividing_11 rfl (lv_at hl 0 rfl) ?_
      refine lv_lload_n hC.x hC.b dX1_dividing_12 rfl (lv_at hl 1 rfl) ?_
      obtain ⟨hne, hw10⟩ := hw9
      refine lv_lrem hC.x hC.b dX1_dividing_13 hne ?_
      refine go_l (run_S (rest := []) hC (ih hw10) v1_1_dividing h1_dividing ⟨rfl, rfl, (by simp only []; omega), (by simp only []; omega)⟩ ⟨Nat.le_refl _, Nat.le_refl _⟩ hP hD hS hl.1 (Nat.le_of_ble_eq_true rfl) dX1_dividing_14 rfl) hS (fun v2 u H locs hw11 hP hD hS => ?_)
      exact rt_l (u := ()) hC hw11 hP hD hS dX1_dividing_17
    · have hw12 := hw.2 c1
      refine lv_lload_n hC.x hC.b dX1_dividing_6 rfl (lv_at hl 0 rfl) ?_
      refine lv_goto (tgt := 17) hC.x hC.b dX1_dividing_7 (by decide) ?_
      exact rt_l (u := ()) hC hw12 hP hD hS dX1_dividing_17
def w1_dividing (post : Int64 → Prop) (x0 : Int64) (x2 : Int64) : Prop := wn1_dividing 100 post x0 x2
theorem m1_dividing (l : Launch) {post : Int64 → Prop} {x0 : Int64} {x2 : Int64} (hw : w1_dividing post x0 x2) : Met l yX1_dividing (ws_ yX1_dividing cX1_dividing 4 (some .long)) ({ frames := 100, cells := 0, slots := 0, locals := 2300 } : Room) (va_Pc [.long x0, .long x2] (PcG D gCl nwG Z Hb A w0)) (va_Ql (fun r (_ : Unit) => post r) (BW D gCl A (fun _ => w0)) A) 0 0 A := cm1_dividing l 100 hw
theorem h1_lowest : yX1_lowest.cls ≠ "java/lang/invoke/MethodHandle" ∧ yX1_lowest.cls ≠ "java/lang/invoke/VarHandle" ∧ (parseMethodDescriptor yX1_lowest.desc).map (fun d => d.parameters.length) = some 3 := by decide +kernel
def w1_lowest (post : Int64 → Prop) (x0 : Int64) (x2 : Int64) (x4 : Int32) : Prop :=
  ((x4 = 0 → (w1_dividing (fun r2 => ((¬ r2 = 0) ∧ (post (x0 / r2)))) x2 x0)) ∧ (¬ x4 = 0 → (w1_dividing (fun r3 => ((¬ r3 = 0) ∧ (post (x2 / r3)))) x2 x0)))
set_option maxHeartbeats 4000000 in
theorem m1_lowest (l : Launch) {post : Int64 → Prop} {x0 : Int64} {x2 : Int64} {x4 : Int32} (hw : w1_lowest post x0 x2 x4) : Met l yX1_lowest (ws_ yX1_lowest cX1_lowest 5 (some .long)) ({ frames := 101, cells := 0, slots := 0, locals := 2323 } : Room) (va_Pc [.long x0, .long x2, .int x4] (PcG D gCl nwG Z Hb A w0)) (va_Ql (fun r (_ : Unit) => post r) (BW D gCl A (fun _ => w0)) A) 0 0 A := by
  refine Met.ofG (by decide) (Nat.le_of_ble_eq_true rfl) ?_
  intro p e s m below meth c ls hC _ hP hD hS hl
  have hC : CX RX1 cX1_lowest 5 (some .long) D gCl nwG Z Hb A p s m _ meth c := hC
  have hl : lv_has ls 5 [(0, .long x0), (2, .long x2), (4, .int x4)] := hl
  unfold w1_lowest at hw
  refine lv_iload hC.x hC.b dX1_lowest_0 (lv_at hl 2 rfl) ?_
  refine lv_if_eq (tgt := 9) hC.x hC.b dX1_lowest_2 (by decide) (fun c1 => ?_) (fun c1 => ?_)
  · have hw13 := hw.1 c1
    refine lv_lload_n hC.x hC.b dX1_lowest_9 rfl (lv_at hl 0 rfl) ?_
    refine lv_lload_n hC.x hC.b dX1_lowest_10 rfl (lv_at hl 1 rfl) ?_
    refine lv_lload_n hC.x hC.b dX1_lowest_11 rfl (lv_at hl 0 rfl) ?_
    refine go_l (run_S (rest := [.long x0]) hC (m1_dividing l hw13) v1_1_dividing h1_dividing ⟨rfl, rfl, Nat.le_of_ble_eq_true rfl, Nat.le_of_ble_eq_true rfl⟩ ⟨Nat.le_refl _, Nat.le_refl _⟩ hP hD hS hl.1 (Nat.le_of_ble_eq_true rfl) dX1_lowest_12 rfl) hS (fun r2 u H locs hw14 hP hD hS => ?_)
    obtain ⟨hne, hw15⟩ := hw14
    refine lv_ldiv hC.x hC.b dX1_lowest_15 hne ?_
    exact rt_l (u := ()) hC hw15 hP hD hS dX1_lowest_16
  · have hw16 := hw.2 c1
    refine lv_lload_n hC.x hC.b dX1_lowest_5 rfl (lv_at hl 1 rfl) ?_
    refine lv_goto (tgt := 10) hC.x hC.b dX1_lowest_6 (by decide) ?_
    refine lv_lload_n hC.x hC.b dX1_lowest_10 rfl (lv_at hl 1 rfl) ?_
    refine lv_lload_n hC.x hC.b dX1_lowest_11 rfl (lv_at hl 0 rfl) ?_
    refine go_l (run_S (rest := [.long x2]) hC (m1_dividing l hw16) v1_1_dividing h1_dividing ⟨rfl, rfl, Nat.le_of_ble_eq_true rfl, Nat.le_of_ble_eq_true rfl⟩ ⟨Nat.le_refl _, Nat.le_refl _⟩ hP hD hS hl.1 (Nat.le_of_ble_eq_true rfl) dX1_lowest_12 rfl) hS (fun r3 u H locs hw17 hP hD hS => ?_)
    obtain ⟨hne, hw18⟩ := hw17
    refine lv_ldiv hC.x hC.b dX1_lowest_15 hne ?_
    exact rt_l (u := ()) hC hw18 hP hD hS dX1_lowest_16
theorem h1_wrap : yX1_wrap.cls ≠ "java/lang/invoke/MethodHandle" ∧ yX1_wrap.cls ≠ "java/lang/invoke/VarHandle" ∧ (parseMethodDescriptor yX1_wrap.desc).map (fun d => d.parameters.length) = some 2 := by decide +kernel
def w1_wrap (post : Int32 → Prop) (x0 : Int64) (x2 : Int32) : Prop :=
  ((¬ (x2.toInt64) = 0) ∧ ((¬ (x2.toInt64) = 0) ∧ (post ((((x0 - x0 / (x2.toInt64) * (x2.toInt64)) + (x2.toInt64)) - ((x0 - x0 / (x2.toInt64) * (x2.toInt64)) + (x2.toInt64)) / (x2.toInt64) * (x2.toInt64)).toInt32))))
set_option maxHeartbeats 4000000 in
theorem m1_wrap (l : Launch) {post : Int32 → Prop} {x0 : Int64} {x2 : Int32} (hw : w1_wrap post x0 x2) : Met l yX1_wrap (ws_ yX1_wrap cX1_wrap 3 (some .int)) ({ frames := 0, cells := 0, slots := 0, locals := 0 } : Room) (va_Pc [.long x0, .int x2] (PcG D gCl nwG Z Hb A w0)) (va_Qi (fun r (_ : Unit) => post r) (BW D gCl A (fun _ => w0)) A) 0 0 A := by
  refine Met.ofG (by decide) (Nat.le_of_ble_eq_true rfl) ?_
  intro p e s m below meth c ls hC _ hP hD hS hl
  have hC : CX RX1 cX1_wrap 3 (some .int) D gCl nwG Z Hb A p s m _ meth c := hC
  have hl : lv_has ls 3 [(0, .long x0), (2, .int x2)] := hl
  unfold w1_wrap at hw
  refine lv_lload_n hC.x hC.b dX1_wrap_0 rfl (lv_at hl 0 rfl) ?_
  refine lv_iload_n hC.x hC.b dX1_wrap_1 rfl (lv_at hl 1 rfl) ?_
  refine lv_i2l (v := (x2.toInt64)) hC.x hC.b dX1_wrap_2 rfl ?_
  obtain ⟨hne, hw19⟩ := hw
  refine lv_lrem hC.x hC.b dX1_wrap_3 hne ?_
  refine lv_iload_n hC.x hC.b dX1_wrap_4 rfl (lv_at hl 1 rfl) ?_
  refine lv_i2l (v := (x2.toInt64)) hC.x hC.b dX1_wrap_5 rfl ?_
  refine lv_ladd hC.x hC.b dX1_wrap_6 ?_
  refine lv_iload_n hC.x hC.b dX1_wrap_7 rfl (lv_at hl 1 rfl) ?_
  refine lv_i2l (v := (x2.toInt64)) hC.x hC.b dX1_wrap_8 rfl ?_
  obtain ⟨hne, hw20⟩ := hw19
  refine lv_lrem hC.x hC.b dX1_wrap_9 hne ?_
  refine lv_l2i (v := ((((x0 - x0 / (x2.toInt64) * (x2.toInt64)) + (x2.toInt64)) - ((x0 - x0 / (x2.toInt64) * (x2.toInt64)) + (x2.toInt64)) / (x2.toInt64) * (x2.toInt64)).toInt32)) hC.x hC.b dX1_wrap_10 rfl ?_
  exact rt_i (u := ()) hC hw20 hP hD hS dX1_wrap_11
theorem h11_law : yX11_law.cls = RX11 ∧ yX11_law.cls ≠ "java/lang/invoke/MethodHandle" ∧ yX11_law.cls ≠ "java/lang/invoke/VarHandle" ∧ (parseMethodDescriptor yX11_law.desc).map (fun d => d.parameters.length) = some 0 := by decide +kernel
def w11_law (post : Int32 → Prop) : Prop :=
  (post 0)
set_option maxHeartbeats 4000000 in
theorem m11_law (l : Launch) {post : Int32 → Prop} (hw : w11_law post) : Met l yX11_law (ws_ yX11_law cX11_law 1 (some .int)) ({ frames := 0, cells := 0, slots := 0, locals := 0 } : Room) (va_Pc [.ref b0] (PcG D gCl nwG Z Hb A w0)) (va_Qi (fun r (_ : Unit) => post r) (BW D gCl A (fun _ => w0)) A) 0 0 A := by
  refine Met.ofG (by decide) (Nat.le_of_ble_eq_true rfl) ?_
  intro p e s m below meth c ls hC _ hP hD hS hl
  have hC : CX RX11 cX11_law 1 (some .int) D gCl nwG Z Hb A p s m _ meth c := hC
  have hl : lv_has ls 1 [(0, .ref b0)] := hl
  unfold w11_law at hw
  refine lv_iconst (v := 0) hC.x hC.b dX11_law_0 (by decide) ?_
  exact rt_i (u := ()) hC hw hP hD hS dX11_law_1
theorem h11_slips : yX11_slips.cls = RX11 ∧ yX11_slips.cls ≠ "java/lang/invoke/MethodHandle" ∧ yX11_slips.cls ≠ "java/lang/invoke/VarHandle" ∧ (parseMethodDescriptor yX11_slips.desc).map (fun d => d.parameters.length) = some 2 := by decide +kernel
def w11_slips (post : Int32 → Prop) (x1 : Int32) (x2 : Int32) : Prop :=
  (post x1)
set_option maxHeartbeats 4000000 in
theorem m11_slips (l : Launch) {post : Int32 → Prop} {x1 : Int32} {x2 : Int32} (hw : w11_slips post x1 x2) : Met l yX11_slips (ws_ yX11_slips cX11_slips 3 (some .int)) ({ frames := 0, cells := 0, slots := 0, locals := 0 } : Room) (va_Pc [.ref b0, .int x1, .int x2] (PcG D gCl nwG Z Hb A w0)) (va_Qi (fun r (_ : Unit) => post r) (BW D gCl A (fun _ => w0)) A) 0 0 A := by
  refine Met.ofG (by decide) (Nat.le_of_ble_eq_true rfl) ?_
  intro p e s m below meth c ls hC _ hP hD hS hl
  have hC : CX RX11 cX11_slips 3 (some .int) D gCl nwG Z Hb A p s m _ meth c := hC
  have hl : lv_has ls 3 [(0, .ref b0), (1, .int x1), (2, .int x2)] := hl
  unfold w11_slips at hw
  refine lv_iload_n hC.x hC.b dX11_slips_0 rfl (lv_at hl 1 rfl) ?_
  exact rt_i (u := ()) hC hw hP hD hS dX11_slips_1
theorem h13_law : yX13_law.cls = RX13 ∧ yX13_law.cls ≠ "java/lang/invoke/MethodHandle" ∧ yX13_law.cls ≠ "java/lang/invoke/VarHandle" ∧ (parseMethodDescriptor yX13_law.desc).map (fun d => d.parameters.length) = some 0 := by decide +kernel
def w13_law (post : Int32 → Prop) : Prop :=
  (post 2)
set_option maxHeartbeats 4000000 in
theorem m13_law (l : Launch) {post : Int32 → Prop} (hw : w13_law post) : Met l yX13_law (ws_ yX13_law cX13_law 1 (some .int)) ({ frames := 0, cells := 0, slots := 0, locals := 0 } : Room) (va_Pc [.ref b0] (PcG D gCl nwG Z Hb A w0)) (va_Qi (fun r (_ : Unit) => post r) (BW D gCl A (fun _ => w0)) A) 0 0 A := by
  refine Met.ofG (by decide) (Nat.le_of_ble_eq_true rfl) ?_
  intro p e s m below meth c ls hC _ hP hD hS hl
  have hC : CX RX13 cX13_law 1 (some .int) D gCl nwG Z Hb A p s m _ meth c := hC
  have hl : lv_has ls 1 [(0, .ref b0)] := hl
  unfold w13_law at hw
  refine lv_iconst (v := 2) hC.x hC.b dX13_law_0 (by decide) ?_
  exact rt_i (u := ()) hC hw hP hD hS dX13_law_1
theorem h13_slips : yX13_slips.cls = RX13 ∧ yX13_slips.cls ≠ "java/lang/invoke/MethodHandle" ∧ yX13_slips.cls ≠ "java/lang/invoke/VarHandle" ∧ (parseMethodDescriptor yX13_slips.desc).map (fun d => d.parameters.length) = some 2 := by decide +kernel
def w13_slips (post : Int32 → Prop) (x1 : Int32) (x2 : Int32) : Prop :=
  (post (x1 * x2))
set_option maxHeartbeats 4000000 in
theorem m13_slips (l : Launch) {post : Int32 → Prop} {x1 : Int32} {x2 : Int32} (hw : w13_slips post x1 x2) : Met l yX13_slips (ws_ yX13_slips cX13_slips 3 (some .int)) ({ frames := 0, cells := 0, slots := 0, locals := 0 } : Room) (va_Pc [.ref b0, .int x1, .int x2] (PcG D gCl nwG Z Hb A w0)) (va_Qi (fun r (_ : Unit) => post r) (BW D gCl A (fun _ => w0)) A) 0 0 A := by
  refine Met.ofG (by decide) (Nat.le_of_ble_eq_true rfl) ?_
  intro p e s m below meth c ls hC _ hP hD hS hl
  have hC : CX RX13 cX13_slips 3 (some .int) D gCl nwG Z Hb A p s m _ meth c := hC
  have hl : lv_has ls 3 [(0, .ref b0), (1, .int x1), (2, .int x2)] := hl
  unfold w13_slips at hw
  refine lv_iload_n hC.x hC.b dX13_slips_0 rfl (lv_at hl 1 rfl) ?_
  refine lv_iload_n hC.x hC.b dX13_slips_1 rfl (lv_at hl 2 rfl) ?_
  refine lv_imul hC.x hC.b dX13_slips_2 ?_
  exact rt_i (u := ()) hC hw hP hD hS dX13_slips_3
theorem h10_rounds : yX10_rounds.cls = RX10 ∧ yX10_rounds.cls ≠ "java/lang/invoke/MethodHandle" ∧ yX10_rounds.cls ≠ "java/lang/invoke/VarHandle" ∧ (parseMethodDescriptor yX10_rounds.desc).map (fun d => d.parameters.length) = some 2 := by decide +kernel
def w10_rounds (post : Int32 → Prop) (x1 : Int32) (x2 : Int32) : Prop :=
  (post 1)
set_option maxHeartbeats 4000000 in
theorem m10_rounds (l : Launch) {post : Int32 → Prop} {x1 : Int32} {x2 : Int32} (hw : w10_rounds post x1 x2) : Met l yX10_rounds (ws_ yX10_rounds cX10_rounds 3 (some .int)) ({ frames := 0, cells := 0, slots := 0, locals := 0 } : Room) (va_Pc [.ref b0, .int x1, .int x2] (PcG D gCl nwG Z Hb A w0)) (va_Qi (fun r (_ : Unit) => post r) (BW D gCl A (fun _ => w0)) A) 0 0 A := by
  refine Met.ofG (by decide) (Nat.le_of_ble_eq_true rfl) ?_
  intro p e s m below meth c ls hC _ hP hD hS hl
  have hC : CX RX10 cX10_rounds 3 (some .int) D gCl nwG Z Hb A p s m _ meth c := hC
  have hl : lv_has ls 3 [(0, .ref b0), (1, .int x1), (2, .int x2)] := hl
  unfold w10_rounds at hw
  refine lv_iconst (v := 1) hC.x hC.b dX10_rounds_0 (by decide) ?_
  exact rt_i (u := ()) hC hw hP hD hS dX10_rounds_1
theorem h14_slips : yX14_slips.cls = RX14 ∧ yX14_slips.cls ≠ "java/lang/invoke/MethodHandle" ∧ yX14_slips.cls ≠ "java/lang/invoke/VarHandle" ∧ (parseMethodDescriptor yX14_slips.desc).map (fun d => d.parameters.length) = some 2 := by decide +kernel
def w14_slips (post : Int32 → Prop) (x1 : Int32) (x2 : Int32) : Prop :=
  ((¬ (x2 - x2 / 2 * 2) = 0 → (post (-x1))) ∧ ((x2 - x2 / 2 * 2) = 0 → (post x1)))
set_option maxHeartbeats 4000000 in
theorem m14_slips (l : Launch) {post : Int32 → Prop} {x1 : Int32} {x2 : Int32} (hw : w14_slips post x1 x2) : Met l yX14_slips (ws_ yX14_slips cX14_slips 3 (some .int)) ({ frames := 0, cells := 0, slots := 0, locals := 0 } : Room) (va_Pc [.ref b0, .int x1, .int x2] (PcG D gCl nwG Z Hb A w0)) (va_Qi (fun r (_ : Unit) => post r) (BW D gCl A (fun _ => w0)) A) 0 0 A := by
  refine Met.ofG (by decide) (Nat.le_of_ble_eq_true rfl) ?_
  intro p e s m below meth c ls hC _ hP hD hS hl
  have hC : CX RX14 cX14_slips 3 (some .int) D gCl nwG Z Hb A p s m _ meth c := hC
  have hl : lv_has ls 3 [(0, .ref b0), (1, .int x1), (2, .int x2)] := hl
  unfold w14_slips at hw
  refine lv_iload_n hC.x hC.b dX14_slips_0 rfl (lv_at hl 2 rfl) ?_
  refine lv_iconst (v := 2) hC.x hC.b dX14_slips_1 (by decide) ?_
  refine lv_irem hC.x hC.b dX14_slips_2 (by decide) ?_
  refine lv_if_ne (tgt := 10) hC.x hC.b dX14_slips_3 (by decide) (fun c1 => ?_) (fun c1 => ?_)
  · have hw21 := hw.1 c1
    refine lv_iload_n hC.x hC.b dX14_slips_10 rfl (lv_at hl 1 rfl) ?_
    refine lv_ineg hC.x hC.b dX14_slips_11 ?_
    exact rt_i (u := ()) hC hw21 hP hD hS dX14_slips_12
  · have hw22 := hw.2 c1
    refine lv_iload_n hC.x hC.b dX14_slips_6 rfl (lv_at hl 1 rfl) ?_
    refine lv_goto (tgt := 12) hC.x hC.b dX14_slips_7 (by decide) ?_
    exact rt_i (u := ()) hC hw22 hP hD hS dX14_slips_12
theorem h14_rounds : yX14_rounds.cls = RX14 ∧ yX14_rounds.cls ≠ "java/lang/invoke/MethodHandle" ∧ yX14_rounds.cls ≠ "java/lang/invoke/VarHandle" ∧ (parseMethodDescriptor yX14_rounds.desc).map (fun d => d.parameters.length) = some 2 := by decide +kernel
def w14_rounds (post : Int32 → Prop) (x1 : Int32) (x2 : Int32) : Prop :=
  ((¬ x2 = 0) ∧ ((¬ ((2 * x1) - (2 * x1) / x2 * x2) = 0 → (post 2)) ∧ (((2 * x1) - (2 * x1) / x2 * x2) = 0 → (post 1))))
set_option maxHeartbeats 4000000 in
theorem m14_rounds (l : Launch) {post : Int32 → Prop} {x1 : Int32} {x2 : Int32} (hw : w14_rounds post x1 x2) : Met l yX14_rounds (ws_ yX14_rounds cX14_rounds 3 (some .int)) ({ frames := 0, cells := 0, slots := 0, locals := 0 } : Room) (va_Pc [.ref b0, .int x1, .int x2] (PcG D gCl nwG Z Hb A w0)) (va_Qi (fun r (_ : Unit) => post r) (BW D gCl A (fun _ => w0)) A) 0 0 A := by
  refine Met.ofG (by decide) (Nat.le_of_ble_eq_true rfl) ?_
  intro p e s m below meth c ls hC _ hP hD hS hl
  have hC : CX RX14 cX14_rounds 3 (some .int) D gCl nwG Z Hb A p s m _ meth c := hC
  have hl : lv_has ls 3 [(0, .ref b0), (1, .int x1), (2, .int x2)] := hl
  unfold w14_rounds at hw
  refine lv_iconst (v := 2) hC.x hC.b dX14_rounds_0 (by decide) ?_
  refine lv_iload_n hC.x hC.b dX14_rounds_1 rfl (lv_at hl 1 rfl) ?_
  refine lv_imul hC.x hC.b dX14_rounds_2 ?_
  refine lv_iload_n hC.x hC.b dX14_rounds_3 rfl (lv_at hl 2 rfl) ?_
  obtain ⟨hne, hw23⟩ := hw
  refine lv_irem hC.x hC.b dX14_rounds_4 hne ?_
  refine lv_if_ne (tgt := 12) hC.x hC.b dX14_rounds_5 (by decide) (fun c1 => ?_) (fun c1 => ?_)
  · have hw24 := hw23.1 c1
    refine lv_iconst (v := 2) hC.x hC.b dX14_rounds_12 (by decide) ?_
    exact rt_i (u := ()) hC hw24 hP hD hS dX14_rounds_13
  · have hw25 := hw23.2 c1
    refine lv_iconst (v := 1) hC.x hC.b dX14_rounds_8 (by decide) ?_
    refine lv_goto (tgt := 13) hC.x hC.b dX14_rounds_9 (by decide) ?_
    exact rt_i (u := ()) hC hw25 hP hD hS dX14_rounds_13
theorem h13_rounds : yX13_rounds.cls = RX13 ∧ yX13_rounds.cls ≠ "java/lang/invoke/MethodHandle" ∧ yX13_rounds.cls ≠ "java/lang/invoke/VarHandle" ∧ (parseMethodDescriptor yX13_rounds.desc).map (fun d => d.parameters.length) = some 2 := by decide +kernel
def w13_rounds (post : Int32 → Prop) (x1 : Int32) (x2 : Int32) : Prop :=
  (w1_dividing (fun r1 => ((¬ (r1.toInt32) = 0) ∧ (post (x2 / (r1.toInt32))))) (x2.toInt64) (x1.toInt64))
set_option maxHeartbeats 4000000 in
theorem m13_rounds (l : Launch) {post : Int32 → Prop} {x1 : Int32} {x2 : Int32} (hw : w13_rounds post x1 x2) : Met l yX13_rounds (ws_ yX13_rounds cX13_rounds 3 (some .int)) ({ frames := 101, cells := 0, slots := 0, locals := 2323 } : Room) (va_Pc [.ref b0, .int x1, .int x2] (PcG D gCl nwG Z Hb A w0)) (va_Qi (fun r (_ : Unit) => post r) (BW D gCl A (fun _ => w0)) A) 0 0 A := by
  refine Met.ofG (by decide) (Nat.le_of_ble_eq_true rfl) ?_
  intro p e s m below meth c ls hC _ hP hD hS hl
  have hC : CX RX13 cX13_rounds 3 (some .int) D gCl nwG Z Hb A p s m _ meth c := hC
  have hl : lv_has ls 3 [(0, .ref b0), (1, .int x1), (2, .int x2)] := hl
  unfold w13_rounds at hw
  refine lv_iload_n hC.x hC.b dX13_rounds_0 rfl (lv_at hl 2 rfl) ?_
  refine lv_iload_n hC.x hC.b dX13_rounds_1 rfl (lv_at hl 2 rfl) ?_
  refine lv_i2l (v := (x2.toInt64)) hC.x hC.b dX13_rounds_2 rfl ?_
  refine lv_iload_n hC.x hC.b dX13_rounds_3 rfl (lv_at hl 1 rfl) ?_
  refine lv_i2l (v := (x1.toInt64)) hC.x hC.b dX13_rounds_4 rfl ?_
  refine go_l (run_SN (rest := [.int x2]) hC (m1_dividing l hw) (hC.K.use 10 rfl) ⟨q1047, q118, q1046⟩ h1_dividing ⟨rfl, rfl, Nat.le_of_ble_eq_true rfl, Nat.le_of_ble_eq_true rfl⟩ ⟨Nat.le_refl _, Nat.le_refl _⟩ hP hD hS hl.1 (Nat.le_of_ble_eq_true rfl) dX13_rounds_5 rfl) hS (fun r1 u H locs hw26 hP hD hS => ?_)
  refine lv_l2i (v := (r1.toInt32)) hC.x hC.b dX13_rounds_8 rfl ?_
  obtain ⟨hne, hw27⟩ := hw26
  refine lv_idiv hC.x hC.b dX13_rounds_9 hne ?_
  exact rt_i (u := ()) hC hw27 hP hD hS dX13_rounds_10
end CWc0
