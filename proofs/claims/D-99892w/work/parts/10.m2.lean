set_option maxRecDepth 100000
section MWm1
variable {p : Program} {l : Launch} {w0 : va_W} {e : Env} {s : State} {m : MethodId} {args : Array Value} {below : List Frame} {meth : Method} {c : Code} {D : va_G} {Z : State → Prop} {Hb : Heap} {A : Nat → Prop} {ad : Nat → Nat} {rd tw : Option (Nat → Nat)} {rdv : Option Nat} {t rt : Nat → Nat}
theorem v6_6_bits : GoodIn lw_all (va_wsS RX6 361 yX6_bits (ws_ yX6_bits cX6_bits 3 (some .int))) := lw_S q1875 q1876 q126 q1877
theorem h6_medium : yX6_medium.cls = RX6 ∧ yX6_medium.cls ≠ "java/lang/invoke/MethodHandle" ∧ yX6_medium.cls ≠ "java/lang/invoke/VarHandle" ∧ (parseMethodDescriptor yX6_medium.desc).map (fun d => d.parameters.length) = some 1 := by decide +kernel
def f6_medium_42 (post : Int32 → MS → Prop) (tw : Option (Nat → Nat)) (S : MS) (x1 : Int32) (K42 : (Int32 × Int32) → Prop) (x3 : Int32) (x4 : Int32) : Prop :=
  ((∃ t, tw = some t) ∧ (((S.1 20 2) ≤ x4 → (w6_good (fun r8 S9 => (post r8 S9)) S x3)) ∧ (¬ (S.1 20 2) ≤ x4 → (w6_heardOf (fun r10 => (w6_bits (fun r11 => (w6_heardOf (fun r12 => (w6_bits (fun r13 => ((r11 ≤ r13 → (K42 (x3, (x4 + 1)))) ∧ (¬ r11 ≤ r13 → (K42 (x4, (x4 + 1)))))) r12)) tw S x3 x1)) r10)) tw S x4 x1))))
set_option maxHeartbeats 4000000 in
theorem k6_medium_42 {post : Int32 → MS → Prop} {S : MS} {x1 : Int32} (hC : CX RX6 cX6_medium 5 (some .int) D gCl nwG Z Hb A p s m args meth c) : ∀ z : (Int32 × Int32), lp (fun (K : (Int32 × Int32) → Prop) (z : (Int32 × Int32)) => f6_medium_42 post tw S x1 K z.1 z.2) z → ∀ (H : Heap) (locs : List Loc) (ls : Array Slot), va_P D gCl (wM D ad none rdv tw S) H → va_D A (wM D ad none rdv tw S) → va_S A s.heap H locs → lv_has ls 5 [(0, .ref (ad 0)), (1, .int x1), (3, .int z.1), (4, .int z.2)] → W p l e ({ frames := 4, cells := 0, slots := 0, locals := 96 } : Room) s m args below meth c H locs 0 0 (MQ below (va_Qi post (BW D gCl A (fun u => (wM D ad none rdv tw u))) A) args s 0 0 A) (F0 m 42 ls []) := by
  refine lp_ind ?_
  rintro K42 ⟨x3, x4⟩ hK42 hw H locs ls hP hD hS hl
  have hw : f6_medium_42 post tw S x1 K42 x3 x4 := hw
  unfold f6_medium_42 at hw
  have hP : va_P D gCl (wM D ad none rdv tw S) H := hP
  have hD : va_D A (wM D ad none rdv tw S) := hD
  have hl : lv_has ls 5 [(0, .ref (ad 0)), (1, .int x1), (3, .int x3), (4, .int x4)] := hl
  refine lv_iload hC.x hC.b dX6_medium_42 (lv_at hl 3 rfl) ?_
  refine lv_aload_n hC.x hC.b dX6_medium_44 rfl (lv_at hl 0 rfl) ?_
  refine gM_3 hC hP dX6_medium_45 ?_
  obtain ⟨⟨t, rfl⟩, hw369⟩ := hw
  refine gT_2 hC hP dX6_medium_48 ?_
  refine lv_icmp_ge (tgt := 85) hC.x hC.b dX6_medium_51 (by decide) (fun c7 => ?_) (fun c7 => ?_)
  · have hw370 := hw369.1 c7
    refine lv_aload_n hC.x hC.b dX6_medium_85 rfl (lv_at hl 0 rfl) ?_
    refine lv_iload_n hC.x hC.b dX6_medium_86 rfl (lv_at hl 2 rfl) ?_
    refine go_i (run_V (rest := []) hC (m6_good l hw370) v6_6_good h6_good 0 5 gCl_X6 rfl rfl ⟨rfl, rfl, Nat.le_of_ble_eq_true rfl, Nat.le_of_ble_eq_true rfl⟩ ⟨Nat.le_refl _, Nat.le_refl _⟩ hP hD hS hl.1 (Nat.le_of_ble_eq_true rfl) dX6_medium_87 rfl) hS (fun r8 S9 H locs hw371 hP hD hS => ?_)
    exact rt_i hC hw371 hP hD hS dX6_medium_90
  · have hw372 := hw369.2 c7
    refine lv_aload_n hC.x hC.b dX6_medium_54 rfl (lv_at hl 0 rfl) ?_
    refine lv_iload hC.x hC.b dX6_medium_55 (lv_at hl 3 rfl) ?_
    refine lv_iload_n hC.x hC.b dX6_medium_57 rfl (lv_at hl 1 rfl) ?_
    refine go_i (run_V (rest := []) hC (m6_heardOf l hw372) v6_6_heardOf h6_heardOf 0 5 gCl_X6 rfl rfl ⟨rfl, rfl, Nat.le_of_ble_eq_true rfl, Nat.le_of_ble_eq_true rfl⟩ ⟨Nat.le_refl _, Nat.le_refl _⟩ hP hD hS hl.1 (Nat.le_of_ble_eq_true rfl) dX6_medium_58 rfl) hS (fun r10 u H locs hw373 hP hD hS => ?_)
    refine go_i (run_S (rest := []) hC (m6_bits l hw373) v6_6_bits h6_bits ⟨rfl, rfl, Nat.le_of_ble_eq_true rfl, Nat.le_of_ble_eq_true rfl⟩ ⟨Nat.le_refl _, Nat.le_refl _⟩ hP hD hS hl.1 (Nat.le_of_ble_eq_true rfl) dX6_medium_61 rfl) hS (fun r11 u H locs hw374 hP hD hS => ?_)
    refine lv_aload_n hC.x hC.b dX6_medium_64 rfl (lv_at hl 0 rfl) ?_
    refine lv_iload_n hC.x hC.b dX6_medium_65 rfl (lv_at hl 2 rfl) ?_
    refine lv_iload_n hC.x hC.b dX6_medium_66 rfl (lv_at hl 1 rfl) ?_
    refine go_i (run_V (rest := [.int r11]) hC (m6_heardOf l hw374) v6_6_heardOf h6_heardOf 0 5 gCl_X6 rfl rfl ⟨rfl, rfl, Nat.le_of_ble_eq_true rfl, Nat.le_of_ble_eq_true rfl⟩ ⟨Nat.le_refl _, Nat.le_refl _⟩ hP hD hS hl.1 (Nat.le_of_ble_eq_true rfl) dX6_medium_67 rfl) hS (fun r12 u H locs hw375 hP hD hS => ?_)
    refine go_i (run_S (rest := [.int r11]) hC (m6_bits l hw375) v6_6_bits h6_bits ⟨rfl, rfl, Nat.le_of_ble_eq_true rfl, Nat.le_of_ble_eq_true rfl⟩ ⟨Nat.le_refl _, Nat.le_refl _⟩ hP hD hS hl.1 (Nat.le_of_ble_eq_true rfl) dX6_medium_70 rfl) hS (fun r13 u H locs hw376 hP hD hS => ?_)
    refine lv_icmp_le (tgt := 79) hC.x hC.b dX6_medium_73 (by decide) (fun c14 => ?_) (fun c14 => ?_)
    · have hw377 := hw376.1 c14
      refine lv_iinc (v := (x4 + 1)) (lv' := [(4, .int (x4 + 1)), (0, .ref (ad 0)), (1, .int x1), (3, .int x3)]) hC.x hC.b dX6_medium_79 hl (k := 3) rfl rfl (by decide) rfl (fun ls hl => ?_)
      refine lv_goto (tgt := 42) hC.x hC.b dX6_medium_82 (by decide) ?_
      exact hK42 (x3, (x4 + 1)) hw377 H locs ls hP hD hS (lv_sub hl [1, 2, 3, 0] rfl)
    · have hw378 := hw376.2 c14
      refine lv_iload hC.x hC.b dX6_medium_76 (lv_at hl 3 rfl) ?_
      refine lv_istore_n (lv' := [(3, .int x4), (0, .ref (ad 0)), (1, .int x1), (4, .int x4)]) hC.x hC.b dX6_medium_78 rfl hl (by decide) rfl (fun ls hl => ?_)
      refine lv_iinc (v := (x4 + 1)) (lv' := [(4, .int (x4 + 1)), (3, .int x4), (0, .ref (ad 0)), (1, .int x1)]) hC.x hC.b dX6_medium_79 hl (k := 3) rfl rfl (by decide) rfl (fun ls hl => ?_)
      refine lv_goto (tgt := 42) hC.x hC.b dX6_medium_82 (by decide) ?_
      exact hK42 (x4, (x4 + 1)) hw378 H locs ls hP hD hS (lv_sub hl [2, 3, 1, 0] rfl)
def j6_medium_18 (post : Int32 → MS → Prop) (tw : Option (Nat → Nat)) (S : MS) (x1 : Int32) (y1 : Int32) : Prop :=
  (w6_refusesNight (fun r3 => ((r3 ≤ 0 → (w6_works (fun S6 => (lp (fun (K : (Int32 × Int32) → Prop) (z : (Int32 × Int32)) => f6_medium_42 post tw S6 x1 K z.1 z.2) (0, 1))) S)) ∧ (¬ r3 ≤ 0 → (w6_refused (fun r15 S16 => (post r15 S16)) S r3)))) S y1 x1)
set_option maxHeartbeats 4000000 in
theorem k6_medium_18 {post : Int32 → MS → Prop} {S : MS} {x1 : Int32} {y1 : Int32} (hC : CX RX6 cX6_medium 5 (some .int) D gCl nwG Z Hb A p s m args meth c) (hw : j6_medium_18 post tw S x1 y1) : ∀ (H : Heap) (locs : List Loc) (ls : Array Slot), va_P D gCl (wM D ad none rdv tw S) H → va_D A (wM D ad none rdv tw S) → va_S A s.heap H locs → lv_has ls 5 [(0, .ref (ad 0)), (1, .int x1)] → W p l e ({ frames := 4, cells := 0, slots := 0, locals := 96 } : Room) s m args below meth c H locs 0 0 (MQ below (va_Qi post (BW D gCl A (fun u => (wM D ad none rdv tw u))) A) args s 0 0 A) (F0 m 18 ls [.int y1, .ref (ad 0)]) := by
  intro H locs ls hP hD hS hl
  unfold j6_medium_18 at hw
  refine lv_iload_n hC.x hC.b dX6_medium_18 rfl (lv_at hl 1 rfl) ?_
  refine go_i (run_V (rest := []) hC (m6_refusesNight l hw) v6_6_refusesNight h6_refusesNight 0 5 gCl_X6 rfl rfl ⟨rfl, rfl, Nat.le_of_ble_eq_true rfl, Nat.le_of_ble_eq_true rfl⟩ ⟨Nat.le_refl _, Nat.le_refl _⟩ hP hD hS hl.1 (Nat.le_of_ble_eq_true rfl) dX6_medium_19 rfl) hS (fun r3 u H locs hw366 hP hD hS => ?_)
  refine lv_istore_n (lv' := [(2, .int r3), (0, .ref (ad 0)), (1, .int x1)]) hC.x hC.b dX6_medium_22 rfl hl (by decide) rfl (fun ls hl => ?_)
  refine lv_iload_n hC.x hC.b dX6_medium_23 rfl (lv_at hl 0 rfl) ?_
  refine lv_if_le (tgt := 33) hC.x hC.b dX6_medium_24 (by decide) (fun c4 => ?_) (fun c4 => ?_)
  · have hw367 := hw366.1 c4
    refine lv_aload_n hC.x hC.b dX6_medium_33 rfl (lv_at hl 1 rfl) ?_
    refine go_v (run_V (rest := []) hC (m6_works l hw367) v6_6_works h6_works 0 5 gCl_X6 rfl rfl ⟨rfl, rfl, Nat.le_of_ble_eq_true rfl, Nat.le_of_ble_eq_true rfl⟩ ⟨Nat.le_refl _, Nat.le_refl _⟩ hP hD hS hl.1 (Nat.le_of_ble_eq_true rfl) dX6_medium_34 rfl) hS (fun S6 H locs hw368 hP hD hS => ?_)
    refine lv_iconst (v := 0) hC.x hC.b dX6_medium_37 (by decide) ?_
    refine lv_istore_n (lv' := [(3, .int 0), (2, .int r3), (0, .ref (ad 0)), (1, .int x1)]) hC.x hC.b dX6_medium_38 rfl hl (by decide) rfl (fun ls hl => ?_)
    refine lv_iconst (v := 1) hC.x hC.b dX6_medium_39 (by decide) ?_
    refine lv_istore (lv' := [(4, .int 1), (3, .int 0), (2, .int r3), (0, .ref (ad 0)), (1, .int x1)]) hC.x hC.b dX6_medium_40 hl (by decide) rfl (fun ls hl => ?_)
    exact k6_medium_42 hC (0, 1) hw368 H locs ls hP hD hS (lv_sub hl [3, 4, 1, 0] rfl)
  · have hw379 := hw366.2 c4
    refine lv_aload_n hC.x hC.b dX6_medium_27 rfl (lv_at hl 1 rfl) ?_
    refine lv_iload_n hC.x hC.b dX6_medium_28 rfl (lv_at hl 0 rfl) ?_
    refine go_i (run_V (rest := []) hC (m6_refused l hw379) v6_6_refused h6_refused 0 5 gCl_X6 rfl rfl ⟨rfl, rfl, Nat.le_of_ble_eq_true rfl, Nat.le_of_ble_eq_true rfl⟩ ⟨Nat.le_refl _, Nat.le_refl _⟩ hP hD hS hl.1 (Nat.le_of_ble_eq_true rfl) dX6_medium_29 rfl) hS (fun r15 S16 H locs hw380 hP hD hS => ?_)
    exact rt_i hC hw380 hP hD hS dX6_medium_32
def w6_medium (post : Int32 → MS → Prop) (tw : Option (Nat → Nat)) (S : MS) (x1 : Int32) : Prop :=
  (∀ S1, S1 = uI S 0 0 0 → ((tw = none → (j6_medium_18 post tw S1 x1 0)) ∧ ((∃ t, tw = some t) → (j6_medium_18 post tw S1 x1 1))))
set_option maxHeartbeats 4000000 in
theorem m6_medium (l : Launch) {post : Int32 → MS → Prop} {S : MS} {x1 : Int32} (hw : w6_medium post tw S x1) : Met l yX6_medium (ws_ yX6_medium cX6_medium 5 (some .int)) ({ frames := 4, cells := 0, slots := 0, locals := 96 } : Room) (va_Pc [.ref (ad 0), .int x1] (PcG D gCl nwG Z Hb A (wM D ad none rdv tw S))) (va_Qi post (BW D gCl A (fun u => (wM D ad none rdv tw u))) A) 0 0 A := by
  refine Met.ofG (by decide) (Nat.le_of_ble_eq_true rfl) ?_
  intro p e s m below meth c ls hC _ hP hD hS hl
  have hC : CX RX6 cX6_medium 5 (some .int) D gCl nwG Z Hb A p s m _ meth c := hC
  have hl : lv_has ls 5 [(0, .ref (ad 0)), (1, .int x1)] := hl
  unfold w6_medium at hw
  refine lv_aload_n hC.x hC.b dX6_medium_0 rfl (lv_at hl 0 rfl) ?_
  refine lv_iconst (v := 0) hC.x hC.b dX6_medium_1 (by decide) ?_
  refine pM_0 hC hP hD hS (v := 0) dX6_medium_2 (fun S1 eS1 H locs hP hD hS => ?_)
  have hw364 := hw S1 eS1
  refine lv_aload_n hC.x hC.b dX6_medium_5 rfl (lv_at hl 0 rfl) ?_
  refine lv_aload_n hC.x hC.b dX6_medium_6 rfl (lv_at hl 0 rfl) ?_
  refine gM_3 hC hP dX6_medium_7 ?_
  rcases va_o2 tw with c2 | ⟨t, c2⟩
  · have hw365 := hw364.1 c2
    subst c2
    refine lv_ifnullN (tgt := 17) hC.x hC.b dX6_medium_10 (by decide) ?_
    refine lv_iconst (v := 0) hC.x hC.b dX6_medium_17 (by decide) ?_
    exact k6_medium_18 hC hw365 H locs ls hP hD hS (lv_sub hl [0, 1] rfl)
  · have hw381 := hw364.2 ⟨t, c2⟩
    subst c2
    refine lv_ifnull hC.x hC.b dX6_medium_10 ?_
    refine lv_iconst (v := 1) hC.x hC.b dX6_medium_13 (by decide) ?_
    refine lv_goto (tgt := 18) hC.x hC.b dX6_medium_14 (by decide) ?_
    exact k6_medium_18 hC hw381 H locs ls hP hD hS (lv_sub hl [0, 1] rfl)
theorem h6_silent : yX6_silent.cls = RX6 ∧ yX6_silent.cls ≠ "java/lang/invoke/MethodHandle" ∧ yX6_silent.cls ≠ "java/lang/invoke/VarHandle" ∧ (parseMethodDescriptor yX6_silent.desc).map (fun d => d.parameters.length) = some 1 := by decide +kernel
def f6_silent_42 (post : Int32 → MS → Prop) (tw : Option (Nat → Nat)) (S : MS) (x1 : Int32) (K42 : (Int32 × Int32) → Prop) (x3 : Int32) (x4 : Int32) : Prop :=
  ((∃ t, tw = some t) ∧ (((S.1 20 2) ≤ x4 → (w6_good (fun r8 S9 => (post r8 S9)) S x3)) ∧ (¬ (S.1 20 2) ≤ x4 → (w6_heardOf (fun r10 => ((¬ r10 = 0 → (K42 ((x3 ||| 0), (x4 + 1)))) ∧ (r10 = 0 → (K42 ((x3 ||| ((1 : Int32) <<< (x4 &&& 31))), (x4 + 1)))))) tw S x4 x1))))
set_option maxHeartbeats 4000000 in
theorem k6_silent_42 {post : Int32 → MS → Prop} {S : MS} {x1 : Int32} (hC : CX RX6 cX6_silent 5 (some .int) D gCl nwG Z Hb A p s m args meth c) : ∀ z : (Int32 × Int32), lp (fun (K : (Int32 × Int32) → Prop) (z : (Int32 × Int32)) => f6_silent_42 post tw S x1 K z.1 z.2) z → ∀ (H : Heap) (locs : List Loc) (ls : Array Slot), va_P D gCl (wM D ad none rdv tw S) H → va_D A (wM D ad none rdv tw S) → va_S A s.heap H locs → lv_has ls 5 [(0, .ref (ad 0)), (1, .int x1), (3, .int z.1), (4, .int z.2)] → W p l e ({ frames := 4, cells := 0, slots := 0, locals := 96 } : Room) s m args below meth c H locs 0 0 (MQ below (va_Qi post (BW D gCl A (fun u => (wM D ad none rdv tw u))) A) args s 0 0 A) (F0 m 42 ls []) := by
  refine lp_ind ?_
  rintro K42 ⟨x3, x4⟩ hK42 hw H locs ls hP hD hS hl
  have hw : f6_silent_42 post tw S x1 K42 x3 x4 := hw
  unfold f6_silent_42 at hw
  have hP : va_P D gCl (wM D ad none rdv tw S) H := hP
  have hD : va_D A (wM D ad none rdv tw S) := hD
  have hl : lv_has ls 5 [(0, .ref (ad 0)), (1, .int x1), (3, .int x3), (4, .int x4)] := hl
  refine lv_iload hC.x hC.b dX6_silent_42 (lv_at hl 3 rfl) ?_
  refine lv_aload_n hC.x hC.b dX6_silent_44 rfl (lv_at hl 0 rfl) ?_
  refine gM_3 hC hP dX6_silent_45 ?_
  obtain ⟨⟨t, rfl⟩, hw387⟩ := hw
  refine gT_2 hC hP dX6_silent_48 ?_
  refine lv_icmp_ge (tgt := 81) hC.x hC.b dX6_silent_51 (by decide) (fun c7 => ?_) (fun c7 => ?_)
  · have hw388 := hw387.1 c7
    refine lv_aload_n hC.x hC.b dX6_silent_81 rfl (lv_at hl 0 rfl) ?_
    refine lv_iload_n hC.x hC.b dX6_silent_82 rfl (lv_at hl 2 rfl) ?_
    refine go_i (run_V (rest := []) hC (m6_good l hw388) v6_6_good h6_good 0 5 gCl_X6 rfl rfl ⟨rfl, rfl, Nat.le_of_ble_eq_true rfl, Nat.le_of_ble_eq_true rfl⟩ ⟨Nat.le_refl _, Nat.le_refl _⟩ hP hD hS hl.1 (Nat.le_of_ble_eq_true rfl) dX6_silent_83 rfl) hS (fun r8 S9 H locs hw389 hP hD hS => ?_)
    exact rt_i hC hw389 hP hD hS dX6_silent_86
  · have hw390 := hw387.2 c7
    refine lv_iload_n hC.x hC.b dX6_silent_54 rfl (lv_at hl 2 rfl) ?_
    refine lv_aload_n hC.x hC.b dX6_silent_55 rfl (lv_at hl 0 rfl) ?_
    refine lv_iload hC.x hC.b dX6_silent_56 (lv_at hl 3 rfl) ?_
    refine lv_iload_n hC.x hC.b dX6_silent_58 rfl (lv_at hl 1 rfl) ?_
    refine go_i (run_V (rest := [.int x3]) hC (m6_heardOf l hw390) v6_6_heardOf h6_heardOf 0 5 gCl_X6 rfl rfl ⟨rfl, rfl, Nat.le_of_ble_eq_true rfl, Nat.le_of_ble_eq_true rfl⟩ ⟨Nat.le_refl _, Nat.le_refl _⟩ hP hD hS hl.1 (Nat.le_of_ble_eq_true rfl) dX6_silent_59 rfl) hS (fun r10 u H locs hw391 hP hD hS => ?_)
    refine lv_if_ne (tgt := 72) hC.x hC.b dX6_silent_62 (by decide) (fun c11 => ?_) (fun c11 => ?_)
    · have hw392 := hw391.1 c11
      refine lv_iconst (v := 0) hC.x hC.b dX6_silent_72 (by decide) ?_
      refine lv_ior hC.x hC.b dX6_silent_73 ?_
      refine lv_istore_n (lv' := [(3, .int (x3 ||| 0)), (0, .ref (ad 0)), (1, .int x1), (4, .int x4)]) hC.x hC.b dX6_silent_74 rfl hl (by decide) rfl (fun ls hl => ?_)
      refine lv_iinc (v := (x4 + 1)) (lv' := [(4, .int (x4 + 1)), (3, .int (x3 ||| 0)), (0, .ref (ad 0)), (1, .int x1)]) hC.x hC.b dX6_silent_75 hl (k := 3) rfl rfl (by decide) rfl (fun ls hl => ?_)
      refine lv_goto (tgt := 42) hC.x hC.b dX6_silent_78 (by decide) ?_
      exact hK42 ((x3 ||| 0), (x4 + 1)) hw392 H locs ls hP hD hS (lv_sub hl [2, 3, 1, 0] rfl)
    · have hw393 := hw391.2 c11
      refine lv_iconst (v := 1) hC.x hC.b dX6_silent_65 (by decide) ?_
      refine lv_iload hC.x hC.b dX6_silent_66 (lv_at hl 3 rfl) ?_
      refine lv_ishl hC.x hC.b dX6_silent_68 ?_
      refine lv_goto (tgt := 73) hC.x hC.b dX6_silent_69 (by decide) ?_
      refine lv_ior hC.x hC.b dX6_silent_73 ?_
      refine lv_istore_n (lv' := [(3, .int (x3 ||| ((1 : Int32) <<< (x4 &&& 31)))), (0, .ref (ad 0)), (1, .int x1), (4, .int x4)]) hC.x hC.b dX6_silent_74 rfl hl (by decide) rfl (fun ls hl => ?_)
      refine lv_iinc (v := (x4 + 1)) (lv' := [(4, .int (x4 + 1)), (3, .int (x3 ||| ((1 : Int32) <<< (x4 &&& 31)))), (0, .ref (ad 0)), (1, .int x1)]) hC.x hC.b dX6_silent_75 hl (k := 3) rfl rfl (by decide) rfl (fun ls hl => ?_)
      refine lv_goto (tgt := 42) hC.x hC.b dX6_silent_78 (by decide) ?_
      exact hK42 ((x3 ||| ((1 : Int32) <<< (x4 &&& 31))), (x4 + 1)) hw393 H locs ls hP hD hS (lv_sub hl [2, 3, 1, 0] rfl)
def j6_silent_18 (post : Int32 → MS → Prop) (tw : Option (Nat → Nat)) (S : MS) (x1 : Int32) (y1 : Int32) : Prop :=
  (w6_refusesNight (fun r3 => ((r3 ≤ 0 → (w6_works (fun S6 => (lp (fun (K : (Int32 × Int32) → Prop) (z : (Int32 × Int32)) => f6_silent_42 post tw S6 x1 K z.1 z.2) (0, 0))) S)) ∧ (¬ r3 ≤ 0 → (w6_refused (fun r12 S13 => (post r12 S13)) S r3)))) S y1 x1)
set_option maxHeartbeats 4000000 in
theorem k6_silent_18 {post : Int32 → MS → Prop} {S : MS} {x1 : Int32} {y1 : Int32} (hC : CX RX6 cX6_silent 5 (some .int) D gCl nwG Z Hb A p s m args meth c) (hw : j6_silent_18 post tw S x1 y1) : ∀ (H : Heap) (locs : List Loc) (ls : Array Slot), va_P D gCl (wM D ad none rdv tw S) H → va_D A (wM D ad none rdv tw S) → va_S A s.heap H locs → lv_has ls 5 [(0, .ref (ad 0)), (1, .int x1)] → W p l e ({ frames := 4, cells := 0, slots := 0, locals := 96 } : Room) s m args below meth c H locs 0 0 (MQ below (va_Qi post (BW D gCl A (fun u => (wM D ad none rdv tw u))) A) args s 0 0 A) (F0 m 18 ls [.int y1, .ref (ad 0)]) := by
  intro H locs ls hP hD hS hl
  unfold j6_silent_18 at hw
  refine lv_iload_n hC.x hC.b dX6_silent_18 rfl (lv_at hl 1 rfl) ?_
  refine go_i (run_V (rest := []) hC (m6_refusesNight l hw) v6_6_refusesNight h6_refusesNight 0 5 gCl_X6 rfl rfl ⟨rfl, rfl, Nat.le_of_ble_eq_true rfl, Nat.le_of_ble_eq_true rfl⟩ ⟨Nat.le_refl _, Nat.le_refl _⟩ hP hD hS hl.1 (Nat.le_of_ble_eq_true rfl) dX6_silent_19 rfl) hS (fun r3 u H locs hw384 hP hD hS => ?_)
  refine lv_istore_n (lv' := [(2, .int r3), (0, .ref (ad 0)), (1, .int x1)]) hC.x hC.b dX6_silent_22 rfl hl (by decide) rfl (fun ls hl => ?_)
  refine lv_iload_n hC.x hC.b dX6_silent_23 rfl (lv_at hl 0 rfl) ?_
  refine lv_if_le (tgt := 33) hC.x hC.b dX6_silent_24 (by decide) (fun c4 => ?_) (fun c4 => ?_)
  · have hw385 := hw384.1 c4
    refine lv_aload_n hC.x hC.b dX6_silent_33 rfl (lv_at hl 1 rfl) ?_
    refine go_v (run_V (rest := []) hC (m6_works l hw385) v6_6_works h6_works 0 5 gCl_X6 rfl rfl ⟨rfl, rfl, Nat.le_of_ble_eq_true rfl, Nat.le_of_ble_eq_true rfl⟩ ⟨Nat.le_refl _, Nat.le_refl _⟩ hP hD hS hl.1 (Nat.le_of_ble_eq_true rfl) dX6_silent_34 rfl) hS (fun S6 H locs hw386 hP hD hS => ?_)
    refine lv_iconst (v := 0) hC.x hC.b dX6_silent_37 (by decide) ?_
    refine lv_istore_n (lv' := [(3, .int 0), (2, .int r3), (0, .ref (ad 0)), (1, .int x1)]) hC.x hC.b dX6_silent_38 rfl hl (by decide) rfl (fun ls hl => ?_)
    refine lv_iconst (v := 0) hC.x hC.b dX6_silent_39 (by decide) ?_
    refine lv_istore (lv' := [(4, .int 0), (3, .int 0), (2, .int r3), (0, .ref (ad 0)), (1, .int x1)]) hC.x hC.b dX6_silent_40 hl (by decide) rfl (fun ls hl => ?_)
    exact k6_silent_42 hC (0, 0) hw386 H locs ls hP hD hS (lv_sub hl [3, 4, 1, 0] rfl)
  · have hw394 := hw384.2 c4
    refine lv_aload_n hC.x hC.b dX6_silent_27 rfl (lv_at hl 1 rfl) ?_
    refine lv_iload_n hC.x hC.b dX6_silent_28 rfl (lv_at hl 0 rfl) ?_
    refine go_i (run_V (rest := []) hC (m6_refused l hw394) v6_6_refused h6_refused 0 5 gCl_X6 rfl rfl ⟨rfl, rfl, Nat.le_of_ble_eq_true rfl, Nat.le_of_ble_eq_true rfl⟩ ⟨Nat.le_refl _, Nat.le_refl _⟩ hP hD hS hl.1 (Nat.le_of_ble_eq_true rfl) dX6_silent_29 rfl) hS (fun r12 S13 H locs hw395 hP hD hS => ?_)
    exact rt_i hC hw395 hP hD hS dX6_silent_32
def w6_silent (post : Int32 → MS → Prop) (tw : Option (Nat → Nat)) (S : MS) (x1 : Int32) : Prop :=
  (∀ S1, S1 = uI S 0 0 0 → ((tw = none → (j6_silent_18 post tw S1 x1 0)) ∧ ((∃ t, tw = some t) → (j6_silent_18 post tw S1 x1 1))))
set_option maxHeartbeats 4000000 in
theorem m6_silent (l : Launch) {post : Int32 → MS → Prop} {S : MS} {x1 : Int32} (hw : w6_silent post tw S x1) : Met l yX6_silent (ws_ yX6_silent cX6_silent 5 (some .int)) ({ frames := 4, cells := 0, slots := 0, locals := 96 } : Room) (va_Pc [.ref (ad 0), .int x1] (PcG D gCl nwG Z Hb A (wM D ad none rdv tw S))) (va_Qi post (BW D gCl A (fun u => (wM D ad none rdv tw u))) A) 0 0 A := by
  refine Met.ofG (by decide) (Nat.le_of_ble_eq_true rfl) ?_
  intro p e s m below meth c ls hC _ hP hD hS hl
  have hC : CX RX6 cX6_silent 5 (some .int) D gCl nwG Z Hb A p s m _ meth c := hC
  have hl : lv_has ls 5 [(0, .ref (ad 0)), (1, .int x1)] := hl
  unfold w6_silent at hw
  refine lv_aload_n hC.x hC.b dX6_silent_0 rfl (lv_at hl 0 rfl) ?_
  refine lv_iconst (v := 0) hC.x hC.b dX6_silent_1 (by decide) ?_
  refine pM_0 hC hP hD hS (v := 0) dX6_silent_2 (fun S1 eS1 H locs hP hD hS => ?_)
  have hw382 := hw S1 eS1
  refine lv_aload_n hC.x hC.b dX6_silent_5 rfl (lv_at hl 0 rfl) ?_
  refine lv_aload_n hC.x hC.b dX6_silent_6 rfl (lv_at hl 0 rfl) ?_
  refine gM_3 hC hP dX6_silent_7 ?_
  rcases va_o2 tw with c2 | ⟨t, c2⟩
  · have hw383 := hw382.1 c2
    subst c2
    refine lv_ifnullN (tgt := 17) hC.x hC.b dX6_silent_10 (by decide) ?_
    refine lv_iconst (v := 0) hC.x hC.b dX6_silent_17 (by decide) ?_
    exact k6_silent_18 hC hw383 H locs ls hP hD hS (lv_sub hl [0, 1] rfl)
  · have hw396 := hw382.2 ⟨t, c2⟩
    subst c2
    refine lv_ifnull hC.x hC.b dX6_silent_10 ?_
    refine lv_iconst (v := 1) hC.x hC.b dX6_silent_13 (by decide) ?_
    refine lv_goto (tgt := 18) hC.x hC.b dX6_silent_14 (by decide) ?_
    exact k6_silent_18 hC hw396 H locs ls hP hD hS (lv_sub hl [0, 1] rfl)
theorem h6_rightFrom : yX6_rightFrom.cls = RX6 ∧ yX6_rightFrom.cls ≠ "java/lang/invoke/MethodHandle" ∧ yX6_rightFrom.cls ≠ "java/lang/invoke/VarHandle" ∧ (parseMethodDescriptor yX6_rightFrom.desc).map (fun d => d.parameters.length) = some 2 := by decide +kernel
def f6_rightFrom_33 (post : Int32 → MS → Prop) (tw : Option (Nat → Nat)) (S : MS) (x1 : Int32) (K33 : Int32 → Prop) (x4 : Int32) : Prop :=
  ((100 ≤ x4 → (w6_good (fun r8 S9 => (post r8 S9)) S (-2))) ∧ (¬ 100 ≤ x4 → (w6_isRight (fun r10 => ((r10 = 0 → (K33 (x4 + 1))) ∧ (¬ r10 = 0 → (w6_good (fun r12 S13 => (post r12 S13)) S x4)))) tw S x1 x4)))
set_option maxHeartbeats 4000000 in
theorem k6_rightFrom_33 {post : Int32 → MS → Prop} {S : MS} {x1 : Int32} (hC : CX RX6 cX6_rightFrom 5 (some .int) D gCl nwG Z Hb A p s m args meth c) : ∀ z : Int32, lp (fun (K : Int32 → Prop) (z : Int32) => f6_rightFrom_33 post tw S x1 K z) z → ∀ (H : Heap) (locs : List Loc) (ls : Array Slot), va_P D gCl (wM D ad none rdv tw S) H → va_D A (wM D ad none rdv tw S) → va_S A s.heap H locs → lv_has ls 5 [(0, .ref (ad 0)), (1, .int x1), (4, .int z)] → W p l e ({ frames := 4, cells := 0, slots := 0, locals := 94 } : Room) s m args below meth c H locs 0 0 (MQ below (va_Qi post (BW D gCl A (fun u => (wM D ad none rdv tw u))) A) args s 0 0 A) (F0 m 33 ls []) := by
  refine lp_ind ?_
  rintro K33 x4 hK33 hw H locs ls hP hD hS hl
  have hw : f6_rightFrom_33 post tw S x1 K33 x4 := hw
  unfold f6_rightFrom_33 at hw
  have hP : va_P D gCl (wM D ad none rdv tw S) H := hP
  have hD : va_D A (wM D ad none rdv tw S) := hD
  have hl : lv_has ls 5 [(0, .ref (ad 0)), (1, .int x1), (4, .int x4)] := hl
  refine lv_iload hC.x hC.b dX6_rightFrom_33 (lv_at hl 2 rfl) ?_
  refine lv_bipush (v := 100) hC.x hC.b dX6_rightFrom_35 (by decide) ?_
  refine lv_icmp_ge (tgt := 63) hC.x hC.b dX6_rightFrom_37 (by decide) (fun c7 => ?_) (fun c7 => ?_)
  · have hw402 := hw.1 c7
    refine lv_aload_n hC.x hC.b dX6_rightFrom_63 rfl (lv_at hl 0 rfl) ?_
    refine lv_bipush (v := (-2)) hC.x hC.b dX6_rightFrom_64 (by decide) ?_
    refine go_i (run_V (rest := []) hC (m6_good l hw402) v6_6_good h6_good 0 5 gCl_X6 rfl rfl ⟨rfl, rfl, Nat.le_of_ble_eq_true rfl, Nat.le_of_ble_eq_true rfl⟩ ⟨Nat.le_refl _, Nat.le_refl _⟩ hP hD hS hl.1 (Nat.le_of_ble_eq_true rfl) dX6_rightFrom_66 rfl) hS (fun r8 S9 H locs hw403 hP hD hS => ?_)
    exact rt_i hC hw403 hP hD hS dX6_rightFrom_69
  · have hw404 := hw.2 c7
    refine lv_aload_n hC.x hC.b dX6_rightFrom_40 rfl (lv_at hl 0 rfl) ?_
    refine lv_iload_n hC.x hC.b dX6_rightFrom_41 rfl (lv_at hl 1 rfl) ?_
    refine lv_iload hC.x hC.b dX6_rightFrom_42 (lv_at hl 2 rfl) ?_
    refine go_i (run_V (rest := []) hC (m6_isRight l hw404) v6_6_isRight h6_isRight 0 5 gCl_X6 rfl rfl ⟨rfl, rfl, Nat.le_of_ble_eq_true rfl, Nat.le_of_ble_eq_true rfl⟩ ⟨Nat.le_refl _, Nat.le_refl _⟩ hP hD hS hl.1 (Nat.le_of_ble_eq_true rfl) dX6_rightFrom_44 rfl) hS (fun r10 u H locs hw405 hP hD hS => ?_)
    refine lv_if_eq (tgt := 57) hC.x hC.b dX6_rightFrom_47 (by decide) (fun c11 => ?_) (fun c11 => ?_)
    · have hw406 := hw405.1 c11
      refine lv_iinc (v := (x4 + 1)) (lv' := [(4, .int (x4 + 1)), (0, .ref (ad 0)), (1, .int x1)]) hC.x hC.b dX6_rightFrom_57 hl (k := 2) rfl rfl (by decide) rfl (fun ls hl => ?_)
      refine lv_goto (tgt := 33) hC.x hC.b dX6_rightFrom_60 (by decide) ?_
      exact hK33 (x4 + 1) hw406 H locs ls hP hD hS (lv_sub hl [1, 2, 0] rfl)
    · have hw407 := hw405.2 c11
      refine lv_aload_n hC.x hC.b dX6_rightFrom_50 rfl (lv_at hl 0 rfl) ?_
      refine lv_iload hC.x hC.b dX6_rightFrom_51 (lv_at hl 2 rfl) ?_
      refine go_i (run_V (rest := []) hC (m6_good l hw407) v6_6_good h6_good 0 5 gCl_X6 rfl rfl ⟨rfl, rfl, Nat.le_of_ble_eq_true rfl, Nat.le_of_ble_eq_true rfl⟩ ⟨Nat.le_refl _, Nat.le_refl _⟩ hP hD hS hl.1 (Nat.le_of_ble_eq_true rfl) dX6_rightFrom_53 rfl) hS (fun r12 S13 H locs hw408 hP hD hS => ?_)
      exact rt_i hC hw408 hP hD hS dX6_rightFrom_56
def w6_rightFrom (post : Int32 → MS → Prop) (tw : Option (Nat → Nat)) (S : MS) (x1 : Int32) (x2 : Int32) : Prop :=
  (∀ S1, S1 = uI S 0 0 0 → (w6_isDead (fun r2 => (w6_refusesNight (fun r3 => ((r3 ≤ 0 → (w6_works (fun S6 => (lp (fun (K : Int32 → Prop) (z : Int32) => f6_rightFrom_33 post tw S6 x1 K z) x2)) S1)) ∧ (¬ r3 ≤ 0 → (w6_refused (fun r14 S15 => (post r14 S15)) S1 r3)))) S1 r2 x2)) tw S1 x1))
set_option maxHeartbeats 4000000 in
theorem m6_rightFrom (l : Launch) {post : Int32 → MS → Prop} {S : MS} {x1 : Int32} {x2 : Int32} (hw : w6_rightFrom post tw S x1 x2) : Met l yX6_rightFrom (ws_ yX6_rightFrom cX6_rightFrom 5 (some .int)) ({ frames := 4, cells := 0, slots := 0, locals := 94 } : Room) (va_Pc [.ref (ad 0), .int x1, .int x2] (PcG D gCl nwG Z Hb A (wM D ad none rdv tw S))) (va_Qi post (BW D gCl A (fun u => (wM D ad none rdv tw u))) A) 0 0 A := by
  refine Met.ofG (by decide) (Nat.le_of_ble_eq_true rfl) ?_
  intro p e s m below meth c ls hC _ hP hD hS hl
  have hC : CX RX6 cX6_rightFrom 5 (some .int) D gCl nwG Z Hb A p s m _ meth c := hC
  have hl : lv_has ls 5 [(0, .ref (ad 0)), (1, .int x1), (2, .int x2)] := hl
  unfold w6_rightFrom at hw
  refine lv_aload_n hC.x hC.b dX6_rightFrom_0 rfl (lv_at hl 0 rfl) ?_
  refine lv_iconst (v := 0) hC.x hC.b dX6_rightFrom_1 (by decide) ?_
  refine pM_0 hC hP hD hS (v := 0) dX6_rightFrom_2 (fun S1 eS1 H locs hP hD hS => ?_)
  have hw397 := hw S1 eS1
  refine lv_aload_n hC.x hC.b dX6_rightFrom_5 rfl (lv_at hl 0 rfl) ?_
  refine lv_aload_n hC.x hC.b dX6_rightFrom_6 rfl (lv_at hl 0 rfl) ?_
  refine lv_iload_n hC.x hC.b dX6_rightFrom_7 rfl (lv_at hl 1 rfl) ?_
  refine go_i (run_V (rest := [.ref (ad 0)]) hC (m6_isDead l hw397) v6_6_isDead h6_isDead 0 5 gCl_X6 rfl rfl ⟨rfl, rfl, Nat.le_of_ble_eq_true rfl, Nat.le_of_ble_eq_true rfl⟩ ⟨Nat.le_refl _, Nat.le_refl _⟩ hP hD hS hl.1 (Nat.le_of_ble_eq_true rfl) dX6_rightFrom_8 rfl) hS (fun r2 u H locs hw398 hP hD hS => ?_)
  refine lv_iload_n hC.x hC.b dX6_rightFrom_11 rfl (lv_at hl 2 rfl) ?_
  refine go_i (run_V (rest := []) hC (m6_refusesNight l hw398) v6_6_refusesNight h6_refusesNight 0 5 gCl_X6 rfl rfl ⟨rfl, rfl, Nat.le_of_ble_eq_true rfl, Nat.le_of_ble_eq_true rfl⟩ ⟨Nat.le_refl _, Nat.le_refl _⟩ hP hD hS hl.1 (Nat.le_of_ble_eq_true rfl) dX6_rightFrom_12 rfl) hS (fun r3 u H locs hw399 hP hD hS => ?_)
  refine lv_istore_n (lv' := [(3, .int r3), (0, .ref (ad 0)), (1, .int x1), (2, .int x2)]) hC.x hC.b dX6_rightFrom_15 rfl hl (by decide) rfl (fun ls hl => ?_)
  refine lv_iload_n hC.x hC.b dX6_rightFrom_16 rfl (lv_at hl 0 rfl) ?_
  refine lv_if_le (tgt := 26) hC.x hC.b dX6_rightFrom_17 (by decide) (fun c4 => ?_) (fun c4 => ?_)
  · have hw400 := hw399.1 c4
    refine lv_aload_n hC.x hC.b dX6_rightFrom_26 rfl (lv_at hl 1 rfl) ?_
    refine go_v (run_V (rest := []) hC (m6_works l hw400) v6_6_works h6_works 0 5 gCl_X6 rfl rfl ⟨rfl, rfl, Nat.le_of_ble_eq_true rfl, Nat.le_of_ble_eq_true rfl⟩ ⟨Nat.le_refl _, Nat.le_refl _⟩ hP hD hS hl.1 (Nat.le_of_ble_eq_true rfl) dX6_rightFrom_27 rfl) hS (fun S6 H locs hw401 hP hD hS => ?_)
    refine lv_iload_n hC.x hC.b dX6_rightFrom_30 rfl (lv_at hl 3 rfl) ?_
    refine lv_istore (lv' := [(4, .int x2), (3, .int r3), (0, .ref (ad 0)), (1, .int x1), (2, .int x2)]) hC.x hC.b dX6_rightFrom_31 hl (by decide) rfl (fun ls hl => ?_)
    exact k6_rightFrom_33 hC x2 hw401 H locs ls hP hD hS (lv_sub hl [2, 3, 0] rfl)
  · have hw409 := hw399.2 c4
    refine lv_aload_n hC.x hC.b dX6_rightFrom_20 rfl (lv_at hl 1 rfl) ?_
    refine lv_iload_n hC.x hC.b dX6_rightFrom_21 rfl (lv_at hl 0 rfl) ?_
    refine go_i (run_V (rest := []) hC (m6_refused l hw409) v6_6_refused h6_refused 0 5 gCl_X6 rfl rfl ⟨rfl, rfl, Nat.le_of_ble_eq_true rfl, Nat.le_of_ble_eq_true rfl⟩ ⟨Nat.le_refl _, Nat.le_refl _⟩ hP hD hS hl.1 (Nat.le_of_ble_eq_true rfl) dX6_rightFrom_22 rfl) hS (fun r14 S15 H locs hw410 hP hD hS => ?_)
    exact rt_i hC hw410 hP hD hS dX6_rightFrom_25
theorem h6_nightsOf : yX6_nightsOf.cls = RX6 ∧ yX6_nightsOf.cls ≠ "java/lang/invoke/MethodHandle" ∧ yX6_nightsOf.cls ≠ "java/lang/invoke/VarHandle" ∧ (parseMethodDescriptor yX6_nightsOf.desc).map (fun d => d.parameters.length) = some 2 := by decide +kernel
def f6_nightsOf_36 (post : Int32 → MS → Prop) (tw : Option (Nat → Nat)) (S : MS) (x1 : Int32) (x2 : Int32) (K36 : (Int32 × Int32) → Prop) (x3 : Int32) (x4 : Int32) : Prop :=
  ((100 ≤ x4 → (w6_good (fun r11 S12 => (post r11 S12)) S x3)) ∧ (¬ 100 ≤ x4 → (w6_whoHears (fun r13 => ((¬ r13 = x1 → (K36 ((x3 + 0), (x4 + 1)))) ∧ (r13 = x1 → (K36 ((x3 + 1), (x4 + 1)))))) tw S x2 x4)))
set_option maxHeartbeats 4000000 in
theorem k6_nightsOf_36 {post : Int32 → MS → Prop} {S : MS} {x1 : Int32} {x2 : Int32} (hC : CX RX6 cX6_nightsOf 5 (some .int) D gCl nwG Z Hb A p s m args meth c) : ∀ z : (Int32 × Int32), lp (fun (K : (Int32 × Int32) → Prop) (z : (Int32 × Int32)) => f6_nightsOf_36 post tw S x1 x2 K z.1 z.2) z → ∀ (H : Heap) (locs : List Loc) (ls : Array Slot), va_P D gCl (wM D ad none rdv tw S) H → va_D A (wM D ad none rdv tw S) → va_S A s.heap H locs → lv_has ls 5 [(0, .ref (ad 0)), (1, .int x1), (2, .int x2), (3, .int z.1), (4, .int z.2)] → W p l e ({ frames := 3, cells := 0, slots := 0, locals := 72 } : Room) s m args below meth c H locs 0 0 (MQ below (va_Qi post (BW D gCl A (fun u => (wM D ad none rdv tw u))) A) args s 0 0 A) (F0 m 36 ls []) := by
  refine lp_ind ?_
  rintro K36 ⟨x3, x4⟩ hK36 hw H locs ls hP hD hS hl
  have hw : f6_nightsOf_36 post tw S x1 x2 K36 x3 x4 := hw
  unfold f6_nightsOf_36 at hw
  have hP : va_P D gCl (wM D ad none rdv tw S) H := hP
  have hD : va_D A (wM D ad none rdv tw S) := hD
  have hl : lv_has ls 5 [(0, .ref (ad 0)), (1, .int x1), (2, .int x2), (3, .int x3), (4, .int x4)] := hl
  refine lv_iload hC.x hC.b dX6_nightsOf_36 (lv_at hl 4 rfl) ?_
  refine lv_bipush (v := 100) hC.x hC.b dX6_nightsOf_38 (by decide) ?_
  refine lv_icmp_ge (tgt := 68) hC.x hC.b dX6_nightsOf_40 (by decide) (fun c10 => ?_) (fun c10 => ?_)
  · have hw419 := hw.1 c10
    refine lv_aload_n hC.x hC.b dX6_nightsOf_68 rfl (lv_at hl 0 rfl) ?_
    refine lv_iload_n hC.x hC.b dX6_nightsOf_69 rfl (lv_at hl 3 rfl) ?_
    refine go_i (run_V (rest := []) hC (m6_good l hw419) v6_6_good h6_good 0 5 gCl_X6 rfl rfl ⟨rfl, rfl, Nat.le_of_ble_eq_true rfl, Nat.le_of_ble_eq_true rfl⟩ ⟨Nat.le_refl _, Nat.le_refl _⟩ hP hD hS hl.1 (Nat.le_of_ble_eq_true rfl) dX6_nightsOf_70 rfl) hS (fun r11 S12 H locs hw420 hP hD hS => ?_)
    exact rt_i hC hw420 hP hD hS dX6_nightsOf_73
  · have hw421 := hw.2 c10
    refine lv_iload_n hC.x hC.b dX6_nightsOf_43 rfl (lv_at hl 3 rfl) ?_
    refine lv_aload_n hC.x hC.b dX6_nightsOf_44 rfl (lv_at hl 0 rfl) ?_
    refine lv_iload_n hC.x hC.b dX6_nightsOf_45 rfl (lv_at hl 2 rfl) ?_
    refine lv_iload hC.x hC.b dX6_nightsOf_46 (lv_at hl 4 rfl) ?_
    refine go_i (run_V (rest := [.int x3]) hC (m6_whoHears l hw421) v6_6_whoHears h6_whoHears 0 5 gCl_X6 rfl rfl ⟨rfl, rfl, Nat.le_of_ble_eq_true rfl, Nat.le_of_ble_eq_true rfl⟩ ⟨Nat.le_refl _, Nat.le_refl _⟩ hP hD hS hl.1 (Nat.le_of_ble_eq_true rfl) dX6_nightsOf_48 rfl) hS (fun r13 u H locs hw422 hP hD hS => ?_)
    refine lv_iload_n hC.x hC.b dX6_nightsOf_51 rfl (lv_at hl 1 rfl) ?_
    refine lv_icmp_ne (tgt := 59) hC.x hC.b dX6_nightsOf_52 (by decide) (fun c14 => ?_) (fun c14 => ?_)
    · have hw423 := hw422.1 c14
      refine lv_iconst (v := 0) hC.x hC.b dX6_nightsOf_59 (by decide) ?_
      refine lv_iadd hC.x hC.b dX6_nightsOf_60 ?_
      refine lv_istore_n (lv' := [(3, .int (x3 + 0)), (0, .ref (ad 0)), (1, .int x1), (2, .int x2), (4, .int x4)]) hC.x hC.b dX6_nightsOf_61 rfl hl (by decide) rfl (fun ls hl => ?_)
      refine lv_iinc (v := (x4 + 1)) (lv' := [(4, .int (x4 + 1)), (3, .int (x3 + 0)), (0, .ref (ad 0)), (1, .int x1), (2, .int x2)]) hC.x hC.b dX6_nightsOf_62 hl (k := 4) rfl rfl (by decide) rfl (fun ls hl => ?_)
      refine lv_goto (tgt := 36) hC.x hC.b dX6_nightsOf_65 (by decide) ?_
      exact hK36 ((x3 + 0), (x4 + 1)) hw423 H locs ls hP hD hS (lv_sub hl [2, 3, 4, 1, 0] rfl)
    · have hw424 := hw422.2 c14
      refine lv_iconst (v := 1) hC.x hC.b dX6_nightsOf_55 (by decide) ?_
      refine lv_goto (tgt := 60) hC.x hC.b dX6_nightsOf_56 (by decide) ?_
      refine lv_iadd hC.x hC.b dX6_nightsOf_60 ?_
      refine lv_istore_n (lv' := [(3, .int (x3 + 1)), (0, .ref (ad 0)), (1, .int x1), (2, .int x2), (4, .int x4)]) hC.x hC.b dX6_nightsOf_61 rfl hl (by decide) rfl (fun ls hl => ?_)
      refine lv_iinc (v := (x4 + 1)) (lv' := [(4, .int (x4 + 1)), (3, .int (x3 + 1)), (0, .ref (ad 0)), (1, .int x1), (2, .int x2)]) hC.x hC.b dX6_nightsOf_62 hl (k := 4) rfl rfl (by decide) rfl (fun ls hl => ?_)
      refine lv_goto (tgt := 36) hC.x hC.b dX6_nightsOf_65 (by decide) ?_
      exact hK36 ((x3 + 1), (x4 + 1)) hw424 H locs ls hP hD hS (lv_sub hl [2, 3, 4, 1, 0] rfl)
def w6_nightsOf (post : Int32 → MS → Prop) (tw : Option (Nat → Nat)) (S : MS) (x1 : Int32) (x2 : Int32) : Prop :=
  (∀ S1, S1 = uI S 0 0 0 → (w6_isPerson (fun r2 => ((r2 = 0 → (w6_refused (fun r4 S5 => (post r4 S5)) S1 1)) ∧ (¬ r2 = 0 → (w6_isDead (fun r6 => ((¬ r6 = 0 → (w6_works (fun S9 => (lp (fun (K : (Int32 × Int32) → Prop) (z : (Int32 × Int32)) => f6_nightsOf_36 post tw S9 x1 x2 K z.1 z.2) (0, 0))) S1)) ∧ (r6 = 0 → (w6_refused (fun r15 S16 => (post r15 S16)) S1 1)))) tw S1 x2)))) tw S1 x1))
set_option maxHeartbeats 4000000 in
theorem m6_nightsOf (l : Launch) {post : Int32 → MS → Prop} {S : MS} {x1 : Int32} {x2 : Int32} (hw : w6_nightsOf post tw S x1 x2) : Met l yX6_nightsOf (ws_ yX6_nightsOf cX6_nightsOf 5 (some .int)) ({ frames := 3, cells := 0, slots := 0, locals := 72 } : Room) (va_Pc [.ref (ad 0), .int x1, .int x2] (PcG D gCl nwG Z Hb A (wM D ad none rdv tw S))) (va_Qi post (BW D gCl A (fun u => (wM D ad none rdv tw u))) A) 0 0 A := by
  refine Met.ofG (by decide) (Nat.le_of_ble_eq_true rfl) ?_
  intro p e s m below meth c ls hC _ hP hD hS hl
  have hC : CX RX6 cX6_nightsOf 5 (some .int) D gCl nwG Z Hb A p s m _ meth c := hC
  have hl : lv_has ls 5 [(0, .ref (ad 0)), (1, .int x1), (2, .int x2)] := hl
  unfold w6_nightsOf at hw
  refine lv_aload_n hC.x hC.b dX6_nightsOf_0 rfl (lv_at hl 0 rfl) ?_
  refine lv_iconst (v := 0) hC.x hC.b dX6_nightsOf_1 (by decide) ?_
  refine pM_0 hC hP hD hS (v := 0) dX6_nightsOf_2 (fun S1 eS1 H locs hP hD hS => ?_)
  have hw411 := hw S1 eS1
  refine lv_aload_n hC.x hC.b dX6_nightsOf_5 rfl (lv_at hl 0 rfl) ?_
  refine lv_iload_n hC.x hC.b dX6_nightsOf_6 rfl (lv_at hl 1 rfl) ?_
  refine go_i (run_V (rest := []) hC (m6_isPerson l hw411) v6_6_isPerson h6_isPerson 0 5 gCl_X6 rfl rfl ⟨rfl, rfl, Nat.le_of_ble_eq_true rfl, Nat.le_of_ble_eq_true rfl⟩ ⟨Nat.le_refl _, Nat.le_refl _⟩ hP hD hS hl.1 (Nat.le_of_ble_eq_true rfl) dX6_nightsOf_7 rfl) hS (fun r2 u H locs hw412 hP hD hS => ?_)
  refine lv_if_eq (tgt := 21) hC.x hC.b dX6_nightsOf_10 (by decide) (fun c3 => ?_) (fun c3 => ?_)
  · have hw413 := hw412.1 c3
    refine lv_aload_n hC.x hC.b dX6_nightsOf_21 rfl (lv_at hl 0 rfl) ?_
    refine lv_iconst (v := 1) hC.x hC.b dX6_nightsOf_22 (by decide) ?_
    refine go_i (run_V (rest := []) hC (m6_refused l hw413) v6_6_refused h6_refused 0 5 gCl_X6 rfl rfl ⟨rfl, rfl, Nat.le_of_ble_eq_true rfl, Nat.le_of_ble_eq_true rfl⟩ ⟨Nat.le_refl _, Nat.le_refl _⟩ hP hD hS hl.1 (Nat.le_of_ble_eq_true rfl) dX6_nightsOf_23 rfl) hS (fun r4 S5 H locs hw414 hP hD hS => ?_)
    exact rt_i hC hw414 hP hD hS dX6_nightsOf_26
  · have hw415 := hw412.2 c3
    refine lv_aload_n hC.x hC.b dX6_nightsOf_13 rfl (lv_at hl 0 rfl) ?_
    refine lv_iload_n hC.x hC.b dX6_nightsOf_14 rfl (lv_at hl 2 rfl) ?_
    refine go_i (run_V (rest := []) hC (m6_isDead l hw415) v6_6_isDead h6_isDead 0 5 gCl_X6 rfl rfl ⟨rfl, rfl, Nat.le_of_ble_eq_true rfl, Nat.le_of_ble_eq_true rfl⟩ ⟨Nat.le_refl _, Nat.le_refl _⟩ hP hD hS hl.1 (Nat.le_of_ble_eq_true rfl) dX6_nightsOf_15 rfl) hS (fun r6 u H locs hw416 hP hD hS => ?_)
    refine lv_if_ne (tgt := 27) hC.x hC.b dX6_nightsOf_18 (by decide) (fun c7 => ?_) (fun c7 => ?_)
    · have hw417 := hw416.1 c7
      refine lv_aload_n hC.x hC.b dX6_nightsOf_27 rfl (lv_at hl 0 rfl) ?_
      refine go_v (run_V (rest := []) hC (m6_works l hw417) v6_6_works h6_works 0 5 gCl_X6 rfl rfl ⟨rfl, rfl, Nat.le_of_ble_eq_true rfl, Nat.le_of_ble_eq_true rfl⟩ ⟨Nat.le_refl _, Nat.le_refl _⟩ hP hD hS hl.1 (Nat.le_of_ble_eq_true rfl) dX6_nightsOf_28 rfl) hS (fun S9 H locs hw418 hP hD hS => ?_)
      refine lv_iconst (v := 0) hC.x hC.b dX6_nightsOf_31 (by decide) ?_
      refine lv_istore_n (lv' := [(3, .int 0), (0, .ref (ad 0)), (1, .int x1), (2, .int x2)]) hC.x hC.b dX6_nightsOf_32 rfl hl (by decide) rfl (fun ls hl => ?_)
      refine lv_iconst (v := 0) hC.x hC.b dX6_nightsOf_33 (by decide) ?_
      refine lv_istore (lv' := [(4, .int 0), (3, .int 0), (0, .ref (ad 0)), (1, .int x1), (2, .int x2)]) hC.x hC.b dX6_nightsOf_34 hl (by decide) rfl (fun ls hl => ?_)
      exact k6_nightsOf_36 hC (0, 0) hw418 H locs ls hP hD hS (lv_sub hl [2, 3, 4, 1, 0] rfl)
    · have hw425 := hw416.2 c7
      refine lv_aload_n hC.x hC.b dX6_nightsOf_21 rfl (lv_at hl 0 rfl) ?_
      refine lv_iconst (v := 1) hC.x hC.b dX6_nightsOf_22 (by decide) ?_
      refine go_i (run_V (rest := []) hC (m6_refused l hw425) v6_6_refused h6_refused 0 5 gCl_X6 rfl rfl ⟨rfl, rfl, Nat.le_of_ble_eq_true rfl, Nat.le_of_ble_eq_true rfl⟩ ⟨Nat.le_refl _, Nat.le_refl _⟩ hP hD hS hl.1 (Nat.le_of_ble_eq_true rfl) dX6_nightsOf_23 rfl) hS (fun r15 S16 H locs hw426 hP hD hS => ?_)
      exact rt_i hC hw426 hP hD hS dX6_nightsOf_26
theorem h6_comesRound : yX6_comesRound.cls = RX6 ∧ yX6_comesRound.cls ≠ "java/lang/invoke/MethodHandle" ∧ yX6_comesRound.cls ≠ "java/lang/invoke/VarHandle" ∧ (parseMethodDescriptor yX6_comesRound.desc).map (fun d => d.parameters.length) = some 2 := by decide +kernel
def f6_comesRound_2 (post : Int32 → Prop) (tw : Option (Nat → Nat)) (S : MS) (x1 : Int32) (x2 : Int32) (K2 : Int32 → Prop) (x3 : Int32) : Prop :=
  ((2 ≤ x3 → (post 1)) ∧ (¬ 2 ≤ x3 → (w6_aimOf (fun r2 => (w6_outOf (fun r3 => (w6_aimOf (fun r4 => (w6_outOf (fun r5 => ((r3 = r5 → (K2 (x3 + 1))) ∧ (¬ r3 = r5 → (post 0)))) tw S x1 r4 (x3 + x2))) tw S x1)) tw S x1 r2 x3)) tw S x1)))
set_option maxHeartbeats 4000000 in
theorem k6_comesRound_2 {post : Int32 → Prop} {S : MS} {x1 : Int32} {x2 : Int32} (hC : CX RX6 cX6_comesRound 4 (some .boolean) D gCl nwG Z Hb A p s m args meth c) : ∀ z : Int32, lp (fun (K : Int32 → Prop) (z : Int32) => f6_comesRound_2 post tw S x1 x2 K z) z → ∀ (H : Heap) (locs : List Loc) (ls : Array Slot), va_P D gCl (wM D ad none rdv tw S) H → va_D A (wM D ad none rdv tw S) → va_S A s.heap H locs → lv_has ls 4 [(0, .ref (ad 0)), (1, .int x1), (2, .int x2), (3, .int z)] → W p l e ({ frames := 2, cells := 0, slots := 0, locals := 50 } : Room) s m args below meth c H locs 0 0 (MQ below (va_Qi (fun r (_ : Unit) => post r) (BW D gCl A (fun _ => (wM D ad none rdv tw S))) A) args s 0 0 A) (F0 m 2 ls []) := by
  refine lp_ind ?_
  rintro K2 x3 hK2 hw H locs ls hP hD hS hl
  have hw : f6_comesRound_2 post tw S x1 x2 K2 x3 := hw
  unfold f6_comesRound_2 at hw
  have hP : va_P D gCl (wM D ad none rdv tw S) H := hP
  have hD : va_D A (wM D ad none rdv tw S) := hD
  have hl : lv_has ls 4 [(0, .ref (ad 0)), (1, .int x1), (2, .int x2), (3, .int x3)] := hl
  refine lv_iload_n hC.x hC.b dX6_comesRound_2 rfl (lv_at hl 3 rfl) ?_
  refine lv_iconst (v := 2) hC.x hC.b dX6_comesRound_3 (by decide) ?_
  refine lv_icmp_ge (tgt := 42) hC.x hC.b dX6_comesRound_4 (by decide) (fun c1 => ?_) (fun c1 => ?_)
  · have hw427 := hw.1 c1
    refine lv_iconst (v := 1) hC.x hC.b dX6_comesRound_42 (by decide) ?_
    exact rt_z (u := ()) hC (Or.inr rfl) hw427 hP hD hS dX6_comesRound_43
  · have hw428 := hw.2 c1
    refine lv_aload_n hC.x hC.b dX6_comesRound_7 rfl (lv_at hl 0 rfl) ?_
    refine lv_iload_n hC.x hC.b dX6_comesRound_8 rfl (lv_at hl 1 rfl) ?_
    refine lv_aload_n hC.x hC.b dX6_comesRound_9 rfl (lv_at hl 0 rfl) ?_
    refine lv_iload_n hC.x hC.b dX6_comesRound_10 rfl (lv_at hl 1 rfl) ?_
    refine go_i (run_V (rest := [.int x1, .ref (ad 0)]) hC (m6_aimOf l hw428) v6_6_aimOf h6_aimOf 0 5 gCl_X6 rfl rfl ⟨rfl, rfl, Nat.le_of_ble_eq_true rfl, Nat.le_of_ble_eq_true rfl⟩ ⟨Nat.le_refl _, Nat.le_refl _⟩ hP hD hS hl.1 (Nat.le_of_ble_eq_true rfl) dX6_comesRound_11 rfl) hS (fun r2 u H locs hw429 hP hD hS => ?_)
    refine lv_iload_n hC.x hC.b dX6_comesRound_14 rfl (lv_at hl 3 rfl) ?_
    refine go_i (run_V (rest := []) hC (m6_outOf l hw429) v6_6_outOf h6_outOf 0 5 gCl_X6 rfl rfl ⟨rfl, rfl, Nat.le_of_ble_eq_true rfl, Nat.le_of_ble_eq_true rfl⟩ ⟨Nat.le_refl _, Nat.le_refl _⟩ hP hD hS hl.1 (Nat.le_of_ble_eq_true rfl) dX6_comesRound_15 rfl) hS (fun r3 u H locs hw430 hP hD hS => ?_)
    refine lv_aload_n hC.x hC.b dX6_comesRound_18 rfl (lv_at hl 0 rfl) ?_
    refine lv_iload_n hC.x hC.b dX6_comesRound_19 rfl (lv_at hl 1 rfl) ?_
    refine lv_aload_n hC.x hC.b dX6_comesRound_20 rfl (lv_at hl 0 rfl) ?_
    refine lv_iload_n hC.x hC.b dX6_comesRound_21 rfl (lv_at hl 1 rfl) ?_
    refine go_i (run_V (rest := [.int x1, .ref (ad 0), .int r3]) hC (m6_aimOf l hw430) v6_6_aimOf h6_aimOf 0 5 gCl_X6 rfl rfl ⟨rfl, rfl, Nat.le_of_ble_eq_true rfl, Nat.le_of_ble_eq_true rfl⟩ ⟨Nat.le_refl _, Nat.le_refl _⟩ hP hD hS hl.1 (Nat.le_of_ble_eq_true rfl) dX6_comesRound_22 rfl) hS (fun r4 u H locs hw431 hP hD hS => ?_)
    refine lv_iload_n hC.x hC.b dX6_comesRound_25 rfl (lv_at hl 3 rfl) ?_
    refine lv_iload_n hC.x hC.b dX6_comesRound_26 rfl (lv_at hl 2 rfl) ?_
    refine lv_iadd hC.x hC.b dX6_comesRound_27 ?_
    refine go_i (run_V (rest := [.int r3]) hC (m6_outOf l hw431) v6_6_outOf h6_outOf 0 5 gCl_X6 rfl rfl ⟨rfl, rfl, Nat.le_of_ble_eq_true rfl, Nat.le_of_ble_eq_true rfl⟩ ⟨Nat.le_refl _, Nat.le_refl _⟩ hP hD hS hl.1 (Nat.le_of_ble_eq_true rfl) dX6_comesRound_28 rfl) hS (fun r5 u H locs hw432 hP hD hS => ?_)
    refine lv_icmp_eq (tgt := 36) hC.x hC.b dX6_comesRound_31 (by decide) (fun c6 => ?_) (fun c6 => ?_)
    · have hw433 := hw432.1 c6
      refine lv_iinc (v := (x3 + 1)) (lv' := [(3, .int (x3 + 1)), (0, .ref (ad 0)), (1, .int x1), (2, .int x2)]) hC.x hC.b dX6_comesRound_36 hl (k := 3) rfl rfl (by decide) rfl (fun ls hl => ?_)
      refine lv_goto (tgt := 2) hC.x hC.b dX6_comesRound_39 (by decide) ?_
      exact hK2 (x3 + 1) hw433 H locs ls hP hD hS (lv_sub hl [1, 2, 3, 0] rfl)
    · have hw434 := hw432.2 c6
      refine lv_iconst (v := 0) hC.x hC.b dX6_comesRound_34 (by decide) ?_
      exact rt_z (u := ()) hC (Or.inl rfl) hw434 hP hD hS dX6_comesRound_35
def w6_comesRound (post : Int32 → Prop) (tw : Option (Nat → Nat)) (S : MS) (x1 : Int32) (x2 : Int32) : Prop :=
  (lp (fun (K : Int32 → Prop) (z : Int32) => f6_comesRound_2 post tw S x1 x2 K z) 0)
set_option maxHeartbeats 4000000 in
theorem m6_comesRound (l : Launch) {post : Int32 → Prop} {S : MS} {x1 : Int32} {x2 : Int32} (hw : w6_comesRound post tw S x1 x2) : Met l yX6_comesRound (ws_ yX6_comesRound cX6_comesRound 4 (some .boolean)) ({ frames := 2, cells := 0, slots := 0, locals := 50 } : Room) (va_Pc [.ref (ad 0), .int x1, .int x2] (PcG D gCl nwG Z Hb A (wM D ad none rdv tw S))) (va_Qi (fun r (_ : Unit) => post r) (BW D gCl A (fun _ => (wM D ad none rdv tw S))) A) 0 0 A := by
  refine Met.ofG (by decide) (Nat.le_of_ble_eq_true rfl) ?_
  intro p e s m below meth c ls hC _ hP hD hS hl
  have hC : CX RX6 cX6_comesRound 4 (some .boolean) D gCl nwG Z Hb A p s m _ meth c := hC
  have hl : lv_has ls 4 [(0, .ref (ad 0)), (1, .int x1), (2, .int x2)] := hl
  unfold w6_comesRound at hw
  refine lv_iconst (v := 0) hC.x hC.b dX6_comesRound_0 (by decide) ?_
  refine lv_istore_n (lv' := [(3, .int 0), (0, .ref (ad 0)), (1, .int x1), (2, .int x2)]) hC.x hC.b dX6_comesRound_1 rfl hl (by decide) rfl (fun ls hl => ?_)
  exact k6_comesRound_2 hC 0 hw s.heap [] ls hP hD hS (lv_sub hl [1, 2, 3, 0] rfl)
theorem v6_6_comesRound : GoodIn lw_all (wsV RX6 364 RX6 yX6_comesRound (ws_ yX6_comesRound cX6_comesRound 4 (some .boolean))) := lw_V q1894 q1896 qs89 q126 q1897
theorem h6_round : yX6_round.cls = RX6 ∧ yX6_round.cls ≠ "java/lang/invoke/MethodHandle" ∧ yX6_round.cls ≠ "java/lang/invoke/VarHandle" ∧ (parseMethodDescriptor yX6_round.desc).map (fun d => d.parameters.length) = some 1 := by decide +kernel
def f6_round_25 (post : Int32 → MS → Prop) (tw : Option (Nat → Nat)) (S : MS) (x1 : Int32) (K25 : Int32 → Prop) (x2 : Int32) : Prop :=
  (w6_comesRound (fun r6 => ((¬ r6 = 0 → (w6_good (fun r8 S9 => (post r8 S9)) S x2)) ∧ (r6 = 0 → (K25 (x2 + 1))))) tw S x1 x2)
set_option maxHeartbeats 4000000 in
theorem k6_round_25 {post : Int32 → MS → Prop} {S : MS} {x1 : Int32} (hC : CX RX6 cX6_round 3 (some .int) D gCl nwG Z Hb A p s m args meth c) : ∀ z : Int32, lp (fun (K : Int32 → Prop) (z : Int32) => f6_round_25 post tw S x1 K z) z → ∀ (H : Heap) (locs : List Loc) (ls : Array Slot), va_P D gCl (wM D ad none rdv tw S) H → va_D A (wM D ad none rdv tw S) → va_S A s.heap H locs → lv_has ls 3 [(0, .ref (ad 0)), (1, .int x1), (2, .int z)] → W p l e ({ frames := 3, cells := 0, slots := 0, locals := 73 } : Room) s m args below meth c H locs 0 0 (MQ below (va_Qi post (BW D gCl A (fun u => (wM D ad none rdv tw u))) A) args s 0 0 A) (F0 m 25 ls []) := by
  refine lp_ind ?_
  rintro K25 x2 hK25 hw H locs ls hP hD hS hl
  have hw : f6_round_25 post tw S x1 K25 x2 := hw
  unfold f6_round_25 at hw
  have hP : va_P D gCl (wM D ad none rdv tw S) H := hP
  have hD : va_D A (wM D ad none rdv tw S) := hD
  have hl : lv_has ls 3 [(0, .ref (ad 0)), (1, .int x1), (2, .int x2)] := hl
  refine lv_aload_n hC.x hC.b dX6_round_25 rfl (lv_at hl 0 rfl) ?_
  refine lv_iload_n hC.x hC.b dX6_round_26 rfl (lv_at hl 1 rfl) ?_
  refine lv_iload_n hC.x hC.b dX6_round_27 rfl (lv_at hl 2 rfl) ?_
  refine go_i (run_V (rest := []) hC (m6_comesRound l hw) v6_6_comesRound h6_comesRound 0 5 gCl_X6 rfl rfl ⟨rfl, rfl, Nat.le_of_ble_eq_true rfl, Nat.le_of_ble_eq_true rfl⟩ ⟨Nat.le_refl _, Nat.le_refl _⟩ hP hD hS hl.1 (Nat.le_of_ble_eq_true rfl) dX6_round_28 rfl) hS (fun r6 u H locs hw439 hP hD hS => ?_)
  refine lv_if_ne (tgt := 40) hC.x hC.b dX6_round_31 (by decide) (fun c7 => ?_) (fun c7 => ?_)
  · have hw440 := hw439.1 c7
    refine lv_aload_n hC.x hC.b dX6_round_40 rfl (lv_at hl 0 rfl) ?_
    refine lv_iload_n hC.x hC.b dX6_round_41 rfl (lv_at hl 2 rfl) ?_
    refine go_i (run_V (rest := []) hC (m6_good l hw440) v6_6_good h6_good 0 5 gCl_X6 rfl rfl ⟨rfl, rfl, Nat.le_of_ble_eq_true rfl, Nat.le_of_ble_eq_true rfl⟩ ⟨Nat.le_refl _, Nat.le_refl _⟩ hP hD hS hl.1 (Nat.le_of_ble_eq_true rfl) dX6_round_42 rfl) hS (fun r8 S9 H locs hw441 hP hD hS => ?_)
    exact rt_i hC hw441 hP hD hS dX6_round_45
  · have hw442 := hw439.2 c7
    refine lv_iinc (v := (x2 + 1)) (lv' := [(2, .int (x2 + 1)), (0, .ref (ad 0)), (1, .int x1)]) hC.x hC.b dX6_round_34 hl (k := 2) rfl rfl (by decide) rfl (fun ls hl => ?_)
    refine lv_goto (tgt := 25) hC.x hC.b dX6_round_37 (by decide) ?_
    exact hK25 (x2 + 1) hw442 H locs ls hP hD hS (lv_sub hl [1, 2, 0] rfl)
def w6_round (post : Int32 → MS → Prop) (tw : Option (Nat → Nat)) (S : MS) (x1 : Int32) : Prop :=
  (∀ S1, S1 = uI S 0 0 0 → (w6_isDead (fun r2 => ((¬ r2 = 0 → (w6_works (fun S5 => (lp (fun (K : Int32 → Prop) (z : Int32) => f6_round_25 post tw S5 x1 K z) 1)) S1)) ∧ (r2 = 0 → (w6_refused (fun r10 S11 => (post r10 S11)) S1 1)))) tw S1 x1))
set_option maxHeartbeats 4000000 in
theorem m6_round (l : Launch) {post : Int32 → MS → Prop} {S : MS} {x1 : Int32} (hw : w6_round post tw S x1) : Met l yX6_round (ws_ yX6_round cX6_round 3 (some .int)) ({ frames := 3, cells := 0, slots := 0, locals := 73 } : Room) (va_Pc [.ref (ad 0), .int x1] (PcG D gCl nwG Z Hb A (wM D ad none rdv tw S))) (va_Qi post (BW D gCl A (fun u => (wM D ad none rdv tw u))) A) 0 0 A := by
  refine Met.ofG (by decide) (Nat.le_of_ble_eq_true rfl) ?_
  intro p e s m below meth c ls hC _ hP hD hS hl
  have hC : CX RX6 cX6_round 3 (some .int) D gCl nwG Z Hb A p s m _ meth c := hC
  have hl : lv_has ls 3 [(0, .ref (ad 0)), (1, .int x1)] := hl
  unfold w6_round at hw
  refine lv_aload_n hC.x hC.b dX6_round_0 rfl (lv_at hl 0 rfl) ?_
  refine lv_iconst (v := 0) hC.x hC.b dX6_round_1 (by decide) ?_
  refine pM_0 hC hP hD hS (v := 0) dX6_round_2 (fun S1 eS1 H locs hP hD hS => ?_)
  have hw435 := hw S1 eS1
  refine lv_aload_n hC.x hC.b dX6_round_5 rfl (lv_at hl 0 rfl) ?_
  refine lv_iload_n hC.x hC.b dX6_round_6 rfl (lv_at hl 1 rfl) ?_
  refine go_i (run_V (rest := []) hC (m6_isDead l hw435) v6_6_isDead h6_isDead 0 5 gCl_X6 rfl rfl ⟨rfl, rfl, Nat.le_of_ble_eq_true rfl, Nat.le_of_ble_eq_true rfl⟩ ⟨Nat.le_refl _, Nat.le_refl _⟩ hP hD hS hl.1 (Nat.le_of_ble_eq_true rfl) dX6_round_7 rfl) hS (fun r2 u H locs hw436 hP hD hS => ?_)
  refine lv_if_ne (tgt := 19) hC.x hC.b dX6_round_10 (by decide) (fun c3 => ?_) (fun c3 => ?_)
  · have hw437 := hw436.1 c3
    refine lv_aload_n hC.x hC.b dX6_round_19 rfl (lv_at hl 0 rfl) ?_
    refine go_v (run_V (rest := []) hC (m6_works l hw437) v6_6_works h6_works 0 5 gCl_X6 rfl rfl ⟨rfl, rfl, Nat.le_of_ble_eq_true rfl, Nat.le_of_ble_eq_true rfl⟩ ⟨Nat.le_refl _, Nat.le_refl _⟩ hP hD hS hl.1 (Nat.le_of_ble_eq_true rfl) dX6_round_20 rfl) hS (fun S5 H locs hw438 hP hD hS => ?_)
    refine lv_iconst (v := 1) hC.x hC.b dX6_round_23 (by decide) ?_
    refine lv_istore_n (lv' := [(2, .int 1), (0, .ref (ad 0)), (1, .int x1)]) hC.x hC.b dX6_round_24 rfl hl (by decide) rfl (fun ls hl => ?_)
    exact k6_round_25 hC 1 hw438 H locs ls hP hD hS (lv_sub hl [1, 2, 0] rfl)
  · have hw443 := hw436.2 c3
    refine lv_aload_n hC.x hC.b dX6_round_13 rfl (lv_at hl 0 rfl) ?_
    refine lv_iconst (v := 1) hC.x hC.b dX6_round_14 (by decide) ?_
    refine go_i (run_V (rest := []) hC (m6_refused l hw443) v6_6_refused h6_refused 0 5 gCl_X6 rfl rfl ⟨rfl, rfl, Nat.le_of_ble_eq_true rfl, Nat.le_of_ble_eq_true rfl⟩ ⟨Nat.le_refl _, Nat.le_refl _⟩ hP hD hS hl.1 (Nat.le_of_ble_eq_true rfl) dX6_round_15 rfl) hS (fun r10 S11 H locs hw444 hP hD hS => ?_)
    exact rt_i hC hw444 hP hD hS dX6_round_18
theorem h6_bestNight : yX6_bestNight.cls = RX6 ∧ yX6_bestNight.cls ≠ "java/lang/invoke/MethodHandle" ∧ yX6_bestNight.cls ≠ "java/lang/invoke/VarHandle" ∧ (parseMethodDescriptor yX6_bestNight.desc).map (fun d => d.parameters.length) = some 0 := by decide +kernel
def f6_bestNight_28 (post : Int32 → MS → Prop) (tw : Option (Nat → Nat)) (S : MS) (K28 : (Int32 × Int32 × Int32) → Prop) (x1 : Int32) (x2 : Int32) (x3 : Int32) : Prop :=
  ((100 ≤ x3 → (w6_good (fun r8 S9 => (post r8 S9)) S x1)) ∧ (¬ 100 ≤ x3 → (w6_rightOn (fun r10 => (w6_bits (fun r11 => ((x2 < r11 → (K28 (x3, r11, (x3 + 1)))) ∧ (¬ x2 < r11 → (K28 (x1, x2, (x3 + 1)))))) r10)) tw S x3)))
set_option maxHeartbeats 4000000 in
theorem k6_bestNight_28 {post : Int32 → MS → Prop} {S : MS} (hC : CX RX6 cX6_bestNight 5 (some .int) D gCl nwG Z Hb A p s m args meth c) : ∀ z : (Int32 × Int32 × Int32), lp (fun (K : (Int32 × Int32 × Int32) → Prop) (z : (Int32 × Int32 × Int32)) => f6_bestNight_28 post (some t) S K z.1 z.2.1 z.2.2) z → ∀ (H : Heap) (locs : List Loc) (ls : Array Slot), va_P D gCl (wM D ad none rdv (some t) S) H → va_D A (wM D ad none rdv (some t) S) → va_S A s.heap H locs → lv_has ls 5 [(0, .ref (ad 0)), (1, .int z.1), (2, .int z.2.1), (3, .int z.2.2)] → W p l e ({ frames := 5, cells := 0, slots := 0, locals := 117 } : Room) s m args below meth c H locs 0 0 (MQ below (va_Qi post (BW D gCl A (fun u => (wM D ad none rdv (some t) u))) A) args s 0 0 A) (F0 m 28 ls []) := by
  refine lp_ind ?_
  rintro K28 ⟨x1, x2, x3⟩ hK28 hw H locs ls hP hD hS hl
  have hw : f6_bestNight_28 post (some t) S K28 x1 x2 x3 := hw
  unfold f6_bestNight_28 at hw
  have hP : va_P D gCl (wM D ad none rdv (some t) S) H := hP
  have hD : va_D A (wM D ad none rdv (some t) S) := hD
  have hl : lv_has ls 5 [(0, .ref (ad 0)), (1, .int x1), (2, .int x2), (3, .int x3)] := hl
  refine lv_iload_n hC.x hC.b dX6_bestNight_28 rfl (lv_at hl 3 rfl) ?_
  refine lv_bipush (v := 100) hC.x hC.b dX6_bestNight_29 (by decide) ?_
  refine lv_icmp_ge (tgt := 64) hC.x hC.b dX6_bestNight_31 (by decide) (fun c7 => ?_) (fun c7 => ?_)
  · have hw450 := hw.1 c7
    refine lv_aload_n hC.x hC.b dX6_bestNight_64 rfl (lv_at hl 0 rfl) ?_
    refine lv_iload_n hC.x hC.b dX6_bestNight_65 rfl (lv_at hl 1 rfl) ?_
    refine go_i (run_V (rest := []) hC (m6_good l hw450) v6_6_good h6_good 0 5 gCl_X6 rfl rfl ⟨rfl, rfl, Nat.le_of_ble_eq_true rfl, Nat.le_of_ble_eq_true rfl⟩ ⟨Nat.le_refl _, Nat.le_refl _⟩ hP hD hS hl.1 (Nat.le_of_ble_eq_true rfl) dX6_bestNight_66 rfl) hS (fun r8 S9 H locs hw451 hP hD hS => ?_)
    exact rt_i hC hw451 hP hD hS dX6_bestNight_69
  · have hw452 := hw.2 c7
    refine lv_aload_n hC.x hC.b dX6_bestNight_34 rfl (lv_at hl 0 rfl) ?_
    refine lv_iload_n hC.x hC.b dX6_bestNight_35 rfl (lv_at hl 3 rfl) ?_
    refine go_i (run_V (rest := []) hC (m6_rightOn l hw452) v6_6_rightOn h6_rightOn 0 5 gCl_X6 rfl rfl ⟨rfl, rfl, Nat.le_of_ble_eq_true rfl, Nat.le_of_ble_eq_true rfl⟩ ⟨Nat.le_refl _, Nat.le_refl _⟩ hP hD hS hl.1 (Nat.le_of_ble_eq_true rfl) dX6_bestNight_36 rfl) hS (fun r10 u H locs hw453 hP hD hS => ?_)
    refine go_i (run_S (rest := []) hC (m6_bits l hw453) v6_6_bits h6_bits ⟨rfl, rfl, Nat.le_of_ble_eq_true rfl, Nat.le_of_ble_eq_true rfl⟩ ⟨Nat.le_refl _, Nat.le_refl _⟩ hP hD hS hl.1 (Nat.le_of_ble_eq_true rfl) dX6_bestNight_39 rfl) hS (fun r11 u H locs hw454 hP hD hS => ?_)
    refine lv_istore (lv' := [(4, .int r11), (0, .ref (ad 0)), (1, .int x1), (2, .int x2), (3, .int x3)]) hC.x hC.b dX6_bestNight_42 hl (by decide) rfl (fun ls hl => ?_)
    refine lv_iload hC.x hC.b dX6_bestNight_44 (lv_at hl 0 rfl) ?_
    refine lv_iload_n hC.x hC.b dX6_bestNight_46 rfl (lv_at hl 3 rfl) ?_
    refine lv_icmp_gt (tgt := 53) hC.x hC.b dX6_bestNight_47 (by decide) (fun c12 => ?_) (fun c12 => ?_)
    · have hw455 := hw454.1 c12
      refine lv_iload hC.x hC.b dX6_bestNight_53 (lv_at hl 0 rfl) ?_
      refine lv_istore_n (lv' := [(2, .int r11), (4, .int r11), (0, .ref (ad 0)), (1, .int x1), (3, .int x3)]) hC.x hC.b dX6_bestNight_55 rfl hl (by decide) rfl (fun ls hl => ?_)
      refine lv_iload_n hC.x hC.b dX6_bestNight_56 rfl (lv_at hl 4 rfl) ?_
      refine lv_istore_n (lv' := [(1, .int x3), (2, .int r11), (4, .int r11), (0, .ref (ad 0)), (3, .int x3)]) hC.x hC.b dX6_bestNight_57 rfl hl (by decide) rfl (fun ls hl => ?_)
      refine lv_iinc (v := (x3 + 1)) (lv' := [(3, .int (x3 + 1)), (1, .int x3), (2, .int r11), (4, .int r11), (0, .ref (ad 0))]) hC.x hC.b dX6_bestNight_58 hl (k := 4) rfl rfl (by decide) rfl (fun ls hl => ?_)
      refine lv_goto (tgt := 28) hC.x hC.b dX6_bestNight_61 (by decide) ?_
      exact hK28 (x3, r11, (x3 + 1)) hw455 H locs ls hP hD hS (lv_sub hl [4, 1, 2, 0] rfl)
    · have hw456 := hw454.2 c12
      refine lv_goto (tgt := 58) hC.x hC.b dX6_bestNight_50 (by decide) ?_
      refine lv_iinc (v := (x3 + 1)) (lv' := [(3, .int (x3 + 1)), (4, .int r11), (0, .ref (ad 0)), (1, .int x1), (2, .int x2)]) hC.x hC.b dX6_bestNight_58 hl (k := 4) rfl rfl (by decide) rfl (fun ls hl => ?_)
      refine lv_goto (tgt := 28) hC.x hC.b dX6_bestNight_61 (by decide) ?_
      exact hK28 (x1, x2, (x3 + 1)) hw456 H locs ls hP hD hS (lv_sub hl [2, 3, 4, 0] rfl)
def w6_bestNight (post : Int32 → MS → Prop) (tw : Option (Nat → Nat)) (S : MS) : Prop :=
  (∀ S1, S1 = uI S 0 0 0 → ((tw = none → (w6_refused (fun r3 S4 => (post r3 S4)) S1 1)) ∧ ((∃ t, tw = some t) → (w6_works (fun S6 => (lp (fun (K : (Int32 × Int32 × Int32) → Prop) (z : (Int32 × Int32 × Int32)) => f6_bestNight_28 post tw S6 K z.1 z.2.1 z.2.2) (0, (-1), 0))) S1))))
set_option maxHeartbeats 4000000 in
theorem m6_bestNight (l : Launch) {post : Int32 → MS → Prop} {S : MS} (hw : w6_bestNight post tw S) : Met l yX6_bestNight (ws_ yX6_bestNight cX6_bestNight 5 (some .int)) ({ frames := 5, cells := 0, slots := 0, locals := 117 } : Room) (va_Pc [.ref (ad 0)] (PcG D gCl nwG Z Hb A (wM D ad none rdv tw S))) (va_Qi post (BW D gCl A (fun u => (wM D ad none rdv tw u))) A) 0 0 A := by
  refine Met.ofG (by decide) (Nat.le_of_ble_eq_true rfl) ?_
  intro p e s m below meth c ls hC _ hP hD hS hl
  have hC : CX RX6 cX6_bestNight 5 (some .int) D gCl nwG Z Hb A p s m _ meth c := hC
  have hl : lv_has ls 5 [(0, .ref (ad 0))] := hl
  unfold w6_bestNight at hw
  refine lv_aload_n hC.x hC.b dX6_bestNight_0 rfl (lv_at hl 0 rfl) ?_
  refine lv_iconst (v := 0) hC.x hC.b dX6_bestNight_1 (by decide) ?_
  refine pM_0 hC hP hD hS (v := 0) dX6_bestNight_2 (fun S1 eS1 H locs hP hD hS => ?_)
  have hw445 := hw S1 eS1
  refine lv_aload_n hC.x hC.b dX6_bestNight_5 rfl (lv_at hl 0 rfl) ?_
  refine gM_3 hC hP dX6_bestNight_6 ?_
  rcases va_o2 tw with c2 | ⟨t, c2⟩
  · have hw446 := hw445.1 c2
    subst c2
    refine lv_ifnonnullN hC.x hC.b dX6_bestNight_9 ?_
    refine lv_aload_n hC.x hC.b dX6_bestNight_12 rfl (lv_at hl 0 rfl) ?_
    refine lv_iconst (v := 1) hC.x hC.b dX6_bestNight_13 (by decide) ?_
    refine go_i (run_V (rest := []) hC (m6_refused l hw446) v6_6_refused h6_refused 0 5 gCl_X6 rfl rfl ⟨rfl, rfl, Nat.le_of_ble_eq_true rfl, Nat.le_of_ble_eq_true rfl⟩ ⟨Nat.le_refl _, Nat.le_refl _⟩ hP hD hS hl.1 (Nat.le_of_ble_eq_true rfl) dX6_bestNight_14 rfl) hS (fun r3 S4 H locs hw447 hP hD hS => ?_)
    exact rt_i hC hw447 hP hD hS dX6_bestNight_17
  · have hw448 := hw445.2 ⟨t, c2⟩
    subst c2
    refine lv_ifnonnull (tgt := 18) hC.x hC.b dX6_bestNight_9 (by decide) ?_
    refine lv_aload_n hC.x hC.b dX6_bestNight_18 rfl (lv_at hl 0 rfl) ?_
    refine go_v (run_V (rest := []) hC (m6_works l hw448) v6_6_works h6_works 0 5 gCl_X6 rfl rfl ⟨rfl, rfl, Nat.le_of_ble_eq_true rfl, Nat.le_of_ble_eq_true rfl⟩ ⟨Nat.le_refl _, Nat.le_refl _⟩ hP hD hS hl.1 (Nat.le_of_ble_eq_true rfl) dX6_bestNight_19 rfl) hS (fun S6 H locs hw449 hP hD hS => ?_)
    refine lv_iconst (v := 0) hC.x hC.b dX6_bestNight_22 (by decide) ?_
    refine lv_istore_n (lv' := [(1, .int 0), (0, .ref (ad 0))]) hC.x hC.b dX6_bestNight_23 rfl hl (by decide) rfl (fun ls hl => ?_)
    refine lv_iconst (v := (-1)) hC.x hC.b dX6_bestNight_24 (by decide) ?_
    refine lv_istore_n (lv' := [(2, .int (-1)), (1, .int 0), (0, .ref (ad 0))]) hC.x hC.b dX6_bestNight_25 rfl hl (by decide) rfl (fun ls hl => ?_)
    refine lv_iconst (v := 0) hC.x hC.b dX6_bestNight_26 (by decide) ?_
    refine lv_istore_n (lv' := [(3, .int 0), (2, .int (-1)), (1, .int 0), (0, .ref (ad 0))]) hC.x hC.b dX6_bestNight_27 rfl hl (by decide) rfl (fun ls hl => ?_)
    exact k6_bestNight_28 hC (0, (-1), 0) hw449 H locs ls hP hD hS (lv_sub hl [3, 2, 1, 0] rfl)
theorem h6_perfect : yX6_perfect.cls = RX6 ∧ yX6_perfect.cls ≠ "java/lang/invoke/MethodHandle" ∧ yX6_perfect.cls ≠ "java/lang/invoke/VarHandle" ∧ (parseMethodDescriptor yX6_perfect.desc).map (fun d => d.parameters.length) = some 0 := by decide +kernel
def f6_perfect_26 (post : Int32 → MS → Prop) (tw : Option (Nat → Nat)) (S : MS) (K26 : (Int32 × Int32) → Prop) (x1 : Int32) (x2 : Int32) : Prop :=
  ((100 ≤ x2 → (w6_good (fun r8 S9 => (post r8 S9)) S x1)) ∧ (¬ 100 ≤ x2 → (w6_rightOn (fun r10 => (w6_bits (fun r11 => ((¬ r11 = (S.1 20 3) → (K26 ((x1 + 0), (x2 + 1)))) ∧ (r11 = (S.1 20 3) → (K26 ((x1 + 1), (x2 + 1)))))) r10)) tw S x2)))
set_option maxHeartbeats 4000000 in
theorem k6_perfect_26 {post : Int32 → MS → Prop} {S : MS} (hC : CX RX6 cX6_perfect 3 (some .int) D gCl nwG Z Hb A p s m args meth c) : ∀ z : (Int32 × Int32), lp (fun (K : (Int32 × Int32) → Prop) (z : (Int32 × Int32)) => f6_perfect_26 post (some t) S K z.1 z.2) z → ∀ (H : Heap) (locs : List Loc) (ls : Array Slot), va_P D gCl (wM D ad none rdv (some t) S) H → va_D A (wM D ad none rdv (some t) S) → va_S A s.heap H locs → lv_has ls 3 [(0, .ref (ad 0)), (1, .int z.1), (2, .int z.2)] → W p l e ({ frames := 5, cells := 0, slots := 0, locals := 117 } : Room) s m args below meth c H locs 0 0 (MQ below (va_Qi post (BW D gCl A (fun u => (wM D ad none rdv (some t) u))) A) args s 0 0 A) (F0 m 26 ls []) := by
  refine lp_ind ?_
  rintro K26 ⟨x1, x2⟩ hK26 hw H locs ls hP hD hS hl
  have hw : f6_perfect_26 post (some t) S K26 x1 x2 := hw
  unfold f6_perfect_26 at hw
  have hP : va_P D gCl (wM D ad none rdv (some t) S) H := hP
  have hD : va_D A (wM D ad none rdv (some t) S) := hD
  have hl : lv_has ls 3 [(0, .ref (ad 0)), (1, .int x1), (2, .int x2)] := hl
  refine lv_iload_n hC.x hC.b dX6_perfect_26 rfl (lv_at hl 2 rfl) ?_
  refine lv_bipush (v := 100) hC.x hC.b dX6_perfect_27 (by decide) ?_
  refine lv_icmp_ge (tgt := 64) hC.x hC.b dX6_perfect_29 (by decide) (fun c7 => ?_) (fun c7 => ?_)
  · have hw462 := hw.1 c7
    refine lv_aload_n hC.x hC.b dX6_perfect_64 rfl (lv_at hl 0 rfl) ?_
    refine lv_iload_n hC.x hC.b dX6_perfect_65 rfl (lv_at hl 1 rfl) ?_
    refine go_i (run_V (rest := []) hC (m6_good l hw462) v6_6_good h6_good 0 5 gCl_X6 rfl rfl ⟨rfl, rfl, Nat.le_of_ble_eq_true rfl, Nat.le_of_ble_eq_true rfl⟩ ⟨Nat.le_refl _, Nat.le_refl _⟩ hP hD hS hl.1 (Nat.le_of_ble_eq_true rfl) dX6_perfect_66 rfl) hS (fun r8 S9 H locs hw463 hP hD hS => ?_)
    exact rt_i hC hw463 hP hD hS dX6_perfect_69
  · have hw464 := hw.2 c7
    refine lv_iload_n hC.x hC.b dX6_perfect_32 rfl (lv_at hl 1 rfl) ?_
    refine lv_aload_n hC.x hC.b dX6_perfect_33 rfl (lv_at hl 0 rfl) ?_
    refine lv_iload_n hC.x hC.b dX6_perfect_34 rfl (lv_at hl 2 rfl) ?_
    refine go_i (run_V (rest := [.int x1]) hC (m6_rightOn l hw464) v6_6_rightOn h6_rightOn 0 5 gCl_X6 rfl rfl ⟨rfl, rfl, Nat.le_of_ble_eq_true rfl, Nat.le_of_ble_eq_true rfl⟩ ⟨Nat.le_refl _, Nat.le_refl _⟩ hP hD hS hl.1 (Nat.le_of_ble_eq_true rfl) dX6_perfect_35 rfl) hS (fun r10 u H locs hw465 hP hD hS => ?_)
    refine go_i (run_S (rest := [.int x1]) hC (m6_bits l hw465) v6_6_bits h6_bits ⟨rfl, rfl, Nat.le_of_ble_eq_true rfl, Nat.le_of_ble_eq_true rfl⟩ ⟨Nat.le_refl _, Nat.le_refl _⟩ hP hD hS hl.1 (Nat.le_of_ble_eq_true rfl) dX6_perfect_38 rfl) hS (fun r11 u H locs hw466 hP hD hS => ?_)
    refine lv_aload_n hC.x hC.b dX6_perfect_41 rfl (lv_at hl 0 rfl) ?_
    refine gM_3 hC hP dX6_perfect_42 ?_
    refine gT_3 hC hP dX6_perfect_45 ?_
    refine lv_icmp_ne (tgt := 55) hC.x hC.b dX6_perfect_48 (by decide) (fun c12 => ?_) (fun c12 => ?_)
    · have hw467 := hw466.1 c12
      refine lv_iconst (v := 0) hC.x hC.b dX6_perfect_55 (by decide) ?_
      refine lv_iadd hC.x hC.b dX6_perfect_56 ?_
      refine lv_istore_n (lv' := [(1, .int (x1 + 0)), (0, .ref (ad 0)), (2, .int x2)]) hC.x hC.b dX6_perfect_57 rfl hl (by decide) rfl (fun ls hl => ?_)
      refine lv_iinc (v := (x2 + 1)) (lv' := [(2, .int (x2 + 1)), (1, .int (x1 + 0)), (0, .ref (ad 0))]) hC.x hC.b dX6_perfect_58 hl (k := 2) rfl rfl (by decide) rfl (fun ls hl => ?_)
      refine lv_goto (tgt := 26) hC.x hC.b dX6_perfect_61 (by decide) ?_
      exact hK26 ((x1 + 0), (x2 + 1)) hw467 H locs ls hP hD hS (lv_sub hl [2, 1, 0] rfl)
    · have hw468 := hw466.2 c12
      refine lv_iconst (v := 1) hC.x hC.b dX6_perfect_51 (by decide) ?_
      refine lv_goto (tgt := 56) hC.x hC.b dX6_perfect_52 (by decide) ?_
      refine lv_iadd hC.x hC.b dX6_perfect_56 ?_
      refine lv_istore_n (lv' := [(1, .int (x1 + 1)), (0, .ref (ad 0)), (2, .int x2)]) hC.x hC.b dX6_perfect_57 rfl hl (by decide) rfl (fun ls hl => ?_)
      refine lv_iinc (v := (x2 + 1)) (lv' := [(2, .int (x2 + 1)), (1, .int (x1 + 1)), (0, .ref (ad 0))]) hC.x hC.b dX6_perfect_58 hl (k := 2) rfl rfl (by decide) rfl (fun ls hl => ?_)
      refine lv_goto (tgt := 26) hC.x hC.b dX6_perfect_61 (by decide) ?_
      exact hK26 ((x1 + 1), (x2 + 1)) hw468 H locs ls hP hD hS (lv_sub hl [2, 1, 0] rfl)
def w6_perfect (post : Int32 → MS → Prop) (tw : Option (Nat → Nat)) (S : MS) : Prop :=
  (∀ S1, S1 = uI S 0 0 0 → ((tw = none → (w6_refused (fun r3 S4 => (post r3 S4)) S1 1)) ∧ ((∃ t, tw = some t) → (w6_works (fun S6 => (lp (fun (K : (Int32 × Int32) → Prop) (z : (Int32 × Int32)) => f6_perfect_26 post tw S6 K z.1 z.2) (0, 0))) S1))))
set_option maxHeartbeats 4000000 in
theorem m6_perfect (l : Launch) {post : Int32 → MS → Prop} {S : MS} (hw : w6_perfect post tw S) : Met l yX6_perfect (ws_ yX6_perfect cX6_perfect 3 (some .int)) ({ frames := 5, cells := 0, slots := 0, locals := 117 } : Room) (va_Pc [.ref (ad 0)] (PcG D gCl nwG Z Hb A (wM D ad none rdv tw S))) (va_Qi post (BW D gCl A (fun u => (wM D ad none rdv tw u))) A) 0 0 A := by
  refine Met.ofG (by decide) (Nat.le_of_ble_eq_true rfl) ?_
  intro p e s m below meth c ls hC _ hP hD hS hl
  have hC : CX RX6 cX6_perfect 3 (some .int) D gCl nwG Z Hb A p s m _ meth c := hC
  have hl : lv_has ls 3 [(0, .ref (ad 0))] := hl
  unfold w6_perfect at hw
  refine lv_aload_n hC.x hC.b dX6_perfect_0 rfl (lv_at hl 0 rfl) ?_
  refine lv_iconst (v := 0) hC.x hC.b dX6_perfect_1 (by decide) ?_
  refine pM_0 hC hP hD hS (v := 0) dX6_perfect_2 (fun S1 eS1 H locs hP hD hS => ?_)
  have hw457 := hw S1 eS1
  refine lv_aload_n hC.x hC.b dX6_perfect_5 rfl (lv_at hl 0 rfl) ?_
  refine gM_3 hC hP dX6_perfect_6 ?_
  rcases va_o2 tw with c2 | ⟨t, c2⟩
  · have hw458 := hw457.1 c2
    subst c2
    refine lv_ifnonnullN hC.x hC.b dX6_perfect_9 ?_
    refine lv_aload_n hC.x hC.b dX6_perfect_12 rfl (lv_at hl 0 rfl) ?_
    refine lv_iconst (v := 1) hC.x hC.b dX6_perfect_13 (by decide) ?_
    refine go_i (run_V (rest := []) hC (m6_refused l hw458) v6_6_refused h6_refused 0 5 gCl_X6 rfl rfl ⟨rfl, rfl, Nat.le_of_ble_eq_true rfl, Nat.le_of_ble_eq_true rfl⟩ ⟨Nat.le_refl _, Nat.le_refl _⟩ hP hD hS hl.1 (Nat.le_of_ble_eq_true rfl) dX6_perfect_14 rfl) hS (fun r3 S4 H locs hw459 hP hD hS => ?_)
    exact rt_i hC hw459 hP hD hS dX6_perfect_17
  · have hw460 := hw457.2 ⟨t, c2⟩
    subst c2
    refine lv_ifnonnull (tgt := 18) hC.x hC.b dX6_perfect_9 (by decide) ?_
    refine lv_aload_n hC.x hC.b dX6_perfect_18 rfl (lv_at hl 0 rfl) ?_
    refine go_v (run_V (rest := []) hC (m6_works l hw460) v6_6_works h6_works 0 5 gCl_X6 rfl rfl ⟨rfl, rfl, Nat.le_of_ble_eq_true rfl, Nat.le_of_ble_eq_true rfl⟩ ⟨Nat.le_refl _, Nat.le_refl _⟩ hP hD hS hl.1 (Nat.le_of_ble_eq_true rfl) dX6_perfect_19 rfl) hS (fun S6 H locs hw461 hP hD hS => ?_)
    refine lv_iconst (v := 0) hC.x hC.b dX6_perfect_22 (by decide) ?_
    refine lv_istore_n (lv' := [(1, .int 0), (0, .ref (ad 0))]) hC.x hC.b dX6_perfect_23 rfl hl (by decide) rfl (fun ls hl => ?_)
    refine lv_iconst (v := 0) hC.x hC.b dX6_perfect_24 (by decide) ?_
    refine lv_istore_n (lv' := [(2, .int 0), (1, .int 0), (0, .ref (ad 0))]) hC.x hC.b dX6_perfect_25 rfl hl (by decide) rfl (fun ls hl => ?_)
    exact k6_perfect_26 hC (0, 0) hw461 H locs ls hP hD hS (lv_sub hl [2, 1, 0] rfl)
theorem h6_together : yX6_together.cls = RX6 ∧ yX6_together.cls ≠ "java/lang/invoke/MethodHandle" ∧ yX6_together.cls ≠ "java/lang/invoke/VarHandle" ∧ (parseMethodDescriptor yX6_together.desc).map (fun d => d.parameters.length) = some 2 := by decide +kernel
def f6_together_38 (post : Int32 → MS → Prop) (tw : Option (Nat → Nat)) (S : MS) (x1 : Int32) (x2 : Int32) (K38 : Int32 → Prop) (x3 : Int32) : Prop :=
  ((100 ≤ x3 → (w6_good (fun r14 S15 => (post r14 S15)) S (-2))) ∧ (¬ 100 ≤ x3 → (w6_whoHears (fun r16 => (w6_whoHears (fun r17 => ((¬ r16 = r17 → (K38 (x3 + 1))) ∧ (r16 = r17 → (w6_good (fun r19 S20 => (post r19 S20)) S x3)))) tw S x2 x3)) tw S x1 x3)))
set_option maxHeartbeats 4000000 in
theorem k6_together_38 {post : Int32 → MS → Prop} {S : MS} {x1 : Int32} {x2 : Int32} (hC : CX RX6 cX6_together 4 (some .int) D gCl nwG Z Hb A p s m args meth c) : ∀ z : Int32, lp (fun (K : Int32 → Prop) (z : Int32) => f6_together_38 post tw S x1 x2 K z) z → ∀ (H : Heap) (locs : List Loc) (ls : Array Slot), va_P D gCl (wM D ad none rdv tw S) H → va_D A (wM D ad none rdv tw S) → va_S A s.heap H locs → lv_has ls 4 [(0, .ref (ad 0)), (1, .int x1), (2, .int x2), (3, .int z)] → W p l e ({ frames := 3, cells := 0, slots := 0, locals := 72 } : Room) s m args below meth c H locs 0 0 (MQ below (va_Qi post (BW D gCl A (fun u => (wM D ad none rdv tw u))) A) args s 0 0 A) (F0 m 38 ls []) := by
  refine lp_ind ?_
  rintro K38 x3 hK38 hw H locs ls hP hD hS hl
  have hw : f6_together_38 post tw S x1 x2 K38 x3 := hw
  unfold f6_together_38 at hw
  have hP : va_P D gCl (wM D ad none rdv tw S) H := hP
  have hD : va_D A (wM D ad none rdv tw S) := hD
  have hl : lv_has ls 4 [(0, .ref (ad 0)), (1, .int x1), (2, .int x2), (3, .int x3)] := hl
  refine lv_iload_n hC.x hC.b dX6_together_38 rfl (lv_at hl 3 rfl) ?_
  refine lv_bipush (v := 100) hC.x hC.b dX6_together_39 (by decide) ?_
  refine lv_icmp_ge (tgt := 71) hC.x hC.b dX6_together_41 (by decide) (fun c13 => ?_) (fun c13 => ?_)
  · have hw480 := hw.1 c13
    refine lv_aload_n hC.x hC.b dX6_together_71 rfl (lv_at hl 0 rfl) ?_
    refine lv_bipush (v := (-2)) hC.x hC.b dX6_together_72 (by decide) ?_
    refine go_i (run_V (rest := []) hC (m6_good l hw480) v6_6_good h6_good 0 5 gCl_X6 rfl rfl ⟨rfl, rfl, Nat.le_of_ble_eq_true rfl, Nat.le_of_ble_eq_true rfl⟩ ⟨Nat.le_refl _, Nat.le_refl _⟩ hP hD hS hl.1 (Nat.le_of_ble_eq_true rfl) dX6_together_74 rfl) hS (fun r14 S15 H locs hw481 hP hD hS => ?_)
    exact rt_i hC hw481 hP hD hS dX6_together_77
  · have hw482 := hw.2 c13
    refine lv_aload_n hC.x hC.b dX6_together_44 rfl (lv_at hl 0 rfl) ?_
    refine lv_iload_n hC.x hC.b dX6_together_45 rfl (lv_at hl 1 rfl) ?_
    refine lv_iload_n hC.x hC.b dX6_together_46 rfl (lv_at hl 3 rfl) ?_
    refine go_i (run_V (rest := []) hC (m6_whoHears l hw482) v6_6_whoHears h6_whoHears 0 5 gCl_X6 rfl rfl ⟨rfl, rfl, Nat.le_of_ble_eq_true rfl, Nat.le_of_ble_eq_true rfl⟩ ⟨Nat.le_refl _, Nat.le_refl _⟩ hP hD hS hl.1 (Nat.le_of_ble_eq_true rfl) dX6_together_47 rfl) hS (fun r16 u H locs hw483 hP hD hS => ?_)
    refine lv_aload_n hC.x hC.b dX6_together_50 rfl (lv_at hl 0 rfl) ?_
    refine lv_iload_n hC.x hC.b dX6_together_51 rfl (lv_at hl 2 rfl) ?_
    refine lv_iload_n hC.x hC.b dX6_together_52 rfl (lv_at hl 3 rfl) ?_
    refine go_i (run_V (rest := [.int r16]) hC (m6_whoHears l hw483) v6_6_whoHears h6_whoHears 0 5 gCl_X6 rfl rfl ⟨rfl, rfl, Nat.le_of_ble_eq_true rfl, Nat.le_of_ble_eq_true rfl⟩ ⟨Nat.le_refl _, Nat.le_refl _⟩ hP hD hS hl.1 (Nat.le_of_ble_eq_true rfl) dX6_together_53 rfl) hS (fun r17 u H locs hw484 hP hD hS => ?_)
    refine lv_icmp_ne (tgt := 65) hC.x hC.b dX6_together_56 (by decide) (fun c18 => ?_) (fun c18 => ?_)
    · have hw485 := hw484.1 c18
      refine lv_iinc (v := (x3 + 1)) (lv' := [(3, .int (x3 + 1)), (0, .ref (ad 0)), (1, .int x1), (2, .int x2)]) hC.x hC.b dX6_together_65 hl (k := 3) rfl rfl (by decide) rfl (fun ls hl => ?_)
      refine lv_goto (tgt := 38) hC.x hC.b dX6_together_68 (by decide) ?_
      exact hK38 (x3 + 1) hw485 H locs ls hP hD hS (lv_sub hl [1, 2, 3, 0] rfl)
    · have hw486 := hw484.2 c18
      refine lv_aload_n hC.x hC.b dX6_together_59 rfl (lv_at hl 0 rfl) ?_
      refine lv_iload_n hC.x hC.b dX6_together_60 rfl (lv_at hl 3 rfl) ?_
      refine go_i (run_V (rest := []) hC (m6_good l hw486) v6_6_good h6_good 0 5 gCl_X6 rfl rfl ⟨rfl, rfl, Nat.le_of_ble_eq_true rfl, Nat.le_of_ble_eq_true rfl⟩ ⟨Nat.le_refl _, Nat.le_refl _⟩ hP hD hS hl.1 (Nat.le_of_ble_eq_true rfl) dX6_together_61 rfl) hS (fun r19 S20 H locs hw487 hP hD hS => ?_)
      exact rt_i hC hw487 hP hD hS dX6_together_64
def w6_together (post : Int32 → MS → Prop) (tw : Option (Nat → Nat)) (S : MS) (x1 : Int32) (x2 : Int32) : Prop :=
  (∀ S1, S1 = uI S 0 0 0 → (w6_isDead (fun r2 => ((r2 = 0 → (w6_refused (fun r4 S5 => (post r4 S5)) S1 1)) ∧ (¬ r2 = 0 → (w6_isDead (fun r6 => ((r6 = 0 → (w6_refused (fun r8 S9 => (post r8 S9)) S1 1)) ∧ (¬ r6 = 0 → ((¬ x1 = x2 → (w6_works (fun S12 => (lp (fun (K : Int32 → Prop) (z : Int32) => f6_together_38 post tw S12 x1 x2 K z) 0)) S1)) ∧ (x1 = x2 → (w6_refused (fun r21 S22 => (post r21 S22)) S1 1)))))) tw S1 x2)))) tw S1 x1))
set_option maxHeartbeats 4000000 in
theorem m6_together (l : Launch) {post : Int32 → MS → Prop} {S : MS} {x1 : Int32} {x2 : Int32} (hw : w6_together post tw S x1 x2) : Met l yX6_together (ws_ yX6_together cX6_together 4 (some .int)) ({ frames := 3, cells := 0, slots := 0, locals := 72 } : Room) (va_Pc [.ref (ad 0), .int x1, .int x2] (PcG D gCl nwG Z Hb A (wM D ad none rdv tw S))) (va_Qi post (BW D gCl A (fun u => (wM D ad none rdv tw u))) A) 0 0 A := by
  refine Met.ofG (by decide) (Nat.le_of_ble_eq_true rfl) ?_
  intro p e s m below meth c ls hC _ hP hD hS hl
  have hC : CX RX6 cX6_together 4 (some .int) D gCl nwG Z Hb A p s m _ meth c := hC
  have hl : lv_has ls 4 [(0, .ref (ad 0)), (1, .int x1), (2, .int x2)] := hl
  unfold w6_together at hw
  refine lv_aload_n hC.x hC.b dX6_together_0 rfl (lv_at hl 0 rfl) ?_
  refine lv_iconst (v := 0) hC.x hC.b dX6_together_1 (by decide) ?_
  refine pM_0 hC hP hD hS (v := 0) dX6_together_2 (fun S1 eS1 H locs hP hD hS => ?_)
  have hw469 := hw S1 eS1
  refine lv_aload_n hC.x hC.b dX6_together_5 rfl (lv_at hl 0 rfl) ?_
  refine lv_iload_n hC.x hC.b dX6_together_6 rfl (lv_at hl 1 rfl) ?_
  refine go_i (run_V (rest := []) hC (m6_isDead l hw469) v6_6_isDead h6_isDead 0 5 gCl_X6 rfl rfl ⟨rfl, rfl, Nat.le_of_ble_eq_true rfl, Nat.le_of_ble_eq_true rfl⟩ ⟨Nat.le_refl _, Nat.le_refl _⟩ hP hD hS hl.1 (Nat.le_of_ble_eq_true rfl) dX6_together_7 rfl) hS (fun r2 u H locs hw470 hP hD hS => ?_)
  refine lv_if_eq (tgt := 26) hC.x hC.b dX6_together_10 (by decide) (fun c3 => ?_) (fun c3 => ?_)
  · have hw471 := hw470.1 c3
    refine lv_aload_n hC.x hC.b dX6_together_26 rfl (lv_at hl 0 rfl) ?_
    refine lv_iconst (v := 1) hC.x hC.b dX6_together_27 (by decide) ?_
    refine go_i (run_V (rest := []) hC (m6_refused l hw471) v6_6_refused h6_refused 0 5 gCl_X6 rfl rfl ⟨rfl, rfl, Nat.le_of_ble_eq_true rfl, Nat.le_of_ble_eq_true rfl⟩ ⟨Nat.le_refl _, Nat.le_refl _⟩ hP hD hS hl.1 (Nat.le_of_ble_eq_true rfl) dX6_together_28 rfl) hS (fun r4 S5 H locs hw472 hP hD hS => ?_)
    exact rt_i hC hw472 hP hD hS dX6_together_31
  · have hw473 := hw470.2 c3
    refine lv_aload_n hC.x hC.b dX6_together_13 rfl (lv_at hl 0 rfl) ?_
    refine lv_iload_n hC.x hC.b dX6_together_14 rfl (lv_at hl 2 rfl) ?_
    refine go_i (run_V (rest := []) hC (m6_isDead l hw473) v6_6_isDead h6_isDead 0 5 gCl_X6 rfl rfl ⟨rfl, rfl, Nat.le_of_ble_eq_true rfl, Nat.le_of_ble_eq_true rfl⟩ ⟨Nat.le_refl _, Nat.le_refl _⟩ hP hD hS hl.1 (Nat.le_of_ble_eq_true rfl) dX6_together_15 rfl) hS (fun r6 u H locs hw474 hP hD hS => ?_)
    refine lv_if_eq (tgt := 26) hC.x hC.b dX6_together_18 (by decide) (fun c7 => ?_) (fun c7 => ?_)
    · have hw475 := hw474.1 c7
      refine lv_aload_n hC.x hC.b dX6_together_26 rfl (lv_at hl 0 rfl) ?_
      refine lv_iconst (v := 1) hC.x hC.b dX6_together_27 (by decide) ?_
      refine go_i (run_V (rest := []) hC (m6_refused l hw475) v6_6_refused h6_refused 0 5 gCl_X6 rfl rfl ⟨rfl, rfl, Nat.le_of_ble_eq_true rfl, Nat.le_of_ble_eq_true rfl⟩ ⟨Nat.le_refl _, Nat.le_refl _⟩ hP hD hS hl.1 (Nat.le_of_ble_eq_true rfl) dX6_together_28 rfl) hS (fun r8 S9 H locs hw476 hP hD hS => ?_)
      exact rt_i hC hw476 hP hD hS dX6_together_31
    · have hw477 := hw474.2 c7
      refine lv_iload_n hC.x hC.b dX6_together_21 rfl (lv_at hl 1 rfl) ?_
      refine lv_iload_n hC.x hC.b dX6_together_22 rfl (lv_at hl 2 rfl) ?_
      refine lv_icmp_ne (tgt := 32) hC.x hC.b dX6_together_23 (by decide) (fun c10 => ?_) (fun c10 => ?_)
      · have hw478 := hw477.1 c10
        refine lv_aload_n hC.x hC.b dX6_together_32 rfl (lv_at hl 0 rfl) ?_
        refine go_v (run_V (rest := []) hC (m6_works l hw478) v6_6_works h6_works 0 5 gCl_X6 rfl rfl ⟨rfl, rfl, Nat.le_of_ble_eq_true rfl, Nat.le_of_ble_eq_true rfl⟩ ⟨Nat.le_refl _, Nat.le_refl _⟩ hP hD hS hl.1 (Nat.le_of_ble_eq_true rfl) dX6_together_33 rfl) hS (fun S12 H locs hw479 hP hD hS => ?_)
        refine lv_iconst (v := 0) hC.x hC.b dX6_together_36 (by decide) ?_
        refine lv_istore_n (lv' := [(3, .int 0), (0, .ref (ad 0)), (1, .int x1), (2, .int x2)]) hC.x hC.b dX6_together_37 rfl hl (by decide) rfl (fun ls hl => ?_)
        exact k6_together_38 hC 0 hw479 H locs ls hP hD hS (lv_sub hl [1, 2, 3, 0] rfl)
      · have hw488 := hw477.2 c10
        refine lv_aload_n hC.x hC.b dX6_together_26 rfl (lv_at hl 0 rfl) ?_
        refine lv_iconst (v := 1) hC.x hC.b dX6_together_27 (by decide) ?_
        refine go_i (run_V (rest := []) hC (m6_refused l hw488) v6_6_refused h6_refused 0 5 gCl_X6 rfl rfl ⟨rfl, rfl, Nat.le_of_ble_eq_true rfl, Nat.le_of_ble_eq_true rfl⟩ ⟨Nat.le_refl _, Nat.le_refl _⟩ hP hD hS hl.1 (Nat.le_of_ble_eq_true rfl) dX6_together_28 rfl) hS (fun r21 S22 H locs hw489 hP hD hS => ?_)
        exact rt_i hC hw489 hP hD hS dX6_together_31
theorem h6_aimFor : yX6_aimFor.cls = RX6 ∧ yX6_aimFor.cls ≠ "java/lang/invoke/MethodHandle" ∧ yX6_aimFor.cls ≠ "java/lang/invoke/VarHandle" ∧ (parseMethodDescriptor yX6_aimFor.desc).map (fun d => d.parameters.length) = some 3 := by decide +kernel
def f6_aimFor_52 (post : Int32 → MS → Prop) (tw : Option (Nat → Nat)) (S : MS) (x1 : Int32) (x2 : Int32) (x3 : Int32) (K52 : Int32 → Prop) (x5 : Int32) : Prop :=
  (w6_outOf (fun r8 => (w6_heardFrom (fun r9 => ((r9 = x2 → (w6_good (fun r11 S12 => (post r11 S12)) S x5)) ∧ (¬ r9 = x2 → (K52 (x5 + 1))))) tw S r8)) tw S x1 x5 x3)
set_option maxHeartbeats 4000000 in
theorem k6_aimFor_52 {post : Int32 → MS → Prop} {S : MS} {x1 : Int32} {x2 : Int32} {x3 : Int32} (hC : CX RX6 cX6_aimFor 6 (some .int) D gCl nwG Z Hb A p s m args meth c) : ∀ z : Int32, lp (fun (K : Int32 → Prop) (z : Int32) => f6_aimFor_52 post tw S x1 x2 x3 K z) z → ∀ (H : Heap) (locs : List Loc) (ls : Array Slot), va_P D gCl (wM D ad none rdv tw S) H → va_D A (wM D ad none rdv tw S) → va_S A s.heap H locs → lv_has ls 6 [(0, .ref (ad 0)), (1, .int x1), (2, .int x2), (3, .int x3), (5, .int z)] → W p l e ({ frames := 2, cells := 0, slots := 0, locals := 50 } : Room) s m args below meth c H locs 0 0 (MQ below (va_Qi post (BW D gCl A (fun u => (wM D ad none rdv tw u))) A) args s 0 0 A) (F0 m 52 ls []) := by
  refine lp_ind ?_
  rintro K52 x5 hK52 hw H locs ls hP hD hS hl
  have hw : f6_aimFor_52 post tw S x1 x2 x3 K52 x5 := hw
  unfold f6_aimFor_52 at hw
  have hP : va_P D gCl (wM D ad none rdv tw S) H := hP
  have hD : va_D A (wM D ad none rdv tw S) := hD
  have hl : lv_has ls 6 [(0, .ref (ad 0)), (1, .int x1), (2, .int x2), (3, .int x3), (5, .int x5)] := hl
  refine lv_aload_n hC.x hC.b dX6_aimFor_52 rfl (lv_at hl 0 rfl) ?_
  refine lv_aload_n hC.x hC.b dX6_aimFor_53 rfl (lv_at hl 0 rfl) ?_
  refine lv_iload_n hC.x hC.b dX6_aimFor_54 rfl (lv_at hl 1 rfl) ?_
  refine lv_iload hC.x hC.b dX6_aimFor_55 (lv_at hl 4 rfl) ?_
  refine lv_iload_n hC.x hC.b dX6_aimFor_57 rfl (lv_at hl 3 rfl) ?_
  refine go_i (run_V (rest := [.ref (ad 0)]) hC (m6_outOf l hw) v6_6_outOf h6_outOf 0 5 gCl_X6 rfl rfl ⟨rfl, rfl, Nat.le_of_ble_eq_true rfl, Nat.le_of_ble_eq_true rfl⟩ ⟨Nat.le_refl _, Nat.le_refl _⟩ hP hD hS hl.1 (Nat.le_of_ble_eq_true rfl) dX6_aimFor_58 rfl) hS (fun r8 u H locs hw496 hP hD hS => ?_)
  refine go_i (run_V (rest := []) hC (m6_heardFrom l hw496) v6_6_heardFrom h6_heardFrom 0 5 gCl_X6 rfl rfl ⟨rfl, rfl, Nat.le_of_ble_eq_true rfl, Nat.le_of_ble_eq_true rfl⟩ ⟨Nat.le_refl _, Nat.le_refl _⟩ hP hD hS hl.1 (Nat.le_of_ble_eq_true rfl) dX6_aimFor_61 rfl) hS (fun r9 u H locs hw497 hP hD hS => ?_)
  refine lv_iload_n hC.x hC.b dX6_aimFor_64 rfl (lv_at hl 2 rfl) ?_
  refine lv_icmp_eq (tgt := 74) hC.x hC.b dX6_aimFor_65 (by decide) (fun c10 => ?_) (fun c10 => ?_)
  · have hw498 := hw497.1 c10
    refine lv_aload_n hC.x hC.b dX6_aimFor_74 rfl (lv_at hl 0 rfl) ?_
    refine lv_iload hC.x hC.b dX6_aimFor_75 (lv_at hl 4 rfl) ?_
    refine go_i (run_V (rest := []) hC (m6_good l hw498) v6_6_good h6_good 0 5 gCl_X6 rfl rfl ⟨rfl, rfl, Nat.le_of_ble_eq_true rfl, Nat.le_of_ble_eq_true rfl⟩ ⟨Nat.le_refl _, Nat.le_refl _⟩ hP hD hS hl.1 (Nat.le_of_ble_eq_true rfl) dX6_aimFor_77 rfl) hS (fun r11 S12 H locs hw499 hP hD hS => ?_)
    exact rt_i hC hw499 hP hD hS dX6_aimFor_80
  · have hw500 := hw497.2 c10
    refine lv_iinc (v := (x5 + 1)) (lv' := [(5, .int (x5 + 1)), (0, .ref (ad 0)), (1, .int x1), (2, .int x2), (3, .int x3)]) hC.x hC.b dX6_aimFor_68 hl (k := 4) rfl rfl (by decide) rfl (fun ls hl => ?_)
    refine lv_goto (tgt := 52) hC.x hC.b dX6_aimFor_71 (by decide) ?_
    exact hK52 (x5 + 1) hw500 H locs ls hP hD hS (lv_sub hl [1, 2, 3, 4, 0] rfl)
def j6_aimFor_27 (post : Int32 → MS → Prop) (tw : Option (Nat → Nat)) (S : MS) (x1 : Int32) (x2 : Int32) (x3 : Int32) (y1 : Int32) : Prop :=
  (w6_refusesNight (fun r4 => ((r4 ≤ 0 → (w6_works (fun S7 => (lp (fun (K : Int32 → Prop) (z : Int32) => f6_aimFor_52 post tw S7 x1 x2 x3 K z) 0)) S)) ∧ (¬ r4 ≤ 0 → (w6_refused (fun r13 S14 => (post r13 S14)) S r4)))) S y1 x3)
set_option maxHeartbeats 4000000 in
theorem k6_aimFor_27 {post : Int32 → MS → Prop} {S : MS} {x1 : Int32} {x2 : Int32} {x3 : Int32} {y1 : Int32} (hC : CX RX6 cX6_aimFor 6 (some .int) D gCl nwG Z Hb A p s m args meth c) (hw : j6_aimFor_27 post tw S x1 x2 x3 y1) : ∀ (H : Heap) (locs : List Loc) (ls : Array Slot), va_P D gCl (wM D ad none rdv tw S) H → va_D A (wM D ad none rdv tw S) → va_S A s.heap H locs → lv_has ls 6 [(0, .ref (ad 0)), (1, .int x1), (2, .int x2), (3, .int x3)] → W p l e ({ frames := 2, cells := 0, slots := 0, locals := 50 } : Room) s m args below meth c H locs 0 0 (MQ below (va_Qi post (BW D gCl A (fun u => (wM D ad none rdv tw u))) A) args s 0 0 A) (F0 m 27 ls [.int y1, .ref (ad 0)]) := by
  intro H locs ls hP hD hS hl
  unfold j6_aimFor_27 at hw
  refine lv_iload_n hC.x hC.b dX6_aimFor_27 rfl (lv_at hl 3 rfl) ?_
  refine go_i (run_V (rest := []) hC (m6_refusesNight l hw) v6_6_refusesNight h6_refusesNight 0 5 gCl_X6 rfl rfl ⟨rfl, rfl, Nat.le_of_ble_eq_true rfl, Nat.le_of_ble_eq_true rfl⟩ ⟨Nat.le_refl _, Nat.le_refl _⟩ hP hD hS hl.1 (Nat.le_of_ble_eq_true rfl) dX6_aimFor_28 rfl) hS (fun r4 u H locs hw493 hP hD hS => ?_)
  refine lv_istore (lv' := [(4, .int r4), (0, .ref (ad 0)), (1, .int x1), (2, .int x2), (3, .int x3)]) hC.x hC.b dX6_aimFor_31 hl (by decide) rfl (fun ls hl => ?_)
  refine lv_iload hC.x hC.b dX6_aimFor_33 (lv_at hl 0 rfl) ?_
  refine lv_if_le (tgt := 45) hC.x hC.b dX6_aimFor_35 (by decide) (fun c5 => ?_) (fun c5 => ?_)
  · have hw494 := hw493.1 c5
    refine lv_aload_n hC.x hC.b dX6_aimFor_45 rfl (lv_at hl 1 rfl) ?_
    refine go_v (run_V (rest := []) hC (m6_works l hw494) v6_6_works h6_works 0 5 gCl_X6 rfl rfl ⟨rfl, rfl, Nat.le_of_ble_eq_true rfl, Nat.le_of_ble_eq_true rfl⟩ ⟨Nat.le_refl _, Nat.le_refl _⟩ hP hD hS hl.1 (Nat.le_of_ble_eq_true rfl) dX6_aimFor_46 rfl) hS (fun S7 H locs hw495 hP hD hS => ?_)
    refine lv_iconst (v := 0) hC.x hC.b dX6_aimFor_49 (by decide) ?_
    refine lv_istore (lv' := [(5, .int 0), (4, .int r4), (0, .ref (ad 0)), (1, .int x1), (2, .int x2), (3, .int x3)]) hC.x hC.b dX6_aimFor_50 hl (by decide) rfl (fun ls hl => ?_)
    exact k6_aimFor_52 hC 0 hw495 H locs ls hP hD hS (lv_sub hl [2, 3, 4, 5, 0] rfl)
  · have hw501 := hw493.2 c5
    refine lv_aload_n hC.x hC.b dX6_aimFor_38 rfl (lv_at hl 1 rfl) ?_
    refine lv_iload hC.x hC.b dX6_aimFor_39 (lv_at hl 0 rfl) ?_
    refine go_i (run_V (rest := []) hC (m6_refused l hw501) v6_6_refused h6_refused 0 5 gCl_X6 rfl rfl ⟨rfl, rfl, Nat.le_of_ble_eq_true rfl, Nat.le_of_ble_eq_true rfl⟩ ⟨Nat.le_refl _, Nat.le_refl _⟩ hP hD hS hl.1 (Nat.le_of_ble_eq_true rfl) dX6_aimFor_41 rfl) hS (fun r13 S14 H locs hw502 hP hD hS => ?_)
    exact rt_i hC hw502 hP hD hS dX6_aimFor_44
def j6_aimFor_26 (post : Int32 → MS → Prop) (tw : Option (Nat → Nat)) (S : MS) (x1 : Int32) (x2 : Int32) (x3 : Int32) : Prop :=
  (j6_aimFor_27 post tw S x1 x2 x3 0)
set_option maxHeartbeats 4000000 in
theorem k6_aimFor_26 {post : Int32 → MS → Prop} {S : MS} {x1 : Int32} {x2 : Int32} {x3 : Int32} (hC : CX RX6 cX6_aimFor 6 (some .int) D gCl nwG Z Hb A p s m args meth c) (hw : j6_aimFor_26 post tw S x1 x2 x3) : ∀ (H : Heap) (locs : List Loc) (ls : Array Slot), va_P D gCl (wM D ad none rdv tw S) H → va_D A (wM D ad none rdv tw S) → va_S A s.heap H locs → lv_has ls 6 [(0, .ref (ad 0)), (1, .int x1), (2, .int x2), (3, .int x3)] → W p l e ({ frames := 2, cells := 0, slots := 0, locals := 50 } : Room) s m args below meth c H locs 0 0 (MQ below (va_Qi post (BW D gCl A (fun u => (wM D ad none rdv tw u))) A) args s 0 0 A) (F0 m 26 ls [.ref (ad 0)]) := by
  intro H locs ls hP hD hS hl
  unfold j6_aimFor_26 at hw
  refine lv_iconst (v := 0) hC.x hC.b dX6_aimFor_26 (by decide) ?_
  exact k6_aimFor_27 hC hw H locs ls hP hD hS (lv_sub hl [0, 1, 2, 3] rfl)
def w6_aimFor (post : Int32 → MS → Prop) (tw : Option (Nat → Nat)) (S : MS) (x1 : Int32) (x2 : Int32) (x3 : Int32) : Prop :=
  (∀ S1, S1 = uI S 0 0 0 → (w6_isDead (fun r2 => ((r2 = 0 → (j6_aimFor_26 post tw S1 x1 x2 x3)) ∧ (¬ r2 = 0 → (w6_isPerson (fun r15 => ((r15 = 0 → (j6_aimFor_26 post tw S1 x1 x2 x3)) ∧ (¬ r15 = 0 → (j6_aimFor_27 post tw S1 x1 x2 x3 1)))) tw S1 x2)))) tw S1 x1))
set_option maxHeartbeats 4000000 in
theorem m6_aimFor (l : Launch) {post : Int32 → MS → Prop} {S : MS} {x1 : Int32} {x2 : Int32} {x3 : Int32} (hw : w6_aimFor post tw S x1 x2 x3) : Met l yX6_aimFor (ws_ yX6_aimFor cX6_aimFor 6 (some .int)) ({ frames := 2, cells := 0, slots := 0, locals := 50 } : Room) (va_Pc [.ref (ad 0), .int x1, .int x2, .int x3] (PcG D gCl nwG Z Hb A (wM D ad none rdv tw S))) (va_Qi post (BW D gCl A (fun u => (wM D ad none rdv tw u))) A) 0 0 A := by
  refine Met.ofG (by decide) (Nat.le_of_ble_eq_true rfl) ?_
  intro p e s m below meth c ls hC _ hP hD hS hl
  have hC : CX RX6 cX6_aimFor 6 (some .int) D gCl nwG Z Hb A p s m _ meth c := hC
  have hl : lv_has ls 6 [(0, .ref (ad 0)), (1, .int x1), (2, .int x2), (3, .int x3)] := hl
  unfold w6_aimFor at hw
  refine lv_aload_n hC.x hC.b dX6_aimFor_0 rfl (lv_at hl 0 rfl) ?_
  refine lv_iconst (v := 0) hC.x hC.b dX6_aimFor_1 (by decide) ?_
  refine pM_0 hC hP hD hS (v := 0) dX6_aimFor_2 (fun S1 eS1 H locs hP hD hS => ?_)
  have hw490 := hw S1 eS1
  refine lv_aload_n hC.x hC.b dX6_aimFor_5 rfl (lv_at hl 0 rfl) ?_
  refine lv_aload_n hC.x hC.b dX6_aimFor_6 rfl (lv_at hl 0 rfl) ?_
  refine lv_iload_n hC.x hC.b dX6_aimFor_7 rfl (lv_at hl 1 rfl) ?_
  refine go_i (run_V (rest := [.ref (ad 0)]) hC (m6_isDead l hw490) v6_6_isDead h6_isDead 0 5 gCl_X6 rfl rfl ⟨rfl, rfl, Nat.le_of_ble_eq_true rfl, Nat.le_of_ble_eq_true rfl⟩ ⟨Nat.le_refl _, Nat.le_refl _⟩ hP hD hS hl.1 (Nat.le_of_ble_eq_true rfl) dX6_aimFor_8 rfl) hS (fun r2 u H locs hw491 hP hD hS => ?_)
  refine lv_if_eq (tgt := 26) hC.x hC.b dX6_aimFor_11 (by decide) (fun c3 => ?_) (fun c3 => ?_)
  · have hw492 := hw491.1 c3
    exact k6_aimFor_26 hC hw492 H locs ls hP hD hS (lv_sub hl [0, 1, 2, 3] rfl)
  · have hw503 := hw491.2 c3
    refine lv_aload_n hC.x hC.b dX6_aimFor_14 rfl (lv_at hl 0 rfl) ?_
    refine lv_iload_n hC.x hC.b dX6_aimFor_15 rfl (lv_at hl 2 rfl) ?_
    refine go_i (run_V (rest := [.ref (ad 0)]) hC (m6_isPerson l hw503) v6_6_isPerson h6_isPerson 0 5 gCl_X6 rfl rfl ⟨rfl, rfl, Nat.le_of_ble_eq_true rfl, Nat.le_of_ble_eq_true rfl⟩ ⟨Nat.le_refl _, Nat.le_refl _⟩ hP hD hS hl.1 (Nat.le_of_ble_eq_true rfl) dX6_aimFor_16 rfl) hS (fun r15 u H locs hw504 hP hD hS => ?_)
    refine lv_if_eq (tgt := 26) hC.x hC.b dX6_aimFor_19 (by decide) (fun c16 => ?_) (fun c16 => ?_)
    · have hw505 := hw504.1 c16
      exact k6_aimFor_26 hC hw505 H locs ls hP hD hS (lv_sub hl [0, 1, 2, 3] rfl)
    · have hw506 := hw504.2 c16
      refine lv_iconst (v := 1) hC.x hC.b dX6_aimFor_22 (by decide) ?_
      refine lv_goto (tgt := 27) hC.x hC.b dX6_aimFor_23 (by decide) ?_
      exact k6_aimFor_27 hC hw506 H locs ls hP hD hS (lv_sub hl [0, 1, 2, 3] rfl)
theorem h6_aims : yX6_aims.cls = RX6 ∧ yX6_aims.cls ≠ "java/lang/invoke/MethodHandle" ∧ yX6_aims.cls ≠ "java/lang/invoke/VarHandle" ∧ (parseMethodDescriptor yX6_aims.desc).map (fun d => d.parameters.length) = some 3 := by decide +kernel
def f6_aims_55 (post : Int32 → MS → Prop) (tw : Option (Nat → Nat)) (S : MS) (x1 : Int32) (x2 : Int32) (x3 : Int32) (K55 : (Int32 × Int32) → Prop) (x5 : Int32) (x6 : Int32) : Prop :=
  ((∃ t, tw = some t) ∧ (((S.1 20 0) ≤ x6 → (w6_good (fun r9 S10 => (post r9 S10)) S x5)) ∧ (¬ (S.1 20 0) ≤ x6 → (w6_outOf (fun r11 => (w6_heardFrom (fun r12 => ((¬ r12 = x2 → (K55 ((x5 + 0), (x6 + 1)))) ∧ (r12 = x2 → (K55 ((x5 + 1), (x6 + 1)))))) tw S r11)) tw S x1 x6 x3))))
set_option maxHeartbeats 4000000 in
theorem k6_aims_55 {post : Int32 → MS → Prop} {S : MS} {x1 : Int32} {x2 : Int32} {x3 : Int32} (hC : CX RX6 cX6_aims 7 (some .int) D gCl nwG Z Hb A p s m args meth c) : ∀ z : (Int32 × Int32), lp (fun (K : (Int32 × Int32) → Prop) (z : (Int32 × Int32)) => f6_aims_55 post tw S x1 x2 x3 K z.1 z.2) z → ∀ (H : Heap) (locs : List Loc) (ls : Array Slot), va_P D gCl (wM D ad none rdv tw S) H → va_D A (wM D ad none rdv tw S) → va_S A s.heap H locs → lv_has ls 7 [(0, .ref (ad 0)), (1, .int x1), (2, .int x2), (3, .int x3), (5, .int z.1), (6, .int z.2)] → W p l e ({ frames := 2, cells := 0, slots := 0, locals := 50 } : Room) s m args below meth c H locs 0 0 (MQ below (va_Qi post (BW D gCl A (fun u => (wM D ad none rdv tw u))) A) args s 0 0 A) (F0 m 55 ls []) := by
  refine lp_ind ?_
  rintro K55 ⟨x5, x6⟩ hK55 hw H locs ls hP hD hS hl
  have hw : f6_aims_55 post tw S x1 x2 x3 K55 x5 x6 := hw
  unfold f6_aims_55 at hw
  have hP : va_P D gCl (wM D ad none rdv tw S) H := hP
  have hD : va_D A (wM D ad none rdv tw S) := hD
  have hl : lv_has ls 7 [(0, .ref (ad 0)), (1, .int x1), (2, .int x2), (3, .int x3), (5, .int x5), (6, .int x6)] := hl
  refine lv_iload hC.x hC.b dX6_aims_55 (lv_at hl 5 rfl) ?_
  refine lv_aload_n hC.x hC.b dX6_aims_57 rfl (lv_at hl 0 rfl) ?_
  refine gM_3 hC hP dX6_aims_58 ?_
  obtain ⟨⟨t, rfl⟩, hw513⟩ := hw
  refine gT_0 hC hP dX6_aims_61 ?_
  refine lv_icmp_ge (tgt := 99) hC.x hC.b dX6_aims_64 (by decide) (fun c8 => ?_) (fun c8 => ?_)
  · have hw514 := hw513.1 c8
    refine lv_aload_n hC.x hC.b dX6_aims_99 rfl (lv_at hl 0 rfl) ?_
    refine lv_iload hC.x hC.b dX6_aims_100 (lv_at hl 4 rfl) ?_
    refine go_i (run_V (rest := []) hC (m6_good l hw514) v6_6_good h6_good 0 5 gCl_X6 rfl rfl ⟨rfl, rfl, Nat.le_of_ble_eq_true rfl, Nat.le_of_ble_eq_true rfl⟩ ⟨Nat.le_refl _, Nat.le_refl _⟩ hP hD hS hl.1 (Nat.le_of_ble_eq_true rfl) dX6_aims_102 rfl) hS (fun r9 S10 H locs hw515 hP hD hS => ?_)
    exact rt_i hC hw515 hP hD hS dX6_aims_105
  · have hw516 := hw513.2 c8
    refine lv_iload hC.x hC.b dX6_aims_67 (lv_at hl 4 rfl) ?_
    refine lv_aload_n hC.x hC.b dX6_aims_69 rfl (lv_at hl 0 rfl) ?_
    refine lv_aload_n hC.x hC.b dX6_aims_70 rfl (lv_at hl 0 rfl) ?_
    refine lv_iload_n hC.x hC.b dX6_aims_71 rfl (lv_at hl 1 rfl) ?_
    refine lv_iload hC.x hC.b dX6_aims_72 (lv_at hl 5 rfl) ?_
    refine lv_iload_n hC.x hC.b dX6_aims_74 rfl (lv_at hl 3 rfl) ?_
    refine go_i (run_V (rest := [.ref (ad 0), .int x5]) hC (m6_outOf l hw516) v6_6_outOf h6_outOf 0 5 gCl_X6 rfl rfl ⟨rfl, rfl, Nat.le_of_ble_eq_true rfl, Nat.le_of_ble_eq_true rfl⟩ ⟨Nat.le_refl _, Nat.le_refl _⟩ hP hD hS hl.1 (Nat.le_of_ble_eq_true rfl) dX6_aims_75 rfl) hS (fun r11 u H locs hw517 hP hD hS => ?_)
    refine go_i (run_V (rest := [.int x5]) hC (m6_heardFrom l hw517) v6_6_heardFrom h6_heardFrom 0 5 gCl_X6 rfl rfl ⟨rfl, rfl, Nat.le_of_ble_eq_true rfl, Nat.le_of_ble_eq_true rfl⟩ ⟨Nat.le_refl _, Nat.le_refl _⟩ hP hD hS hl.1 (Nat.le_of_ble_eq_true rfl) dX6_aims_78 rfl) hS (fun r12 u H locs hw518 hP hD hS => ?_)
    refine lv_iload_n hC.x hC.b dX6_aims_81 rfl (lv_at hl 2 rfl) ?_
    refine lv_icmp_ne (tgt := 89) hC.x hC.b dX6_aims_82 (by decide) (fun c13 => ?_) (fun c13 => ?_)
    · have hw519 := hw518.1 c13
      refine lv_iconst (v := 0) hC.x hC.b dX6_aims_89 (by decide) ?_
      refine lv_iadd hC.x hC.b dX6_aims_90 ?_
      refine lv_istore (lv' := [(5, .int (x5 + 0)), (0, .ref (ad 0)), (1, .int x1), (2, .int x2), (3, .int x3), (6, .int x6)]) hC.x hC.b dX6_aims_91 hl (by decide) rfl (fun ls hl => ?_)
      refine lv_iinc (v := (x6 + 1)) (lv' := [(6, .int (x6 + 1)), (5, .int (x5 + 0)), (0, .ref (ad 0)), (1, .int x1), (2, .int x2), (3, .int x3)]) hC.x hC.b dX6_aims_93 hl (k := 5) rfl rfl (by decide) rfl (fun ls hl => ?_)
      refine lv_goto (tgt := 55) hC.x hC.b dX6_aims_96 (by decide) ?_
      exact hK55 ((x5 + 0), (x6 + 1)) hw519 H locs ls hP hD hS (lv_sub hl [2, 3, 4, 5, 1, 0] rfl)
    · have hw520 := hw518.2 c13
      refine lv_iconst (v := 1) hC.x hC.b dX6_aims_85 (by decide) ?_
      refine lv_goto (tgt := 90) hC.x hC.b dX6_aims_86 (by decide) ?_
      refine lv_iadd hC.x hC.b dX6_aims_90 ?_
      refine lv_istore (lv' := [(5, .int (x5 + 1)), (0, .ref (ad 0)), (1, .int x1), (2, .int x2), (3, .int x3), (6, .int x6)]) hC.x hC.b dX6_aims_91 hl (by decide) rfl (fun ls hl => ?_)
      refine lv_iinc (v := (x6 + 1)) (lv' := [(6, .int (x6 + 1)), (5, .int (x5 + 1)), (0, .ref (ad 0)), (1, .int x1), (2, .int x2), (3, .int x3)]) hC.x hC.b dX6_aims_93 hl (k := 5) rfl rfl (by decide) rfl (fun ls hl => ?_)
      refine lv_goto (tgt := 55) hC.x hC.b dX6_aims_96 (by decide) ?_
      exact hK55 ((x5 + 1), (x6 + 1)) hw520 H locs ls hP hD hS (lv_sub hl [2, 3, 4, 5, 1, 0] rfl)
def j6_aims_27 (post : Int32 → MS → Prop) (tw : Option (Nat → Nat)) (S : MS) (x1 : Int32) (x2 : Int32) (x3 : Int32) (y1 : Int32) : Prop :=
  (w6_refusesNight (fun r4 => ((r4 ≤ 0 → (w6_works (fun S7 => (lp (fun (K : (Int32 × Int32) → Prop) (z : (Int32 × Int32)) => f6_aims_55 post tw S7 x1 x2 x3 K z.1 z.2) (0, 0))) S)) ∧ (¬ r4 ≤ 0 → (w6_refused (fun r14 S15 => (post r14 S15)) S r4)))) S y1 x3)
set_option maxHeartbeats 4000000 in
theorem k6_aims_27 {post : Int32 → MS → Prop} {S : MS} {x1 : Int32} {x2 : Int32} {x3 : Int32} {y1 : Int32} (hC : CX RX6 cX6_aims 7 (some .int) D gCl nwG Z Hb A p s m args meth c) (hw : j6_aims_27 post tw S x1 x2 x3 y1) : ∀ (H : Heap) (locs : List Loc) (ls : Array Slot), va_P D gCl (wM D ad none rdv tw S) H → va_D A (wM D ad none rdv tw S) → va_S A s.heap H locs → lv_has ls 7 [(0, .ref (ad 0)), (1, .int x1), (2, .int x2), (3, .int x3)] → W p l e ({ frames := 2, cells := 0, slots := 0, locals := 50 } : Room) s m args below meth c H locs 0 0 (MQ below (va_Qi post (BW D gCl A (fun u => (wM D ad none rdv tw u))) A) args s 0 0 A) (F0 m 27 ls [.int y1, .ref (ad 0)]) := by
  intro H locs ls hP hD hS hl
  unfold j6_aims_27 at hw
  refine lv_iload_n hC.x hC.b dX6_aims_27 rfl (lv_at hl 3 rfl) ?_
  refine go_i (run_V (rest := []) hC (m6_refusesNight l hw) v6_6_refusesNight h6_refusesNight 0 5 gCl_X6 rfl rfl ⟨rfl, rfl, Nat.le_of_ble_eq_true rfl, Nat.le_of_ble_eq_true rfl⟩ ⟨Nat.le_refl _, Nat.le_refl _⟩ hP hD hS hl.1 (Nat.le_of_ble_eq_true rfl) dX6_aims_28 rfl) hS (fun r4 u H locs hw510 hP hD hS => ?_)
  refine lv_istore (lv' := [(4, .int r4), (0, .ref (ad 0)), (1, .int x1), (2, .int x2), (3, .int x3)]) hC.x hC.b dX6_aims_31 hl (by decide) rfl (fun ls hl => ?_)
  refine lv_iload hC.x hC.b dX6_aims_33 (lv_at hl 0 rfl) ?_
  refine lv_if_le (tgt := 45) hC.x hC.b dX6_aims_35 (by decide) (fun c5 => ?_) (fun c5 => ?_)
  · have hw511 := hw510.1 c5
    refine lv_aload_n hC.x hC.b dX6_aims_45 rfl (lv_at hl 1 rfl) ?_
    refine go_v (run_V (rest := []) hC (m6_works l hw511) v6_6_works h6_works 0 5 gCl_X6 rfl rfl ⟨rfl, rfl, Nat.le_of_ble_eq_true rfl, Nat.le_of_ble_eq_true rfl⟩ ⟨Nat.le_refl _, Nat.le_refl _⟩ hP hD hS hl.1 (Nat.le_of_ble_eq_true rfl) dX6_aims_46 rfl) hS (fun S7 H locs hw512 hP hD hS => ?_)
    refine lv_iconst (v := 0) hC.x hC.b dX6_aims_49 (by decide) ?_
    refine lv_istore (lv' := [(5, .int 0), (4, .int r4), (0, .ref (ad 0)), (1, .int x1), (2, .int x2), (3, .int x3)]) hC.x hC.b dX6_aims_50 hl (by decide) rfl (fun ls hl => ?_)
    refine lv_iconst (v := 0) hC.x hC.b dX6_aims_52 (by decide) ?_
    refine lv_istore (lv' := [(6, .int 0), (5, .int 0), (4, .int r4), (0, .ref (ad 0)), (1, .int x1), (2, .int x2), (3, .int x3)]) hC.x hC.b dX6_aims_53 hl (by decide) rfl (fun ls hl => ?_)
    exact k6_aims_55 hC (0, 0) hw512 H locs ls hP hD hS (lv_sub hl [3, 4, 5, 6, 1, 0] rfl)
  · have hw521 := hw510.2 c5
    refine lv_aload_n hC.x hC.b dX6_aims_38 rfl (lv_at hl 1 rfl) ?_
    refine lv_iload hC.x hC.b dX6_aims_39 (lv_at hl 0 rfl) ?_
    refine go_i (run_V (rest := []) hC (m6_refused l hw521) v6_6_refused h6_refused 0 5 gCl_X6 rfl rfl ⟨rfl, rfl, Nat.le_of_ble_eq_true rfl, Nat.le_of_ble_eq_true rfl⟩ ⟨Nat.le_refl _, Nat.le_refl _⟩ hP hD hS hl.1 (Nat.le_of_ble_eq_true rfl) dX6_aims_41 rfl) hS (fun r14 S15 H locs hw522 hP hD hS => ?_)
    exact rt_i hC hw522 hP hD hS dX6_aims_44
def j6_aims_26 (post : Int32 → MS → Prop) (tw : Option (Nat → Nat)) (S : MS) (x1 : Int32) (x2 : Int32) (x3 : Int32) : Prop :=
  (j6_aims_27 post tw S x1 x2 x3 0)
set_option maxHeartbeats 4000000 in
theorem k6_aims_26 {post : Int32 → MS → Prop} {S : MS} {x1 : Int32} {x2 : Int32} {x3 : Int32} (hC : CX RX6 cX6_aims 7 (some .int) D gCl nwG Z Hb A p s m args meth c) (hw : j6_aims_26 post tw S x1 x2 x3) : ∀ (H : Heap) (locs : List Loc) (ls : Array Slot), va_P D gCl (wM D ad none rdv tw S) H → va_D A (wM D ad none rdv tw S) → va_S A s.heap H locs → lv_has ls 7 [(0, .ref (ad 0)), (1, .int x1), (2, .int x2), (3, .int x3)] → W p l e ({ frames := 2, cells := 0, slots := 0, locals := 50 } : Room) s m args below meth c H locs 0 0 (MQ below (va_Qi post (BW D gCl A (fun u => (wM D ad none rdv tw u))) A) args s 0 0 A) (F0 m 26 ls [.ref (ad 0)]) := by
  intro H locs ls hP hD hS hl
  unfold j6_aims_26 at hw
  refine lv_iconst (v := 0) hC.x hC.b dX6_aims_26 (by decide) ?_
  exact k6_aims_27 hC hw H locs ls hP hD hS (lv_sub hl [0, 1, 2, 3] rfl)
def w6_aims (post : Int32 → MS → Prop) (tw : Option (Nat → Nat)) (S : MS) (x1 : Int32) (x2 : Int32) (x3 : Int32) : Prop :=
  (∀ S1, S1 = uI S 0 0 0 → (w6_isDead (fun r2 => ((r2 = 0 → (j6_aims_26 post tw S1 x1 x2 x3)) ∧ (¬ r2 = 0 → (w6_isPerson (fun r16 => ((r16 = 0 → (j6_aims_26 post tw S1 x1 x2 x3)) ∧ (¬ r16 = 0 → (j6_aims_27 post tw S1 x1 x2 x3 1)))) tw S1 x2)))) tw S1 x1))
set_option maxHeartbeats 4000000 in
theorem m6_aims (l : Launch) {post : Int32 → MS → Prop} {S : MS} {x1 : Int32} {x2 : Int32} {x3 : Int32} (hw : w6_aims post tw S x1 x2 x3) : Met l yX6_aims (ws_ yX6_aims cX6_aims 7 (some .int)) ({ frames := 2, cells := 0, slots := 0, locals := 50 } : Room) (va_Pc [.ref (ad 0), .int x1, .int x2, .int x3] (PcG D gCl nwG Z Hb A (wM D ad none rdv tw S))) (va_Qi post (BW D gCl A (fun u => (wM D ad none rdv tw u))) A) 0 0 A := by
  refine Met.ofG (by decide) (Nat.le_of_ble_eq_true rfl) ?_
  intro p e s m below meth c ls hC _ hP hD hS hl
  have hC : CX RX6 cX6_aims 7 (some .int) D gCl nwG Z Hb A p s m _ meth c := hC
  have hl : lv_has ls 7 [(0, .ref (ad 0)), (1, .int x1), (2, .int x2), (3, .int x3)] := hl
  unfold w6_aims at hw
  refine lv_aload_n hC.x hC.b dX6_aims_0 rfl (lv_at hl 0 rfl) ?_
  refine lv_iconst (v := 0) hC.x hC.b dX6_aims_1 (by decide) ?_
  refine pM_0 hC hP hD hS (v := 0) dX6_aims_2 (fun S1 eS1 H locs hP hD hS => ?_)
  have hw507 := hw S1 eS1
  refine lv_aload_n hC.x hC.b dX6_aims_5 rfl (lv_at hl 0 rfl) ?_
  refine lv_aload_n hC.x hC.b dX6_aims_6 rfl (lv_at hl 0 rfl) ?_
  refine lv_iload_n hC.x hC.b dX6_aims_7 rfl (lv_at hl 1 rfl) ?_
  refine go_i (run_V (rest := [.ref (ad 0)]) hC (m6_isDead l hw507) v6_6_isDead h6_isDead 0 5 gCl_X6 rfl rfl ⟨rfl, rfl, Nat.le_of_ble_eq_true rfl, Nat.le_of_ble_eq_true rfl⟩ ⟨Nat.le_refl _, Nat.le_refl _⟩ hP hD hS hl.1 (Nat.le_of_ble_eq_true rfl) dX6_aims_8 rfl) hS (fun r2 u H locs hw508 hP hD hS => ?_)
  refine lv_if_eq (tgt := 26) hC.x hC.b dX6_aims_11 (by decide) (fun c3 => ?_) (fun c3 => ?_)
  · have hw509 := hw508.1 c3
    exact k6_aims_26 hC hw509 H locs ls hP hD hS (lv_sub hl [0, 1, 2, 3] rfl)
  · have hw523 := hw508.2 c3
    refine lv_aload_n hC.x hC.b dX6_aims_14 rfl (lv_at hl 0 rfl) ?_
    refine lv_iload_n hC.x hC.b dX6_aims_15 rfl (lv_at hl 2 rfl) ?_
    refine go_i (run_V (rest := [.ref (ad 0)]) hC (m6_isPerson l hw523) v6_6_isPerson h6_isPerson 0 5 gCl_X6 rfl rfl ⟨rfl, rfl, Nat.le_of_ble_eq_true rfl, Nat.le_of_ble_eq_true rfl⟩ ⟨Nat.le_refl _, Nat.le_refl _⟩ hP hD hS hl.1 (Nat.le_of_ble_eq_true rfl) dX6_aims_16 rfl) hS (fun r16 u H locs hw524 hP hD hS => ?_)
    refine lv_if_eq (tgt := 26) hC.x hC.b dX6_aims_19 (by decide) (fun c17 => ?_) (fun c17 => ?_)
    · have hw525 := hw524.1 c17
      exact k6_aims_26 hC hw525 H locs ls hP hD hS (lv_sub hl [0, 1, 2, 3] rfl)
    · have hw526 := hw524.2 c17
      refine lv_iconst (v := 1) hC.x hC.b dX6_aims_22 (by decide) ?_
      refine lv_goto (tgt := 27) hC.x hC.b dX6_aims_23 (by decide) ?_
      exact k6_aims_27 hC hw526 H locs ls hP hD hS (lv_sub hl [0, 1, 2, 3] rfl)
theorem h6_mirrorFor : yX6_mirrorFor.cls = RX6 ∧ yX6_mirrorFor.cls ≠ "java/lang/invoke/MethodHandle" ∧ yX6_mirrorFor.cls ≠ "java/lang/invoke/VarHandle" ∧ (parseMethodDescriptor yX6_mirrorFor.desc).map (fun d => d.parameters.length) = some 2 := by decide +kernel
def f6_mirrorFor_33 (post : Int32 → MS → Prop) (tw : Option (Nat → Nat)) (x1 : Int32) (x2 : Int32) (K33 : (MS × Int32) → Prop) (S : MS) (x4 : Int32) : Prop :=
  ((∃ t, tw = some t) ∧ (((S.1 20 0) ≤ x4 → (w6_good (fun r8 S9 => (post r8 S9)) S (-2))) ∧ (¬ (S.1 20 0) ≤ x4 → (vp_in (12 + x1) 19 ∧ (∀ S10, S10 = uI S 3 (12 + x1).toNatClampNeg x4 → (w6_isRight (fun r11 => ((r11 = 0 → (K33 (S10, (x4 + 1)))) ∧ (¬ r11 = 0 → (w6_good (fun r13 S14 => (post r13 S14)) S10 x4)))) tw S10 x1 x2))))))
set_option maxHeartbeats 4000000 in
theorem k6_mirrorFor_33 {post : Int32 → MS → Prop} {x1 : Int32} {x2 : Int32} (hC : CX RX6 cX6_mirrorFor 5 (some .int) D gCl nwG Z Hb A p s m args meth c) : ∀ z : (MS × Int32), lp (fun (K : (MS × Int32) → Prop) (z : (MS × Int32)) => f6_mirrorFor_33 post tw x1 x2 K z.1 z.2) z → ∀ (H : Heap) (locs : List Loc) (ls : Array Slot), va_P D gCl (wM D ad none rdv tw z.1) H → va_D A (wM D ad none rdv tw z.1) → va_S A s.heap H locs → lv_has ls 5 [(0, .ref (ad 0)), (1, .int x1), (2, .int x2), (4, .int z.2)] → W p l e ({ frames := 4, cells := 0, slots := 0, locals := 94 } : Room) s m args below meth c H locs 0 0 (MQ below (va_Qi post (BW D gCl A (fun u => (wM D ad none rdv tw u))) A) args s 0 0 A) (F0 m 33 ls []) := by
  refine lp_ind ?_
  rintro K33 ⟨S, x4⟩ hK33 hw H locs ls hP hD hS hl
  have hw : f6_mirrorFor_33 post tw x1 x2 K33 S x4 := hw
  unfold f6_mirrorFor_33 at hw
  have hP : va_P D gCl (wM D ad none rdv tw S) H := hP
  have hD : va_D A (wM D ad none rdv tw S) := hD
  have hl : lv_has ls 5 [(0, .ref (ad 0)), (1, .int x1), (2, .int x2), (4, .int x4)] := hl
  refine lv_iload hC.x hC.b dX6_mirrorFor_33 (lv_at hl 3 rfl) ?_
  refine lv_aload_n hC.x hC.b dX6_mirrorFor_35 rfl (lv_at hl 0 rfl) ?_
  refine gM_3 hC hP dX6_mirrorFor_36 ?_
  obtain ⟨⟨t, rfl⟩, hw532⟩ := hw
  refine gT_0 hC hP dX6_mirrorFor_39 ?_
  refine lv_icmp_ge (tgt := 78) hC.x hC.b dX6_mirrorFor_42 (by decide) (fun c7 => ?_) (fun c7 => ?_)
  · have hw533 := hw532.1 c7
    refine lv_aload_n hC.x hC.b dX6_mirrorFor_78 rfl (lv_at hl 0 rfl) ?_
    refine lv_bipush (v := (-2)) hC.x hC.b dX6_mirrorFor_79 (by decide) ?_
    refine go_i (run_V (rest := []) hC (m6_good l hw533) v6_6_good h6_good 0 5 gCl_X6 rfl rfl ⟨rfl, rfl, Nat.le_of_ble_eq_true rfl, Nat.le_of_ble_eq_true rfl⟩ ⟨Nat.le_refl _, Nat.le_refl _⟩ hP hD hS hl.1 (Nat.le_of_ble_eq_true rfl) dX6_mirrorFor_81 rfl) hS (fun r8 S9 H locs hw534 hP hD hS => ?_)
    exact rt_i hC hw534 hP hD hS dX6_mirrorFor_84
  · have hw535 := hw532.2 c7
    refine lv_aload_n hC.x hC.b dX6_mirrorFor_45 rfl (lv_at hl 0 rfl) ?_
    refine gM_16 hC hP dX6_mirrorFor_46 ?_
    refine lv_bipush (v := 12) hC.x hC.b dX6_mirrorFor_49 (by decide) ?_
    refine lv_iload_n hC.x hC.b dX6_mirrorFor_51 rfl (lv_at hl 1 rfl) ?_
    refine lv_iadd hC.x hC.b dX6_mirrorFor_52 ?_
    refine lv_iload hC.x hC.b dX6_mirrorFor_53 (lv_at hl 3 rfl) ?_
    obtain ⟨hin, hw536⟩ := hw535
    refine sM_3 hC hP hD hS (v := x4) hin rfl dX6_mirrorFor_55 (fun S10 eS10 H locs hP hD hS => ?_)
    have hw537 := hw536 S10 eS10
    refine lv_aload_n hC.x hC.b dX6_mirrorFor_56 rfl (lv_at hl 0 rfl) ?_
    refine lv_iload_n hC.x hC.b dX6_mirrorFor_57 rfl (lv_at hl 1 rfl) ?_
    refine lv_iload_n hC.x hC.b dX6_mirrorFor_58 rfl (lv_at hl 2 rfl) ?_
    refine go_i (run_V (rest := []) hC (m6_isRight l hw537) v6_6_isRight h6_isRight 0 5 gCl_X6 rfl rfl ⟨rfl, rfl, Nat.le_of_ble_eq_true rfl, Nat.le_of_ble_eq_true rfl⟩ ⟨Nat.le_refl _, Nat.le_refl _⟩ hP hD hS hl.1 (Nat.le_of_ble_eq_true rfl) dX6_mirrorFor_59 rfl) hS (fun r11 u H locs hw538 hP hD hS => ?_)
    refine lv_if_eq (tgt := 72) hC.x hC.b dX6_mirrorFor_62 (by decide) (fun c12 => ?_) (fun c12 => ?_)
    · have hw539 := hw538.1 c12
      refine lv_iinc (v := (x4 + 1)) (lv' := [(4, .int (x4 + 1)), (0, .ref (ad 0)), (1, .int x1), (2, .int x2)]) hC.x hC.b dX6_mirrorFor_72 hl (k := 3) rfl rfl (by decide) rfl (fun ls hl => ?_)
      refine lv_goto (tgt := 33) hC.x hC.b dX6_mirrorFor_75 (by decide) ?_
      exact hK33 (S10, (x4 + 1)) hw539 H locs ls hP hD hS (lv_sub hl [1, 2, 3, 0] rfl)
    · have hw540 := hw538.2 c12
      refine lv_aload_n hC.x hC.b dX6_mirrorFor_65 rfl (lv_at hl 0 rfl) ?_
      refine lv_iload hC.x hC.b dX6_mirrorFor_66 (lv_at hl 3 rfl) ?_
      refine go_i (run_V (rest := []) hC (m6_good l hw540) v6_6_good h6_good 0 5 gCl_X6 rfl rfl ⟨rfl, rfl, Nat.le_of_ble_eq_true rfl, Nat.le_of_ble_eq_true rfl⟩ ⟨Nat.le_refl _, Nat.le_refl _⟩ hP hD hS hl.1 (Nat.le_of_ble_eq_true rfl) dX6_mirrorFor_68 rfl) hS (fun r13 S14 H locs hw541 hP hD hS => ?_)
      exact rt_i hC hw541 hP hD hS dX6_mirrorFor_71
def w6_mirrorFor (post : Int32 → MS → Prop) (tw : Option (Nat → Nat)) (S : MS) (x1 : Int32) (x2 : Int32) : Prop :=
  (∀ S1, S1 = uI S 0 0 0 → (w6_isDead (fun r2 => (w6_refusesNight (fun r3 => ((r3 ≤ 0 → (w6_works (fun S6 => (lp (fun (K : (MS × Int32) → Prop) (z : (MS × Int32)) => f6_mirrorFor_33 post tw x1 x2 K z.1 z.2) (S6, 0))) S1)) ∧ (¬ r3 ≤ 0 → (w6_refused (fun r15 S16 => (post r15 S16)) S1 r3)))) S1 r2 x2)) tw S1 x1))
set_option maxHeartbeats 4000000 in
theorem m6_mirrorFor (l : Launch) {post : Int32 → MS → Prop} {S : MS} {x1 : Int32} {x2 : Int32} (hw : w6_mirrorFor post tw S x1 x2) : Met l yX6_mirrorFor (ws_ yX6_mirrorFor cX6_mirrorFor 5 (some .int)) ({ frames := 4, cells := 0, slots := 0, locals := 94 } : Room) (va_Pc [.ref (ad 0), .int x1, .int x2] (PcG D gCl nwG Z Hb A (wM D ad none rdv tw S))) (va_Qi post (BW D gCl A (fun u => (wM D ad none rdv tw u))) A) 0 0 A := by
  refine Met.ofG (by decide) (Nat.le_of_ble_eq_true rfl) ?_
  intro p e s m below meth c ls hC _ hP hD hS hl
  have hC : CX RX6 cX6_mirrorFor 5 (some .int) D gCl nwG Z Hb A p s m _ meth c := hC
  have hl : lv_has ls 5 [(0, .ref (ad 0)), (1, .int x1), (2, .int x2)] := hl
  unfold w6_mirrorFor at hw
  refine lv_aload_n hC.x hC.b dX6_mirrorFor_0 rfl (lv_at hl 0 rfl) ?_
  refine lv_iconst (v := 0) hC.x hC.b dX6_mirrorFor_1 (by decide) ?_
  refine pM_0 hC hP hD hS (v := 0) dX6_mirrorFor_2 (fun S1 eS1 H locs hP hD hS => ?_)
  have hw527 := hw S1 eS1
  refine lv_aload_n hC.x hC.b dX6_mirrorFor_5 rfl (lv_at hl 0 rfl) ?_
  refine lv_aload_n hC.x hC.b dX6_mirrorFor_6 rfl (lv_at hl 0 rfl) ?_
  refine lv_iload_n hC.x hC.b dX6_mirrorFor_7 rfl (lv_at hl 1 rfl) ?_
  refine go_i (run_V (rest := [.ref (ad 0)]) hC (m6_isDead l hw527) v6_6_isDead h6_isDead 0 5 gCl_X6 rfl rfl ⟨rfl, rfl, Nat.le_of_ble_eq_true rfl, Nat.le_of_ble_eq_true rfl⟩ ⟨Nat.le_refl _, Nat.le_refl _⟩ hP hD hS hl.1 (Nat.le_of_ble_eq_true rfl) dX6_mirrorFor_8 rfl) hS (fun r2 u H locs hw528 hP hD hS => ?_)
  refine lv_iload_n hC.x hC.b dX6_mirrorFor_11 rfl (lv_at hl 2 rfl) ?_
  refine go_i (run_V (rest := []) hC (m6_refusesNight l hw528) v6_6_refusesNight h6_refusesNight 0 5 gCl_X6 rfl rfl ⟨rfl, rfl, Nat.le_of_ble_eq_true rfl, Nat.le_of_ble_eq_true rfl⟩ ⟨Nat.le_refl _, Nat.le_refl _⟩ hP hD hS hl.1 (Nat.le_of_ble_eq_true rfl) dX6_mirrorFor_12 rfl) hS (fun r3 u H locs hw529 hP hD hS => ?_)
  refine lv_istore_n (lv' := [(3, .int r3), (0, .ref (ad 0)), (1, .int x1), (2, .int x2)]) hC.x hC.b dX6_mirrorFor_15 rfl hl (by decide) rfl (fun ls hl => ?_)
  refine lv_iload_n hC.x hC.b dX6_mirrorFor_16 rfl (lv_at hl 0 rfl) ?_
  refine lv_if_le (tgt := 26) hC.x hC.b dX6_mirrorFor_17 (by decide) (fun c4 => ?_) (fun c4 => ?_)
  · have hw530 := hw529.1 c4
    refine lv_aload_n hC.x hC.b dX6_mirrorFor_26 rfl (lv_at hl 1 rfl) ?_
    refine go_v (run_V (rest := []) hC (m6_works l hw530) v6_6_works h6_works 0 5 gCl_X6 rfl rfl ⟨rfl, rfl, Nat.le_of_ble_eq_true rfl, Nat.le_of_ble_eq_true rfl⟩ ⟨Nat.le_refl _, Nat.le_refl _⟩ hP hD hS hl.1 (Nat.le_of_ble_eq_true rfl) dX6_mirrorFor_27 rfl) hS (fun S6 H locs hw531 hP hD hS => ?_)
    refine lv_iconst (v := 0) hC.x hC.b dX6_mirrorFor_30 (by decide) ?_
    refine lv_istore (lv' := [(4, .int 0), (3, .int r3), (0, .ref (ad 0)), (1, .int x1), (2, .int x2)]) hC.x hC.b dX6_mirrorFor_31 hl (by decide) rfl (fun ls hl => ?_)
    exact k6_mirrorFor_33 hC (S6, 0) hw531 H locs ls hP hD hS (lv_sub hl [2, 3, 4, 0] rfl)
  · have hw542 := hw529.2 c4
    refine lv_aload_n hC.x hC.b dX6_mirrorFor_20 rfl (lv_at hl 1 rfl) ?_
    refine lv_iload_n hC.x hC.b dX6_mirrorFor_21 rfl (lv_at hl 0 rfl) ?_
    refine go_i (run_V (rest := []) hC (m6_refused l hw542) v6_6_refused h6_refused 0 5 gCl_X6 rfl rfl ⟨rfl, rfl, Nat.le_of_ble_eq_true rfl, Nat.le_of_ble_eq_true rfl⟩ ⟨Nat.le_refl _, Nat.le_refl _⟩ hP hD hS hl.1 (Nat.le_of_ble_eq_true rfl) dX6_mirrorFor_22 rfl) hS (fun r15 S16 H locs hw543 hP hD hS => ?_)
    exact rt_i hC hw543 hP hD hS dX6_mirrorFor_25
theorem h6_mirrorBest : yX6_mirrorBest.cls = RX6 ∧ yX6_mirrorBest.cls ≠ "java/lang/invoke/MethodHandle" ∧ yX6_mirrorBest.cls ≠ "java/lang/invoke/VarHandle" ∧ (parseMethodDescriptor yX6_mirrorBest.desc).map (fun d => d.parameters.length) = some 1 := by decide +kernel
def f6_mirrorBest_59 (tw : Option (Nat → Nat)) (K30 : (MS × Int32 × Int32 × Int32) → Prop) (S : MS) (x1 : Int32) (x2 : Int32) (x3 : Int32) (x4 : Int32) (K59 : (Int32 × Int32) → Prop) (x5 : Int32) (x6 : Int32) : Prop :=
  ((100 ≤ x6 → ((x3 < x5 → (K30 (S, x4, x5, (x4 + 1)))) ∧ (¬ x3 < x5 → (K30 (S, x2, x3, (x4 + 1)))))) ∧ (¬ 100 ≤ x6 → (w6_isRight (fun r12 => ((r12 = 0 → (K59 ((x5 + 0), (x6 + 1)))) ∧ (¬ r12 = 0 → (K59 ((x5 + 1), (x6 + 1)))))) tw S x1 x6)))
set_option maxHeartbeats 4000000 in
theorem k6_mirrorBest_59 {post : Int32 → MS → Prop} {S : MS} {x1 : Int32} {x2 : Int32} {x3 : Int32} {x4 : Int32} {K30 : (MS × Int32 × Int32 × Int32) → Prop} (hC : CX RX6 cX6_mirrorBest 7 (some .int) D gCl nwG Z Hb A p s m args meth c) (hK30 : ∀ z : (MS × Int32 × Int32 × Int32), K30 z → ∀ (H : Heap) (locs : List Loc) (ls : Array Slot), va_P D gCl (wM D ad none rdv (some t) z.1) H → va_D A (wM D ad none rdv (some t) z.1) → va_S A s.heap H locs → lv_has ls 7 [(0, .ref (ad 0)), (1, .int x1), (2, .int z.2.1), (3, .int z.2.2.1), (4, .int z.2.2.2)] → W p l e ({ frames := 4, cells := 0, slots := 0, locals := 94 } : Room) s m args below meth c H locs 0 0 (MQ below (va_Qi post (BW D gCl A (fun u => (wM D ad none rdv (some t) u))) A) args s 0 0 A) (F0 m 30 ls [])) : ∀ z : (Int32 × Int32), lp (fun (K : (Int32 × Int32) → Prop) (z : (Int32 × Int32)) => f6_mirrorBest_59 (some t) K30 S x1 x2 x3 x4 K z.1 z.2) z → ∀ (H : Heap) (locs : List Loc) (ls : Array Slot), va_P D gCl (wM D ad none rdv (some t) S) H → va_D A (wM D ad none rdv (some t) S) → va_S A s.heap H locs → lv_has ls 7 [(0, .ref (ad 0)), (1, .int x1), (2, .int x2), (3, .int x3), (4, .int x4), (5, .int z.1), (6, .int z.2)] → W p l e ({ frames := 4, cells := 0, slots := 0, locals := 94 } : Room) s m args below meth c H locs 0 0 (MQ below (va_Qi post (BW D gCl A (fun u => (wM D ad none rdv (some t) u))) A) args s 0 0 A) (F0 m 59 ls []) := by
  refine lp_ind ?_
  rintro K59 ⟨x5, x6⟩ hK59 hw H locs ls hP hD hS hl
  have hw : f6_mirrorBest_59 (some t) K30 S x1 x2 x3 x4 K59 x5 x6 := hw
  unfold f6_mirrorBest_59 at hw
  have hP : va_P D gCl (wM D ad none rdv (some t) S) H := hP
  have hD : va_D A (wM D ad none rdv (some t) S) := hD
  have hl : lv_has ls 7 [(0, .ref (ad 0)), (1, .int x1), (2, .int x2), (3, .int x3), (4, .int x4), (5, .int x5), (6, .int x6)] := hl
  refine lv_iload hC.x hC.b dX6_mirrorBest_59 (lv_at hl 6 rfl) ?_
  refine lv_bipush (v := 100) hC.x hC.b dX6_mirrorBest_61 (by decide) ?_
  refine lv_icmp_ge (tgt := 92) hC.x hC.b dX6_mirrorBest_63 (by decide) (fun c10 => ?_) (fun c10 => ?_)
  · have hw554 := hw.1 c10
    refine lv_iload hC.x hC.b dX6_mirrorBest_92 (lv_at hl 5 rfl) ?_
    refine lv_iload_n hC.x hC.b dX6_mirrorBest_94 rfl (lv_at hl 3 rfl) ?_
    refine lv_icmp_gt (tgt := 101) hC.x hC.b dX6_mirrorBest_95 (by decide) (fun c11 => ?_) (fun c11 => ?_)
    · have hw555 := hw554.1 c11
      refine lv_iload hC.x hC.b dX6_mirrorBest_101 (lv_at hl 5 rfl) ?_
      refine lv_istore_n (lv' := [(3, .int x5), (0, .ref (ad 0)), (1, .int x1), (2, .int x2), (4, .int x4), (5, .int x5), (6, .int x6)]) hC.x hC.b dX6_mirrorBest_103 rfl hl (by decide) rfl (fun ls hl => ?_)
      refine lv_iload hC.x hC.b dX6_mirrorBest_104 (lv_at hl 4 rfl) ?_
      refine lv_istore_n (lv' := [(2, .int x4), (3, .int x5), (0, .ref (ad 0)), (1, .int x1), (4, .int x4), (5, .int x5), (6, .int x6)]) hC.x hC.b dX6_mirrorBest_106 rfl hl (by decide) rfl (fun ls hl => ?_)
      refine lv_iinc (v := (x4 + 1)) (lv' := [(4, .int (x4 + 1)), (2, .int x4), (3, .int x5), (0, .ref (ad 0)), (1, .int x1), (5, .int x5), (6, .int x6)]) hC.x hC.b dX6_mirrorBest_107 hl (k := 4) rfl rfl (by decide) rfl (fun ls hl => ?_)
      refine lv_goto (tgt := 30) hC.x hC.b dX6_mirrorBest_110 (by decide) ?_
      exact hK30 (S, x4, x5, (x4 + 1)) hw555 H locs ls hP hD hS (lv_sub hl [3, 4, 1, 2, 0] rfl)
    · have hw556 := hw554.2 c11
      refine lv_goto (tgt := 107) hC.x hC.b dX6_mirrorBest_98 (by decide) ?_
      refine lv_iinc (v := (x4 + 1)) (lv' := [(4, .int (x4 + 1)), (0, .ref (ad 0)), (1, .int x1), (2, .int x2), (3, .int x3), (5, .int x5), (6, .int x6)]) hC.x hC.b dX6_mirrorBest_107 hl (k := 4) rfl rfl (by decide) rfl (fun ls hl => ?_)
      refine lv_goto (tgt := 30) hC.x hC.b dX6_mirrorBest_110 (by decide) ?_
      exact hK30 (S, x2, x3, (x4 + 1)) hw556 H locs ls hP hD hS (lv_sub hl [1, 2, 3, 4, 0] rfl)
  · have hw557 := hw.2 c10
    refine lv_iload hC.x hC.b dX6_mirrorBest_66 (lv_at hl 5 rfl) ?_
    refine lv_aload_n hC.x hC.b dX6_mirrorBest_68 rfl (lv_at hl 0 rfl) ?_
    refine lv_iload_n hC.x hC.b dX6_mirrorBest_69 rfl (lv_at hl 1 rfl) ?_
    refine lv_iload hC.x hC.b dX6_mirrorBest_70 (lv_at hl 6 rfl) ?_
    refine go_i (run_V (rest := [.int x5]) hC (m6_isRight l hw557) v6_6_isRight h6_isRight 0 5 gCl_X6 rfl rfl ⟨rfl, rfl, Nat.le_of_ble_eq_true rfl, Nat.le_of_ble_eq_true rfl⟩ ⟨Nat.le_refl _, Nat.le_refl _⟩ hP hD hS hl.1 (Nat.le_of_ble_eq_true rfl) dX6_mirrorBest_72 rfl) hS (fun r12 u H locs hw558 hP hD hS => ?_)
    refine lv_if_eq (tgt := 82) hC.x hC.b dX6_mirrorBest_75 (by decide) (fun c13 => ?_) (fun c13 => ?_)
    · have hw559 := hw558.1 c13
      refine lv_iconst (v := 0) hC.x hC.b dX6_mirrorBest_82 (by decide) ?_
      refine lv_iadd hC.x hC.b dX6_mirrorBest_83 ?_
      refine lv_istore (lv' := [(5, .int (x5 + 0)), (0, .ref (ad 0)), (1, .int x1), (2, .int x2), (3, .int x3), (4, .int x4), (6, .int x6)]) hC.x hC.b dX6_mirrorBest_84 hl (by decide) rfl (fun ls hl => ?_)
      refine lv_iinc (v := (x6 + 1)) (lv' := [(6, .int (x6 + 1)), (5, .int (x5 + 0)), (0, .ref (ad 0)), (1, .int x1), (2, .int x2), (3, .int x3), (4, .int x4)]) hC.x hC.b dX6_mirrorBest_86 hl (k := 6) rfl rfl (by decide) rfl (fun ls hl => ?_)
      refine lv_goto (tgt := 59) hC.x hC.b dX6_mirrorBest_89 (by decide) ?_
      exact hK59 ((x5 + 0), (x6 + 1)) hw559 H locs ls hP hD hS (lv_sub hl [2, 3, 4, 5, 6, 1, 0] rfl)
    · have hw560 := hw558.2 c13
      refine lv_iconst (v := 1) hC.x hC.b dX6_mirrorBest_78 (by decide) ?_
      refine lv_goto (tgt := 83) hC.x hC.b dX6_mirrorBest_79 (by decide) ?_
      refine lv_iadd hC.x hC.b dX6_mirrorBest_83 ?_
      refine lv_istore (lv' := [(5, .int (x5 + 1)), (0, .ref (ad 0)), (1, .int x1), (2, .int x2), (3, .int x3), (4, .int x4), (6, .int x6)]) hC.x hC.b dX6_mirrorBest_84 hl (by decide) rfl (fun ls hl => ?_)
      refine lv_iinc (v := (x6 + 1)) (lv' := [(6, .int (x6 + 1)), (5, .int (x5 + 1)), (0, .ref (ad 0)), (1, .int x1), (2, .int x2), (3, .int x3), (4, .int x4)]) hC.x hC.b dX6_mirrorBest_86 hl (k := 6) rfl rfl (by decide) rfl (fun ls hl => ?_)
      refine lv_goto (tgt := 59) hC.x hC.b dX6_mirrorBest_89 (by decide) ?_
      exact hK59 ((x5 + 1), (x6 + 1)) hw560 H locs ls hP hD hS (lv_sub hl [2, 3, 4, 5, 6, 1, 0] rfl)
def f6_mirrorBest_30 (post : Int32 → MS → Prop) (tw : Option (Nat → Nat)) (x1 : Int32) (K30 : (MS × Int32 × Int32 × Int32) → Prop) (S : MS) (x2 : Int32) (x3 : Int32) (x4 : Int32) : Prop :=
  ((∃ t, tw = some t) ∧ (((S.1 20 0) ≤ x4 → (w6_good (fun r7 S8 => (post r7 S8)) S x2)) ∧ (¬ (S.1 20 0) ≤ x4 → (vp_in (12 + x1) 19 ∧ (∀ S9, S9 = uI S 3 (12 + x1).toNatClampNeg x4 → (lp (fun (K : (Int32 × Int32) → Prop) (z : (Int32 × Int32)) => f6_mirrorBest_59 tw K30 S9 x1 x2 x3 x4 K z.1 z.2) (0, 0)))))))
set_option maxHeartbeats 4000000 in
theorem k6_mirrorBest_30 {post : Int32 → MS → Prop} {x1 : Int32} (hC : CX RX6 cX6_mirrorBest 7 (some .int) D gCl nwG Z Hb A p s m args meth c) : ∀ z : (MS × Int32 × Int32 × Int32), lp (fun (K : (MS × Int32 × Int32 × Int32) → Prop) (z : (MS × Int32 × Int32 × Int32)) => f6_mirrorBest_30 post tw x1 K z.1 z.2.1 z.2.2.1 z.2.2.2) z → ∀ (H : Heap) (locs : List Loc) (ls : Array Slot), va_P D gCl (wM D ad none rdv tw z.1) H → va_D A (wM D ad none rdv tw z.1) → va_S A s.heap H locs → lv_has ls 7 [(0, .ref (ad 0)), (1, .int x1), (2, .int z.2.1), (3, .int z.2.2.1), (4, .int z.2.2.2)] → W p l e ({ frames := 4, cells := 0, slots := 0, locals := 94 } : Room) s m args below meth c H locs 0 0 (MQ below (va_Qi post (BW D gCl A (fun u => (wM D ad none rdv tw u))) A) args s 0 0 A) (F0 m 30 ls []) := by
  refine lp_ind ?_
  rintro K30 ⟨S, x2, x3, x4⟩ hK30 hw H locs ls hP hD hS hl
  have hw : f6_mirrorBest_30 post tw x1 K30 S x2 x3 x4 := hw
  unfold f6_mirrorBest_30 at hw
  have hP : va_P D gCl (wM D ad none rdv tw S) H := hP
  have hD : va_D A (wM D ad none rdv tw S) := hD
  have hl : lv_has ls 7 [(0, .ref (ad 0)), (1, .int x1), (2, .int x2), (3, .int x3), (4, .int x4)] := hl
  refine lv_iload hC.x hC.b dX6_mirrorBest_30 (lv_at hl 4 rfl) ?_
  refine lv_aload_n hC.x hC.b dX6_mirrorBest_32 rfl (lv_at hl 0 rfl) ?_
  refine gM_3 hC hP dX6_mirrorBest_33 ?_
  obtain ⟨⟨t, rfl⟩, hw548⟩ := hw
  refine gT_0 hC hP dX6_mirrorBest_36 ?_
  refine lv_icmp_ge (tgt := 113) hC.x hC.b dX6_mirrorBest_39 (by decide) (fun c6 => ?_) (fun c6 => ?_)
  · have hw549 := hw548.1 c6
    refine lv_aload_n hC.x hC.b dX6_mirrorBest_113 rfl (lv_at hl 0 rfl) ?_
    refine lv_iload_n hC.x hC.b dX6_mirrorBest_114 rfl (lv_at hl 2 rfl) ?_
    refine go_i (run_V (rest := []) hC (m6_good l hw549) v6_6_good h6_good 0 5 gCl_X6 rfl rfl ⟨rfl, rfl, Nat.le_of_ble_eq_true rfl, Nat.le_of_ble_eq_true rfl⟩ ⟨Nat.le_refl _, Nat.le_refl _⟩ hP hD hS hl.1 (Nat.le_of_ble_eq_true rfl) dX6_mirrorBest_115 rfl) hS (fun r7 S8 H locs hw550 hP hD hS => ?_)
    exact rt_i hC hw550 hP hD hS dX6_mirrorBest_118
  · have hw551 := hw548.2 c6
    refine lv_aload_n hC.x hC.b dX6_mirrorBest_42 rfl (lv_at hl 0 rfl) ?_
    refine gM_16 hC hP dX6_mirrorBest_43 ?_
    refine lv_bipush (v := 12) hC.x hC.b dX6_mirrorBest_46 (by decide) ?_
    refine lv_iload_n hC.x hC.b dX6_mirrorBest_48 rfl (lv_at hl 1 rfl) ?_
    refine lv_iadd hC.x hC.b dX6_mirrorBest_49 ?_
    refine lv_iload hC.x hC.b dX6_mirrorBest_50 (lv_at hl 4 rfl) ?_
    obtain ⟨hin, hw552⟩ := hw551
    refine sM_3 hC hP hD hS (v := x4) hin rfl dX6_mirrorBest_52 (fun S9 eS9 H locs hP hD hS => ?_)
    have hw553 := hw552 S9 eS9
    refine lv_iconst (v := 0) hC.x hC.b dX6_mirrorBest_53 (by decide) ?_
    refine lv_istore (lv' := [(5, .int 0), (0, .ref (ad 0)), (1, .int x1), (2, .int x2), (3, .int x3), (4, .int x4)]) hC.x hC.b dX6_mirrorBest_54 hl (by decide) rfl (fun ls hl => ?_)
    refine lv_iconst (v := 0) hC.x hC.b dX6_mirrorBest_56 (by decide) ?_
    refine lv_istore (lv' := [(6, .int 0), (5, .int 0), (0, .ref (ad 0)), (1, .int x1), (2, .int x2), (3, .int x3), (4, .int x4)]) hC.x hC.b dX6_mirrorBest_57 hl (by decide) rfl (fun ls hl => ?_)
    exact k6_mirrorBest_59 hC hK30 (0, 0) hw553 H locs ls hP hD hS (lv_sub hl [2, 3, 4, 5, 6, 1, 0] rfl)
def w6_mirrorBest (post : Int32 → MS → Prop) (tw : Option (Nat → Nat)) (S : MS) (x1 : Int32) : Prop :=
  (∀ S1, S1 = uI S 0 0 0 → (w6_isDead (fun r2 => ((¬ r2 = 0 → (w6_works (fun S5 => (lp (fun (K : (MS × Int32 × Int32 × Int32) → Prop) (z : (MS × Int32 × Int32 × Int32)) => f6_mirrorBest_30 post tw x1 K z.1 z.2.1 z.2.2.1 z.2.2.2) (S5, 0, (-1), 0))) S1)) ∧ (r2 = 0 → (w6_refused (fun r14 S15 => (post r14 S15)) S1 1)))) tw S1 x1))
set_option maxHeartbeats 4000000 in
theorem m6_mirrorBest (l : Launch) {post : Int32 → MS → Prop} {S : MS} {x1 : Int32} (hw : w6_mirrorBest post tw S x1) : Met l yX6_mirrorBest (ws_ yX6_mirrorBest cX6_mirrorBest 7 (some .int)) ({ frames := 4, cells := 0, slots := 0, locals := 94 } : Room) (va_Pc [.ref (ad 0), .int x1] (PcG D gCl nwG Z Hb A (wM D ad none rdv tw S))) (va_Qi post (BW D gCl A (fun u => (wM D ad none rdv tw u))) A) 0 0 A := by
  refine Met.ofG (by decide) (Nat.le_of_ble_eq_true rfl) ?_
  intro p e s m below meth c ls hC _ hP hD hS hl
  have hC : CX RX6 cX6_mirrorBest 7 (some .int) D gCl nwG Z Hb A p s m _ meth c := hC
  have hl : lv_has ls 7 [(0, .ref (ad 0)), (1, .int x1)] := hl
  unfold w6_mirrorBest at hw
  refine lv_aload_n hC.x hC.b dX6_mirrorBest_0 rfl (lv_at hl 0 rfl) ?_
  refine lv_iconst (v := 0) hC.x hC.b dX6_mirrorBest_1 (by decide) ?_
  refine pM_0 hC hP hD hS (v := 0) dX6_mirrorBest_2 (fun S1 eS1 H locs hP hD hS => ?_)
  have hw544 := hw S1 eS1
  refine lv_aload_n hC.x hC.b dX6_mirrorBest_5 rfl (lv_at hl 0 rfl) ?_
  refine lv_iload_n hC.x hC.b dX6_mirrorBest_6 rfl (lv_at hl 1 rfl) ?_
  refine go_i (run_V (rest := []) hC (m6_isDead l hw544) v6_6_isDead h6_isDead 0 5 gCl_X6 rfl rfl ⟨rfl, rfl, Nat.le_of_ble_eq_true rfl, Nat.le_of_ble_eq_true rfl⟩ ⟨Nat.le_refl _, Nat.le_refl _⟩ hP hD hS hl.1 (Nat.le_of_ble_eq_true rfl) dX6_mirrorBest_7 rfl) hS (fun r2 u H locs hw545 hP hD hS => ?_)
  refine lv_if_ne (tgt := 19) hC.x hC.b dX6_mirrorBest_10 (by decide) (fun c3 => ?_) (fun c3 => ?_)
  · have hw546 := hw545.1 c3
    refine lv_aload_n hC.x hC.b dX6_mirrorBest_19 rfl (lv_at hl 0 rfl) ?_
    refine go_v (run_V (rest := []) hC (m6_works l hw546) v6_6_works h6_works 0 5 gCl_X6 rfl rfl ⟨rfl, rfl, Nat.le_of_ble_eq_true rfl, Nat.le_of_ble_eq_true rfl⟩ ⟨Nat.le_refl _, Nat.le_refl _⟩ hP hD hS hl.1 (Nat.le_of_ble_eq_true rfl) dX6_mirrorBest_20 rfl) hS (fun S5 H locs hw547 hP hD hS => ?_)
    refine lv_iconst (v := 0) hC.x hC.b dX6_mirrorBest_23 (by decide) ?_
    refine lv_istore_n (lv' := [(2, .int 0), (0, .ref (ad 0)), (1, .int x1)]) hC.x hC.b dX6_mirrorBest_24 rfl hl (by decide) rfl (fun ls hl => ?_)
    refine lv_iconst (v := (-1)) hC.x hC.b dX6_mirrorBest_25 (by decide) ?_
    refine lv_istore_n (lv' := [(3, .int (-1)), (2, .int 0), (0, .ref (ad 0)), (1, .int x1)]) hC.x hC.b dX6_mirrorBest_26 rfl hl (by decide) rfl (fun ls hl => ?_)
    refine lv_iconst (v := 0) hC.x hC.b dX6_mirrorBest_27 (by decide) ?_
    refine lv_istore (lv' := [(4, .int 0), (3, .int (-1)), (2, .int 0), (0, .ref (ad 0)), (1, .int x1)]) hC.x hC.b dX6_mirrorBest_28 hl (by decide) rfl (fun ls hl => ?_)
    exact k6_mirrorBest_30 hC (S5, 0, (-1), 0) hw547 H locs ls hP hD hS (lv_sub hl [3, 4, 2, 1, 0] rfl)
  · have hw561 := hw545.2 c3
    refine lv_aload_n hC.x hC.b dX6_mirrorBest_13 rfl (lv_at hl 0 rfl) ?_
    refine lv_iconst (v := 1) hC.x hC.b dX6_mirrorBest_14 (by decide) ?_
    refine go_i (run_V (rest := []) hC (m6_refused l hw561) v6_6_refused h6_refused 0 5 gCl_X6 rfl rfl ⟨rfl, rfl, Nat.le_of_ble_eq_true rfl, Nat.le_of_ble_eq_true rfl⟩ ⟨Nat.le_refl _, Nat.le_refl _⟩ hP hD hS hl.1 (Nat.le_of_ble_eq_true rfl) dX6_mirrorBest_15 rfl) hS (fun r14 S15 H locs hw562 hP hD hS => ?_)
    exact rt_i hC hw562 hP hD hS dX6_mirrorBest_18
theorem h6_slipFor : yX6_slipFor.cls = RX6 ∧ yX6_slipFor.cls ≠ "java/lang/invoke/MethodHandle" ∧ yX6_slipFor.cls ≠ "java/lang/invoke/VarHandle" ∧ (parseMethodDescriptor yX6_slipFor.desc).map (fun d => d.parameters.length) = some 2 := by decide +kernel
def f6_slipFor_33 (post : Int32 → MS → Prop) (tw : Option (Nat → Nat)) (x1 : Int32) (x2 : Int32) (K33 : (MS × Int32) → Prop) (S : MS) (x4 : Int32) : Prop :=
  ((39 < x4 → (w6_good (fun r8 S9 => (post r8 S9)) S (-2))) ∧ (¬ 39 < x4 → (vp_in (6 + x1) 19 ∧ (∀ S10, S10 = uI S 3 (6 + x1).toNatClampNeg x4 → (w6_isRight (fun r11 => ((r11 = 0 → (K33 (S10, (x4 + 1)))) ∧ (¬ r11 = 0 → (w6_good (fun r13 S14 => (post r13 S14)) S10 x4)))) tw S10 x1 x2)))))
set_option maxHeartbeats 4000000 in
theorem k6_slipFor_33 {post : Int32 → MS → Prop} {x1 : Int32} {x2 : Int32} (hC : CX RX6 cX6_slipFor 5 (some .int) D gCl nwG Z Hb A p s m args meth c) : ∀ z : (MS × Int32), lp (fun (K : (MS × Int32) → Prop) (z : (MS × Int32)) => f6_slipFor_33 post tw x1 x2 K z.1 z.2) z → ∀ (H : Heap) (locs : List Loc) (ls : Array Slot), va_P D gCl (wM D ad none rdv tw z.1) H → va_D A (wM D ad none rdv tw z.1) → va_S A s.heap H locs → lv_has ls 5 [(0, .ref (ad 0)), (1, .int x1), (2, .int x2), (4, .int z.2)] → W p l e ({ frames := 4, cells := 0, slots := 0, locals := 94 } : Room) s m args below meth c H locs 0 0 (MQ below (va_Qi post (BW D gCl A (fun u => (wM D ad none rdv tw u))) A) args s 0 0 A) (F0 m 33 ls []) := by
  refine lp_ind ?_
  rintro K33 ⟨S, x4⟩ hK33 hw H locs ls hP hD hS hl
  have hw : f6_slipFor_33 post tw x1 x2 K33 S x4 := hw
  unfold f6_slipFor_33 at hw
  have hP : va_P D gCl (wM D ad none rdv tw S) H := hP
  have hD : va_D A (wM D ad none rdv tw S) := hD
  have hl : lv_has ls 5 [(0, .ref (ad 0)), (1, .int x1), (2, .int x2), (4, .int x4)] := hl
  refine lv_iload hC.x hC.b dX6_slipFor_33 (lv_at hl 3 rfl) ?_
  refine lv_bipush (v := 39) hC.x hC.b dX6_slipFor_35 (by decide) ?_
  refine lv_icmp_gt (tgt := 73) hC.x hC.b dX6_slipFor_37 (by decide) (fun c7 => ?_) (fun c7 => ?_)
  · have hw568 := hw.1 c7
    refine lv_aload_n hC.x hC.b dX6_slipFor_73 rfl (lv_at hl 0 rfl) ?_
    refine lv_bipush (v := (-2)) hC.x hC.b dX6_slipFor_74 (by decide) ?_
    refine go_i (run_V (rest := []) hC (m6_good l hw568) v6_6_good h6_good 0 5 gCl_X6 rfl rfl ⟨rfl, rfl, Nat.le_of_ble_eq_true rfl, Nat.le_of_ble_eq_true rfl⟩ ⟨Nat.le_refl _, Nat.le_refl _⟩ hP hD hS hl.1 (Nat.le_of_ble_eq_true rfl) dX6_slipFor_76 rfl) hS (fun r8 S9 H locs hw569 hP hD hS => ?_)
    exact rt_i hC hw569 hP hD hS dX6_slipFor_79
  · have hw570 := hw.2 c7
    refine lv_aload_n hC.x hC.b dX6_slipFor_40 rfl (lv_at hl 0 rfl) ?_
    refine gM_16 hC hP dX6_slipFor_41 ?_
    refine lv_bipush (v := 6) hC.x hC.b dX6_slipFor_44 (by decide) ?_
    refine lv_iload_n hC.x hC.b dX6_slipFor_46 rfl (lv_at hl 1 rfl) ?_
    refine lv_iadd hC.x hC.b dX6_slipFor_47 ?_
    refine lv_iload hC.x hC.b dX6_slipFor_48 (lv_at hl 3 rfl) ?_
    obtain ⟨hin, hw571⟩ := hw570
    refine sM_3 hC hP hD hS (v := x4) hin rfl dX6_slipFor_50 (fun S10 eS10 H locs hP hD hS => ?_)
    have hw572 := hw571 S10 eS10
    refine lv_aload_n hC.x hC.b dX6_slipFor_51 rfl (lv_at hl 0 rfl) ?_
    refine lv_iload_n hC.x hC.b dX6_slipFor_52 rfl (lv_at hl 1 rfl) ?_
    refine lv_iload_n hC.x hC.b dX6_slipFor_53 rfl (lv_at hl 2 rfl) ?_
    refine go_i (run_V (rest := []) hC (m6_isRight l hw572) v6_6_isRight h6_isRight 0 5 gCl_X6 rfl rfl ⟨rfl, rfl, Nat.le_of_ble_eq_true rfl, Nat.le_of_ble_eq_true rfl⟩ ⟨Nat.le_refl _, Nat.le_refl _⟩ hP hD hS hl.1 (Nat.le_of_ble_eq_true rfl) dX6_slipFor_54 rfl) hS (fun r11 u H locs hw573 hP hD hS => ?_)
    refine lv_if_eq (tgt := 67) hC.x hC.b dX6_slipFor_57 (by decide) (fun c12 => ?_) (fun c12 => ?_)
    · have hw574 := hw573.1 c12
      refine lv_iinc (v := (x4 + 1)) (lv' := [(4, .int (x4 + 1)), (0, .ref (ad 0)), (1, .int x1), (2, .int x2)]) hC.x hC.b dX6_slipFor_67 hl (k := 3) rfl rfl (by decide) rfl (fun ls hl => ?_)
      refine lv_goto (tgt := 33) hC.x hC.b dX6_slipFor_70 (by decide) ?_
      exact hK33 (S10, (x4 + 1)) hw574 H locs ls hP hD hS (lv_sub hl [1, 2, 3, 0] rfl)
    · have hw575 := hw573.2 c12
      refine lv_aload_n hC.x hC.b dX6_slipFor_60 rfl (lv_at hl 0 rfl) ?_
      refine lv_iload hC.x hC.b dX6_slipFor_61 (lv_at hl 3 rfl) ?_
      refine go_i (run_V (rest := []) hC (m6_good l hw575) v6_6_good h6_good 0 5 gCl_X6 rfl rfl ⟨rfl, rfl, Nat.le_of_ble_eq_true rfl, Nat.le_of_ble_eq_true rfl⟩ ⟨Nat.le_refl _, Nat.le_refl _⟩ hP hD hS hl.1 (Nat.le_of_ble_eq_true rfl) dX6_slipFor_63 rfl) hS (fun r13 S14 H locs hw576 hP hD hS => ?_)
      exact rt_i hC hw576 hP hD hS dX6_slipFor_66
def w6_slipFor (post : Int32 → MS → Prop) (tw : Option (Nat → Nat)) (S : MS) (x1 : Int32) (x2 : Int32) : Prop :=
  (∀ S1, S1 = uI S 0 0 0 → (w6_isDead (fun r2 => (w6_refusesNight (fun r3 => ((r3 ≤ 0 → (w6_works (fun S6 => (lp (fun (K : (MS × Int32) → Prop) (z : (MS × Int32)) => f6_slipFor_33 post tw x1 x2 K z.1 z.2) (S6, 0))) S1)) ∧ (¬ r3 ≤ 0 → (w6_refused (fun r15 S16 => (post r15 S16)) S1 r3)))) S1 r2 x2)) tw S1 x1))
set_option maxHeartbeats 4000000 in
theorem m6_slipFor (l : Launch) {post : Int32 → MS → Prop} {S : MS} {x1 : Int32} {x2 : Int32} (hw : w6_slipFor post tw S x1 x2) : Met l yX6_slipFor (ws_ yX6_slipFor cX6_slipFor 5 (some .int)) ({ frames := 4, cells := 0, slots := 0, locals := 94 } : Room) (va_Pc [.ref (ad 0), .int x1, .int x2] (PcG D gCl nwG Z Hb A (wM D ad none rdv tw S))) (va_Qi post (BW D gCl A (fun u => (wM D ad none rdv tw u))) A) 0 0 A := by
  refine Met.ofG (by decide) (Nat.le_of_ble_eq_true rfl) ?_
  intro p e s m below meth c ls hC _ hP hD hS hl
  have hC : CX RX6 cX6_slipFor 5 (some .int) D gCl nwG Z Hb A p s m _ meth c := hC
  have hl : lv_has ls 5 [(0, .ref (ad 0)), (1, .int x1), (2, .int x2)] := hl
  unfold w6_slipFor at hw
  refine lv_aload_n hC.x hC.b dX6_slipFor_0 rfl (lv_at hl 0 rfl) ?_
  refine lv_iconst (v := 0) hC.x hC.b dX6_slipFor_1 (by decide) ?_
  refine pM_0 hC hP hD hS (v := 0) dX6_slipFor_2 (fun S1 eS1 H locs hP hD hS => ?_)
  have hw563 := hw S1 eS1
  refine lv_aload_n hC.x hC.b dX6_slipFor_5 rfl (lv_at hl 0 rfl) ?_
  refine lv_aload_n hC.x hC.b dX6_slipFor_6 rfl (lv_at hl 0 rfl) ?_
  refine lv_iload_n hC.x hC.b dX6_slipFor_7 rfl (lv_at hl 1 rfl) ?_
  refine go_i (run_V (rest := [.ref (ad 0)]) hC (m6_isDead l hw563) v6_6_isDead h6_isDead 0 5 gCl_X6 rfl rfl ⟨rfl, rfl, Nat.le_of_ble_eq_true rfl, Nat.le_of_ble_eq_true rfl⟩ ⟨Nat.le_refl _, Nat.le_refl _⟩ hP hD hS hl.1 (Nat.le_of_ble_eq_true rfl) dX6_slipFor_8 rfl) hS (fun r2 u H locs hw564 hP hD hS => ?_)
  refine lv_iload_n hC.x hC.b dX6_slipFor_11 rfl (lv_at hl 2 rfl) ?_
  refine go_i (run_V (rest := []) hC (m6_refusesNight l hw564) v6_6_refusesNight h6_refusesNight 0 5 gCl_X6 rfl rfl ⟨rfl, rfl, Nat.le_of_ble_eq_true rfl, Nat.le_of_ble_eq_true rfl⟩ ⟨Nat.le_refl _, Nat.le_refl _⟩ hP hD hS hl.1 (Nat.le_of_ble_eq_true rfl) dX6_slipFor_12 rfl) hS (fun r3 u H locs hw565 hP hD hS => ?_)
  refine lv_istore_n (lv' := [(3, .int r3), (0, .ref (ad 0)), (1, .int x1), (2, .int x2)]) hC.x hC.b dX6_slipFor_15 rfl hl (by decide) rfl (fun ls hl => ?_)
  refine lv_iload_n hC.x hC.b dX6_slipFor_16 rfl (lv_at hl 0 rfl) ?_
  refine lv_if_le (tgt := 26) hC.x hC.b dX6_slipFor_17 (by decide) (fun c4 => ?_) (fun c4 => ?_)
  · have hw566 := hw565.1 c4
    refine lv_aload_n hC.x hC.b dX6_slipFor_26 rfl (lv_at hl 1 rfl) ?_
    refine go_v (run_V (rest := []) hC (m6_works l hw566) v6_6_works h6_works 0 5 gCl_X6 rfl rfl ⟨rfl, rfl, Nat.le_of_ble_eq_true rfl, Nat.le_of_ble_eq_true rfl⟩ ⟨Nat.le_refl _, Nat.le_refl _⟩ hP hD hS hl.1 (Nat.le_of_ble_eq_true rfl) dX6_slipFor_27 rfl) hS (fun S6 H locs hw567 hP hD hS => ?_)
    refine lv_iconst (v := 0) hC.x hC.b dX6_slipFor_30 (by decide) ?_
    refine lv_istore (lv' := [(4, .int 0), (3, .int r3), (0, .ref (ad 0)), (1, .int x1), (2, .int x2)]) hC.x hC.b dX6_slipFor_31 hl (by decide) rfl (fun ls hl => ?_)
    exact k6_slipFor_33 hC (S6, 0) hw567 H locs ls hP hD hS (lv_sub hl [2, 3, 4, 0] rfl)
  · have hw577 := hw565.2 c4
    refine lv_aload_n hC.x hC.b dX6_slipFor_20 rfl (lv_at hl 1 rfl) ?_
    refine lv_iload_n hC.x hC.b dX6_slipFor_21 rfl (lv_at hl 0 rfl) ?_
    refine go_i (run_V (rest := []) hC (m6_refused l hw577) v6_6_refused h6_refused 0 5 gCl_X6 rfl rfl ⟨rfl, rfl, Nat.le_of_ble_eq_true rfl, Nat.le_of_ble_eq_true rfl⟩ ⟨Nat.le_refl _, Nat.le_refl _⟩ hP hD hS hl.1 (Nat.le_of_ble_eq_true rfl) dX6_slipFor_22 rfl) hS (fun r15 S16 H locs hw578 hP hD hS => ?_)
    exact rt_i hC hw578 hP hD hS dX6_slipFor_25
theorem h6_frees : yX6_frees.cls = RX6 ∧ yX6_frees.cls ≠ "java/lang/invoke/MethodHandle" ∧ yX6_frees.cls ≠ "java/lang/invoke/VarHandle" ∧ (parseMethodDescriptor yX6_frees.desc).map (fun d => d.parameters.length) = some 0 := by decide +kernel
def f6_frees_15 (K2 : (MS × Int32) → Prop) (x1 : Int32) (K15 : (MS × Int32) → Prop) (S : MS) (x2 : Int32) : Prop :=
  ((x2 ≤ 0 → (vp_in x1 19 ∧ (vp_in x2 6 ∧ (∀ S3, S3 = uI S 6 x2.toNatClampNeg (S.1 2 x1.toNatClampNeg) → (K2 (S3, (x1 + 1))))))) ∧ (¬ x2 ≤ 0 → (vp_in (x2 - 1) 6 ∧ (vp_in x1 19 ∧ (((S.1 6 (x2 - 1).toNatClampNeg) ≤ (S.1 2 x1.toNatClampNeg) → (vp_in x1 19 ∧ (vp_in x2 6 ∧ (∀ S5, S5 = uI S 6 x2.toNatClampNeg (S.1 2 x1.toNatClampNeg) → (K2 (S5, (x1 + 1))))))) ∧ (¬ (S.1 6 (x2 - 1).toNatClampNeg) ≤ (S.1 2 x1.toNatClampNeg) → (vp_in (x2 - 1) 6 ∧ (vp_in x2 6 ∧ (∀ S6, S6 = uI S 6 x2.toNatClampNeg (S.1 6 (x2 - 1).toNatClampNeg) → (K15 (S6, (x2 + (-1)))))))))))))
set_option maxHeartbeats 4000000 in
theorem k6_frees_15 {post : MS → Prop} {x1 : Int32} {K2 : (MS × Int32) → Prop} (hC : CX RX6 cX6_frees 3 none D gCl nwG Z Hb A p s m args meth c) (hK2 : ∀ z : (MS × Int32), K2 z → ∀ (H : Heap) (locs : List Loc) (ls : Array Slot), va_P D gCl (wM D ad none rdv (some t) z.1) H → va_D A (wM D ad none rdv (some t) z.1) → va_S A s.heap H locs → lv_has ls 3 [(0, .ref (ad 0)), (1, .int z.2)] → W p l e ({ frames := 0, cells := 0, slots := 0, locals := 0 } : Room) s m args below meth c H locs 0 0 (MQ below (va_Qv post (BW D gCl A (fun u => (wM D ad none rdv (some t) u))) A) args s 0 0 A) (F0 m 2 ls [])) : ∀ z : (MS × Int32), lp (fun (K : (MS × Int32) → Prop) (z : (MS × Int32)) => f6_frees_15 K2 x1 K z.1 z.2) z → ∀ (H : Heap) (locs : List Loc) (ls : Array Slot), va_P D gCl (wM D ad none rdv (some t) z.1) H → va_D A (wM D ad none rdv (some t) z.1) → va_S A s.heap H locs → lv_has ls 3 [(0, .ref (ad 0)), (1, .int x1), (2, .int z.2)] → W p l e ({ frames := 0, cells := 0, slots := 0, locals := 0 } : Room) s m args below meth c H locs 0 0 (MQ below (va_Qv post (BW D gCl A (fun u => (wM D ad none rdv (some t) u))) A) args s 0 0 A) (F0 m 15 ls []) := by
  refine lp_ind ?_
  rintro K15 ⟨S, x2⟩ hK15 hw H locs ls hP hD hS hl
  have hw : f6_frees_15 K2 x1 K15 S x2 := hw
  unfold f6_frees_15 at hw
  have hP : va_P D gCl (wM D ad none rdv (some t) S) H := hP
  have hD : va_D A (wM D ad none rdv (some t) S) := hD
  have hl : lv_has ls 3 [(0, .ref (ad 0)), (1, .int x1), (2, .int x2)] := hl
  refine lv_iload_n hC.x hC.b dX6_frees_15 rfl (lv_at hl 2 rfl) ?_
  refine lv_if_le (tgt := 56) hC.x hC.b dX6_frees_16 (by decide) (fun c2 => ?_) (fun c2 => ?_)
  · have hw582 := hw.1 c2
    refine lv_aload_n hC.x hC.b dX6_frees_56 rfl (lv_at hl 0 rfl) ?_
    refine gM_21 hC hP dX6_frees_57 ?_
    refine lv_iload_n hC.x hC.b dX6_frees_60 rfl (lv_at hl 2 rfl) ?_
    refine lv_aload_n hC.x hC.b dX6_frees_61 rfl (lv_at hl 0 rfl) ?_
    refine gM_15 hC hP dX6_frees_62 ?_
    refine lv_iload_n hC.x hC.b dX6_frees_65 rfl (lv_at hl 1 rfl) ?_
    obtain ⟨hin, hw583⟩ := hw582
    refine lM_2 hC hP hin rfl dX6_frees_66 ?_
    obtain ⟨hin, hw584⟩ := hw583
    refine sM_6 hC hP hD hS (v := (S.1 2 x1.toNatClampNeg)) hin rfl dX6_frees_67 (fun S3 eS3 H locs hP hD hS => ?_)
    have hw585 := hw584 S3 eS3
    refine lv_iinc (v := (x1 + 1)) (lv' := [(1, .int (x1 + 1)), (0, .ref (ad 0)), (2, .int x2)]) hC.x hC.b dX6_frees_68 hl (k := 1) rfl rfl (by decide) rfl (fun ls hl => ?_)
    refine lv_goto (tgt := 2) hC.x hC.b dX6_frees_71 (by decide) ?_
    exact hK2 (S3, (x1 + 1)) hw585 H locs ls hP hD hS (lv_sub hl [1, 0] rfl)
  · have hw586 := hw.2 c2
    refine lv_aload_n hC.x hC.b dX6_frees_19 rfl (lv_at hl 0 rfl) ?_
    refine gM_21 hC hP dX6_frees_20 ?_
    refine lv_iload_n hC.x hC.b dX6_frees_23 rfl (lv_at hl 2 rfl) ?_
    refine lv_iconst (v := 1) hC.x hC.b dX6_frees_24 (by decide) ?_
    refine lv_isub hC.x hC.b dX6_frees_25 ?_
    obtain ⟨hin, hw587⟩ := hw586
    refine lM_6 hC hP hin rfl dX6_frees_26 ?_
    refine lv_aload_n hC.x hC.b dX6_frees_27 rfl (lv_at hl 0 rfl) ?_
    refine gM_15 hC hP dX6_frees_28 ?_
    refine lv_iload_n hC.x hC.b dX6_frees_31 rfl (lv_at hl 1 rfl) ?_
    obtain ⟨hin, hw588⟩ := hw587
    refine lM_2 hC hP hin rfl dX6_frees_32 ?_
    refine lv_icmp_le (tgt := 56) hC.x hC.b dX6_frees_33 (by decide) (fun c4 => ?_) (fun c4 => ?_)
    · have hw589 := hw588.1 c4
      refine lv_aload_n hC.x hC.b dX6_frees_56 rfl (lv_at hl 0 rfl) ?_
      refine gM_21 hC hP dX6_frees_57 ?_
      refine lv_iload_n hC.x hC.b dX6_frees_60 rfl (lv_at hl 2 rfl) ?_
      refine lv_aload_n hC.x hC.b dX6_frees_61 rfl (lv_at hl 0 rfl) ?_
      refine gM_15 hC hP dX6_frees_62 ?_
      refine lv_iload_n hC.x hC.b dX6_frees_65 rfl (lv_at hl 1 rfl) ?_
      obtain ⟨hin, hw590⟩ := hw589
      refine lM_2 hC hP hin rfl dX6_frees_66 ?_
      obtain ⟨hin, hw591⟩ := hw590
      refine sM_6 hC hP hD hS (v := (S.1 2 x1.toNatClampNeg)) hin rfl dX6_frees_67 (fun S5 eS5 H locs hP hD hS => ?_)
      have hw592 := hw591 S5 eS5
      refine lv_iinc (v := (x1 + 1)) (lv' := [(1, .int (x1 + 1)), (0, .ref (ad 0)), (2, .int x2)]) hC.x hC.b dX6_frees_68 hl (k := 1) rfl rfl (by decide) rfl (fun ls hl => ?_)
      refine lv_goto (tgt := 2) hC.x hC.b dX6_frees_71 (by decide) ?_
      exact hK2 (S5, (x1 + 1)) hw592 H locs ls hP hD hS (lv_sub hl [1, 0] rfl)
    · have hw593 := hw588.2 c4
      refine lv_aload_n hC.x hC.b dX6_frees_36 rfl (lv_at hl 0 rfl) ?_
      refine gM_21 hC hP dX6_frees_37 ?_
      refine lv_iload_n hC.x hC.b dX6_frees_40 rfl (lv_at hl 2 rfl) ?_
      refine lv_aload_n hC.x hC.b dX6_frees_41 rfl (lv_at hl 0 rfl) ?_
      refine gM_21 hC hP dX6_frees_42 ?_
      refine lv_iload_n hC.x hC.b dX6_frees_45 rfl (lv_at hl 2 rfl) ?_
      refine lv_iconst (v := 1) hC.x hC.b dX6_frees_46 (by decide) ?_
      refine lv_isub hC.x hC.b dX6_frees_47 ?_
      obtain ⟨hin, hw594⟩ := hw593
      refine lM_6 hC hP hin rfl dX6_frees_48 ?_
      obtain ⟨hin, hw595⟩ := hw594
      refine sM_6 hC hP hD hS (v := (S.1 6 (x2 - 1).toNatClampNeg)) hin rfl dX6_frees_49 (fun S6 eS6 H locs hP hD hS => ?_)
      have hw596 := hw595 S6 eS6
      refine lv_iinc (v := (x2 + (-1))) (lv' := [(2, .int (x2 + (-1))), (0, .ref (ad 0)), (1, .int x1)]) hC.x hC.b dX6_frees_50 hl (k := 2) rfl rfl (by decide) rfl (fun ls hl => ?_)
      refine lv_goto (tgt := 15) hC.x hC.b dX6_frees_53 (by decide) ?_
      exact hK15 (S6, (x2 + (-1))) hw596 H locs ls hP hD hS (lv_sub hl [1, 2, 0] rfl)
def f6_frees_2 (post : MS → Prop) (tw : Option (Nat → Nat)) (K2 : (MS × Int32) → Prop) (S : MS) (x1 : Int32) : Prop :=
  ((∃ t, tw = some t) ∧ (((S.1 20 2) ≤ x1 → (post S)) ∧ (¬ (S.1 20 2) ≤ x1 → (lp (fun (K : (MS × Int32) → Prop) (z : (MS × Int32)) => f6_frees_15 K2 x1 K z.1 z.2) (S, x1)))))
set_option maxHeartbeats 4000000 in
theorem k6_frees_2 {post : MS → Prop} (hC : CX RX6 cX6_frees 3 none D gCl nwG Z Hb A p s m args meth c) : ∀ z : (MS × Int32), lp (fun (K : (MS × Int32) → Prop) (z : (MS × Int32)) => f6_frees_2 post tw K z.1 z.2) z → ∀ (H : Heap) (locs : List Loc) (ls : Array Slot), va_P D gCl (wM D ad none rdv tw z.1) H → va_D A (wM D ad none rdv tw z.1) → va_S A s.heap H locs → lv_has ls 3 [(0, .ref (ad 0)), (1, .int z.2)] → W p l e ({ frames := 0, cells := 0, slots := 0, locals := 0 } : Room) s m args below meth c H locs 0 0 (MQ below (va_Qv post (BW D gCl A (fun u => (wM D ad none rdv tw u))) A) args s 0 0 A) (F0 m 2 ls []) := by
  refine lp_ind ?_
  rintro K2 ⟨S, x1⟩ hK2 hw H locs ls hP hD hS hl
  have hw : f6_frees_2 post tw K2 S x1 := hw
  unfold f6_frees_2 at hw
  have hP : va_P D gCl (wM D ad none rdv tw S) H := hP
  have hD : va_D A (wM D ad none rdv tw S) := hD
  have hl : lv_has ls 3 [(0, .ref (ad 0)), (1, .int x1)] := hl
  refine lv_iload_n hC.x hC.b dX6_frees_2 rfl (lv_at hl 1 rfl) ?_
  refine lv_aload_n hC.x hC.b dX6_frees_3 rfl (lv_at hl 0 rfl) ?_
  refine gM_3 hC hP dX6_frees_4 ?_
  obtain ⟨⟨t, rfl⟩, hw579⟩ := hw
  refine gT_2 hC hP dX6_frees_7 ?_
  refine lv_icmp_ge (tgt := 74) hC.x hC.b dX6_frees_10 (by decide) (fun c1 => ?_) (fun c1 => ?_)
  · have hw580 := hw579.1 c1
    exact rt_v hC hw580 hP hD hS dX6_frees_74
  · have hw581 := hw579.2 c1
    refine lv_iload_n hC.x hC.b dX6_frees_13 rfl (lv_at hl 1 rfl) ?_
    refine lv_istore_n (lv' := [(2, .int x1), (0, .ref (ad 0)), (1, .int x1)]) hC.x hC.b dX6_frees_14 rfl hl (by decide) rfl (fun ls hl => ?_)
    exact k6_frees_15 hC hK2 (S, x1) hw581 H locs ls hP hD hS (lv_sub hl [1, 2, 0] rfl)
def w6_frees (post : MS → Prop) (tw : Option (Nat → Nat)) (S : MS) : Prop :=
  (lp (fun (K : (MS × Int32) → Prop) (z : (MS × Int32)) => f6_frees_2 post tw K z.1 z.2) (S, 0))
set_option maxHeartbeats 4000000 in
theorem m6_frees (l : Launch) {post : MS → Prop} {S : MS} (hw : w6_frees post tw S) : Met l yX6_frees (ws_ yX6_frees cX6_frees 3 none) ({ frames := 0, cells := 0, slots := 0, locals := 0 } : Room) (va_Pc [.ref (ad 0)] (PcG D gCl nwG Z Hb A (wM D ad none rdv tw S))) (va_Qv post (BW D gCl A (fun u => (wM D ad none rdv tw u))) A) 0 0 A := by
  refine Met.ofG (by decide) (Nat.le_of_ble_eq_true rfl) ?_
  intro p e s m below meth c ls hC _ hP hD hS hl
  have hC : CX RX6 cX6_frees 3 none D gCl nwG Z Hb A p s m _ meth c := hC
  have hl : lv_has ls 3 [(0, .ref (ad 0))] := hl
  unfold w6_frees at hw
  refine lv_iconst (v := 0) hC.x hC.b dX6_frees_0 (by decide) ?_
  refine lv_istore_n (lv' := [(1, .int 0), (0, .ref (ad 0))]) hC.x hC.b dX6_frees_1 rfl hl (by decide) rfl (fun ls hl => ?_)
  exact k6_frees_2 hC (S, 0) hw s.heap [] ls hP hD hS (lv_sub hl [1, 0] rfl)
theorem h6_seats : yX6_seats.cls = RX6 ∧ yX6_seats.cls ≠ "java/lang/invoke/MethodHandle" ∧ yX6_seats.cls ≠ "java/lang/invoke/VarHandle" ∧ (parseMethodDescriptor yX6_seats.desc).map (fun d => d.parameters.length) = some 1 := by decide +kernel
def j6_seats_109 (K95 : (Int32 × Int32) → Prop) (x3 : Int32) (x6 : Int32) (x7 : Int32) : Prop :=
  (w6_bit (fun r6 => ((r6 = 0 → (K95 ((x6 - 1), (x7 + 1)))) ∧ (¬ r6 = 0 → (K95 ((x6 - 0), (x7 + 1)))))) x3 x7)
set_option maxHeartbeats 4000000 in
theorem k6_seats_109 {post : MS → Prop} {S : MS} {x2 : Int32} {x3 : Int32} {x4 : Int32} {x5 : Int32} {x6 : Int32} {x7 : Int32} {K95 : (Int32 × Int32) → Prop} (hC : CX RX6 cX6_seats 8 none D gCl nwG Z Hb A p s m args meth c) (hK95 : ∀ z : (Int32 × Int32), K95 z → ∀ (H : Heap) (locs : List Loc) (ls : Array Slot), va_P D gCl (wM D ad none rdv (some t) S) H → va_D A (wM D ad none rdv (some t) S) → va_S A s.heap H locs → lv_has ls 8 [(0, .ref (ad 0)), (2, .int x2), (3, .int x3), (4, .int x4), (5, .int x5), (6, .int z.1), (7, .int z.2)] → W p l e ({ frames := 1, cells := 0, slots := 0, locals := 21 } : Room) s m args below meth c H locs 0 0 (MQ below (va_Qv post (BW D gCl A (fun u => (wM D ad none rdv (some t) u))) A) args s 0 0 A) (F0 m 95 ls [])) (hw : j6_seats_109 K95 x3 x6 x7) : ∀ (H : Heap) (locs : List Loc) (ls : Array Slot), va_P D gCl (wM D ad none rdv (some t) S) H → va_D A (wM D ad none rdv (some t) S) → va_S A s.heap H locs → lv_has ls 8 [(0, .ref (ad 0)), (2, .int x2), (3, .int x3), (4, .int x4), (5, .int x5), (6, .int x6), (7, .int x7)] → W p l e ({ frames := 1, cells := 0, slots := 0, locals := 21 } : Room) s m args below meth c H locs 0 0 (MQ below (va_Qv post (BW D gCl A (fun u => (wM D ad none rdv (some t) u))) A) args s 0 0 A) (F0 m 109 ls []) := by
  intro H locs ls hP hD hS hl
  unfold j6_seats_109 at hw
  refine lv_iload hC.x hC.b dX6_seats_109 (lv_at hl 5 rfl) ?_
  refine lv_iload_n hC.x hC.b dX6_seats_111 rfl (lv_at hl 2 rfl) ?_
  refine lv_iload hC.x hC.b dX6_seats_112 (lv_at hl 6 rfl) ?_
  refine go_i (run_S (rest := [.int x6]) hC (m6_bit l hw) v6_6_bit h6_bit ⟨rfl, rfl, Nat.le_of_ble_eq_true rfl, Nat.le_of_ble_eq_true rfl⟩ ⟨Nat.le_refl _, Nat.le_refl _⟩ hP hD hS hl.1 (Nat.le_of_ble_eq_true rfl) dX6_seats_114 rfl) hS (fun r6 u H locs hw606 hP hD hS => ?_)
  refine lv_if_eq (tgt := 124) hC.x hC.b dX6_seats_117 (by decide) (fun c7 => ?_) (fun c7 => ?_)
  · have hw607 := hw606.1 c7
    refine lv_iconst (v := 1) hC.x hC.b dX6_seats_124 (by decide) ?_
    refine lv_isub hC.x hC.b dX6_seats_125 ?_
    refine lv_istore (lv' := [(6, .int (x6 - 1)), (0, .ref (ad 0)), (2, .int x2), (3, .int x3), (4, .int x4), (5, .int x5), (7, .int x7)]) hC.x hC.b dX6_seats_126 hl (by decide) rfl (fun ls hl => ?_)
    refine lv_iinc (v := (x7 + 1)) (lv' := [(7, .int (x7 + 1)), (6, .int (x6 - 1)), (0, .ref (ad 0)), (2, .int x2), (3, .int x3), (4, .int x4), (5, .int x5)]) hC.x hC.b dX6_seats_128 hl (k := 6) rfl rfl (by decide) rfl (fun ls hl => ?_)
    refine lv_goto (tgt := 95) hC.x hC.b dX6_seats_131 (by decide) ?_
    exact hK95 ((x6 - 1), (x7 + 1)) hw607 H locs ls hP hD hS (lv_sub hl [2, 3, 4, 5, 6, 1, 0] rfl)
  · have hw608 := hw606.2 c7
    refine lv_iconst (v := 0) hC.x hC.b dX6_seats_120 (by decide) ?_
    refine lv_goto (tgt := 125) hC.x hC.b dX6_seats_121 (by decide) ?_
    refine lv_isub hC.x hC.b dX6_seats_125 ?_
    refine lv_istore (lv' := [(6, .int (x6 - 0)), (0, .ref (ad 0)), (2, .int x2), (3, .int x3), (4, .int x4), (5, .int x5), (7, .int x7)]) hC.x hC.b dX6_seats_126 hl (by decide) rfl (fun ls hl => ?_)
    refine lv_iinc (v := (x7 + 1)) (lv' := [(7, .int (x7 + 1)), (6, .int (x6 - 0)), (0, .ref (ad 0)), (2, .int x2), (3, .int x3), (4, .int x4), (5, .int x5)]) hC.x hC.b dX6_seats_128 hl (k := 6) rfl rfl (by decide) rfl (fun ls hl => ?_)
    refine lv_goto (tgt := 95) hC.x hC.b dX6_seats_131 (by decide) ?_
    exact hK95 ((x6 - 0), (x7 + 1)) hw608 H locs ls hP hD hS (lv_sub hl [2, 3, 4, 5, 6, 1, 0] rfl)
def f6_seats_95 (K38 : (MS × Int32 × Int32 × Int32 × Int32) → Prop) (S : MS) (x2 : Int32) (x3 : Int32) (x4 : Int32) (x5 : Int32) (K95 : (Int32 × Int32) → Prop) (x6 : Int32) (x7 : Int32) : Prop :=
  (w6_bit (fun r4 => ((¬ r4 = 0 → (j6_seats_109 K95 x3 x6 x7)) ∧ (r4 = 0 → ((x6 ≤ 0 → (vp_in x7 6 ∧ (vp_in x5 19 ∧ (∀ S9, S9 = uI S 3 x5.toNatClampNeg (S.1 6 x7.toNatClampNeg) → (K38 (S9, x2, (x3 ||| ((1 : Int32) <<< (x7 &&& 31))), x4, (x5 + 1))))))) ∧ (¬ x6 ≤ 0 → (j6_seats_109 K95 x3 x6 x7)))))) x3 x7)
set_option maxHeartbeats 4000000 in
theorem k6_seats_95 {post : MS → Prop} {S : MS} {x2 : Int32} {x3 : Int32} {x4 : Int32} {x5 : Int32} {K38 : (MS × Int32 × Int32 × Int32 × Int32) → Prop} (hC : CX RX6 cX6_seats 8 none D gCl nwG Z Hb A p s m args meth c) (hK38 : ∀ z : (MS × Int32 × Int32 × Int32 × Int32), K38 z → ∀ (H : Heap) (locs : List Loc) (ls : Array Slot), va_P D gCl (wM D ad none rdv (some t) z.1) H → va_D A (wM D ad none rdv (some t) z.1) → va_S A s.heap H locs → lv_has ls 8 [(0, .ref (ad 0)), (2, .int z.2.1), (3, .int z.2.2.1), (4, .int z.2.2.2.1), (5, .int z.2.2.2.2)] → W p l e ({ frames := 1, cells := 0, slots := 0, locals := 21 } : Room) s m args below meth c H locs 0 0 (MQ below (va_Qv post (BW D gCl A (fun u => (wM D ad none rdv (some t) u))) A) args s 0 0 A) (F0 m 38 ls [])) : ∀ z : (Int32 × Int32), lp (fun (K : (Int32 × Int32) → Prop) (z : (Int32 × Int32)) => f6_seats_95 K38 S x2 x3 x4 x5 K z.1 z.2) z → ∀ (H : Heap) (locs : List Loc) (ls : Array Slot), va_P D gCl (wM D ad none rdv (some t) S) H → va_D A (wM D ad none rdv (some t) S) → va_S A s.heap H locs → lv_has ls 8 [(0, .ref (ad 0)), (2, .int x2), (3, .int x3), (4, .int x4), (5, .int x5), (6, .int z.1), (7, .int z.2)] → W p l e ({ frames := 1, cells := 0, slots := 0, locals := 21 } : Room) s m args below meth c H locs 0 0 (MQ below (va_Qv post (BW D gCl A (fun u => (wM D ad none rdv (some t) u))) A) args s 0 0 A) (F0 m 95 ls []) := by
  refine lp_ind ?_
  rintro K95 ⟨x6, x7⟩ hK95 hw H locs ls hP hD hS hl
  have hw : f6_seats_95 K38 S x2 x3 x4 x5 K95 x6 x7 := hw
  unfold f6_seats_95 at hw
  have hP : va_P D gCl (wM D ad none rdv (some t) S) H := hP
  have hD : va_D A (wM D ad none rdv (some t) S) := hD
  have hl : lv_has ls 8 [(0, .ref (ad 0)), (2, .int x2), (3, .int x3), (4, .int x4), (5, .int x5), (6, .int x6), (7, .int x7)] := hl
  refine lv_iload_n hC.x hC.b dX6_seats_95 rfl (lv_at hl 2 rfl) ?_
  refine lv_iload hC.x hC.b dX6_seats_96 (lv_at hl 6 rfl) ?_
  refine go_i (run_S (rest := []) hC (m6_bit l hw) v6_6_bit h6_bit ⟨rfl, rfl, Nat.le_of_ble_eq_true rfl, Nat.le_of_ble_eq_true rfl⟩ ⟨Nat.le_refl _, Nat.le_refl _⟩ hP hD hS hl.1 (Nat.le_of_ble_eq_true rfl) dX6_seats_98 rfl) hS (fun r4 u H locs hw604 hP hD hS => ?_)
  refine lv_if_ne (tgt := 109) hC.x hC.b dX6_seats_101 (by decide) (fun c5 => ?_) (fun c5 => ?_)
  · have hw605 := hw604.1 c5
    exact k6_seats_109 hC hK95 hw605 H locs ls hP hD hS (lv_sub hl [0, 1, 2, 3, 4, 5, 6] rfl)
  · have hw609 := hw604.2 c5
    refine lv_iload hC.x hC.b dX6_seats_104 (lv_at hl 5 rfl) ?_
    refine lv_if_le (tgt := 134) hC.x hC.b dX6_seats_106 (by decide) (fun c8 => ?_) (fun c8 => ?_)
    · have hw610 := hw609.1 c8
      refine lv_iload_n hC.x hC.b dX6_seats_134 rfl (lv_at hl 2 rfl) ?_
      refine lv_iconst (v := 1) hC.x hC.b dX6_seats_135 (by decide) ?_
      refine lv_iload hC.x hC.b dX6_seats_136 (lv_at hl 6 rfl) ?_
      refine lv_ishl hC.x hC.b dX6_seats_138 ?_
      refine lv_ior hC.x hC.b dX6_seats_139 ?_
      refine lv_istore_n (lv' := [(3, .int (x3 ||| ((1 : Int32) <<< (x7 &&& 31)))), (0, .ref (ad 0)), (2, .int x2), (4, .int x4), (5, .int x5), (6, .int x6), (7, .int x7)]) hC.x hC.b dX6_seats_140 rfl hl (by decide) rfl (fun ls hl => ?_)
      refine lv_aload_n hC.x hC.b dX6_seats_141 rfl (lv_at hl 1 rfl) ?_
      refine gM_16 hC hP dX6_seats_142 ?_
      refine lv_iload hC.x hC.b dX6_seats_145 (lv_at hl 4 rfl) ?_
      refine lv_aload_n hC.x hC.b dX6_seats_147 rfl (lv_at hl 1 rfl) ?_
      refine gM_21 hC hP dX6_seats_148 ?_
      refine lv_iload hC.x hC.b dX6_seats_151 (lv_at hl 6 rfl) ?_
      obtain ⟨hin, hw611⟩ := hw610
      refine lM_6 hC hP hin rfl dX6_seats_153 ?_
      obtain ⟨hin, hw612⟩ := hw611
      refine sM_3 hC hP hD hS (v := (S.1 6 x7.toNatClampNeg)) hin rfl dX6_seats_154 (fun S9 eS9 H locs hP hD hS => ?_)
      have hw613 := hw612 S9 eS9
      refine lv_iinc (v := (x5 + 1)) (lv' := [(5, .int (x5 + 1)), (3, .int (x3 ||| ((1 : Int32) <<< (x7 &&& 31)))), (0, .ref (ad 0)), (2, .int x2), (4, .int x4), (6, .int x6), (7, .int x7)]) hC.x hC.b dX6_seats_155 hl (k := 4) rfl rfl (by decide) rfl (fun ls hl => ?_)
      refine lv_goto (tgt := 38) hC.x hC.b dX6_seats_158 (by decide) ?_
      exact hK38 (S9, x2, (x3 ||| ((1 : Int32) <<< (x7 &&& 31))), x4, (x5 + 1)) hw613 H locs ls hP hD hS (lv_sub hl [2, 3, 1, 4, 0] rfl)
    · have hw614 := hw609.2 c8
      exact k6_seats_109 hC hK95 hw614 H locs ls hP hD hS (lv_sub hl [0, 1, 2, 3, 4, 5, 6] rfl)
def f6_seats_38 (post : MS → Prop) (K38 : (MS × Int32 × Int32 × Int32 × Int32) → Prop) (S : MS) (x2 : Int32) (x3 : Int32) (x4 : Int32) (x5 : Int32) : Prop :=
  (((S.1 20 2) ≤ x5 → (post S)) ∧ (¬ (S.1 20 2) ≤ x5 → ((¬ x4 = 0) ∧ ((¬ x4 = 0) ∧ (((S.1 20 2) ≤ (x5 + 1) → (lp (fun (K : (Int32 × Int32) → Prop) (z : (Int32 × Int32)) => f6_seats_95 K38 S (x2 - x2 / x4 * x4) x3 x4 x5 K z.1 z.2) ((x2 / x4), 0))) ∧ (¬ (S.1 20 2) ≤ (x5 + 1) → ((¬ (((S.1 20 2) - 1) - x5) = 0) ∧ (lp (fun (K : (Int32 × Int32) → Prop) (z : (Int32 × Int32)) => f6_seats_95 K38 S (x2 - x2 / x4 * x4) x3 (x4 / (((S.1 20 2) - 1) - x5)) x5 K z.1 z.2) ((x2 / x4), 0)))))))))
set_option maxHeartbeats 4000000 in
theorem k6_seats_38 {post : MS → Prop} (hC : CX RX6 cX6_seats 8 none D gCl nwG Z Hb A p s m args meth c) : ∀ z : (MS × Int32 × Int32 × Int32 × Int32), lp (fun (K : (MS × Int32 × Int32 × Int32 × Int32) → Prop) (z : (MS × Int32 × Int32 × Int32 × Int32)) => f6_seats_38 post K z.1 z.2.1 z.2.2.1 z.2.2.2.1 z.2.2.2.2) z → ∀ (H : Heap) (locs : List Loc) (ls : Array Slot), va_P D gCl (wM D ad none rdv (some t) z.1) H → va_D A (wM D ad none rdv (some t) z.1) → va_S A s.heap H locs → lv_has ls 8 [(0, .ref (ad 0)), (2, .int z.2.1), (3, .int z.2.2.1), (4, .int z.2.2.2.1), (5, .int z.2.2.2.2)] → W p l e ({ frames := 1, cells := 0, slots := 0, locals := 21 } : Room) s m args below meth c H locs 0 0 (MQ below (va_Qv post (BW D gCl A (fun u => (wM D ad none rdv (some t) u))) A) args s 0 0 A) (F0 m 38 ls []) := by
  refine lp_ind ?_
  rintro K38 ⟨S, x2, x3, x4, x5⟩ hK38 hw H locs ls hP hD hS hl
  have hw : f6_seats_38 post K38 S x2 x3 x4 x5 := hw
  unfold f6_seats_38 at hw
  have hP : va_P D gCl (wM D ad none rdv (some t) S) H := hP
  have hD : va_D A (wM D ad none rdv (some t) S) := hD
  have hl : lv_has ls 8 [(0, .ref (ad 0)), (2, .int x2), (3, .int x3), (4, .int x4), (5, .int x5)] := hl
  refine lv_iload hC.x hC.b dX6_seats_38 (lv_at hl 4 rfl) ?_
  refine lv_aload_n hC.x hC.b dX6_seats_40 rfl (lv_at hl 0 rfl) ?_
  refine gM_3 hC hP dX6_seats_41 ?_
  refine gT_2 hC hP dX6_seats_44 ?_
  refine lv_icmp_ge (tgt := 161) hC.x hC.b dX6_seats_47 (by decide) (fun c2 => ?_) (fun c2 => ?_)
  · have hw599 := hw.1 c2
    exact rt_v hC hw599 hP hD hS dX6_seats_161
  · have hw600 := hw.2 c2
    refine lv_iload_n hC.x hC.b dX6_seats_50 rfl (lv_at hl 1 rfl) ?_
    refine lv_iload hC.x hC.b dX6_seats_51 (lv_at hl 3 rfl) ?_
    obtain ⟨hne, hw601⟩ := hw600
    refine lv_idiv hC.x hC.b dX6_seats_53 hne ?_
    refine lv_istore (lv' := [(6, .int (x2 / x4)), (0, .ref (ad 0)), (2, .int x2), (3, .int x3), (4, .int x4), (5, .int x5)]) hC.x hC.b dX6_seats_54 hl (by decide) rfl (fun ls hl => ?_)
    refine lv_iload_n hC.x hC.b dX6_seats_56 rfl (lv_at hl 2 rfl) ?_
    refine lv_iload hC.x hC.b dX6_seats_57 (lv_at hl 4 rfl) ?_
    obtain ⟨hne, hw602⟩ := hw601
    refine lv_irem hC.x hC.b dX6_seats_59 hne ?_
    refine lv_istore_n (lv' := [(2, .int (x2 - x2 / x4 * x4)), (6, .int (x2 / x4)), (0, .ref (ad 0)), (3, .int x3), (4, .int x4), (5, .int x5)]) hC.x hC.b dX6_seats_60 rfl hl (by decide) rfl (fun ls hl => ?_)
    refine lv_iload hC.x hC.b dX6_seats_61 (lv_at hl 5 rfl) ?_
    refine lv_iconst (v := 1) hC.x hC.b dX6_seats_63 (by decide) ?_
    refine lv_iadd hC.x hC.b dX6_seats_64 ?_
    refine lv_aload_n hC.x hC.b dX6_seats_65 rfl (lv_at hl 2 rfl) ?_
    refine gM_3 hC hP dX6_seats_66 ?_
    refine gT_2 hC hP dX6_seats_69 ?_
    refine lv_icmp_ge (tgt := 92) hC.x hC.b dX6_seats_72 (by decide) (fun c3 => ?_) (fun c3 => ?_)
    · have hw603 := hw602.1 c3
      refine lv_iconst (v := 0) hC.x hC.b dX6_seats_92 (by decide) ?_
      refine lv_istore (lv' := [(7, .int 0), (2, .int (x2 - x2 / x4 * x4)), (6, .int (x2 / x4)), (0, .ref (ad 0)), (3, .int x3), (4, .int x4), (5, .int x5)]) hC.x hC.b dX6_seats_93 hl (by decide) rfl (fun ls hl => ?_)
      exact k6_seats_95 hC hK38 ((x2 / x4), 0) hw603 H locs ls hP hD hS (lv_sub hl [3, 1, 4, 5, 6, 2, 0] rfl)
    · have hw615 := hw602.2 c3
      refine lv_iload hC.x hC.b dX6_seats_75 (lv_at hl 4 rfl) ?_
      refine lv_aload_n hC.x hC.b dX6_seats_77 rfl (lv_at hl 2 rfl) ?_
      refine gM_3 hC hP dX6_seats_78 ?_
      refine gT_2 hC hP dX6_seats_81 ?_
      refine lv_iconst (v := 1) hC.x hC.b dX6_seats_84 (by decide) ?_
      refine lv_isub hC.x hC.b dX6_seats_85 ?_
      refine lv_iload hC.x hC.b dX6_seats_86 (lv_at hl 5 rfl) ?_
      refine lv_isub hC.x hC.b dX6_seats_88 ?_
      obtain ⟨hne, hw616⟩ := hw615
      refine lv_idiv hC.x hC.b dX6_seats_89 hne ?_
      refine lv_istore (lv' := [(4, .int (x4 / (((S.1 20 2) - 1) - x5))), (2, .int (x2 - x2 / x4 * x4)), (6, .int (x2 / x4)), (0, .ref (ad 0)), (3, .int x3), (5, .int x5)]) hC.x hC.b dX6_seats_90 hl (by decide) rfl (fun ls hl => ?_)
      refine lv_iconst (v := 0) hC.x hC.b dX6_seats_92 (by decide) ?_
      refine lv_istore (lv' := [(7, .int 0), (4, .int (x4 / (((S.1 20 2) - 1) - x5))), (2, .int (x2 - x2 / x4 * x4)), (6, .int (x2 / x4)), (0, .ref (ad 0)), (3, .int x3), (5, .int x5)]) hC.x hC.b dX6_seats_93 hl (by decide) rfl (fun ls hl => ?_)
      exact k6_seats_95 hC hK38 ((x2 / x4), 0) hw616 H locs ls hP hD hS (lv_sub hl [4, 2, 5, 1, 6, 3, 0] rfl)
def f6_seats_10 (post : MS → Prop) (tw : Option (Nat → Nat)) (S : MS) (x2 : Int32) (x3 : Int32) (K10 : (Int32 × Int32) → Prop) (x4 : Int32) (x5 : Int32) : Prop :=
  ((∃ t, tw = some t) ∧ (((S.1 20 2) ≤ x5 → (lp (fun (K : (MS × Int32 × Int32 × Int32 × Int32) → Prop) (z : (MS × Int32 × Int32 × Int32 × Int32)) => f6_seats_38 post K z.1 z.2.1 z.2.2.1 z.2.2.2.1 z.2.2.2.2) (S, x2, x3, x4, 0))) ∧ (¬ (S.1 20 2) ≤ x5 → (K10 ((x4 * x5), (x5 + 1))))))
set_option maxHeartbeats 4000000 in
theorem k6_seats_10 {post : MS → Prop} {S : MS} {x2 : Int32} {x3 : Int32} (hC : CX RX6 cX6_seats 8 none D gCl nwG Z Hb A p s m args meth c) : ∀ z : (Int32 × Int32), lp (fun (K : (Int32 × Int32) → Prop) (z : (Int32 × Int32)) => f6_seats_10 post tw S x2 x3 K z.1 z.2) z → ∀ (H : Heap) (locs : List Loc) (ls : Array Slot), va_P D gCl (wM D ad none rdv tw S) H → va_D A (wM D ad none rdv tw S) → va_S A s.heap H locs → lv_has ls 8 [(0, .ref (ad 0)), (2, .int x2), (3, .int x3), (4, .int z.1), (5, .int z.2)] → W p l e ({ frames := 1, cells := 0, slots := 0, locals := 21 } : Room) s m args below meth c H locs 0 0 (MQ below (va_Qv post (BW D gCl A (fun u => (wM D ad none rdv tw u))) A) args s 0 0 A) (F0 m 10 ls []) := by
  refine lp_ind ?_
  rintro K10 ⟨x4, x5⟩ hK10 hw H locs ls hP hD hS hl
  have hw : f6_seats_10 post tw S x2 x3 K10 x4 x5 := hw
  unfold f6_seats_10 at hw
  have hP : va_P D gCl (wM D ad none rdv tw S) H := hP
  have hD : va_D A (wM D ad none rdv tw S) := hD
  have hl : lv_has ls 8 [(0, .ref (ad 0)), (2, .int x2), (3, .int x3), (4, .int x4), (5, .int x5)] := hl
  refine lv_iload hC.x hC.b dX6_seats_10 (lv_at hl 4 rfl) ?_
  refine lv_aload_n hC.x hC.b dX6_seats_12 rfl (lv_at hl 0 rfl) ?_
  refine gM_3 hC hP dX6_seats_13 ?_
  obtain ⟨⟨t, rfl⟩, hw597⟩ := hw
  refine gT_2 hC hP dX6_seats_16 ?_
  refine lv_icmp_ge (tgt := 35) hC.x hC.b dX6_seats_19 (by decide) (fun c1 => ?_) (fun c1 => ?_)
  · have hw598 := hw597.1 c1
    refine lv_iconst (v := 0) hC.x hC.b dX6_seats_35 (by decide) ?_
    refine lv_istore (lv' := [(5, .int 0), (0, .ref (ad 0)), (2, .int x2), (3, .int x3), (4, .int x4)]) hC.x hC.b dX6_seats_36 hl (by decide) rfl (fun ls hl => ?_)
    exact k6_seats_38 hC (S, x2, x3, x4, 0) hw598 H locs ls hP hD hS (lv_sub hl [1, 2, 3, 4, 0] rfl)
  · have hw617 := hw597.2 c1
    refine lv_iload hC.x hC.b dX6_seats_22 (lv_at hl 3 rfl) ?_
    refine lv_iload hC.x hC.b dX6_seats_24 (lv_at hl 4 rfl) ?_
    refine lv_imul hC.x hC.b dX6_seats_26 ?_
    refine lv_istore (lv' := [(4, .int (x4 * x5)), (0, .ref (ad 0)), (2, .int x2), (3, .int x3), (5, .int x5)]) hC.x hC.b dX6_seats_27 hl (by decide) rfl (fun ls hl => ?_)
    refine lv_iinc (v := (x5 + 1)) (lv' := [(5, .int (x5 + 1)), (4, .int (x4 * x5)), (0, .ref (ad 0)), (2, .int x2), (3, .int x3)]) hC.x hC.b dX6_seats_29 hl (k := 4) rfl rfl (by decide) rfl (fun ls hl => ?_)
    refine lv_goto (tgt := 10) hC.x hC.b dX6_seats_32 (by decide) ?_
    exact hK10 ((x4 * x5), (x5 + 1)) hw617 H locs ls hP hD hS (lv_sub hl [2, 3, 4, 1, 0] rfl)
def w6_seats (post : MS → Prop) (tw : Option (Nat → Nat)) (S : MS) (x1 : Int32) : Prop :=
  (lp (fun (K : (Int32 × Int32) → Prop) (z : (Int32 × Int32)) => f6_seats_10 post tw S x1 0 K z.1 z.2) (1, 2))
set_option maxHeartbeats 4000000 in
theorem m6_seats (l : Launch) {post : MS → Prop} {S : MS} {x1 : Int32} (hw : w6_seats post tw S x1) : Met l yX6_seats (ws_ yX6_seats cX6_seats 8 none) ({ frames := 1, cells := 0, slots := 0, locals := 21 } : Room) (va_Pc [.ref (ad 0), .int x1] (PcG D gCl nwG Z Hb A (wM D ad none rdv tw S))) (va_Qv post (BW D gCl A (fun u => (wM D ad none rdv tw u))) A) 0 0 A := by
  refine Met.ofG (by decide) (Nat.le_of_ble_eq_true rfl) ?_
  intro p e s m below meth c ls hC _ hP hD hS hl
  have hC : CX RX6 cX6_seats 8 none D gCl nwG Z Hb A p s m _ meth c := hC
  have hl : lv_has ls 8 [(0, .ref (ad 0)), (1, .int x1)] := hl
  unfold w6_seats at hw
  refine lv_iload_n hC.x hC.b dX6_seats_0 rfl (lv_at hl 1 rfl) ?_
  refine lv_istore_n (lv' := [(2, .int x1), (0, .ref (ad 0)), (1, .int x1)]) hC.x hC.b dX6_seats_1 rfl hl (by decide) rfl (fun ls hl => ?_)
  refine lv_iconst (v := 0) hC.x hC.b dX6_seats_2 (by decide) ?_
  refine lv_istore_n (lv' := [(3, .int 0), (2, .int x1), (0, .ref (ad 0)), (1, .int x1)]) hC.x hC.b dX6_seats_3 rfl hl (by decide) rfl (fun ls hl => ?_)
  refine lv_iconst (v := 1) hC.x hC.b dX6_seats_4 (by decide) ?_
  refine lv_istore (lv' := [(4, .int 1), (3, .int 0), (2, .int x1), (0, .ref (ad 0)), (1, .int x1)]) hC.x hC.b dX6_seats_5 hl (by decide) rfl (fun ls hl => ?_)
  refine lv_iconst (v := 2) hC.x hC.b dX6_seats_7 (by decide) ?_
  refine lv_istore (lv' := [(5, .int 2), (4, .int 1), (3, .int 0), (2, .int x1), (0, .ref (ad 0)), (1, .int x1)]) hC.x hC.b dX6_seats_8 hl (by decide) rfl (fun ls hl => ?_)
  exact k6_seats_10 hC (1, 2) hw s.heap [] ls hP hD hS (lv_sub hl [4, 3, 2, 1, 0] rfl)
theorem v6_6_frees : GoodIn lw_all (wsV RX6 367 RX6 yX6_frees (ws_ yX6_frees cX6_frees 3 none)) := lw_V q1938 q1940 qs91 q126 q1941
theorem v6_6_seats : GoodIn lw_all (wsV RX6 373 RX6 yX6_seats (ws_ yX6_seats cX6_seats 8 none)) := lw_V q1942 q1944 qs92 q126 q1945
theorem h6_seating : yX6_seating.cls = RX6 ∧ yX6_seating.cls ≠ "java/lang/invoke/MethodHandle" ∧ yX6_seating.cls ≠ "java/lang/invoke/VarHandle" ∧ (parseMethodDescriptor yX6_seating.desc).map (fun d => d.parameters.length) = some 1 := by decide +kernel
def f6_seating_81 (K40 : (MS × Int32) → Prop) (x3 : Int32) (K81 : (MS × Int32) → Prop) (S : MS) (x5 : Int32) : Prop :=
  (((S.1 20 2) ≤ x5 → (K40 (S, (x3 + 1)))) ∧ (¬ (S.1 20 2) ≤ x5 → (vp_in x5 19 ∧ (vp_in x5 6 ∧ (∀ S15, S15 = uI S 7 x5.toNatClampNeg (S.1 3 x5.toNatClampNeg) → (K81 (S15, (x5 + 1))))))))
set_option maxHeartbeats 4000000 in
theorem k6_seating_81 {post : MS → Prop} {x1 : Int32} {x2 : Int32} {x3 : Int32} {K40 : (MS × Int32) → Prop} (hC : CX RX6 cX6_seating 6 none D gCl nwG Z Hb A p s m args meth c) (hK40 : ∀ z : (MS × Int32), K40 z → ∀ (H : Heap) (locs : List Loc) (ls : Array Slot), va_P D gCl (wM D ad none rdv (some t) z.1) H → va_D A (wM D ad none rdv (some t) z.1) → va_S A s.heap H locs → lv_has ls 6 [(0, .ref (ad 0)), (1, .int x1), (2, .int x2), (3, .int z.2)] → W p l e ({ frames := 5, cells := 0, slots := 0, locals := 117 } : Room) s m args below meth c H locs 0 0 (MQ below (va_Qv post (BW D gCl A (fun u => (wM D ad none rdv (some t) u))) A) args s 0 0 A) (F0 m 40 ls [])) : ∀ z : (MS × Int32), lp (fun (K : (MS × Int32) → Prop) (z : (MS × Int32)) => f6_seating_81 K40 x3 K z.1 z.2) z → ∀ (H : Heap) (locs : List Loc) (ls : Array Slot), va_P D gCl (wM D ad none rdv (some t) z.1) H → va_D A (wM D ad none rdv (some t) z.1) → va_S A s.heap H locs → lv_has ls 6 [(0, .ref (ad 0)), (1, .int x1), (2, .int x2), (3, .int x3), (5, .int z.2)] → W p l e ({ frames := 5, cells := 0, slots := 0, locals := 117 } : Room) s m args below meth c H locs 0 0 (MQ below (va_Qv post (BW D gCl A (fun u => (wM D ad none rdv (some t) u))) A) args s 0 0 A) (F0 m 81 ls []) := by
  refine lp_ind ?_
  rintro K81 ⟨S, x5⟩ hK81 hw H locs ls hP hD hS hl
  have hw : f6_seating_81 K40 x3 K81 S x5 := hw
  unfold f6_seating_81 at hw
  have hP : va_P D gCl (wM D ad none rdv (some t) S) H := hP
  have hD : va_D A (wM D ad none rdv (some t) S) := hD
  have hl : lv_has ls 6 [(0, .ref (ad 0)), (1, .int x1), (2, .int x2), (3, .int x3), (5, .int x5)] := hl
  refine lv_iload hC.x hC.b dX6_seating_81 (lv_at hl 4 rfl) ?_
  refine lv_aload_n hC.x hC.b dX6_seating_83 rfl (lv_at hl 0 rfl) ?_
  refine gM_3 hC hP dX6_seating_84 ?_
  refine gT_2 hC hP dX6_seating_87 ?_
  refine lv_icmp_ge (tgt := 113) hC.x hC.b dX6_seating_90 (by decide) (fun c14 => ?_) (fun c14 => ?_)
  · have hw630 := hw.1 c14
    refine lv_iinc (v := (x3 + 1)) (lv' := [(3, .int (x3 + 1)), (0, .ref (ad 0)), (1, .int x1), (2, .int x2), (5, .int x5)]) hC.x hC.b dX6_seating_113 hl (k := 3) rfl rfl (by decide) rfl (fun ls hl => ?_)
    refine lv_goto (tgt := 40) hC.x hC.b dX6_seating_116 (by decide) ?_
    exact hK40 (S, (x3 + 1)) hw630 H locs ls hP hD hS (lv_sub hl [1, 2, 3, 0] rfl)
  · have hw631 := hw.2 c14
    refine lv_aload_n hC.x hC.b dX6_seating_93 rfl (lv_at hl 0 rfl) ?_
    refine gM_22 hC hP dX6_seating_94 ?_
    refine lv_iload hC.x hC.b dX6_seating_97 (lv_at hl 4 rfl) ?_
    refine lv_aload_n hC.x hC.b dX6_seating_99 rfl (lv_at hl 0 rfl) ?_
    refine gM_16 hC hP dX6_seating_100 ?_
    refine lv_iload hC.x hC.b dX6_seating_103 (lv_at hl 4 rfl) ?_
    obtain ⟨hin, hw632⟩ := hw631
    refine lM_3 hC hP hin rfl dX6_seating_105 ?_
    obtain ⟨hin, hw633⟩ := hw632
    refine sM_7 hC hP hD hS (v := (S.1 3 x5.toNatClampNeg)) hin rfl dX6_seating_106 (fun S15 eS15 H locs hP hD hS => ?_)
    have hw634 := hw633 S15 eS15
    refine lv_iinc (v := (x5 + 1)) (lv' := [(5, .int (x5 + 1)), (0, .ref (ad 0)), (1, .int x1), (2, .int x2), (3, .int x3)]) hC.x hC.b dX6_seating_107 hl (k := 4) rfl rfl (by decide) rfl (fun ls hl => ?_)
    refine lv_goto (tgt := 81) hC.x hC.b dX6_seating_110 (by decide) ?_
    exact hK81 (S15, (x5 + 1)) hw634 H locs ls hP hD hS (lv_sub hl [1, 2, 3, 4, 0] rfl)
def f6_seating_40 (post : MS → Prop) (tw : Option (Nat → Nat)) (x1 : Int32) (x2 : Int32) (K40 : (MS × Int32) → Prop) (S : MS) (x3 : Int32) : Prop :=
  ((x2 ≤ x3 → (post S)) ∧ (¬ x2 ≤ x3 → (w6_seats (fun S9 => (w6_rightOn (fun r10 => (w6_bits (fun r11 => (((S9.1 0 23) < r11 → (∀ S13, S13 = uI S9 0 23 r11 → (lp (fun (K : (MS × Int32) → Prop) (z : (MS × Int32)) => f6_seating_81 K40 x3 K z.1 z.2) (S13, 0)))) ∧ (¬ (S9.1 0 23) < r11 → (K40 (S9, (x3 + 1)))))) r10)) tw S9 x1)) tw S x3)))
set_option maxHeartbeats 4000000 in
theorem k6_seating_40 {post : MS → Prop} {x1 : Int32} {x2 : Int32} (hC : CX RX6 cX6_seating 6 none D gCl nwG Z Hb A p s m args meth c) : ∀ z : (MS × Int32), lp (fun (K : (MS × Int32) → Prop) (z : (MS × Int32)) => f6_seating_40 post (some t) x1 x2 K z.1 z.2) z → ∀ (H : Heap) (locs : List Loc) (ls : Array Slot), va_P D gCl (wM D ad none rdv (some t) z.1) H → va_D A (wM D ad none rdv (some t) z.1) → va_S A s.heap H locs → lv_has ls 6 [(0, .ref (ad 0)), (1, .int x1), (2, .int x2), (3, .int z.2)] → W p l e ({ frames := 5, cells := 0, slots := 0, locals := 117 } : Room) s m args below meth c H locs 0 0 (MQ below (va_Qv post (BW D gCl A (fun u => (wM D ad none rdv (some t) u))) A) args s 0 0 A) (F0 m 40 ls []) := by
  refine lp_ind ?_
  rintro K40 ⟨S, x3⟩ hK40 hw H locs ls hP hD hS hl
  have hw : f6_seating_40 post (some t) x1 x2 K40 S x3 := hw
  unfold f6_seating_40 at hw
  have hP : va_P D gCl (wM D ad none rdv (some t) S) H := hP
  have hD : va_D A (wM D ad none rdv (some t) S) := hD
  have hl : lv_has ls 6 [(0, .ref (ad 0)), (1, .int x1), (2, .int x2), (3, .int x3)] := hl
  refine lv_iload_n hC.x hC.b dX6_seating_40 rfl (lv_at hl 3 rfl) ?_
  refine lv_iload_n hC.x hC.b dX6_seating_41 rfl (lv_at hl 2 rfl) ?_
  refine lv_icmp_ge (tgt := 119) hC.x hC.b dX6_seating_42 (by decide) (fun c7 => ?_) (fun c7 => ?_)
  · have hw623 := hw.1 c7
    exact rt_v hC hw623 hP hD hS dX6_seating_119
  · have hw624 := hw.2 c7
    refine lv_aload_n hC.x hC.b dX6_seating_45 rfl (lv_at hl 0 rfl) ?_
    refine lv_iload_n hC.x hC.b dX6_seating_46 rfl (lv_at hl 3 rfl) ?_
    refine go_v (run_V (rest := []) hC (m6_seats l hw624) v6_6_seats h6_seats 0 5 gCl_X6 rfl rfl ⟨rfl, rfl, Nat.le_of_ble_eq_true rfl, Nat.le_of_ble_eq_true rfl⟩ ⟨Nat.le_refl _, Nat.le_refl _⟩ hP hD hS hl.1 (Nat.le_of_ble_eq_true rfl) dX6_seating_47 rfl) hS (fun S9 H locs hw625 hP hD hS => ?_)
    refine lv_aload_n hC.x hC.b dX6_seating_50 rfl (lv_at hl 0 rfl) ?_
    refine lv_iload_n hC.x hC.b dX6_seating_51 rfl (lv_at hl 1 rfl) ?_
    refine go_i (run_V (rest := []) hC (m6_rightOn l hw625) v6_6_rightOn h6_rightOn 0 5 gCl_X6 rfl rfl ⟨rfl, rfl, Nat.le_of_ble_eq_true rfl, Nat.le_of_ble_eq_true rfl⟩ ⟨Nat.le_refl _, Nat.le_refl _⟩ hP hD hS hl.1 (Nat.le_of_ble_eq_true rfl) dX6_seating_52 rfl) hS (fun r10 u H locs hw626 hP hD hS => ?_)
    refine go_i (run_S (rest := []) hC (m6_bits l hw626) v6_6_bits h6_bits ⟨rfl, rfl, Nat.le_of_ble_eq_true rfl, Nat.le_of_ble_eq_true rfl⟩ ⟨Nat.le_refl _, Nat.le_refl _⟩ hP hD hS hl.1 (Nat.le_of_ble_eq_true rfl) dX6_seating_55 rfl) hS (fun r11 u H locs hw627 hP hD hS => ?_)
    refine lv_istore (lv' := [(4, .int r11), (0, .ref (ad 0)), (1, .int x1), (2, .int x2), (3, .int x3)]) hC.x hC.b dX6_seating_58 hl (by decide) rfl (fun ls hl => ?_)
    refine lv_iload hC.x hC.b dX6_seating_60 (lv_at hl 0 rfl) ?_
    refine lv_aload_n hC.x hC.b dX6_seating_62 rfl (lv_at hl 1 rfl) ?_
    refine gM_23 hC hP dX6_seating_63 ?_
    refine lv_icmp_gt (tgt := 72) hC.x hC.b dX6_seating_66 (by decide) (fun c12 => ?_) (fun c12 => ?_)
    · have hw628 := hw627.1 c12
      refine lv_aload_n hC.x hC.b dX6_seating_72 rfl (lv_at hl 1 rfl) ?_
      refine lv_iload hC.x hC.b dX6_seating_73 (lv_at hl 0 rfl) ?_
      refine pM_23 hC hP hD hS (v := r11) dX6_seating_75 (fun S13 eS13 H locs hP hD hS => ?_)
      have hw629 := hw628 S13 eS13
      refine lv_iconst (v := 0) hC.x hC.b dX6_seating_78 (by decide) ?_
      refine lv_istore (lv' := [(5, .int 0), (4, .int r11), (0, .ref (ad 0)), (1, .int x1), (2, .int x2), (3, .int x3)]) hC.x hC.b dX6_seating_79 hl (by decide) rfl (fun ls hl => ?_)
      exact k6_seating_81 hC hK40 (S13, 0) hw629 H locs ls hP hD hS (lv_sub hl [2, 3, 4, 5, 0] rfl)
    · have hw635 := hw627.2 c12
      refine lv_goto (tgt := 113) hC.x hC.b dX6_seating_69 (by decide) ?_
      refine lv_iinc (v := (x3 + 1)) (lv' := [(3, .int (x3 + 1)), (4, .int r11), (0, .ref (ad 0)), (1, .int x1), (2, .int x2)]) hC.x hC.b dX6_seating_113 hl (k := 4) rfl rfl (by decide) rfl (fun ls hl => ?_)
      refine lv_goto (tgt := 40) hC.x hC.b dX6_seating_116 (by decide) ?_
      exact hK40 (S9, (x3 + 1)) hw635 H locs ls hP hD hS (lv_sub hl [2, 3, 4, 0] rfl)
def f6_seating_17 (post : MS → Prop) (tw : Option (Nat → Nat)) (S : MS) (x1 : Int32) (K17 : (Int32 × Int32) → Prop) (x2 : Int32) (x3 : Int32) : Prop :=
  ((∃ t, tw = some t) ∧ (((S.1 20 2) < x3 → (lp (fun (K : (MS × Int32) → Prop) (z : (MS × Int32)) => f6_seating_40 post tw x1 x2 K z.1 z.2) (S, 0))) ∧ (¬ (S.1 20 2) < x3 → (K17 ((x2 * x3), (x3 + 1))))))
set_option maxHeartbeats 4000000 in
theorem k6_seating_17 {post : MS → Prop} {S : MS} {x1 : Int32} (hC : CX RX6 cX6_seating 6 none D gCl nwG Z Hb A p s m args meth c) : ∀ z : (Int32 × Int32), lp (fun (K : (Int32 × Int32) → Prop) (z : (Int32 × Int32)) => f6_seating_17 post tw S x1 K z.1 z.2) z → ∀ (H : Heap) (locs : List Loc) (ls : Array Slot), va_P D gCl (wM D ad none rdv tw S) H → va_D A (wM D ad none rdv tw S) → va_S A s.heap H locs → lv_has ls 6 [(0, .ref (ad 0)), (1, .int x1), (2, .int z.1), (3, .int z.2)] → W p l e ({ frames := 5, cells := 0, slots := 0, locals := 117 } : Room) s m args below meth c H locs 0 0 (MQ below (va_Qv post (BW D gCl A (fun u => (wM D ad none rdv tw u))) A) args s 0 0 A) (F0 m 17 ls []) := by
  refine lp_ind ?_
  rintro K17 ⟨x2, x3⟩ hK17 hw H locs ls hP hD hS hl
  have hw : f6_seating_17 post tw S x1 K17 x2 x3 := hw
  unfold f6_seating_17 at hw
  have hP : va_P D gCl (wM D ad none rdv tw S) H := hP
  have hD : va_D A (wM D ad none rdv tw S) := hD
  have hl : lv_has ls 6 [(0, .ref (ad 0)), (1, .int x1), (2, .int x2), (3, .int x3)] := hl
  refine lv_iload_n hC.x hC.b dX6_seating_17 rfl (lv_at hl 3 rfl) ?_
  refine lv_aload_n hC.x hC.b dX6_seating_18 rfl (lv_at hl 0 rfl) ?_
  refine gM_3 hC hP dX6_seating_19 ?_
  obtain ⟨⟨t, rfl⟩, hw621⟩ := hw
  refine gT_2 hC hP dX6_seating_22 ?_
  refine lv_icmp_gt (tgt := 38) hC.x hC.b dX6_seating_25 (by decide) (fun c6 => ?_) (fun c6 => ?_)
  · have hw622 := hw621.1 c6
    refine lv_iconst (v := 0) hC.x hC.b dX6_seating_38 (by decide) ?_
    refine lv_istore_n (lv' := [(3, .int 0), (0, .ref (ad 0)), (1, .int x1), (2, .int x2)]) hC.x hC.b dX6_seating_39 rfl hl (by decide) rfl (fun ls hl => ?_)
    exact k6_seating_40 hC (S, 0) hw622 H locs ls hP hD hS (lv_sub hl [1, 2, 3, 0] rfl)
  · have hw636 := hw621.2 c6
    refine lv_iload_n hC.x hC.b dX6_seating_28 rfl (lv_at hl 2 rfl) ?_
    refine lv_iload_n hC.x hC.b dX6_seating_29 rfl (lv_at hl 3 rfl) ?_
    refine lv_imul hC.x hC.b dX6_seating_30 ?_
    refine lv_istore_n (lv' := [(2, .int (x2 * x3)), (0, .ref (ad 0)), (1, .int x1), (3, .int x3)]) hC.x hC.b dX6_seating_31 rfl hl (by decide) rfl (fun ls hl => ?_)
    refine lv_iinc (v := (x3 + 1)) (lv' := [(3, .int (x3 + 1)), (2, .int (x2 * x3)), (0, .ref (ad 0)), (1, .int x1)]) hC.x hC.b dX6_seating_32 hl (k := 3) rfl rfl (by decide) rfl (fun ls hl => ?_)
    refine lv_goto (tgt := 17) hC.x hC.b dX6_seating_35 (by decide) ?_
    exact hK17 ((x2 * x3), (x3 + 1)) hw636 H locs ls hP hD hS (lv_sub hl [2, 3, 1, 0] rfl)
def w6_seating (post : MS → Prop) (tw : Option (Nat → Nat)) (S : MS) (x1 : Int32) : Prop :=
  (w6_works (fun S2 => (w6_frees (fun S4 => (∀ S5, S5 = uI S4 0 23 (-1) → (lp (fun (K : (Int32 × Int32) → Prop) (z : (Int32 × Int32)) => f6_seating_17 post tw S5 x1 K z.1 z.2) (1, 2)))) tw S2)) S)
set_option maxHeartbeats 4000000 in
theorem m6_seating (l : Launch) {post : MS → Prop} {S : MS} {x1 : Int32} (hw : w6_seating post tw S x1) : Met l yX6_seating (ws_ yX6_seating cX6_seating 6 none) ({ frames := 5, cells := 0, slots := 0, locals := 117 } : Room) (va_Pc [.ref (ad 0), .int x1] (PcG D gCl nwG Z Hb A (wM D ad none rdv tw S))) (va_Qv post (BW D gCl A (fun u => (wM D ad none rdv tw u))) A) 0 0 A := by
  refine Met.ofG (by decide) (Nat.le_of_ble_eq_true rfl) ?_
  intro p e s m below meth c ls hC _ hP hD hS hl
  have hC : CX RX6 cX6_seating 6 none D gCl nwG Z Hb A p s m _ meth c := hC
  have hl : lv_has ls 6 [(0, .ref (ad 0)), (1, .int x1)] := hl
  unfold w6_seating at hw
  refine lv_aload_n hC.x hC.b dX6_seating_0 rfl (lv_at hl 0 rfl) ?_
  refine go_v (run_V (rest := []) hC (m6_works l hw) v6_6_works h6_works 0 5 gCl_X6 rfl rfl ⟨rfl, rfl, Nat.le_of_ble_eq_true rfl, Nat.le_of_ble_eq_true rfl⟩ ⟨Nat.le_refl _, Nat.le_refl _⟩ hP hD hS hl.1 (Nat.le_of_ble_eq_true rfl) dX6_seating_1 rfl) hS (fun S2 H locs hw618 hP hD hS => ?_)
  refine lv_aload_n hC.x hC.b dX6_seating_4 rfl (lv_at hl 0 rfl) ?_
  refine go_v (run_V (rest := []) hC (m6_frees l hw618) v6_6_frees h6_frees 0 5 gCl_X6 rfl rfl ⟨rfl, rfl, Nat.le_of_ble_eq_true rfl, Nat.le_of_ble_eq_true rfl⟩ ⟨Nat.le_refl _, Nat.le_refl _⟩ hP hD hS hl.1 (Nat.le_of_ble_eq_true rfl) dX6_seating_5 rfl) hS (fun S4 H locs hw619 hP hD hS => ?_)
  refine lv_iconst (v := 1) hC.x hC.b dX6_seating_8 (by decide) ?_
  refine lv_istore_n (lv' := [(2, .int 1), (0, .ref (ad 0)), (1, .int x1)]) hC.x hC.b dX6_seating_9 rfl hl (by decide) rfl (fun ls hl => ?_)
  refine lv_aload_n hC.x hC.b dX6_seating_10 rfl (lv_at hl 1 rfl) ?_
  refine lv_iconst (v := (-1)) hC.x hC.b dX6_seating_11 (by decide) ?_
  refine pM_23 hC hP hD hS (v := (-1)) dX6_seating_12 (fun S5 eS5 H locs hP hD hS => ?_)
  have hw620 := hw619 S5 eS5
  refine lv_iconst (v := 2) hC.x hC.b dX6_seating_15 (by decide) ?_
  refine lv_istore_n (lv' := [(3, .int 2), (2, .int 1), (0, .ref (ad 0)), (1, .int x1)]) hC.x hC.b dX6_seating_16 rfl hl (by decide) rfl (fun ls hl => ?_)
  exact k6_seating_17 hC (1, 2) hw620 H locs ls hP hD hS (lv_sub hl [2, 3, 1, 0] rfl)
theorem v6_6_seating : GoodIn lw_all (wsV RX6 376 RX6 yX6_seating (ws_ yX6_seating cX6_seating 6 none)) := lw_V q1934 q1936 qs90 q126 q1937
theorem h6_seat : yX6_seat.cls = RX6 ∧ yX6_seat.cls ≠ "java/lang/invoke/MethodHandle" ∧ yX6_seat.cls ≠ "java/lang/invoke/VarHandle" ∧ (parseMethodDescriptor yX6_seat.desc).map (fun d => d.parameters.length) = some 1 := by decide +kernel
def j6_seat_18 (post : Int32 → MS → Prop) (tw : Option (Nat → Nat)) (S : MS) (x1 : Int32) (y1 : Int32) : Prop :=
  (w6_refusesNight (fun r3 => ((r3 ≤ 0 → (w6_seating (fun S6 => (w6_good (fun r7 S8 => (post r7 S8)) S6 (S6.1 0 23))) tw S x1)) ∧ (¬ r3 ≤ 0 → (w6_refused (fun r9 S10 => (post r9 S10)) S r3)))) S y1 x1)
set_option maxHeartbeats 4000000 in
theorem k6_seat_18 {post : Int32 → MS → Prop} {S : MS} {x1 : Int32} {y1 : Int32} (hC : CX RX6 cX6_seat 3 (some .int) D gCl nwG Z Hb A p s m args meth c) (hw : j6_seat_18 post tw S x1 y1) : ∀ (H : Heap) (locs : List Loc) (ls : Array Slot), va_P D gCl (wM D ad none rdv tw S) H → va_D A (wM D ad none rdv tw S) → va_S A s.heap H locs → lv_has ls 3 [(0, .ref (ad 0)), (1, .int x1)] → W p l e ({ frames := 6, cells := 0, slots := 0, locals := 142 } : Room) s m args below meth c H locs 0 0 (MQ below (va_Qi post (BW D gCl A (fun u => (wM D ad none rdv tw u))) A) args s 0 0 A) (F0 m 18 ls [.int y1, .ref (ad 0)]) := by
  intro H locs ls hP hD hS hl
  unfold j6_seat_18 at hw
  refine lv_iload_n hC.x hC.b dX6_seat_18 rfl (lv_at hl 1 rfl) ?_
  refine go_i (run_V (rest := []) hC (m6_refusesNight l hw) v6_6_refusesNight h6_refusesNight 0 5 gCl_X6 rfl rfl ⟨rfl, rfl, Nat.le_of_ble_eq_true rfl, Nat.le_of_ble_eq_true rfl⟩ ⟨Nat.le_refl _, Nat.le_refl _⟩ hP hD hS hl.1 (Nat.le_of_ble_eq_true rfl) dX6_seat_19 rfl) hS (fun r3 u H locs hw639 hP hD hS => ?_)
  refine lv_istore_n (lv' := [(2, .int r3), (0, .ref (ad 0)), (1, .int x1)]) hC.x hC.b dX6_seat_22 rfl hl (by decide) rfl (fun ls hl => ?_)
  refine lv_iload_n hC.x hC.b dX6_seat_23 rfl (lv_at hl 0 rfl) ?_
  refine lv_if_le (tgt := 33) hC.x hC.b dX6_seat_24 (by decide) (fun c4 => ?_) (fun c4 => ?_)
  · have hw640 := hw639.1 c4
    refine lv_aload_n hC.x hC.b dX6_seat_33 rfl (lv_at hl 1 rfl) ?_
    refine lv_iload_n hC.x hC.b dX6_seat_34 rfl (lv_at hl 2 rfl) ?_
    refine go_v (run_V (rest := []) hC (m6_seating l hw640) v6_6_seating h6_seating 0 5 gCl_X6 rfl rfl ⟨rfl, rfl, Nat.le_of_ble_eq_true rfl, Nat.le_of_ble_eq_true rfl⟩ ⟨Nat.le_refl _, Nat.le_refl _⟩ hP hD hS hl.1 (Nat.le_of_ble_eq_true rfl) dX6_seat_35 rfl) hS (fun S6 H locs hw641 hP hD hS => ?_)
    refine lv_aload_n hC.x hC.b dX6_seat_38 rfl (lv_at hl 1 rfl) ?_
    refine lv_aload_n hC.x hC.b dX6_seat_39 rfl (lv_at hl 1 rfl) ?_
    refine gM_23 hC hP dX6_seat_40 ?_
    refine go_i (run_V (rest := []) hC (m6_good l hw641) v6_6_good h6_good 0 5 gCl_X6 rfl rfl ⟨rfl, rfl, Nat.le_of_ble_eq_true rfl, Nat.le_of_ble_eq_true rfl⟩ ⟨Nat.le_refl _, Nat.le_refl _⟩ hP hD hS hl.1 (Nat.le_of_ble_eq_true rfl) dX6_seat_43 rfl) hS (fun r7 S8 H locs hw642 hP hD hS => ?_)
    exact rt_i hC hw642 hP hD hS dX6_seat_46
  · have hw643 := hw639.2 c4
    refine lv_aload_n hC.x hC.b dX6_seat_27 rfl (lv_at hl 1 rfl) ?_
    refine lv_iload_n hC.x hC.b dX6_seat_28 rfl (lv_at hl 0 rfl) ?_
    refine go_i (run_V (rest := []) hC (m6_refused l hw643) v6_6_refused h6_refused 0 5 gCl_X6 rfl rfl ⟨rfl, rfl, Nat.le_of_ble_eq_true rfl, Nat.le_of_ble_eq_true rfl⟩ ⟨Nat.le_refl _, Nat.le_refl _⟩ hP hD hS hl.1 (Nat.le_of_ble_eq_true rfl) dX6_seat_29 rfl) hS (fun r9 S10 H locs hw644 hP hD hS => ?_)
    exact rt_i hC hw644 hP hD hS dX6_seat_32
def w6_seat (post : Int32 → MS → Prop) (tw : Option (Nat → Nat)) (S : MS) (x1 : Int32) : Prop :=
  (∀ S1, S1 = uI S 0 0 0 → ((tw = none → (j6_seat_18 post tw S1 x1 0)) ∧ ((∃ t, tw = some t) → (j6_seat_18 post tw S1 x1 1))))
set_option maxHeartbeats 4000000 in
theorem m6_seat (l : Launch) {post : Int32 → MS → Prop} {S : MS} {x1 : Int32} (hw : w6_seat post tw S x1) : Met l yX6_seat (ws_ yX6_seat cX6_seat 3 (some .int)) ({ frames := 6, cells := 0, slots := 0, locals := 142 } : Room) (va_Pc [.ref (ad 0), .int x1] (PcG D gCl nwG Z Hb A (wM D ad none rdv tw S))) (va_Qi post (BW D gCl A (fun u => (wM D ad none rdv tw u))) A) 0 0 A := by
  refine Met.ofG (by decide) (Nat.le_of_ble_eq_true rfl) ?_
  intro p e s m below meth c ls hC _ hP hD hS hl
  have hC : CX RX6 cX6_seat 3 (some .int) D gCl nwG Z Hb A p s m _ meth c := hC
  have hl : lv_has ls 3 [(0, .ref (ad 0)), (1, .int x1)] := hl
  unfold w6_seat at hw
  refine lv_aload_n hC.x hC.b dX6_seat_0 rfl (lv_at hl 0 rfl) ?_
  refine lv_iconst (v := 0) hC.x hC.b dX6_seat_1 (by decide) ?_
  refine pM_0 hC hP hD hS (v := 0) dX6_seat_2 (fun S1 eS1 H locs hP hD hS => ?_)
  have hw637 := hw S1 eS1
  refine lv_aload_n hC.x hC.b dX6_seat_5 rfl (lv_at hl 0 rfl) ?_
  refine lv_aload_n hC.x hC.b dX6_seat_6 rfl (lv_at hl 0 rfl) ?_
  refine gM_3 hC hP dX6_seat_7 ?_
  rcases va_o2 tw with c2 | ⟨t, c2⟩
  · have hw638 := hw637.1 c2
    subst c2
    refine lv_ifnullN (tgt := 17) hC.x hC.b dX6_seat_10 (by decide) ?_
    refine lv_iconst (v := 0) hC.x hC.b dX6_seat_17 (by decide) ?_
    exact k6_seat_18 hC hw638 H locs ls hP hD hS (lv_sub hl [0, 1] rfl)
  · have hw645 := hw637.2 ⟨t, c2⟩
    subst c2
    refine lv_ifnull hC.x hC.b dX6_seat_10 ?_
    refine lv_iconst (v := 1) hC.x hC.b dX6_seat_13 (by decide) ?_
    refine lv_goto (tgt := 18) hC.x hC.b dX6_seat_14 (by decide) ?_
    exact k6_seat_18 hC hw645 H locs ls hP hD hS (lv_sub hl [0, 1] rfl)
theorem h6_seatAt : yX6_seatAt.cls = RX6 ∧ yX6_seatAt.cls ≠ "java/lang/invoke/MethodHandle" ∧ yX6_seatAt.cls ≠ "java/lang/invoke/VarHandle" ∧ (parseMethodDescriptor yX6_seatAt.desc).map (fun d => d.parameters.length) = some 2 := by decide +kernel
def w6_seatAt (post : Int32 → MS → Prop) (tw : Option (Nat → Nat)) (S : MS) (x1 : Int32) (x2 : Int32) : Prop :=
  (∀ S1, S1 = uI S 0 0 0 → (w6_isPerson (fun r2 => (w6_refusesNight (fun r3 => ((r3 ≤ 0 → (w6_seating (fun S6 => (vp_in x1 6 ∧ (w6_good (fun r7 S8 => (post r7 S8)) S6 (S6.1 7 x1.toNatClampNeg)))) tw S1 x2)) ∧ (¬ r3 ≤ 0 → (w6_refused (fun r9 S10 => (post r9 S10)) S1 r3)))) S1 r2 x2)) tw S1 x1))
set_option maxHeartbeats 4000000 in
theorem m6_seatAt (l : Launch) {post : Int32 → MS → Prop} {S : MS} {x1 : Int32} {x2 : Int32} (hw : w6_seatAt post tw S x1 x2) : Met l yX6_seatAt (ws_ yX6_seatAt cX6_seatAt 4 (some .int)) ({ frames := 6, cells := 0, slots := 0, locals := 142 } : Room) (va_Pc [.ref (ad 0), .int x1, .int x2] (PcG D gCl nwG Z Hb A (wM D ad none rdv tw S))) (va_Qi post (BW D gCl A (fun u => (wM D ad none rdv tw u))) A) 0 0 A := by
  refine Met.ofG (by decide) (Nat.le_of_ble_eq_true rfl) ?_
  intro p e s m below meth c ls hC _ hP hD hS hl
  have hC : CX RX6 cX6_seatAt 4 (some .int) D gCl nwG Z Hb A p s m _ meth c := hC
  have hl : lv_has ls 4 [(0, .ref (ad 0)), (1, .int x1), (2, .int x2)] := hl
  unfold w6_seatAt at hw
  refine lv_aload_n hC.x hC.b dX6_seatAt_0 rfl (lv_at hl 0 rfl) ?_
  refine lv_iconst (v := 0) hC.x hC.b dX6_seatAt_1 (by decide) ?_
  refine pM_0 hC hP hD hS (v := 0) dX6_seatAt_2 (fun S1 eS1 H locs hP hD hS => ?_)
  have hw646 := hw S1 eS1
  refine lv_aload_n hC.x hC.b dX6_seatAt_5 rfl (lv_at hl 0 rfl) ?_
  refine lv_aload_n hC.x hC.b dX6_seatAt_6 rfl (lv_at hl 0 rfl) ?_
  refine lv_iload_n hC.x hC.b dX6_seatAt_7 rfl (lv_at hl 1 rfl) ?_
  refine go_i (run_V (rest := [.ref (ad 0)]) hC (m6_isPerson l hw646) v6_6_isPerson h6_isPerson 0 5 gCl_X6 rfl rfl ⟨rfl, rfl, Nat.le_of_ble_eq_true rfl, Nat.le_of_ble_eq_true rfl⟩ ⟨Nat.le_refl _, Nat.le_refl _⟩ hP hD hS hl.1 (Nat.le_of_ble_eq_true rfl) dX6_seatAt_8 rfl) hS (fun r2 u H locs hw647 hP hD hS => ?_)
  refine lv_iload_n hC.x hC.b dX6_seatAt_11 rfl (lv_at hl 2 rfl) ?_
  refine go_i (run_V (rest := []) hC (m6_refusesNight l hw647) v6_6_refusesNight h6_refusesNight 0 5 gCl_X6 rfl rfl ⟨rfl, rfl, Nat.le_of_ble_eq_true rfl, Nat.le_of_ble_eq_true rfl⟩ ⟨Nat.le_refl _, Nat.le_refl _⟩ hP hD hS hl.1 (Nat.le_of_ble_eq_true rfl) dX6_seatAt_12 rfl) hS (fun r3 u H locs hw648 hP hD hS => ?_)
  refine lv_istore_n (lv' := [(3, .int r3), (0, .ref (ad 0)), (1, .int x1), (2, .int x2)]) hC.x hC.b dX6_seatAt_15 rfl hl (by decide) rfl (fun ls hl => ?_)
  refine lv_iload_n hC.x hC.b dX6_seatAt_16 rfl (lv_at hl 0 rfl) ?_
  refine lv_if_le (tgt := 26) hC.x hC.b dX6_seatAt_17 (by decide) (fun c4 => ?_) (fun c4 => ?_)
  · have hw649 := hw648.1 c4
    refine lv_aload_n hC.x hC.b dX6_seatAt_26 rfl (lv_at hl 1 rfl) ?_
    refine lv_iload_n hC.x hC.b dX6_seatAt_27 rfl (lv_at hl 3 rfl) ?_
    refine go_v (run_V (rest := []) hC (m6_seating l hw649) v6_6_seating h6_seating 0 5 gCl_X6 rfl rfl ⟨rfl, rfl, Nat.le_of_ble_eq_true rfl, Nat.le_of_ble_eq_true rfl⟩ ⟨Nat.le_refl _, Nat.le_refl _⟩ hP hD hS hl.1 (Nat.le_of_ble_eq_true rfl) dX6_seatAt_28 rfl) hS (fun S6 H locs hw650 hP hD hS => ?_)
    refine lv_aload_n hC.x hC.b dX6_seatAt_31 rfl (lv_at hl 1 rfl) ?_
    refine lv_aload_n hC.x hC.b dX6_seatAt_32 rfl (lv_at hl 1 rfl) ?_
    refine gM_22 hC hP dX6_seatAt_33 ?_
    refine lv_iload_n hC.x hC.b dX6_seatAt_36 rfl (lv_at hl 2 rfl) ?_
    obtain ⟨hin, hw651⟩ := hw650
    refine lM_7 hC hP hin rfl dX6_seatAt_37 ?_
    refine go_i (run_V (rest := []) hC (m6_good l hw651) v6_6_good h6_good 0 5 gCl_X6 rfl rfl ⟨rfl, rfl, Nat.le_of_ble_eq_true rfl, Nat.le_of_ble_eq_true rfl⟩ ⟨Nat.le_refl _, Nat.le_refl _⟩ hP hD hS hl.1 (Nat.le_of_ble_eq_true rfl) dX6_seatAt_38 rfl) hS (fun r7 S8 H locs hw652 hP hD hS => ?_)
    exact rt_i hC hw652 hP hD hS dX6_seatAt_41
  · have hw653 := hw648.2 c4
    refine lv_aload_n hC.x hC.b dX6_seatAt_20 rfl (lv_at hl 1 rfl) ?_
    refine lv_iload_n hC.x hC.b dX6_seatAt_21 rfl (lv_at hl 0 rfl) ?_
    refine go_i (run_V (rest := []) hC (m6_refused l hw653) v6_6_refused h6_refused 0 5 gCl_X6 rfl rfl ⟨rfl, rfl, Nat.le_of_ble_eq_true rfl, Nat.le_of_ble_eq_true rfl⟩ ⟨Nat.le_refl _, Nat.le_refl _⟩ hP hD hS hl.1 (Nat.le_of_ble_eq_true rfl) dX6_seatAt_22 rfl) hS (fun r9 S10 H locs hw654 hP hD hS => ?_)
    exact rt_i hC hw654 hP hD hS dX6_seatAt_25
theorem h6_areTwo : yX6_areTwo.cls = RX6 ∧ yX6_areTwo.cls ≠ "java/lang/invoke/MethodHandle" ∧ yX6_areTwo.cls ≠ "java/lang/invoke/VarHandle" ∧ (parseMethodDescriptor yX6_areTwo.desc).map (fun d => d.parameters.length) = some 2 := by decide +kernel
def w6_areTwo (post : Int32 → Prop) (tw : Option (Nat → Nat)) (S : MS) (x1 : Int32) (x2 : Int32) : Prop :=
  (w6_isPerson (fun r1 => ((r1 = 0 → (post 0)) ∧ (¬ r1 = 0 → (w6_isPerson (fun r3 => ((r3 = 0 → (post 0)) ∧ (¬ r3 = 0 → ((x1 = x2 → (post 0)) ∧ (¬ x1 = x2 → (post 1)))))) tw S x2)))) tw S x1)
set_option maxHeartbeats 4000000 in
theorem m6_areTwo (l : Launch) {post : Int32 → Prop} {S : MS} {x1 : Int32} {x2 : Int32} (hw : w6_areTwo post tw S x1 x2) : Met l yX6_areTwo (ws_ yX6_areTwo cX6_areTwo 3 (some .boolean)) ({ frames := 1, cells := 0, slots := 0, locals := 21 } : Room) (va_Pc [.ref (ad 0), .int x1, .int x2] (PcG D gCl nwG Z Hb A (wM D ad none rdv tw S))) (va_Qi (fun r (_ : Unit) => post r) (BW D gCl A (fun _ => (wM D ad none rdv tw S))) A) 0 0 A := by
  refine Met.ofG (by decide) (Nat.le_of_ble_eq_true rfl) ?_
  intro p e s m below meth c ls hC _ hP hD hS hl
  have hC : CX RX6 cX6_areTwo 3 (some .boolean) D gCl nwG Z Hb A p s m _ meth c := hC
  have hl : lv_has ls 3 [(0, .ref (ad 0)), (1, .int x1), (2, .int x2)] := hl
  unfold w6_areTwo at hw
  refine lv_aload_n hC.x hC.b dX6_areTwo_0 rfl (lv_at hl 0 rfl) ?_
  refine lv_iload_n hC.x hC.b dX6_areTwo_1 rfl (lv_at hl 1 rfl) ?_
  refine go_i (run_V (rest := []) hC (m6_isPerson l hw) v6_6_isPerson h6_isPerson 0 5 gCl_X6 rfl rfl ⟨rfl, rfl, Nat.le_of_ble_eq_true rfl, Nat.le_of_ble_eq_true rfl⟩ ⟨Nat.le_refl _, Nat.le_refl _⟩ hP hD hS hl.1 (Nat.le_of_ble_eq_true rfl) dX6_areTwo_2 rfl) hS (fun r1 u H locs hw655 hP hD hS => ?_)
  refine lv_if_eq (tgt := 25) hC.x hC.b dX6_areTwo_5 (by decide) (fun c2 => ?_) (fun c2 => ?_)
  · have hw656 := hw655.1 c2
    refine lv_iconst (v := 0) hC.x hC.b dX6_areTwo_25 (by decide) ?_
    exact rt_z (u := ()) hC (Or.inl rfl) hw656 hP hD hS dX6_areTwo_26
  · have hw657 := hw655.2 c2
    refine lv_aload_n hC.x hC.b dX6_areTwo_8 rfl (lv_at hl 0 rfl) ?_
    refine lv_iload_n hC.x hC.b dX6_areTwo_9 rfl (lv_at hl 2 rfl) ?_
    refine go_i (run_V (rest := []) hC (m6_isPerson l hw657) v6_6_isPerson h6_isPerson 0 5 gCl_X6 rfl rfl ⟨rfl, rfl, Nat.le_of_ble_eq_true rfl, Nat.le_of_ble_eq_true rfl⟩ ⟨Nat.le_refl _, Nat.le_refl _⟩ hP hD hS hl.1 (Nat.le_of_ble_eq_true rfl) dX6_areTwo_10 rfl) hS (fun r3 u H locs hw658 hP hD hS => ?_)
    refine lv_if_eq (tgt := 25) hC.x hC.b dX6_areTwo_13 (by decide) (fun c4 => ?_) (fun c4 => ?_)
    · have hw659 := hw658.1 c4
      refine lv_iconst (v := 0) hC.x hC.b dX6_areTwo_25 (by decide) ?_
      exact rt_z (u := ()) hC (Or.inl rfl) hw659 hP hD hS dX6_areTwo_26
    · have hw660 := hw658.2 c4
      refine lv_iload_n hC.x hC.b dX6_areTwo_16 rfl (lv_at hl 1 rfl) ?_
      refine lv_iload_n hC.x hC.b dX6_areTwo_17 rfl (lv_at hl 2 rfl) ?_
      refine lv_icmp_eq (tgt := 25) hC.x hC.b dX6_areTwo_18 (by decide) (fun c5 => ?_) (fun c5 => ?_)
      · have hw661 := hw660.1 c5
        refine lv_iconst (v := 0) hC.x hC.b dX6_areTwo_25 (by decide) ?_
        exact rt_z (u := ()) hC (Or.inl rfl) hw661 hP hD hS dX6_areTwo_26
      · have hw662 := hw660.2 c5
        refine lv_iconst (v := 1) hC.x hC.b dX6_areTwo_21 (by decide) ?_
        refine lv_goto (tgt := 26) hC.x hC.b dX6_areTwo_22 (by decide) ?_
        exact rt_z (u := ()) hC (Or.inr rfl) hw662 hP hD hS dX6_areTwo_26
theorem h6_rightFor : yX6_rightFor.cls = RX6 ∧ yX6_rightFor.cls ≠ "java/lang/invoke/MethodHandle" ∧ yX6_rightFor.cls ≠ "java/lang/invoke/VarHandle" ∧ (parseMethodDescriptor yX6_rightFor.desc).map (fun d => d.parameters.length) = some 3 := by decide +kernel
def j6_rightFor_48 (tw : Option (Nat → Nat)) (K6 : (Int32 × Int32) → Prop) (S : MS) (x3 : Int32) (x5 : Int32) (y0 : Int32) : Prop :=
  (w6_isRight (fun r3 => ((r3 = 0 → (K6 ((y0 + 0), (x5 + 1)))) ∧ (¬ r3 = 0 → (K6 ((y0 + 1), (x5 + 1)))))) tw S x5 x3)
set_option maxHeartbeats 4000000 in
theorem k6_rightFor_48 {post : Int32 → Prop} {S : MS} {x1 : Int32} {x2 : Int32} {x3 : Int32} {x5 : Int32} {y0 : Int32} {K6 : (Int32 × Int32) → Prop} (hC : CX RX6 cX6_rightFor 6 (some .int) D gCl nwG Z Hb A p s m args meth c) (hK6 : ∀ z : (Int32 × Int32), K6 z → ∀ (H : Heap) (locs : List Loc) (ls : Array Slot), va_P D gCl (wM D ad none rdv tw S) H → va_D A (wM D ad none rdv tw S) → va_S A s.heap H locs → lv_has ls 6 [(0, .ref (ad 0)), (1, .int x1), (2, .int x2), (3, .int x3), (4, .int z.1), (5, .int z.2)] → W p l e ({ frames := 4, cells := 0, slots := 0, locals := 94 } : Room) s m args below meth c H locs 0 0 (MQ below (va_Qi (fun r (_ : Unit) => post r) (BW D gCl A (fun _ => (wM D ad none rdv tw S))) A) args s 0 0 A) (F0 m 6 ls [])) (hw : j6_rightFor_48 tw K6 S x3 x5 y0) : ∀ (H : Heap) (locs : List Loc) (ls : Array Slot), va_P D gCl (wM D ad none rdv tw S) H → va_D A (wM D ad none rdv tw S) → va_S A s.heap H locs → lv_has ls 6 [(0, .ref (ad 0)), (1, .int x1), (2, .int x2), (3, .int x3), (5, .int x5)] → W p l e ({ frames := 4, cells := 0, slots := 0, locals := 94 } : Room) s m args below meth c H locs 0 0 (MQ below (va_Qi (fun r (_ : Unit) => post r) (BW D gCl A (fun _ => (wM D ad none rdv tw S))) A) args s 0 0 A) (F0 m 48 ls [.int y0]) := by
  intro H locs ls hP hD hS hl
  unfold j6_rightFor_48 at hw
  refine lv_aload_n hC.x hC.b dX6_rightFor_48 rfl (lv_at hl 0 rfl) ?_
  refine lv_iload hC.x hC.b dX6_rightFor_49 (lv_at hl 4 rfl) ?_
  refine lv_iload_n hC.x hC.b dX6_rightFor_51 rfl (lv_at hl 3 rfl) ?_
  refine go_i (run_V (rest := [.int y0]) hC (m6_isRight l hw) v6_6_isRight h6_isRight 0 5 gCl_X6 rfl rfl ⟨rfl, rfl, Nat.le_of_ble_eq_true rfl, Nat.le_of_ble_eq_true rfl⟩ ⟨Nat.le_refl _, Nat.le_refl _⟩ hP hD hS hl.1 (Nat.le_of_ble_eq_true rfl) dX6_rightFor_52 rfl) hS (fun r3 u H locs hw668 hP hD hS => ?_)
  refine lv_if_eq (tgt := 62) hC.x hC.b dX6_rightFor_55 (by decide) (fun c4 => ?_) (fun c4 => ?_)
  · have hw669 := hw668.1 c4
    refine lv_iconst (v := 0) hC.x hC.b dX6_rightFor_62 (by decide) ?_
    refine lv_iadd hC.x hC.b dX6_rightFor_63 ?_
    refine lv_istore (lv' := [(4, .int (y0 + 0)), (0, .ref (ad 0)), (1, .int x1), (2, .int x2), (3, .int x3), (5, .int x5)]) hC.x hC.b dX6_rightFor_64 hl (by decide) rfl (fun ls hl => ?_)
    refine lv_iinc (v := (x5 + 1)) (lv' := [(5, .int (x5 + 1)), (4, .int (y0 + 0)), (0, .ref (ad 0)), (1, .int x1), (2, .int x2), (3, .int x3)]) hC.x hC.b dX6_rightFor_66 hl (k := 5) rfl rfl (by decide) rfl (fun ls hl => ?_)
    refine lv_goto (tgt := 6) hC.x hC.b dX6_rightFor_69 (by decide) ?_
    exact hK6 ((y0 + 0), (x5 + 1)) hw669 H locs ls hP hD hS (lv_sub hl [2, 3, 4, 5, 1, 0] rfl)
  · have hw670 := hw668.2 c4
    refine lv_iconst (v := 1) hC.x hC.b dX6_rightFor_58 (by decide) ?_
    refine lv_goto (tgt := 63) hC.x hC.b dX6_rightFor_59 (by decide) ?_
    refine lv_iadd hC.x hC.b dX6_rightFor_63 ?_
    refine lv_istore (lv' := [(4, .int (y0 + 1)), (0, .ref (ad 0)), (1, .int x1), (2, .int x2), (3, .int x3), (5, .int x5)]) hC.x hC.b dX6_rightFor_64 hl (by decide) rfl (fun ls hl => ?_)
    refine lv_iinc (v := (x5 + 1)) (lv' := [(5, .int (x5 + 1)), (4, .int (y0 + 1)), (0, .ref (ad 0)), (1, .int x1), (2, .int x2), (3, .int x3)]) hC.x hC.b dX6_rightFor_66 hl (k := 5) rfl rfl (by decide) rfl (fun ls hl => ?_)
    refine lv_goto (tgt := 6) hC.x hC.b dX6_rightFor_69 (by decide) ?_
    exact hK6 ((y0 + 1), (x5 + 1)) hw670 H locs ls hP hD hS (lv_sub hl [2, 3, 4, 5, 1, 0] rfl)
def f6_rightFor_6 (post : Int32 → Prop) (tw : Option (Nat → Nat)) (S : MS) (x1 : Int32) (x2 : Int32) (x3 : Int32) (K6 : (Int32 × Int32) → Prop) (x4 : Int32) (x5 : Int32) : Prop :=
  ((∃ t, tw = some t) ∧ (((S.1 20 3) ≤ x5 → (post x4)) ∧ (¬ (S.1 20 3) ≤ x5 → (vp_in x5 6 ∧ (((S.1 24 x5.toNatClampNeg) = x1 → (j6_rightFor_48 tw K6 S x3 x5 x4)) ∧ (¬ (S.1 24 x5.toNatClampNeg) = x1 → (vp_in x5 6 ∧ ((¬ (S.1 24 x5.toNatClampNeg) = x2 → (K6 ((x4 + 0), (x5 + 1)))) ∧ ((S.1 24 x5.toNatClampNeg) = x2 → (j6_rightFor_48 tw K6 S x3 x5 x4))))))))))
set_option maxHeartbeats 4000000 in
theorem k6_rightFor_6 {post : Int32 → Prop} {S : MS} {x1 : Int32} {x2 : Int32} {x3 : Int32} (hC : CX RX6 cX6_rightFor 6 (some .int) D gCl nwG Z Hb A p s m args meth c) : ∀ z : (Int32 × Int32), lp (fun (K : (Int32 × Int32) → Prop) (z : (Int32 × Int32)) => f6_rightFor_6 post tw S x1 x2 x3 K z.1 z.2) z → ∀ (H : Heap) (locs : List Loc) (ls : Array Slot), va_P D gCl (wM D ad none rdv tw S) H → va_D A (wM D ad none rdv tw S) → va_S A s.heap H locs → lv_has ls 6 [(0, .ref (ad 0)), (1, .int x1), (2, .int x2), (3, .int x3), (4, .int z.1), (5, .int z.2)] → W p l e ({ frames := 4, cells := 0, slots := 0, locals := 94 } : Room) s m args below meth c H locs 0 0 (MQ below (va_Qi (fun r (_ : Unit) => post r) (BW D gCl A (fun _ => (wM D ad none rdv tw S))) A) args s 0 0 A) (F0 m 6 ls []) := by
  refine lp_ind ?_
  rintro K6 ⟨x4, x5⟩ hK6 hw H locs ls hP hD hS hl
  have hw : f6_rightFor_6 post tw S x1 x2 x3 K6 x4 x5 := hw
  unfold f6_rightFor_6 at hw
  have hP : va_P D gCl (wM D ad none rdv tw S) H := hP
  have hD : va_D A (wM D ad none rdv tw S) := hD
  have hl : lv_has ls 6 [(0, .ref (ad 0)), (1, .int x1), (2, .int x2), (3, .int x3), (4, .int x4), (5, .int x5)] := hl
  refine lv_iload hC.x hC.b dX6_rightFor_6 (lv_at hl 5 rfl) ?_
  refine lv_aload_n hC.x hC.b dX6_rightFor_8 rfl (lv_at hl 0 rfl) ?_
  refine gM_3 hC hP dX6_rightFor_9 ?_
  obtain ⟨⟨t, rfl⟩, hw663⟩ := hw
  refine gT_3 hC hP dX6_rightFor_12 ?_
  refine lv_icmp_ge (tgt := 72) hC.x hC.b dX6_rightFor_15 (by decide) (fun c1 => ?_) (fun c1 => ?_)
  · have hw664 := hw663.1 c1
    refine lv_iload hC.x hC.b dX6_rightFor_72 (lv_at hl 4 rfl) ?_
    exact rt_i (u := ()) hC hw664 hP hD hS dX6_rightFor_74
  · have hw665 := hw663.2 c1
    refine lv_iload hC.x hC.b dX6_rightFor_18 (lv_at hl 4 rfl) ?_
    refine lv_aload_n hC.x hC.b dX6_rightFor_20 rfl (lv_at hl 0 rfl) ?_
    refine gM_3 hC hP dX6_rightFor_21 ?_
    refine gT_11 hC hP dX6_rightFor_24 ?_
    refine lv_iload hC.x hC.b dX6_rightFor_27 (lv_at hl 5 rfl) ?_
    obtain ⟨hin, hw666⟩ := hw665
    refine lT_4 hC hP hin rfl dX6_rightFor_29 ?_
    refine lv_iload_n hC.x hC.b dX6_rightFor_30 rfl (lv_at hl 1 rfl) ?_
    refine lv_icmp_eq (tgt := 48) hC.x hC.b dX6_rightFor_31 (by decide) (fun c2 => ?_) (fun c2 => ?_)
    · have hw667 := hw666.1 c2
      exact k6_rightFor_48 hC hK6 hw667 H locs ls hP hD hS (lv_sub hl [0, 1, 2, 3, 5] rfl)
    · have hw671 := hw666.2 c2
      refine lv_aload_n hC.x hC.b dX6_rightFor_34 rfl (lv_at hl 0 rfl) ?_
      refine gM_3 hC hP dX6_rightFor_35 ?_
      refine gT_11 hC hP dX6_rightFor_38 ?_
      refine lv_iload hC.x hC.b dX6_rightFor_41 (lv_at hl 5 rfl) ?_
      obtain ⟨hin, hw672⟩ := hw671
      refine lT_4 hC hP hin rfl dX6_rightFor_43 ?_
      refine lv_iload_n hC.x hC.b dX6_rightFor_44 rfl (lv_at hl 2 rfl) ?_
      refine lv_icmp_ne (tgt := 62) hC.x hC.b dX6_rightFor_45 (by decide) (fun c5 => ?_) (fun c5 => ?_)
      · have hw673 := hw672.1 c5
        refine lv_iconst (v := 0) hC.x hC.b dX6_rightFor_62 (by decide) ?_
        refine lv_iadd hC.x hC.b dX6_rightFor_63 ?_
        refine lv_istore (lv' := [(4, .int (x4 + 0)), (0, .ref (ad 0)), (1, .int x1), (2, .int x2), (3, .int x3), (5, .int x5)]) hC.x hC.b dX6_rightFor_64 hl (by decide) rfl (fun ls hl => ?_)
        refine lv_iinc (v := (x5 + 1)) (lv' := [(5, .int (x5 + 1)), (4, .int (x4 + 0)), (0, .ref (ad 0)), (1, .int x1), (2, .int x2), (3, .int x3)]) hC.x hC.b dX6_rightFor_66 hl (k := 5) rfl rfl (by decide) rfl (fun ls hl => ?_)
        refine lv_goto (tgt := 6) hC.x hC.b dX6_rightFor_69 (by decide) ?_
        exact hK6 ((x4 + 0), (x5 + 1)) hw673 H locs ls hP hD hS (lv_sub hl [2, 3, 4, 5, 1, 0] rfl)
      · have hw674 := hw672.2 c5
        exact k6_rightFor_48 hC hK6 hw674 H locs ls hP hD hS (lv_sub hl [0, 1, 2, 3, 5] rfl)
def w6_rightFor (post : Int32 → Prop) (tw : Option (Nat → Nat)) (S : MS) (x1 : Int32) (x2 : Int32) (x3 : Int32) : Prop :=
  (lp (fun (K : (Int32 × Int32) → Prop) (z : (Int32 × Int32)) => f6_rightFor_6 post tw S x1 x2 x3 K z.1 z.2) (0, 0))
set_option maxHeartbeats 4000000 in
theorem m6_rightFor (l : Launch) {post : Int32 → Prop} {S : MS} {x1 : Int32} {x2 : Int32} {x3 : Int32} (hw : w6_rightFor post tw S x1 x2 x3) : Met l yX6_rightFor (ws_ yX6_rightFor cX6_rightFor 6 (some .int)) ({ frames := 4, cells := 0, slots := 0, locals := 94 } : Room) (va_Pc [.ref (ad 0), .int x1, .int x2, .int x3] (PcG D gCl nwG Z Hb A (wM D ad none rdv tw S))) (va_Qi (fun r (_ : Unit) => post r) (BW D gCl A (fun _ => (wM D ad none rdv tw S))) A) 0 0 A := by
  refine Met.ofG (by decide) (Nat.le_of_ble_eq_true rfl) ?_
  intro p e s m below meth c ls hC _ hP hD hS hl
  have hC : CX RX6 cX6_rightFor 6 (some .int) D gCl nwG Z Hb A p s m _ meth c := hC
  have hl : lv_has ls 6 [(0, .ref (ad 0)), (1, .int x1), (2, .int x2), (3, .int x3)] := hl
  unfold w6_rightFor at hw
  refine lv_iconst (v := 0) hC.x hC.b dX6_rightFor_0 (by decide) ?_
  refine lv_istore (lv' := [(4, .int 0), (0, .ref (ad 0)), (1, .int x1), (2, .int x2), (3, .int x3)]) hC.x hC.b dX6_rightFor_1 hl (by decide) rfl (fun ls hl => ?_)
  refine lv_iconst (v := 0) hC.x hC.b dX6_rightFor_3 (by decide) ?_
  refine lv_istore (lv' := [(5, .int 0), (4, .int 0), (0, .ref (ad 0)), (1, .int x1), (2, .int x2), (3, .int x3)]) hC.x hC.b dX6_rightFor_4 hl (by decide) rfl (fun ls hl => ?_)
  exact k6_rightFor_6 hC (0, 0) hw s.heap [] ls hP hD hS (lv_sub hl [2, 3, 4, 5, 1, 0] rfl)
theorem v6_6_rightFor : GoodIn lw_all (wsV RX6 379 RX6 yX6_rightFor (ws_ yX6_rightFor cX6_rightFor 6 (some .int))) := lw_V q1962 q1964 qs95 q126 q1965
theorem h6_isLiked : yX6_isLiked.cls = RX6 ∧ yX6_isLiked.cls ≠ "java/lang/invoke/MethodHandle" ∧ yX6_isLiked.cls ≠ "java/lang/invoke/VarHandle" ∧ (parseMethodDescriptor yX6_isLiked.desc).map (fun d => d.parameters.length) = some 3 := by decide +kernel
def w6_isLiked (post : Int32 → MS → Prop) (tw : Option (Nat → Nat)) (S : MS) (x1 : Int32) (x2 : Int32) (x3 : Int32) : Prop :=
  (w6_works (fun S2 => (w6_rightFor (fun r3 => (vp_in x2 19 ∧ (vp_in x1 19 ∧ (∀ S4, S4 = uI S2 3 x1.toNatClampNeg (S2.1 2 x2.toNatClampNeg) → (vp_in x1 19 ∧ (vp_in x2 19 ∧ (∀ S5, S5 = uI S4 3 x2.toNatClampNeg (S4.1 2 x1.toNatClampNeg) → (w6_rightFor (fun r6 => ((r6 ≤ r3 → (post 0 S5)) ∧ (¬ r6 ≤ r3 → (post 1 S5)))) tw S5 x1 x2 x3)))))))) tw S2 x1 x2 x3)) S)
set_option maxHeartbeats 4000000 in
theorem m6_isLiked (l : Launch) {post : Int32 → MS → Prop} {S : MS} {x1 : Int32} {x2 : Int32} {x3 : Int32} (hw : w6_isLiked post tw S x1 x2 x3) : Met l yX6_isLiked (ws_ yX6_isLiked cX6_isLiked 5 (some .boolean)) ({ frames := 5, cells := 0, slots := 0, locals := 119 } : Room) (va_Pc [.ref (ad 0), .int x1, .int x2, .int x3] (PcG D gCl nwG Z Hb A (wM D ad none rdv tw S))) (va_Qi post (BW D gCl A (fun u => (wM D ad none rdv tw u))) A) 0 0 A := by
  refine Met.ofG (by decide) (Nat.le_of_ble_eq_true rfl) ?_
  intro p e s m below meth c ls hC _ hP hD hS hl
  have hC : CX RX6 cX6_isLiked 5 (some .boolean) D gCl nwG Z Hb A p s m _ meth c := hC
  have hl : lv_has ls 5 [(0, .ref (ad 0)), (1, .int x1), (2, .int x2), (3, .int x3)] := hl
  unfold w6_isLiked at hw
  refine lv_aload_n hC.x hC.b dX6_isLiked_0 rfl (lv_at hl 0 rfl) ?_
  refine go_v (run_V (rest := []) hC (m6_works l hw) v6_6_works h6_works 0 5 gCl_X6 rfl rfl ⟨rfl, rfl, Nat.le_of_ble_eq_true rfl, Nat.le_of_ble_eq_true rfl⟩ ⟨Nat.le_refl _, Nat.le_refl _⟩ hP hD hS hl.1 (Nat.le_of_ble_eq_true rfl) dX6_isLiked_1 rfl) hS (fun S2 H locs hw675 hP hD hS => ?_)
  refine lv_aload_n hC.x hC.b dX6_isLiked_4 rfl (lv_at hl 0 rfl) ?_
  refine lv_iload_n hC.x hC.b dX6_isLiked_5 rfl (lv_at hl 1 rfl) ?_
  refine lv_iload_n hC.x hC.b dX6_isLiked_6 rfl (lv_at hl 2 rfl) ?_
  refine lv_iload_n hC.x hC.b dX6_isLiked_7 rfl (lv_at hl 3 rfl) ?_
  refine go_i (run_V (rest := []) hC (m6_rightFor l hw675) v6_6_rightFor h6_rightFor 0 5 gCl_X6 rfl rfl ⟨rfl, rfl, Nat.le_of_ble_eq_true rfl, Nat.le_of_ble_eq_true rfl⟩ ⟨Nat.le_refl _, Nat.le_refl _⟩ hP hD hS hl.1 (Nat.le_of_ble_eq_true rfl) dX6_isLiked_8 rfl) hS (fun r3 u H locs hw676 hP hD hS => ?_)
  refine lv_istore (lv' := [(4, .int r3), (0, .ref (ad 0)), (1, .int x1), (2, .int x2), (3, .int x3)]) hC.x hC.b dX6_isLiked_11 hl (by decide) rfl (fun ls hl => ?_)
  refine lv_aload_n hC.x hC.b dX6_isLiked_13 rfl (lv_at hl 1 rfl) ?_
  refine gM_16 hC hP dX6_isLiked_14 ?_
  refine lv_iload_n hC.x hC.b dX6_isLiked_17 rfl (lv_at hl 2 rfl) ?_
  refine lv_aload_n hC.x hC.b dX6_isLiked_18 rfl (lv_at hl 1 rfl) ?_
  refine gM_15 hC hP dX6_isLiked_19 ?_
  refine lv_iload_n hC.x hC.b dX6_isLiked_22 rfl (lv_at hl 3 rfl) ?_
  obtain ⟨hin, hw677⟩ := hw676
  refine lM_2 hC hP hin rfl dX6_isLiked_23 ?_
  obtain ⟨hin, hw678⟩ := hw677
  refine sM_3 hC hP hD hS (v := (S2.1 2 x2.toNatClampNeg)) hin rfl dX6_isLiked_24 (fun S4 eS4 H locs hP hD hS => ?_)
  have hw679 := hw678 S4 eS4
  refine lv_aload_n hC.x hC.b dX6_isLiked_25 rfl (lv_at hl 1 rfl) ?_
  refine gM_16 hC hP dX6_isLiked_26 ?_
  refine lv_iload_n hC.x hC.b dX6_isLiked_29 rfl (lv_at hl 3 rfl) ?_
  refine lv_aload_n hC.x hC.b dX6_isLiked_30 rfl (lv_at hl 1 rfl) ?_
  refine gM_15 hC hP dX6_isLiked_31 ?_
  refine lv_iload_n hC.x hC.b dX6_isLiked_34 rfl (lv_at hl 2 rfl) ?_
  obtain ⟨hin, hw680⟩ := hw679
  refine lM_2 hC hP hin rfl dX6_isLiked_35 ?_
  obtain ⟨hin, hw681⟩ := hw680
  refine sM_3 hC hP hD hS (v := (S4.1 2 x1.toNatClampNeg)) hin rfl dX6_isLiked_36 (fun S5 eS5 H locs hP hD hS => ?_)
  have hw682 := hw681 S5 eS5
  refine lv_aload_n hC.x hC.b dX6_isLiked_37 rfl (lv_at hl 1 rfl) ?_
  refine lv_iload_n hC.x hC.b dX6_isLiked_38 rfl (lv_at hl 2 rfl) ?_
  refine lv_iload_n hC.x hC.b dX6_isLiked_39 rfl (lv_at hl 3 rfl) ?_
  refine lv_iload_n hC.x hC.b dX6_isLiked_40 rfl (lv_at hl 4 rfl) ?_
  refine go_i (run_V (rest := []) hC (m6_rightFor l hw682) v6_6_rightFor h6_rightFor 0 5 gCl_X6 rfl rfl ⟨rfl, rfl, Nat.le_of_ble_eq_true rfl, Nat.le_of_ble_eq_true rfl⟩ ⟨Nat.le_refl _, Nat.le_refl _⟩ hP hD hS hl.1 (Nat.le_of_ble_eq_true rfl) dX6_isLiked_41 rfl) hS (fun r6 u H locs hw683 hP hD hS => ?_)
  refine lv_iload hC.x hC.b dX6_isLiked_44 (lv_at hl 0 rfl) ?_
  refine lv_icmp_le (tgt := 53) hC.x hC.b dX6_isLiked_46 (by decide) (fun c7 => ?_) (fun c7 => ?_)
  · have hw684 := hw683.1 c7
    refine lv_iconst (v := 0) hC.x hC.b dX6_isLiked_53 (by decide) ?_
    exact rt_z hC (Or.inl rfl) hw684 hP hD hS dX6_isLiked_54
  · have hw685 := hw683.2 c7
    refine lv_iconst (v := 1) hC.x hC.b dX6_isLiked_49 (by decide) ?_
    refine lv_goto (tgt := 54) hC.x hC.b dX6_isLiked_50 (by decide) ?_
    exact rt_z hC (Or.inr rfl) hw685 hP hD hS dX6_isLiked_54
theorem v6_6_areTwo : GoodIn lw_all (wsV RX6 382 RX6 yX6_areTwo (ws_ yX6_areTwo cX6_areTwo 3 (some .boolean))) := lw_V q1954 q1956 qs93 q126 q1957
theorem v6_6_isLiked : GoodIn lw_all (wsV RX6 385 RX6 yX6_isLiked (ws_ yX6_isLiked cX6_isLiked 5 (some .boolean))) := lw_V q1958 q1960 qs94 q126 q1961
theorem h6_likes : yX6_likes.cls = RX6 ∧ yX6_likes.cls ≠ "java/lang/invoke/MethodHandle" ∧ yX6_likes.cls ≠ "java/lang/invoke/VarHandle" ∧ (parseMethodDescriptor yX6_likes.desc).map (fun d => d.parameters.length) = some 3 := by decide +kernel
def w6_likes (post : Int32 → MS → Prop) (tw : Option (Nat → Nat)) (S : MS) (x1 : Int32) (x2 : Int32) (x3 : Int32) : Prop :=
  (∀ S1, S1 = uI S 0 0 0 → (w6_areTwo (fun r2 => (w6_refusesNight (fun r3 => ((r3 ≤ 0 → (w6_isLiked (fun r5 S6 => ((r5 = 0 → (w6_good (fun r8 S9 => (post r8 S9)) S6 0)) ∧ (¬ r5 = 0 → (w6_good (fun r10 S11 => (post r10 S11)) S6 1)))) tw S1 x1 x2 x3)) ∧ (¬ r3 ≤ 0 → (w6_refused (fun r12 S13 => (post r12 S13)) S1 r3)))) S1 r2 x3)) tw S1 x1 x2))
set_option maxHeartbeats 4000000 in
theorem m6_likes (l : Launch) {post : Int32 → MS → Prop} {S : MS} {x1 : Int32} {x2 : Int32} {x3 : Int32} (hw : w6_likes post tw S x1 x2 x3) : Met l yX6_likes (ws_ yX6_likes cX6_likes 5 (some .int)) ({ frames := 6, cells := 0, slots := 0, locals := 143 } : Room) (va_Pc [.ref (ad 0), .int x1, .int x2, .int x3] (PcG D gCl nwG Z Hb A (wM D ad none rdv tw S))) (va_Qi post (BW D gCl A (fun u => (wM D ad none rdv tw u))) A) 0 0 A := by
  refine Met.ofG (by decide) (Nat.le_of_ble_eq_true rfl) ?_
  intro p e s m below meth c ls hC _ hP hD hS hl
  have hC : CX RX6 cX6_likes 5 (some .int) D gCl nwG Z Hb A p s m _ meth c := hC
  have hl : lv_has ls 5 [(0, .ref (ad 0)), (1, .int x1), (2, .int x2), (3, .int x3)] := hl
  unfold w6_likes at hw
  refine lv_aload_n hC.x hC.b dX6_likes_0 rfl (lv_at hl 0 rfl) ?_
  refine lv_iconst (v := 0) hC.x hC.b dX6_likes_1 (by decide) ?_
  refine pM_0 hC hP hD hS (v := 0) dX6_likes_2 (fun S1 eS1 H locs hP hD hS => ?_)
  have hw686 := hw S1 eS1
  refine lv_aload_n hC.x hC.b dX6_likes_5 rfl (lv_at hl 0 rfl) ?_
  refine lv_aload_n hC.x hC.b dX6_likes_6 rfl (lv_at hl 0 rfl) ?_
  refine lv_iload_n hC.x hC.b dX6_likes_7 rfl (lv_at hl 1 rfl) ?_
  refine lv_iload_n hC.x hC.b dX6_likes_8 rfl (lv_at hl 2 rfl) ?_
  refine go_i (run_V (rest := [.ref (ad 0)]) hC (m6_areTwo l hw686) v6_6_areTwo h6_areTwo 0 5 gCl_X6 rfl rfl ⟨rfl, rfl, Nat.le_of_ble_eq_true rfl, Nat.le_of_ble_eq_true rfl⟩ ⟨Nat.le_refl _, Nat.le_refl _⟩ hP hD hS hl.1 (Nat.le_of_ble_eq_true rfl) dX6_likes_9 rfl) hS (fun r2 u H locs hw687 hP hD hS => ?_)
  refine lv_iload_n hC.x hC.b dX6_likes_12 rfl (lv_at hl 3 rfl) ?_
  refine go_i (run_V (rest := []) hC (m6_refusesNight l hw687) v6_6_refusesNight h6_refusesNight 0 5 gCl_X6 rfl rfl ⟨rfl, rfl, Nat.le_of_ble_eq_true rfl, Nat.le_of_ble_eq_true rfl⟩ ⟨Nat.le_refl _, Nat.le_refl _⟩ hP hD hS hl.1 (Nat.le_of_ble_eq_true rfl) dX6_likes_13 rfl) hS (fun r3 u H locs hw688 hP hD hS => ?_)
  refine lv_istore (lv' := [(4, .int r3), (0, .ref (ad 0)), (1, .int x1), (2, .int x2), (3, .int x3)]) hC.x hC.b dX6_likes_16 hl (by decide) rfl (fun ls hl => ?_)
  refine lv_iload hC.x hC.b dX6_likes_18 (lv_at hl 0 rfl) ?_
  refine lv_if_le (tgt := 30) hC.x hC.b dX6_likes_20 (by decide) (fun c4 => ?_) (fun c4 => ?_)
  · have hw689 := hw688.1 c4
    refine lv_aload_n hC.x hC.b dX6_likes_30 rfl (lv_at hl 1 rfl) ?_
    refine lv_aload_n hC.x hC.b dX6_likes_31 rfl (lv_at hl 1 rfl) ?_
    refine lv_iload_n hC.x hC.b dX6_likes_32 rfl (lv_at hl 2 rfl) ?_
    refine lv_iload_n hC.x hC.b dX6_likes_33 rfl (lv_at hl 3 rfl) ?_
    refine lv_iload_n hC.x hC.b dX6_likes_34 rfl (lv_at hl 4 rfl) ?_
    refine go_i (run_V (rest := [.ref (ad 0)]) hC (m6_isLiked l hw689) v6_6_isLiked h6_isLiked 0 5 gCl_X6 rfl rfl ⟨rfl, rfl, Nat.le_of_ble_eq_true rfl, Nat.le_of_ble_eq_true rfl⟩ ⟨Nat.le_refl _, Nat.le_refl _⟩ hP hD hS hl.1 (Nat.le_of_ble_eq_true rfl) dX6_likes_35 rfl) hS (fun r5 S6 H locs hw690 hP hD hS => ?_)
    refine lv_if_eq (tgt := 45) hC.x hC.b dX6_likes_38 (by decide) (fun c7 => ?_) (fun c7 => ?_)
    · have hw691 := hw690.1 c7
      refine lv_iconst (v := 0) hC.x hC.b dX6_likes_45 (by decide) ?_
      refine go_i (run_V (rest := []) hC (m6_good l hw691) v6_6_good h6_good 0 5 gCl_X6 rfl rfl ⟨rfl, rfl, Nat.le_of_ble_eq_true rfl, Nat.le_of_ble_eq_true rfl⟩ ⟨Nat.le_refl _, Nat.le_refl _⟩ hP hD hS hl.1 (Nat.le_of_ble_eq_true rfl) dX6_likes_46 rfl) hS (fun r8 S9 H locs hw692 hP hD hS => ?_)
      exact rt_i hC hw692 hP hD hS dX6_likes_49
    · have hw693 := hw690.2 c7
      refine lv_iconst (v := 1) hC.x hC.b dX6_likes_41 (by decide) ?_
      refine lv_goto (tgt := 46) hC.x hC.b dX6_likes_42 (by decide) ?_
      refine go_i (run_V (rest := []) hC (m6_good l hw693) v6_6_good h6_good 0 5 gCl_X6 rfl rfl ⟨rfl, rfl, Nat.le_of_ble_eq_true rfl, Nat.le_of_ble_eq_true rfl⟩ ⟨Nat.le_refl _, Nat.le_refl _⟩ hP hD hS hl.1 (Nat.le_of_ble_eq_true rfl) dX6_likes_46 rfl) hS (fun r10 S11 H locs hw694 hP hD hS => ?_)
      exact rt_i hC hw694 hP hD hS dX6_likes_49
  · have hw695 := hw688.2 c4
    refine lv_aload_n hC.x hC.b dX6_likes_23 rfl (lv_at hl 1 rfl) ?_
    refine lv_iload hC.x hC.b dX6_likes_24 (lv_at hl 0 rfl) ?_
    refine go_i (run_V (rest := []) hC (m6_refused l hw695) v6_6_refused h6_refused 0 5 gCl_X6 rfl rfl ⟨rfl, rfl, Nat.le_of_ble_eq_true rfl, Nat.le_of_ble_eq_true rfl⟩ ⟨Nat.le_refl _, Nat.le_refl _⟩ hP hD hS hl.1 (Nat.le_of_ble_eq_true rfl) dX6_likes_26 rfl) hS (fun r12 S13 H locs hw696 hP hD hS => ?_)
    exact rt_i hC hw696 hP hD hS dX6_likes_29
end MWm1
