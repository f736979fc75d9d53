set_option maxRecDepth 100000
section MWm0
variable {p : Program} {l : Launch} {w0 : va_W} {e : Env} {s : State} {m : MethodId} {args : Array Value} {below : List Frame} {meth : Method} {c : Code} {D : va_G} {Z : State → Prop} {Hb : Heap} {A : Nat → Prop} {ad : Nat → Nat} {rd tw : Option (Nat → Nat)} {rdv : Option Nat} {t rt : Nat → Nat}
theorem h6_thrown : yX6_thrown.cls = RX6 ∧ yX6_thrown.cls ≠ "java/lang/invoke/MethodHandle" ∧ yX6_thrown.cls ≠ "java/lang/invoke/VarHandle" ∧ (parseMethodDescriptor yX6_thrown.desc).map (fun d => d.parameters.length) = some 0 := by decide +kernel
def w6_thrown (post : Int32 → Prop) (S : MS) : Prop :=
  (post (S.1 0 0))
set_option maxHeartbeats 4000000 in
theorem m6_thrown (l : Launch) {post : Int32 → Prop} {S : MS} (hw : w6_thrown post S) : Met l yX6_thrown (ws_ yX6_thrown cX6_thrown 1 (some .int)) ({ frames := 0, cells := 0, slots := 0, locals := 0 } : Room) (va_Pc [.ref (ad 0)] (PcG D gCl nwG Z Hb A (wM D ad rd rdv tw S))) (va_Qi (fun r (_ : Unit) => post r) (BW D gCl A (fun _ => (wM D ad rd rdv tw S))) A) 0 0 A := by
  refine Met.ofG (by decide) (Nat.le_of_ble_eq_true rfl) ?_
  intro p e s m below meth c ls hC _ hP hD hS hl
  have hC : CX RX6 cX6_thrown 1 (some .int) D gCl nwG Z Hb A p s m _ meth c := hC
  have hl : lv_has ls 1 [(0, .ref (ad 0))] := hl
  unfold w6_thrown at hw
  refine lv_aload_n hC.x hC.b dX6_thrown_0 rfl (lv_at hl 0 rfl) ?_
  refine gM_0 hC hP dX6_thrown_1 ?_
  exact rt_i (u := ()) hC hw hP hD hS dX6_thrown_4
theorem h6_feed : yX6_feed.cls = RX6 ∧ yX6_feed.cls ≠ "java/lang/invoke/MethodHandle" ∧ yX6_feed.cls ≠ "java/lang/invoke/VarHandle" ∧ (parseMethodDescriptor yX6_feed.desc).map (fun d => d.parameters.length) = some 5 := by decide +kernel
def j6_feed_76 (K23 : (MS × Int32) → Prop) (S : MS) (x6 : Int32) (y0 : Int32) : Prop :=
  (vp_in (S.1 0 6) 800 ∧ (∀ S8, S8 = uI S 1 (S.1 0 6).toNatClampNeg (vp_nar .byte ((y0 >>> ((24 - (8 * (x6 - x6 / 4 * 4))) &&& 31)).toInt8.toInt32)) → (∀ S9, S9 = uI S8 0 6 ((S8.1 0 6) + 1) → (K23 (S9, (x6 + 1))))))
set_option maxHeartbeats 4000000 in
theorem k6_feed_76 {post : Int32 → MS → Prop} {S : MS} {x1 : Int32} {x2 : Int32} {x3 : Int32} {x4 : Int32} {x5 : Int32} {x6 : Int32} {y0 : Int32} {K23 : (MS × Int32) → Prop} (hC : CX RX6 cX6_feed 8 (some .int) D gCl nwG Z Hb A p s m args meth c) (hK23 : ∀ z : (MS × Int32), K23 z → ∀ (H : Heap) (locs : List Loc) (ls : Array Slot), va_P D gCl (wM D ad rd rdv tw z.1) H → va_D A (wM D ad rd rdv tw z.1) → va_S A s.heap H locs → lv_has ls 8 [(0, .ref (ad 0)), (1, .int x1), (2, .int x2), (3, .int x3), (4, .int x4), (5, .int x5), (6, .int z.2)] → W p l e ({ frames := 0, cells := 0, slots := 0, locals := 0 } : Room) s m args below meth c H locs 0 0 (MQ below (va_Qi post (BW D gCl A (fun u => (wM D ad rd rdv tw u))) A) args s 0 0 A) (F0 m 23 ls [])) (hw : j6_feed_76 K23 S x6 y0) : ∀ (H : Heap) (locs : List Loc) (ls : Array Slot), va_P D gCl (wM D ad rd rdv tw S) H → va_D A (wM D ad rd rdv tw S) → va_S A s.heap H locs → lv_has ls 8 [(0, .ref (ad 0)), (1, .int x1), (2, .int x2), (3, .int x3), (4, .int x4), (5, .int x5), (6, .int x6)] → W p l e ({ frames := 0, cells := 0, slots := 0, locals := 0 } : Room) s m args below meth c H locs 0 0 (MQ below (va_Qi post (BW D gCl A (fun u => (wM D ad rd rdv tw u))) A) args s 0 0 A) (F0 m 76 ls [.int y0]) := by
  intro H locs ls hP hD hS hl
  unfold j6_feed_76 at hw
  refine lv_istore (lv' := [(7, .int y0), (0, .ref (ad 0)), (1, .int x1), (2, .int x2), (3, .int x3), (4, .int x4), (5, .int x5), (6, .int x6)]) hC.x hC.b dX6_feed_76 hl (by decide) rfl (fun ls hl => ?_)
  refine lv_aload_n hC.x hC.b dX6_feed_78 rfl (lv_at hl 1 rfl) ?_
  refine gM_5 hC hP dX6_feed_79 ?_
  refine lv_aload_n hC.x hC.b dX6_feed_82 rfl (lv_at hl 1 rfl) ?_
  refine gM_6 hC hP dX6_feed_83 ?_
  refine lv_iload hC.x hC.b dX6_feed_86 (lv_at hl 0 rfl) ?_
  refine lv_bipush (v := 24) hC.x hC.b dX6_feed_88 (by decide) ?_
  refine lv_bipush (v := 8) hC.x hC.b dX6_feed_90 (by decide) ?_
  refine lv_iload hC.x hC.b dX6_feed_92 (lv_at hl 7 rfl) ?_
  refine lv_iconst (v := 4) hC.x hC.b dX6_feed_94 (by decide) ?_
  refine lv_irem hC.x hC.b dX6_feed_95 (by decide) ?_
  refine lv_imul hC.x hC.b dX6_feed_96 ?_
  refine lv_isub hC.x hC.b dX6_feed_97 ?_
  refine lv_ishr hC.x hC.b dX6_feed_98 ?_
  refine lv_i2b (v := ((y0 >>> ((24 - (8 * (x6 - x6 / 4 * 4))) &&& 31)).toInt8.toInt32)) hC.x hC.b dX6_feed_99 rfl ?_
  obtain ⟨hin, hw9⟩ := hw
  refine sM_1 hC hP hD hS (v := ((y0 >>> ((24 - (8 * (x6 - x6 / 4 * 4))) &&& 31)).toInt8.toInt32)) hin rfl dX6_feed_100 (fun S8 eS8 H locs hP hD hS => ?_)
  have hw10 := hw9 S8 eS8
  refine lv_aload_n hC.x hC.b dX6_feed_101 rfl (lv_at hl 1 rfl) ?_
  refine lv_dup hC.x hC.b dX6_feed_102 rfl ?_
  refine gM_6 hC hP dX6_feed_103 ?_
  refine lv_iconst (v := 1) hC.x hC.b dX6_feed_106 (by decide) ?_
  refine lv_iadd hC.x hC.b dX6_feed_107 ?_
  refine pM_6 hC hP hD hS (v := ((S8.1 0 6) + 1)) dX6_feed_108 (fun S9 eS9 H locs hP hD hS => ?_)
  have hw11 := hw10 S9 eS9
  refine lv_iinc (v := (x6 + 1)) (lv' := [(6, .int (x6 + 1)), (7, .int y0), (0, .ref (ad 0)), (1, .int x1), (2, .int x2), (3, .int x3), (4, .int x4), (5, .int x5)]) hC.x hC.b dX6_feed_111 hl (k := 7) rfl rfl (by decide) rfl (fun ls hl => ?_)
  refine lv_goto (tgt := 23) hC.x hC.b dX6_feed_114 (by decide) ?_
  exact hK23 (S9, (x6 + 1)) hw11 H locs ls hP hD hS (lv_sub hl [2, 3, 4, 5, 6, 7, 0] rfl)
def f6_feed_23 (post : Int32 → MS → Prop) (x1 : Int32) (x2 : Int32) (x3 : Int32) (x4 : Int32) (x5 : Int32) (K23 : (MS × Int32) → Prop) (S : MS) (x6 : Int32) : Prop :=
  ((20 ≤ x6 → (post (S.1 0 6) S)) ∧ (¬ 20 ≤ x6 → ((4 ≤ x6 → ((8 ≤ x6 → ((12 ≤ x6 → ((16 ≤ x6 → (j6_feed_76 K23 S x6 x5)) ∧ (¬ 16 ≤ x6 → (j6_feed_76 K23 S x6 x4)))) ∧ (¬ 12 ≤ x6 → (j6_feed_76 K23 S x6 x3)))) ∧ (¬ 8 ≤ x6 → (j6_feed_76 K23 S x6 x2)))) ∧ (¬ 4 ≤ x6 → (j6_feed_76 K23 S x6 x1)))))
set_option maxHeartbeats 4000000 in
theorem k6_feed_23 {post : Int32 → MS → Prop} {x1 : Int32} {x2 : Int32} {x3 : Int32} {x4 : Int32} {x5 : Int32} (hC : CX RX6 cX6_feed 8 (some .int) D gCl nwG Z Hb A p s m args meth c) : ∀ z : (MS × Int32), lp (fun (K : (MS × Int32) → Prop) (z : (MS × Int32)) => f6_feed_23 post x1 x2 x3 x4 x5 K z.1 z.2) z → ∀ (H : Heap) (locs : List Loc) (ls : Array Slot), va_P D gCl (wM D ad rd rdv tw z.1) H → va_D A (wM D ad rd rdv tw z.1) → va_S A s.heap H locs → lv_has ls 8 [(0, .ref (ad 0)), (1, .int x1), (2, .int x2), (3, .int x3), (4, .int x4), (5, .int x5), (6, .int z.2)] → W p l e ({ frames := 0, cells := 0, slots := 0, locals := 0 } : Room) s m args below meth c H locs 0 0 (MQ below (va_Qi post (BW D gCl A (fun u => (wM D ad rd rdv tw u))) A) args s 0 0 A) (F0 m 23 ls []) := by
  refine lp_ind ?_
  rintro K23 ⟨S, x6⟩ hK23 hw H locs ls hP hD hS hl
  have hw : f6_feed_23 post x1 x2 x3 x4 x5 K23 S x6 := hw
  unfold f6_feed_23 at hw
  have hP : va_P D gCl (wM D ad rd rdv tw S) H := hP
  have hD : va_D A (wM D ad rd rdv tw S) := hD
  have hl : lv_has ls 8 [(0, .ref (ad 0)), (1, .int x1), (2, .int x2), (3, .int x3), (4, .int x4), (5, .int x5), (6, .int x6)] := hl
  refine lv_iload hC.x hC.b dX6_feed_23 (lv_at hl 6 rfl) ?_
  refine lv_bipush (v := 20) hC.x hC.b dX6_feed_25 (by decide) ?_
  refine lv_icmp_ge (tgt := 117) hC.x hC.b dX6_feed_27 (by decide) (fun c3 => ?_) (fun c3 => ?_)
  · have hw3 := hw.1 c3
    refine lv_aload_n hC.x hC.b dX6_feed_117 rfl (lv_at hl 0 rfl) ?_
    refine gM_6 hC hP dX6_feed_118 ?_
    exact rt_i hC hw3 hP hD hS dX6_feed_121
  · have hw4 := hw.2 c3
    refine lv_iload hC.x hC.b dX6_feed_30 (lv_at hl 6 rfl) ?_
    refine lv_iconst (v := 4) hC.x hC.b dX6_feed_32 (by decide) ?_
    refine lv_icmp_ge (tgt := 40) hC.x hC.b dX6_feed_33 (by decide) (fun c4 => ?_) (fun c4 => ?_)
    · have hw5 := hw4.1 c4
      refine lv_iload hC.x hC.b dX6_feed_40 (lv_at hl 6 rfl) ?_
      refine lv_bipush (v := 8) hC.x hC.b dX6_feed_42 (by decide) ?_
      refine lv_icmp_ge (tgt := 51) hC.x hC.b dX6_feed_44 (by decide) (fun c5 => ?_) (fun c5 => ?_)
      · have hw6 := hw5.1 c5
        refine lv_iload hC.x hC.b dX6_feed_51 (lv_at hl 6 rfl) ?_
        refine lv_bipush (v := 12) hC.x hC.b dX6_feed_53 (by decide) ?_
        refine lv_icmp_ge (tgt := 62) hC.x hC.b dX6_feed_55 (by decide) (fun c6 => ?_) (fun c6 => ?_)
        · have hw7 := hw6.1 c6
          refine lv_iload hC.x hC.b dX6_feed_62 (lv_at hl 6 rfl) ?_
          refine lv_bipush (v := 16) hC.x hC.b dX6_feed_64 (by decide) ?_
          refine lv_icmp_ge (tgt := 74) hC.x hC.b dX6_feed_66 (by decide) (fun c7 => ?_) (fun c7 => ?_)
          · have hw8 := hw7.1 c7
            refine lv_iload hC.x hC.b dX6_feed_74 (lv_at hl 5 rfl) ?_
            exact k6_feed_76 hC hK23 hw8 H locs ls hP hD hS (lv_sub hl [0, 1, 2, 3, 4, 5, 6] rfl)
          · have hw12 := hw7.2 c7
            refine lv_iload hC.x hC.b dX6_feed_69 (lv_at hl 4 rfl) ?_
            refine lv_goto (tgt := 76) hC.x hC.b dX6_feed_71 (by decide) ?_
            exact k6_feed_76 hC hK23 hw12 H locs ls hP hD hS (lv_sub hl [0, 1, 2, 3, 4, 5, 6] rfl)
        · have hw13 := hw6.2 c6
          refine lv_iload_n hC.x hC.b dX6_feed_58 rfl (lv_at hl 3 rfl) ?_
          refine lv_goto (tgt := 76) hC.x hC.b dX6_feed_59 (by decide) ?_
          exact k6_feed_76 hC hK23 hw13 H locs ls hP hD hS (lv_sub hl [0, 1, 2, 3, 4, 5, 6] rfl)
      · have hw14 := hw5.2 c5
        refine lv_iload_n hC.x hC.b dX6_feed_47 rfl (lv_at hl 2 rfl) ?_
        refine lv_goto (tgt := 76) hC.x hC.b dX6_feed_48 (by decide) ?_
        exact k6_feed_76 hC hK23 hw14 H locs ls hP hD hS (lv_sub hl [0, 1, 2, 3, 4, 5, 6] rfl)
    · have hw15 := hw4.2 c4
      refine lv_iload_n hC.x hC.b dX6_feed_36 rfl (lv_at hl 1 rfl) ?_
      refine lv_goto (tgt := 76) hC.x hC.b dX6_feed_37 (by decide) ?_
      exact k6_feed_76 hC hK23 hw15 H locs ls hP hD hS (lv_sub hl [0, 1, 2, 3, 4, 5, 6] rfl)
def w6_feed (post : Int32 → MS → Prop) (S : MS) (x1 : Int32) (x2 : Int32) (x3 : Int32) (x4 : Int32) (x5 : Int32) : Prop :=
  (∀ S1, S1 = uI S 0 0 0 → ((((S1.1 0 6) + 20) ≤ 800 → (lp (fun (K : (MS × Int32) → Prop) (z : (MS × Int32)) => f6_feed_23 post x1 x2 x3 x4 x5 K z.1 z.2) (S1, 0))) ∧ (¬ ((S1.1 0 6) + 20) ≤ 800 → (post (-1) S1))))
set_option maxHeartbeats 4000000 in
theorem m6_feed (l : Launch) {post : Int32 → MS → Prop} {S : MS} {x1 : Int32} {x2 : Int32} {x3 : Int32} {x4 : Int32} {x5 : Int32} (hw : w6_feed post S x1 x2 x3 x4 x5) : Met l yX6_feed (ws_ yX6_feed cX6_feed 8 (some .int)) ({ frames := 0, cells := 0, slots := 0, locals := 0 } : Room) (va_Pc [.ref (ad 0), .int x1, .int x2, .int x3, .int x4, .int x5] (PcG D gCl nwG Z Hb A (wM D ad rd rdv tw S))) (va_Qi post (BW D gCl A (fun u => (wM D ad rd rdv tw u))) A) 0 0 A := by
  refine Met.ofG (by decide) (Nat.le_of_ble_eq_true rfl) ?_
  intro p e s m below meth c ls hC _ hP hD hS hl
  have hC : CX RX6 cX6_feed 8 (some .int) D gCl nwG Z Hb A p s m _ meth c := hC
  have hl : lv_has ls 8 [(0, .ref (ad 0)), (1, .int x1), (2, .int x2), (3, .int x3), (4, .int x4), (5, .int x5)] := hl
  unfold w6_feed at hw
  refine lv_aload_n hC.x hC.b dX6_feed_0 rfl (lv_at hl 0 rfl) ?_
  refine lv_iconst (v := 0) hC.x hC.b dX6_feed_1 (by decide) ?_
  refine pM_0 hC hP hD hS (v := 0) dX6_feed_2 (fun S1 eS1 H locs hP hD hS => ?_)
  have hw1 := hw S1 eS1
  refine lv_aload_n hC.x hC.b dX6_feed_5 rfl (lv_at hl 0 rfl) ?_
  refine gM_6 hC hP dX6_feed_6 ?_
  refine lv_bipush (v := 20) hC.x hC.b dX6_feed_9 (by decide) ?_
  refine lv_iadd hC.x hC.b dX6_feed_11 ?_
  refine lv_sipush (v := 800) hC.x hC.b dX6_feed_12 (by decide) ?_
  refine lv_icmp_le (tgt := 20) hC.x hC.b dX6_feed_15 (by decide) (fun c2 => ?_) (fun c2 => ?_)
  · have hw2 := hw1.1 c2
    refine lv_iconst (v := 0) hC.x hC.b dX6_feed_20 (by decide) ?_
    refine lv_istore (lv' := [(6, .int 0), (0, .ref (ad 0)), (1, .int x1), (2, .int x2), (3, .int x3), (4, .int x4), (5, .int x5)]) hC.x hC.b dX6_feed_21 hl (by decide) rfl (fun ls hl => ?_)
    exact k6_feed_23 hC (S1, 0) hw2 H locs ls hP hD hS (lv_sub hl [1, 2, 3, 4, 5, 6, 0] rfl)
  · have hw16 := hw1.2 c2
    refine lv_iconst (v := (-1)) hC.x hC.b dX6_feed_18 (by decide) ?_
    exact rt_i hC hw16 hP hD hS dX6_feed_19
theorem h6_refused : yX6_refused.cls = RX6 ∧ yX6_refused.cls ≠ "java/lang/invoke/MethodHandle" ∧ yX6_refused.cls ≠ "java/lang/invoke/VarHandle" ∧ (parseMethodDescriptor yX6_refused.desc).map (fun d => d.parameters.length) = some 1 := by decide +kernel
def w6_refused (post : Int32 → MS → Prop) (S : MS) (x1 : Int32) : Prop :=
  (∀ S1, S1 = uI S 0 1 x1 → (∀ S2, S2 = uI S1 0 2 (-1) → (post (-1) S2)))
set_option maxHeartbeats 4000000 in
theorem m6_refused (l : Launch) {post : Int32 → MS → Prop} {S : MS} {x1 : Int32} (hw : w6_refused post S x1) : Met l yX6_refused (ws_ yX6_refused cX6_refused 2 (some .int)) ({ frames := 0, cells := 0, slots := 0, locals := 0 } : Room) (va_Pc [.ref (ad 0), .int x1] (PcG D gCl nwG Z Hb A (wM D ad rd rdv tw S))) (va_Qi post (BW D gCl A (fun u => (wM D ad rd rdv tw u))) A) 0 0 A := by
  refine Met.ofG (by decide) (Nat.le_of_ble_eq_true rfl) ?_
  intro p e s m below meth c ls hC _ hP hD hS hl
  have hC : CX RX6 cX6_refused 2 (some .int) D gCl nwG Z Hb A p s m _ meth c := hC
  have hl : lv_has ls 2 [(0, .ref (ad 0)), (1, .int x1)] := hl
  unfold w6_refused at hw
  refine lv_aload_n hC.x hC.b dX6_refused_0 rfl (lv_at hl 0 rfl) ?_
  refine lv_iload_n hC.x hC.b dX6_refused_1 rfl (lv_at hl 1 rfl) ?_
  refine pM_1 hC hP hD hS (v := x1) dX6_refused_2 (fun S1 eS1 H locs hP hD hS => ?_)
  have hw17 := hw S1 eS1
  refine lv_aload_n hC.x hC.b dX6_refused_5 rfl (lv_at hl 0 rfl) ?_
  refine lv_iconst (v := (-1)) hC.x hC.b dX6_refused_6 (by decide) ?_
  refine pM_2 hC hP hD hS (v := (-1)) dX6_refused_7 (fun S2 eS2 H locs hP hD hS => ?_)
  have hw18 := hw17 S2 eS2
  refine lv_iconst (v := (-1)) hC.x hC.b dX6_refused_10 (by decide) ?_
  exact rt_i hC hw18 hP hD hS dX6_refused_11
theorem h6_byteAt : yX6_byteAt.cls = RX6 ∧ yX6_byteAt.cls ≠ "java/lang/invoke/MethodHandle" ∧ yX6_byteAt.cls ≠ "java/lang/invoke/VarHandle" ∧ (parseMethodDescriptor yX6_byteAt.desc).map (fun d => d.parameters.length) = some 1 := by decide +kernel
def w6_byteAt (post : Int32 → Prop) (S : MS) (x1 : Int32) : Prop :=
  (((S.1 0 7) ≤ x1 → (post (-1))) ∧ (¬ (S.1 0 7) ≤ x1 → (vp_in x1 800 ∧ (post ((S.1 1 x1.toNatClampNeg) &&& 255)))))
set_option maxHeartbeats 4000000 in
theorem m6_byteAt (l : Launch) {post : Int32 → Prop} {S : MS} {x1 : Int32} (hw : w6_byteAt post S x1) : Met l yX6_byteAt (ws_ yX6_byteAt cX6_byteAt 2 (some .int)) ({ frames := 0, cells := 0, slots := 0, locals := 0 } : Room) (va_Pc [.ref (ad 0), .int x1] (PcG D gCl nwG Z Hb A (wM D ad rd rdv tw S))) (va_Qi (fun r (_ : Unit) => post r) (BW D gCl A (fun _ => (wM D ad rd rdv tw S))) A) 0 0 A := by
  refine Met.ofG (by decide) (Nat.le_of_ble_eq_true rfl) ?_
  intro p e s m below meth c ls hC _ hP hD hS hl
  have hC : CX RX6 cX6_byteAt 2 (some .int) D gCl nwG Z Hb A p s m _ meth c := hC
  have hl : lv_has ls 2 [(0, .ref (ad 0)), (1, .int x1)] := hl
  unfold w6_byteAt at hw
  refine lv_iload_n hC.x hC.b dX6_byteAt_0 rfl (lv_at hl 1 rfl) ?_
  refine lv_aload_n hC.x hC.b dX6_byteAt_1 rfl (lv_at hl 0 rfl) ?_
  refine gM_7 hC hP dX6_byteAt_2 ?_
  refine lv_icmp_ge (tgt := 21) hC.x hC.b dX6_byteAt_5 (by decide) (fun c1 => ?_) (fun c1 => ?_)
  · have hw19 := hw.1 c1
    refine lv_iconst (v := (-1)) hC.x hC.b dX6_byteAt_21 (by decide) ?_
    exact rt_i (u := ()) hC hw19 hP hD hS dX6_byteAt_22
  · have hw20 := hw.2 c1
    refine lv_aload_n hC.x hC.b dX6_byteAt_8 rfl (lv_at hl 0 rfl) ?_
    refine gM_5 hC hP dX6_byteAt_9 ?_
    refine lv_iload_n hC.x hC.b dX6_byteAt_12 rfl (lv_at hl 1 rfl) ?_
    obtain ⟨hin, hw21⟩ := hw20
    refine lM_1 hC hP hin rfl dX6_byteAt_13 ?_
    refine lv_sipush (v := 255) hC.x hC.b dX6_byteAt_14 (by decide) ?_
    refine lv_iand hC.x hC.b dX6_byteAt_17 ?_
    refine lv_goto (tgt := 22) hC.x hC.b dX6_byteAt_18 (by decide) ?_
    exact rt_i (u := ()) hC hw21 hP hD hS dX6_byteAt_22
theorem h6_isLetter : yX6_isLetter.cls ≠ "java/lang/invoke/MethodHandle" ∧ yX6_isLetter.cls ≠ "java/lang/invoke/VarHandle" ∧ (parseMethodDescriptor yX6_isLetter.desc).map (fun d => d.parameters.length) = some 1 := by decide +kernel
def w6_isLetter (post : Int32 → Prop) (x0 : Int32) : Prop :=
  ((x0 < 97 → (post 0)) ∧ (¬ x0 < 97 → ((122 < x0 → (post 0)) ∧ (¬ 122 < x0 → (post 1)))))
set_option maxHeartbeats 4000000 in
theorem m6_isLetter (l : Launch) {post : Int32 → Prop} {x0 : Int32} (hw : w6_isLetter post x0) : Met l yX6_isLetter (ws_ yX6_isLetter cX6_isLetter 1 (some .boolean)) ({ frames := 0, cells := 0, slots := 0, locals := 0 } : Room) (va_Pc [.int x0] (PcG D gCl nwG Z Hb A w0)) (va_Qi (fun r (_ : Unit) => post r) (BW D gCl A (fun _ => w0)) A) 0 0 A := by
  refine Met.ofG (by decide) (Nat.le_of_ble_eq_true rfl) ?_
  intro p e s m below meth c ls hC _ hP hD hS hl
  have hC : CX RX6 cX6_isLetter 1 (some .boolean) D gCl nwG Z Hb A p s m _ meth c := hC
  have hl : lv_has ls 1 [(0, .int x0)] := hl
  unfold w6_isLetter at hw
  refine lv_iload_n hC.x hC.b dX6_isLetter_0 rfl (lv_at hl 0 rfl) ?_
  refine lv_bipush (v := 97) hC.x hC.b dX6_isLetter_1 (by decide) ?_
  refine lv_icmp_lt (tgt := 16) hC.x hC.b dX6_isLetter_3 (by decide) (fun c1 => ?_) (fun c1 => ?_)
  · have hw22 := hw.1 c1
    refine lv_iconst (v := 0) hC.x hC.b dX6_isLetter_16 (by decide) ?_
    exact rt_z (u := ()) hC (Or.inl rfl) hw22 hP hD hS dX6_isLetter_17
  · have hw23 := hw.2 c1
    refine lv_iload_n hC.x hC.b dX6_isLetter_6 rfl (lv_at hl 0 rfl) ?_
    refine lv_bipush (v := 122) hC.x hC.b dX6_isLetter_7 (by decide) ?_
    refine lv_icmp_gt (tgt := 16) hC.x hC.b dX6_isLetter_9 (by decide) (fun c2 => ?_) (fun c2 => ?_)
    · have hw24 := hw23.1 c2
      refine lv_iconst (v := 0) hC.x hC.b dX6_isLetter_16 (by decide) ?_
      exact rt_z (u := ()) hC (Or.inl rfl) hw24 hP hD hS dX6_isLetter_17
    · have hw25 := hw23.2 c2
      refine lv_iconst (v := 1) hC.x hC.b dX6_isLetter_12 (by decide) ?_
      refine lv_goto (tgt := 17) hC.x hC.b dX6_isLetter_13 (by decide) ?_
      exact rt_z (u := ()) hC (Or.inr rfl) hw25 hP hD hS dX6_isLetter_17
theorem h6_isDigit : yX6_isDigit.cls ≠ "java/lang/invoke/MethodHandle" ∧ yX6_isDigit.cls ≠ "java/lang/invoke/VarHandle" ∧ (parseMethodDescriptor yX6_isDigit.desc).map (fun d => d.parameters.length) = some 1 := by decide +kernel
def w6_isDigit (post : Int32 → Prop) (x0 : Int32) : Prop :=
  ((x0 < 48 → (post 0)) ∧ (¬ x0 < 48 → ((57 < x0 → (post 0)) ∧ (¬ 57 < x0 → (post 1)))))
set_option maxHeartbeats 4000000 in
theorem m6_isDigit (l : Launch) {post : Int32 → Prop} {x0 : Int32} (hw : w6_isDigit post x0) : Met l yX6_isDigit (ws_ yX6_isDigit cX6_isDigit 1 (some .boolean)) ({ frames := 0, cells := 0, slots := 0, locals := 0 } : Room) (va_Pc [.int x0] (PcG D gCl nwG Z Hb A w0)) (va_Qi (fun r (_ : Unit) => post r) (BW D gCl A (fun _ => w0)) A) 0 0 A := by
  refine Met.ofG (by decide) (Nat.le_of_ble_eq_true rfl) ?_
  intro p e s m below meth c ls hC _ hP hD hS hl
  have hC : CX RX6 cX6_isDigit 1 (some .boolean) D gCl nwG Z Hb A p s m _ meth c := hC
  have hl : lv_has ls 1 [(0, .int x0)] := hl
  unfold w6_isDigit at hw
  refine lv_iload_n hC.x hC.b dX6_isDigit_0 rfl (lv_at hl 0 rfl) ?_
  refine lv_bipush (v := 48) hC.x hC.b dX6_isDigit_1 (by decide) ?_
  refine lv_icmp_lt (tgt := 16) hC.x hC.b dX6_isDigit_3 (by decide) (fun c1 => ?_) (fun c1 => ?_)
  · have hw26 := hw.1 c1
    refine lv_iconst (v := 0) hC.x hC.b dX6_isDigit_16 (by decide) ?_
    exact rt_z (u := ()) hC (Or.inl rfl) hw26 hP hD hS dX6_isDigit_17
  · have hw27 := hw.2 c1
    refine lv_iload_n hC.x hC.b dX6_isDigit_6 rfl (lv_at hl 0 rfl) ?_
    refine lv_bipush (v := 57) hC.x hC.b dX6_isDigit_7 (by decide) ?_
    refine lv_icmp_gt (tgt := 16) hC.x hC.b dX6_isDigit_9 (by decide) (fun c2 => ?_) (fun c2 => ?_)
    · have hw28 := hw27.1 c2
      refine lv_iconst (v := 0) hC.x hC.b dX6_isDigit_16 (by decide) ?_
      exact rt_z (u := ()) hC (Or.inl rfl) hw28 hP hD hS dX6_isDigit_17
    · have hw29 := hw27.2 c2
      refine lv_iconst (v := 1) hC.x hC.b dX6_isDigit_12 (by decide) ?_
      refine lv_goto (tgt := 17) hC.x hC.b dX6_isDigit_13 (by decide) ?_
      exact rt_z (u := ()) hC (Or.inr rfl) hw29 hP hD hS dX6_isDigit_17
theorem v6_6_isLetter : GoodIn lw_all (va_wsS RX6 93 yX6_isLetter (ws_ yX6_isLetter cX6_isLetter 1 (some .boolean))) := lw_S q1607 q1608 q126 q1609
theorem v6_6_isDigit : GoodIn lw_all (va_wsS RX6 101 yX6_isDigit (ws_ yX6_isDigit cX6_isDigit 1 (some .boolean))) := lw_S q1611 q1612 q126 q1613
theorem v6_6_byteAt : GoodIn lw_all (wsV RX6 87 RX6 yX6_byteAt (ws_ yX6_byteAt cX6_byteAt 2 (some .int))) := lw_V q1603 q1605 qs51 q126 q1606
theorem h6_goesOn : yX6_goesOn.cls = RX6 ∧ yX6_goesOn.cls ≠ "java/lang/invoke/MethodHandle" ∧ yX6_goesOn.cls ≠ "java/lang/invoke/VarHandle" ∧ (parseMethodDescriptor yX6_goesOn.desc).map (fun d => d.parameters.length) = some 0 := by decide +kernel
def f6_goesOn_173 (post : MS → Prop) (K173 : (MS × Int32) → Prop) (S : MS) (x2 : Int32) : Prop :=
  (w6_byteAt (fun r16 => (w6_isDigit (fun r17 => ((r17 = 0 → ((3 < x2 → (post S)) ∧ (¬ 3 < x2 → (∀ S20, S20 = uI S 0 9 3 → (post S20))))) ∧ (¬ r17 = 0 → ((3 ≤ x2 → (∀ S22, S22 = uI S 0 8 ((S.1 0 8) + 1) → (K173 (S22, (x2 + 1))))) ∧ (¬ 3 ≤ x2 → (w6_byteAt (fun r23 => (∀ S24, S24 = uI S 0 11 (((10 * (S.1 0 11)) + r23) - 48) → (∀ S25, S25 = uI S24 0 8 ((S24.1 0 8) + 1) → (K173 (S25, (x2 + 1)))))) S (S.1 0 8))))))) r16)) S (S.1 0 8))
set_option maxHeartbeats 4000000 in
theorem k6_goesOn_173 {post : MS → Prop} (hC : CX RX6 cX6_goesOn 3 none D gCl nwG Z Hb A p s m args meth c) : ∀ z : (MS × Int32), lp (fun (K : (MS × Int32) → Prop) (z : (MS × Int32)) => f6_goesOn_173 post K z.1 z.2) z → ∀ (H : Heap) (locs : List Loc) (ls : Array Slot), va_P D gCl (wM D ad rd rdv tw z.1) H → va_D A (wM D ad rd rdv tw z.1) → va_S A s.heap H locs → lv_has ls 3 [(0, .ref (ad 0)), (2, .int z.2)] → W p l e ({ frames := 1, cells := 0, slots := 0, locals := 21 } : Room) s m args below meth c H locs 0 0 (MQ below (va_Qv post (BW D gCl A (fun u => (wM D ad rd rdv tw u))) A) args s 0 0 A) (F0 m 173 ls []) := by
  refine lp_ind ?_
  rintro K173 ⟨S, x2⟩ hK173 hw H locs ls hP hD hS hl
  have hw : f6_goesOn_173 post K173 S x2 := hw
  unfold f6_goesOn_173 at hw
  have hP : va_P D gCl (wM D ad rd rdv tw S) H := hP
  have hD : va_D A (wM D ad rd rdv tw S) := hD
  have hl : lv_has ls 3 [(0, .ref (ad 0)), (2, .int x2)] := hl
  refine lv_aload_n hC.x hC.b dX6_goesOn_173 rfl (lv_at hl 0 rfl) ?_
  refine lv_aload_n hC.x hC.b dX6_goesOn_174 rfl (lv_at hl 0 rfl) ?_
  refine gM_8 hC hP dX6_goesOn_175 ?_
  refine go_i (run_V (rest := []) hC (m6_byteAt l hw) v6_6_byteAt h6_byteAt 0 5 gCl_X6 rfl rfl ⟨rfl, rfl, Nat.le_of_ble_eq_true rfl, Nat.le_of_ble_eq_true rfl⟩ ⟨Nat.le_refl _, Nat.le_refl _⟩ hP hD hS hl.1 (Nat.le_of_ble_eq_true rfl) dX6_goesOn_178 rfl) hS (fun r16 u H locs hw47 hP hD hS => ?_)
  refine go_i (run_S (rest := []) hC (m6_isDigit l hw47) v6_6_isDigit h6_isDigit ⟨rfl, rfl, Nat.le_of_ble_eq_true rfl, Nat.le_of_ble_eq_true rfl⟩ ⟨Nat.le_refl _, Nat.le_refl _⟩ hP hD hS hl.1 (Nat.le_of_ble_eq_true rfl) dX6_goesOn_181 rfl) hS (fun r17 u H locs hw48 hP hD hS => ?_)
  refine lv_if_eq (tgt := 231) hC.x hC.b dX6_goesOn_184 (by decide) (fun c18 => ?_) (fun c18 => ?_)
  · have hw49 := hw48.1 c18
    refine lv_iload_n hC.x hC.b dX6_goesOn_231 rfl (lv_at hl 1 rfl) ?_
    refine lv_iconst (v := 3) hC.x hC.b dX6_goesOn_232 (by decide) ?_
    refine lv_icmp_gt (tgt := 265) hC.x hC.b dX6_goesOn_233 (by decide) (fun c19 => ?_) (fun c19 => ?_)
    · have hw50 := hw49.1 c19
      exact rt_v hC hw50 hP hD hS dX6_goesOn_265
    · have hw51 := hw49.2 c19
      refine lv_aload_n hC.x hC.b dX6_goesOn_236 rfl (lv_at hl 0 rfl) ?_
      refine lv_iconst (v := 3) hC.x hC.b dX6_goesOn_237 (by decide) ?_
      refine pM_9 hC hP hD hS (v := 3) dX6_goesOn_238 (fun S20 eS20 H locs hP hD hS => ?_)
      have hw52 := hw51 S20 eS20
      refine lv_goto (tgt := 265) hC.x hC.b dX6_goesOn_241 (by decide) ?_
      exact rt_v hC hw52 hP hD hS dX6_goesOn_265
  · have hw53 := hw48.2 c18
    refine lv_iload_n hC.x hC.b dX6_goesOn_187 rfl (lv_at hl 1 rfl) ?_
    refine lv_iconst (v := 3) hC.x hC.b dX6_goesOn_188 (by decide) ?_
    refine lv_icmp_ge (tgt := 215) hC.x hC.b dX6_goesOn_189 (by decide) (fun c21 => ?_) (fun c21 => ?_)
    · have hw54 := hw53.1 c21
      refine lv_iinc (v := (x2 + 1)) (lv' := [(2, .int (x2 + 1)), (0, .ref (ad 0))]) hC.x hC.b dX6_goesOn_215 hl (k := 1) rfl rfl (by decide) rfl (fun ls hl => ?_)
      refine lv_aload_n hC.x hC.b dX6_goesOn_218 rfl (lv_at hl 1 rfl) ?_
      refine lv_dup hC.x hC.b dX6_goesOn_219 rfl ?_
      refine gM_8 hC hP dX6_goesOn_220 ?_
      refine lv_iconst (v := 1) hC.x hC.b dX6_goesOn_223 (by decide) ?_
      refine lv_iadd hC.x hC.b dX6_goesOn_224 ?_
      refine pM_8 hC hP hD hS (v := ((S.1 0 8) + 1)) dX6_goesOn_225 (fun S22 eS22 H locs hP hD hS => ?_)
      have hw55 := hw54 S22 eS22
      refine lv_goto (tgt := 173) hC.x hC.b dX6_goesOn_228 (by decide) ?_
      exact hK173 (S22, (x2 + 1)) hw55 H locs ls hP hD hS (lv_sub hl [1, 0] rfl)
    · have hw56 := hw53.2 c21
      refine lv_aload_n hC.x hC.b dX6_goesOn_192 rfl (lv_at hl 0 rfl) ?_
      refine lv_bipush (v := 10) hC.x hC.b dX6_goesOn_193 (by decide) ?_
      refine lv_aload_n hC.x hC.b dX6_goesOn_195 rfl (lv_at hl 0 rfl) ?_
      refine gM_11 hC hP dX6_goesOn_196 ?_
      refine lv_imul hC.x hC.b dX6_goesOn_199 ?_
      refine lv_aload_n hC.x hC.b dX6_goesOn_200 rfl (lv_at hl 0 rfl) ?_
      refine lv_aload_n hC.x hC.b dX6_goesOn_201 rfl (lv_at hl 0 rfl) ?_
      refine gM_8 hC hP dX6_goesOn_202 ?_
      refine go_i (run_V (rest := [.int (10 * (S.1 0 11)), .ref (ad 0)]) hC (m6_byteAt l hw56) v6_6_byteAt h6_byteAt 0 5 gCl_X6 rfl rfl ⟨rfl, rfl, Nat.le_of_ble_eq_true rfl, Nat.le_of_ble_eq_true rfl⟩ ⟨Nat.le_refl _, Nat.le_refl _⟩ hP hD hS hl.1 (Nat.le_of_ble_eq_true rfl) dX6_goesOn_205 rfl) hS (fun r23 u H locs hw57 hP hD hS => ?_)
      refine lv_iadd hC.x hC.b dX6_goesOn_208 ?_
      refine lv_bipush (v := 48) hC.x hC.b dX6_goesOn_209 (by decide) ?_
      refine lv_isub hC.x hC.b dX6_goesOn_211 ?_
      refine pM_11 hC hP hD hS (v := (((10 * (S.1 0 11)) + r23) - 48)) dX6_goesOn_212 (fun S24 eS24 H locs hP hD hS => ?_)
      have hw58 := hw57 S24 eS24
      refine lv_iinc (v := (x2 + 1)) (lv' := [(2, .int (x2 + 1)), (0, .ref (ad 0))]) hC.x hC.b dX6_goesOn_215 hl (k := 1) rfl rfl (by decide) rfl (fun ls hl => ?_)
      refine lv_aload_n hC.x hC.b dX6_goesOn_218 rfl (lv_at hl 1 rfl) ?_
      refine lv_dup hC.x hC.b dX6_goesOn_219 rfl ?_
      refine gM_8 hC hP dX6_goesOn_220 ?_
      refine lv_iconst (v := 1) hC.x hC.b dX6_goesOn_223 (by decide) ?_
      refine lv_iadd hC.x hC.b dX6_goesOn_224 ?_
      refine pM_8 hC hP hD hS (v := ((S24.1 0 8) + 1)) dX6_goesOn_225 (fun S25 eS25 H locs hP hD hS => ?_)
      have hw59 := hw58 S25 eS25
      refine lv_goto (tgt := 173) hC.x hC.b dX6_goesOn_228 (by decide) ?_
      exact hK173 (S25, (x2 + 1)) hw59 H locs ls hP hD hS (lv_sub hl [1, 0] rfl)
def f6_goesOn_84 (post : MS → Prop) (K84 : (MS × Int32) → Prop) (S : MS) (x2 : Int32) : Prop :=
  (w6_byteAt (fun r27 => (w6_isLetter (fun r28 => ((r28 = 0 → ((8 < x2 → (post S)) ∧ (¬ 8 < x2 → (∀ S31, S31 = uI S 0 9 2 → (post S31))))) ∧ (¬ r28 = 0 → ((8 ≤ x2 → (∀ S33, S33 = uI S 0 8 ((S.1 0 8) + 1) → (K84 (S33, (x2 + 1))))) ∧ (¬ 8 ≤ x2 → (w6_byteAt (fun r34 => (∀ S35, S35 = uL S 0 14 ((32 * (S.2 0 14)) + (((r34 - 97) + 1).toInt64)) → (∀ S36, S36 = uI S35 0 8 ((S35.1 0 8) + 1) → (K84 (S36, (x2 + 1)))))) S (S.1 0 8))))))) r27)) S (S.1 0 8))
set_option maxHeartbeats 4000000 in
theorem k6_goesOn_84 {post : MS → Prop} (hC : CX RX6 cX6_goesOn 3 none D gCl nwG Z Hb A p s m args meth c) : ∀ z : (MS × Int32), lp (fun (K : (MS × Int32) → Prop) (z : (MS × Int32)) => f6_goesOn_84 post K z.1 z.2) z → ∀ (H : Heap) (locs : List Loc) (ls : Array Slot), va_P D gCl (wM D ad rd rdv tw z.1) H → va_D A (wM D ad rd rdv tw z.1) → va_S A s.heap H locs → lv_has ls 3 [(0, .ref (ad 0)), (2, .int z.2)] → W p l e ({ frames := 1, cells := 0, slots := 0, locals := 21 } : Room) s m args below meth c H locs 0 0 (MQ below (va_Qv post (BW D gCl A (fun u => (wM D ad rd rdv tw u))) A) args s 0 0 A) (F0 m 84 ls []) := by
  refine lp_ind ?_
  rintro K84 ⟨S, x2⟩ hK84 hw H locs ls hP hD hS hl
  have hw : f6_goesOn_84 post K84 S x2 := hw
  unfold f6_goesOn_84 at hw
  have hP : va_P D gCl (wM D ad rd rdv tw S) H := hP
  have hD : va_D A (wM D ad rd rdv tw S) := hD
  have hl : lv_has ls 3 [(0, .ref (ad 0)), (2, .int x2)] := hl
  refine lv_aload_n hC.x hC.b dX6_goesOn_84 rfl (lv_at hl 0 rfl) ?_
  refine lv_aload_n hC.x hC.b dX6_goesOn_85 rfl (lv_at hl 0 rfl) ?_
  refine gM_8 hC hP dX6_goesOn_86 ?_
  refine go_i (run_V (rest := []) hC (m6_byteAt l hw) v6_6_byteAt h6_byteAt 0 5 gCl_X6 rfl rfl ⟨rfl, rfl, Nat.le_of_ble_eq_true rfl, Nat.le_of_ble_eq_true rfl⟩ ⟨Nat.le_refl _, Nat.le_refl _⟩ hP hD hS hl.1 (Nat.le_of_ble_eq_true rfl) dX6_goesOn_89 rfl) hS (fun r27 u H locs hw62 hP hD hS => ?_)
  refine go_i (run_S (rest := []) hC (m6_isLetter l hw62) v6_6_isLetter h6_isLetter ⟨rfl, rfl, Nat.le_of_ble_eq_true rfl, Nat.le_of_ble_eq_true rfl⟩ ⟨Nat.le_refl _, Nat.le_refl _⟩ hP hD hS hl.1 (Nat.le_of_ble_eq_true rfl) dX6_goesOn_92 rfl) hS (fun r28 u H locs hw63 hP hD hS => ?_)
  refine lv_if_eq (tgt := 147) hC.x hC.b dX6_goesOn_95 (by decide) (fun c29 => ?_) (fun c29 => ?_)
  · have hw64 := hw63.1 c29
    refine lv_iload_n hC.x hC.b dX6_goesOn_147 rfl (lv_at hl 1 rfl) ?_
    refine lv_bipush (v := 8) hC.x hC.b dX6_goesOn_148 (by decide) ?_
    refine lv_icmp_gt (tgt := 265) hC.x hC.b dX6_goesOn_150 (by decide) (fun c30 => ?_) (fun c30 => ?_)
    · have hw65 := hw64.1 c30
      exact rt_v hC hw65 hP hD hS dX6_goesOn_265
    · have hw66 := hw64.2 c30
      refine lv_aload_n hC.x hC.b dX6_goesOn_153 rfl (lv_at hl 0 rfl) ?_
      refine lv_iconst (v := 2) hC.x hC.b dX6_goesOn_154 (by decide) ?_
      refine pM_9 hC hP hD hS (v := 2) dX6_goesOn_155 (fun S31 eS31 H locs hP hD hS => ?_)
      have hw67 := hw66 S31 eS31
      refine lv_goto (tgt := 265) hC.x hC.b dX6_goesOn_158 (by decide) ?_
      exact rt_v hC hw67 hP hD hS dX6_goesOn_265
  · have hw68 := hw63.2 c29
    refine lv_iload_n hC.x hC.b dX6_goesOn_98 rfl (lv_at hl 1 rfl) ?_
    refine lv_bipush (v := 8) hC.x hC.b dX6_goesOn_99 (by decide) ?_
    refine lv_icmp_ge (tgt := 131) hC.x hC.b dX6_goesOn_101 (by decide) (fun c32 => ?_) (fun c32 => ?_)
    · have hw69 := hw68.1 c32
      refine lv_iinc (v := (x2 + 1)) (lv' := [(2, .int (x2 + 1)), (0, .ref (ad 0))]) hC.x hC.b dX6_goesOn_131 hl (k := 1) rfl rfl (by decide) rfl (fun ls hl => ?_)
      refine lv_aload_n hC.x hC.b dX6_goesOn_134 rfl (lv_at hl 1 rfl) ?_
      refine lv_dup hC.x hC.b dX6_goesOn_135 rfl ?_
      refine gM_8 hC hP dX6_goesOn_136 ?_
      refine lv_iconst (v := 1) hC.x hC.b dX6_goesOn_139 (by decide) ?_
      refine lv_iadd hC.x hC.b dX6_goesOn_140 ?_
      refine pM_8 hC hP hD hS (v := ((S.1 0 8) + 1)) dX6_goesOn_141 (fun S33 eS33 H locs hP hD hS => ?_)
      have hw70 := hw69 S33 eS33
      refine lv_goto (tgt := 84) hC.x hC.b dX6_goesOn_144 (by decide) ?_
      exact hK84 (S33, (x2 + 1)) hw70 H locs ls hP hD hS (lv_sub hl [1, 0] rfl)
    · have hw71 := hw68.2 c32
      refine lv_aload_n hC.x hC.b dX6_goesOn_104 rfl (lv_at hl 0 rfl) ?_
      refine lv_ldc2 (v := 32) hC.x hC.b hC.ow (hC.ts _ q1610) dX6_goesOn_105 ?_
      refine lv_aload_n hC.x hC.b dX6_goesOn_108 rfl (lv_at hl 0 rfl) ?_
      refine gM_14 hC hP dX6_goesOn_109 ?_
      refine lv_lmul hC.x hC.b dX6_goesOn_112 ?_
      refine lv_aload_n hC.x hC.b dX6_goesOn_113 rfl (lv_at hl 0 rfl) ?_
      refine lv_aload_n hC.x hC.b dX6_goesOn_114 rfl (lv_at hl 0 rfl) ?_
      refine gM_8 hC hP dX6_goesOn_115 ?_
      refine go_i (run_V (rest := [.long (32 * (S.2 0 14)), .ref (ad 0)]) hC (m6_byteAt l hw71) v6_6_byteAt h6_byteAt 0 5 gCl_X6 rfl rfl ⟨rfl, rfl, Nat.le_of_ble_eq_true rfl, Nat.le_of_ble_eq_true rfl⟩ ⟨Nat.le_refl _, Nat.le_refl _⟩ hP hD hS hl.1 (Nat.le_of_ble_eq_true rfl) dX6_goesOn_118 rfl) hS (fun r34 u H locs hw72 hP hD hS => ?_)
      refine lv_bipush (v := 97) hC.x hC.b dX6_goesOn_121 (by decide) ?_
      refine lv_isub hC.x hC.b dX6_goesOn_123 ?_
      refine lv_iconst (v := 1) hC.x hC.b dX6_goesOn_124 (by decide) ?_
      refine lv_iadd hC.x hC.b dX6_goesOn_125 ?_
      refine lv_i2l (v := (((r34 - 97) + 1).toInt64)) hC.x hC.b dX6_goesOn_126 rfl ?_
      refine lv_ladd hC.x hC.b dX6_goesOn_127 ?_
      refine pM_14 hC hP hD hS (v := ((32 * (S.2 0 14)) + (((r34 - 97) + 1).toInt64))) dX6_goesOn_128 (fun S35 eS35 H locs hP hD hS => ?_)
      have hw73 := hw72 S35 eS35
      refine lv_iinc (v := (x2 + 1)) (lv' := [(2, .int (x2 + 1)), (0, .ref (ad 0))]) hC.x hC.b dX6_goesOn_131 hl (k := 1) rfl rfl (by decide) rfl (fun ls hl => ?_)
      refine lv_aload_n hC.x hC.b dX6_goesOn_134 rfl (lv_at hl 1 rfl) ?_
      refine lv_dup hC.x hC.b dX6_goesOn_135 rfl ?_
      refine gM_8 hC hP dX6_goesOn_136 ?_
      refine lv_iconst (v := 1) hC.x hC.b dX6_goesOn_139 (by decide) ?_
      refine lv_iadd hC.x hC.b dX6_goesOn_140 ?_
      refine pM_8 hC hP hD hS (v := ((S35.1 0 8) + 1)) dX6_goesOn_141 (fun S36 eS36 H locs hP hD hS => ?_)
      have hw74 := hw73 S36 eS36
      refine lv_goto (tgt := 84) hC.x hC.b dX6_goesOn_144 (by decide) ?_
      exact hK84 (S36, (x2 + 1)) hw74 H locs ls hP hD hS (lv_sub hl [1, 0] rfl)
def f6_goesOn_9 (post : MS → Prop) (K9 : MS → Prop) (S : MS) : Prop :=
  (w6_byteAt (fun r2 => ((¬ r2 = 32 → (∀ S4, S4 = uI S 0 10 (S.1 0 8) → (∀ S5, S5 = uI S4 0 9 0 → (w6_byteAt (fun r6 => ((¬ r6 = (-1) → (w6_isLetter (fun r8 => ((r8 = 0 → (w6_isDigit (fun r10 => ((r10 = 0 → ((¬ r6 = 59 → (post S5)) ∧ (r6 = 59 → (∀ S13, S13 = uI S5 0 9 4 → (∀ S14, S14 = uI S13 0 8 ((S13.1 0 8) + 1) → (post S14)))))) ∧ (¬ r10 = 0 → (∀ S15, S15 = uI S5 0 11 0 → (lp (fun (K : (MS × Int32) → Prop) (z : (MS × Int32)) => f6_goesOn_173 post K z.1 z.2) (S15, 0)))))) r6)) ∧ (¬ r8 = 0 → (∀ S26, S26 = uL S5 0 14 0 → (lp (fun (K : (MS × Int32) → Prop) (z : (MS × Int32)) => f6_goesOn_84 post K z.1 z.2) (S26, 0)))))) r6)) ∧ (r6 = (-1) → (∀ S37, S37 = uI S5 0 9 1 → (post S37))))) S5 (S5.1 0 8))))) ∧ (r2 = 32 → (∀ S38, S38 = uI S 0 8 ((S.1 0 8) + 1) → (K9 S38))))) S (S.1 0 8))
set_option maxHeartbeats 4000000 in
theorem k6_goesOn_9 {post : MS → Prop} (hC : CX RX6 cX6_goesOn 3 none D gCl nwG Z Hb A p s m args meth c) : ∀ z : MS, lp (fun (K : MS → Prop) (z : MS) => f6_goesOn_9 post K z) z → ∀ (H : Heap) (locs : List Loc) (ls : Array Slot), va_P D gCl (wM D ad rd rdv tw z) H → va_D A (wM D ad rd rdv tw z) → va_S A s.heap H locs → lv_has ls 3 [(0, .ref (ad 0))] → W p l e ({ frames := 1, cells := 0, slots := 0, locals := 21 } : Room) s m args below meth c H locs 0 0 (MQ below (va_Qv post (BW D gCl A (fun u => (wM D ad rd rdv tw u))) A) args s 0 0 A) (F0 m 9 ls []) := by
  refine lp_ind ?_
  rintro K9 S hK9 hw H locs ls hP hD hS hl
  have hw : f6_goesOn_9 post K9 S := hw
  unfold f6_goesOn_9 at hw
  have hP : va_P D gCl (wM D ad rd rdv tw S) H := hP
  have hD : va_D A (wM D ad rd rdv tw S) := hD
  have hl : lv_has ls 3 [(0, .ref (ad 0))] := hl
  refine lv_aload_n hC.x hC.b dX6_goesOn_9 rfl (lv_at hl 0 rfl) ?_
  refine lv_aload_n hC.x hC.b dX6_goesOn_10 rfl (lv_at hl 0 rfl) ?_
  refine gM_8 hC hP dX6_goesOn_11 ?_
  refine go_i (run_V (rest := []) hC (m6_byteAt l hw) v6_6_byteAt h6_byteAt 0 5 gCl_X6 rfl rfl ⟨rfl, rfl, Nat.le_of_ble_eq_true rfl, Nat.le_of_ble_eq_true rfl⟩ ⟨Nat.le_refl _, Nat.le_refl _⟩ hP hD hS hl.1 (Nat.le_of_ble_eq_true rfl) dX6_goesOn_14 rfl) hS (fun r2 u H locs hw31 hP hD hS => ?_)
  refine lv_bipush (v := 32) hC.x hC.b dX6_goesOn_17 (by decide) ?_
  refine lv_icmp_ne (tgt := 35) hC.x hC.b dX6_goesOn_19 (by decide) (fun c3 => ?_) (fun c3 => ?_)
  · have hw32 := hw31.1 c3
    refine lv_aload_n hC.x hC.b dX6_goesOn_35 rfl (lv_at hl 0 rfl) ?_
    refine lv_aload_n hC.x hC.b dX6_goesOn_36 rfl (lv_at hl 0 rfl) ?_
    refine gM_8 hC hP dX6_goesOn_37 ?_
    refine pM_10 hC hP hD hS (v := (S.1 0 8)) dX6_goesOn_40 (fun S4 eS4 H locs hP hD hS => ?_)
    have hw33 := hw32 S4 eS4
    refine lv_aload_n hC.x hC.b dX6_goesOn_43 rfl (lv_at hl 0 rfl) ?_
    refine lv_iconst (v := 0) hC.x hC.b dX6_goesOn_44 (by decide) ?_
    refine pM_9 hC hP hD hS (v := 0) dX6_goesOn_45 (fun S5 eS5 H locs hP hD hS => ?_)
    have hw34 := hw33 S5 eS5
    refine lv_aload_n hC.x hC.b dX6_goesOn_48 rfl (lv_at hl 0 rfl) ?_
    refine lv_aload_n hC.x hC.b dX6_goesOn_49 rfl (lv_at hl 0 rfl) ?_
    refine gM_8 hC hP dX6_goesOn_50 ?_
    refine go_i (run_V (rest := []) hC (m6_byteAt l hw34) v6_6_byteAt h6_byteAt 0 5 gCl_X6 rfl rfl ⟨rfl, rfl, Nat.le_of_ble_eq_true rfl, Nat.le_of_ble_eq_true rfl⟩ ⟨Nat.le_refl _, Nat.le_refl _⟩ hP hD hS hl.1 (Nat.le_of_ble_eq_true rfl) dX6_goesOn_53 rfl) hS (fun r6 u H locs hw35 hP hD hS => ?_)
    refine lv_istore_n (lv' := [(1, .int r6), (0, .ref (ad 0))]) hC.x hC.b dX6_goesOn_56 rfl hl (by decide) rfl (fun ls hl => ?_)
    refine lv_iconst (v := 0) hC.x hC.b dX6_goesOn_57 (by decide) ?_
    refine lv_istore_n (lv' := [(2, .int 0), (1, .int r6), (0, .ref (ad 0))]) hC.x hC.b dX6_goesOn_58 rfl hl (by decide) rfl (fun ls hl => ?_)
    refine lv_iload_n hC.x hC.b dX6_goesOn_59 rfl (lv_at hl 1 rfl) ?_
    refine lv_iconst (v := (-1)) hC.x hC.b dX6_goesOn_60 (by decide) ?_
    refine lv_icmp_ne (tgt := 72) hC.x hC.b dX6_goesOn_61 (by decide) (fun c7 => ?_) (fun c7 => ?_)
    · have hw36 := hw35.1 c7
      refine lv_iload_n hC.x hC.b dX6_goesOn_72 rfl (lv_at hl 1 rfl) ?_
      refine go_i (run_S (rest := []) hC (m6_isLetter l hw36) v6_6_isLetter h6_isLetter ⟨rfl, rfl, Nat.le_of_ble_eq_true rfl, Nat.le_of_ble_eq_true rfl⟩ ⟨Nat.le_refl _, Nat.le_refl _⟩ hP hD hS hl.1 (Nat.le_of_ble_eq_true rfl) dX6_goesOn_73 rfl) hS (fun r8 u H locs hw37 hP hD hS => ?_)
      refine lv_if_eq (tgt := 161) hC.x hC.b dX6_goesOn_76 (by decide) (fun c9 => ?_) (fun c9 => ?_)
      · have hw38 := hw37.1 c9
        refine lv_iload_n hC.x hC.b dX6_goesOn_161 rfl (lv_at hl 1 rfl) ?_
        refine go_i (run_S (rest := []) hC (m6_isDigit l hw38) v6_6_isDigit h6_isDigit ⟨rfl, rfl, Nat.le_of_ble_eq_true rfl, Nat.le_of_ble_eq_true rfl⟩ ⟨Nat.le_refl _, Nat.le_refl _⟩ hP hD hS hl.1 (Nat.le_of_ble_eq_true rfl) dX6_goesOn_162 rfl) hS (fun r10 u H locs hw39 hP hD hS => ?_)
        refine lv_if_eq (tgt := 244) hC.x hC.b dX6_goesOn_165 (by decide) (fun c11 => ?_) (fun c11 => ?_)
        · have hw40 := hw39.1 c11
          refine lv_iload_n hC.x hC.b dX6_goesOn_244 rfl (lv_at hl 1 rfl) ?_
          refine lv_bipush (v := 59) hC.x hC.b dX6_goesOn_245 (by decide) ?_
          refine lv_icmp_ne (tgt := 265) hC.x hC.b dX6_goesOn_247 (by decide) (fun c12 => ?_) (fun c12 => ?_)
          · have hw41 := hw40.1 c12
            exact rt_v hC hw41 hP hD hS dX6_goesOn_265
          · have hw42 := hw40.2 c12
            refine lv_aload_n hC.x hC.b dX6_goesOn_250 rfl (lv_at hl 2 rfl) ?_
            refine lv_iconst (v := 4) hC.x hC.b dX6_goesOn_251 (by decide) ?_
            refine pM_9 hC hP hD hS (v := 4) dX6_goesOn_252 (fun S13 eS13 H locs hP hD hS => ?_)
            have hw43 := hw42 S13 eS13
            refine lv_aload_n hC.x hC.b dX6_goesOn_255 rfl (lv_at hl 2 rfl) ?_
            refine lv_dup hC.x hC.b dX6_goesOn_256 rfl ?_
            refine gM_8 hC hP dX6_goesOn_257 ?_
            refine lv_iconst (v := 1) hC.x hC.b dX6_goesOn_260 (by decide) ?_
            refine lv_iadd hC.x hC.b dX6_goesOn_261 ?_
            refine pM_8 hC hP hD hS (v := ((S13.1 0 8) + 1)) dX6_goesOn_262 (fun S14 eS14 H locs hP hD hS => ?_)
            have hw44 := hw43 S14 eS14
            exact rt_v hC hw44 hP hD hS dX6_goesOn_265
        · have hw45 := hw39.2 c11
          refine lv_aload_n hC.x hC.b dX6_goesOn_168 rfl (lv_at hl 2 rfl) ?_
          refine lv_iconst (v := 0) hC.x hC.b dX6_goesOn_169 (by decide) ?_
          refine pM_11 hC hP hD hS (v := 0) dX6_goesOn_170 (fun S15 eS15 H locs hP hD hS => ?_)
          have hw46 := hw45 S15 eS15
          exact k6_goesOn_173 hC (S15, 0) hw46 H locs ls hP hD hS (lv_sub hl [2, 0] rfl)
      · have hw60 := hw37.2 c9
        refine lv_aload_n hC.x hC.b dX6_goesOn_79 rfl (lv_at hl 2 rfl) ?_
        refine lv_lconst (v := 0) hC.x hC.b dX6_goesOn_80 rfl ?_
        refine pM_14 hC hP hD hS (v := 0) dX6_goesOn_81 (fun S26 eS26 H locs hP hD hS => ?_)
        have hw61 := hw60 S26 eS26
        exact k6_goesOn_84 hC (S26, 0) hw61 H locs ls hP hD hS (lv_sub hl [2, 0] rfl)
    · have hw75 := hw35.2 c7
      refine lv_aload_n hC.x hC.b dX6_goesOn_64 rfl (lv_at hl 2 rfl) ?_
      refine lv_iconst (v := 1) hC.x hC.b dX6_goesOn_65 (by decide) ?_
      refine pM_9 hC hP hD hS (v := 1) dX6_goesOn_66 (fun S37 eS37 H locs hP hD hS => ?_)
      have hw76 := hw75 S37 eS37
      refine lv_goto (tgt := 265) hC.x hC.b dX6_goesOn_69 (by decide) ?_
      exact rt_v hC hw76 hP hD hS dX6_goesOn_265
  · have hw77 := hw31.2 c3
    refine lv_aload_n hC.x hC.b dX6_goesOn_22 rfl (lv_at hl 0 rfl) ?_
    refine lv_dup hC.x hC.b dX6_goesOn_23 rfl ?_
    refine gM_8 hC hP dX6_goesOn_24 ?_
    refine lv_iconst (v := 1) hC.x hC.b dX6_goesOn_27 (by decide) ?_
    refine lv_iadd hC.x hC.b dX6_goesOn_28 ?_
    refine pM_8 hC hP hD hS (v := ((S.1 0 8) + 1)) dX6_goesOn_29 (fun S38 eS38 H locs hP hD hS => ?_)
    have hw78 := hw77 S38 eS38
    refine lv_goto (tgt := 9) hC.x hC.b dX6_goesOn_32 (by decide) ?_
    exact hK9 S38 hw78 H locs ls hP hD hS (lv_sub hl [0] rfl)
def w6_goesOn (post : MS → Prop) (S : MS) : Prop :=
  ((¬ (S.1 0 9) = 5 → (lp (fun (K : MS → Prop) (z : MS) => f6_goesOn_9 post K z) S)) ∧ ((S.1 0 9) = 5 → (post S)))
set_option maxHeartbeats 4000000 in
theorem m6_goesOn (l : Launch) {post : MS → Prop} {S : MS} (hw : w6_goesOn post S) : Met l yX6_goesOn (ws_ yX6_goesOn cX6_goesOn 3 none) ({ frames := 1, cells := 0, slots := 0, locals := 21 } : Room) (va_Pc [.ref (ad 0)] (PcG D gCl nwG Z Hb A (wM D ad rd rdv tw S))) (va_Qv post (BW D gCl A (fun u => (wM D ad rd rdv tw u))) A) 0 0 A := by
  refine Met.ofG (by decide) (Nat.le_of_ble_eq_true rfl) ?_
  intro p e s m below meth c ls hC _ hP hD hS hl
  have hC : CX RX6 cX6_goesOn 3 none D gCl nwG Z Hb A p s m _ meth c := hC
  have hl : lv_has ls 3 [(0, .ref (ad 0))] := hl
  unfold w6_goesOn at hw
  refine lv_aload_n hC.x hC.b dX6_goesOn_0 rfl (lv_at hl 0 rfl) ?_
  refine gM_9 hC hP dX6_goesOn_1 ?_
  refine lv_iconst (v := 5) hC.x hC.b dX6_goesOn_4 (by decide) ?_
  refine lv_icmp_ne (tgt := 9) hC.x hC.b dX6_goesOn_5 (by decide) (fun c1 => ?_) (fun c1 => ?_)
  · have hw30 := hw.1 c1
    exact k6_goesOn_9 hC S hw30 s.heap [] ls hP hD hS (lv_sub hl [0] rfl)
  · have hw79 := hw.2 c1
    exact rt_v hC hw79 hP hD hS dX6_goesOn_8
theorem h6_flaw : yX6_flaw.cls = RX6 ∧ yX6_flaw.cls ≠ "java/lang/invoke/MethodHandle" ∧ yX6_flaw.cls ≠ "java/lang/invoke/VarHandle" ∧ (parseMethodDescriptor yX6_flaw.desc).map (fun d => d.parameters.length) = some 1 := by decide +kernel
def w6_flaw (post : MS → Prop) (S : MS) (x1 : Int32) : Prop :=
  ((¬ (S.1 0 9) = 5 → (∀ S2, S2 = uI S 0 12 x1 → (∀ S3, S3 = uI S2 0 13 (S2.1 0 10) → (∀ S4, S4 = uI S3 0 9 5 → (post S4))))) ∧ ((S.1 0 9) = 5 → (post S)))
set_option maxHeartbeats 4000000 in
theorem m6_flaw (l : Launch) {post : MS → Prop} {S : MS} {x1 : Int32} (hw : w6_flaw post S x1) : Met l yX6_flaw (ws_ yX6_flaw cX6_flaw 2 none) ({ frames := 0, cells := 0, slots := 0, locals := 0 } : Room) (va_Pc [.ref (ad 0), .int x1] (PcG D gCl nwG Z Hb A (wM D ad rd rdv tw S))) (va_Qv post (BW D gCl A (fun u => (wM D ad rd rdv tw u))) A) 0 0 A := by
  refine Met.ofG (by decide) (Nat.le_of_ble_eq_true rfl) ?_
  intro p e s m below meth c ls hC _ hP hD hS hl
  have hC : CX RX6 cX6_flaw 2 none D gCl nwG Z Hb A p s m _ meth c := hC
  have hl : lv_has ls 2 [(0, .ref (ad 0)), (1, .int x1)] := hl
  unfold w6_flaw at hw
  refine lv_aload_n hC.x hC.b dX6_flaw_0 rfl (lv_at hl 0 rfl) ?_
  refine gM_9 hC hP dX6_flaw_1 ?_
  refine lv_iconst (v := 5) hC.x hC.b dX6_flaw_4 (by decide) ?_
  refine lv_icmp_ne (tgt := 9) hC.x hC.b dX6_flaw_5 (by decide) (fun c1 => ?_) (fun c1 => ?_)
  · have hw80 := hw.1 c1
    refine lv_aload_n hC.x hC.b dX6_flaw_9 rfl (lv_at hl 0 rfl) ?_
    refine lv_iload_n hC.x hC.b dX6_flaw_10 rfl (lv_at hl 1 rfl) ?_
    refine pM_12 hC hP hD hS (v := x1) dX6_flaw_11 (fun S2 eS2 H locs hP hD hS => ?_)
    have hw81 := hw80 S2 eS2
    refine lv_aload_n hC.x hC.b dX6_flaw_14 rfl (lv_at hl 0 rfl) ?_
    refine lv_aload_n hC.x hC.b dX6_flaw_15 rfl (lv_at hl 0 rfl) ?_
    refine gM_10 hC hP dX6_flaw_16 ?_
    refine pM_13 hC hP hD hS (v := (S2.1 0 10)) dX6_flaw_19 (fun S3 eS3 H locs hP hD hS => ?_)
    have hw82 := hw81 S3 eS3
    refine lv_aload_n hC.x hC.b dX6_flaw_22 rfl (lv_at hl 0 rfl) ?_
    refine lv_iconst (v := 5) hC.x hC.b dX6_flaw_23 (by decide) ?_
    refine pM_9 hC hP hD hS (v := 5) dX6_flaw_24 (fun S4 eS4 H locs hP hD hS => ?_)
    have hw83 := hw82 S4 eS4
    exact rt_v hC hw83 hP hD hS dX6_flaw_27
  · have hw84 := hw.2 c1
    exact rt_v hC hw84 hP hD hS dX6_flaw_8
theorem h6_in : yX6_in.cls ≠ "java/lang/invoke/MethodHandle" ∧ yX6_in.cls ≠ "java/lang/invoke/VarHandle" ∧ (parseMethodDescriptor yX6_in.desc).map (fun d => d.parameters.length) = some 3 := by decide +kernel
def w6_in (post : Int32 → Prop) (x0 : Int32) (x1 : Int32) (x2 : Int32) : Prop :=
  ((x0 < x1 → (post 0)) ∧ (¬ x0 < x1 → ((x2 < x0 → (post 0)) ∧ (¬ x2 < x0 → (post 1)))))
set_option maxHeartbeats 4000000 in
theorem m6_in (l : Launch) {post : Int32 → Prop} {x0 : Int32} {x1 : Int32} {x2 : Int32} (hw : w6_in post x0 x1 x2) : Met l yX6_in (ws_ yX6_in cX6_in 3 (some .boolean)) ({ frames := 0, cells := 0, slots := 0, locals := 0 } : Room) (va_Pc [.int x0, .int x1, .int x2] (PcG D gCl nwG Z Hb A w0)) (va_Qi (fun r (_ : Unit) => post r) (BW D gCl A (fun _ => w0)) A) 0 0 A := by
  refine Met.ofG (by decide) (Nat.le_of_ble_eq_true rfl) ?_
  intro p e s m below meth c ls hC _ hP hD hS hl
  have hC : CX RX6 cX6_in 3 (some .boolean) D gCl nwG Z Hb A p s m _ meth c := hC
  have hl : lv_has ls 3 [(0, .int x0), (1, .int x1), (2, .int x2)] := hl
  unfold w6_in at hw
  refine lv_iload_n hC.x hC.b dX6_in_0 rfl (lv_at hl 0 rfl) ?_
  refine lv_iload_n hC.x hC.b dX6_in_1 rfl (lv_at hl 1 rfl) ?_
  refine lv_icmp_lt (tgt := 14) hC.x hC.b dX6_in_2 (by decide) (fun c1 => ?_) (fun c1 => ?_)
  · have hw85 := hw.1 c1
    refine lv_iconst (v := 0) hC.x hC.b dX6_in_14 (by decide) ?_
    exact rt_z (u := ()) hC (Or.inl rfl) hw85 hP hD hS dX6_in_15
  · have hw86 := hw.2 c1
    refine lv_iload_n hC.x hC.b dX6_in_5 rfl (lv_at hl 0 rfl) ?_
    refine lv_iload_n hC.x hC.b dX6_in_6 rfl (lv_at hl 2 rfl) ?_
    refine lv_icmp_gt (tgt := 14) hC.x hC.b dX6_in_7 (by decide) (fun c2 => ?_) (fun c2 => ?_)
    · have hw87 := hw86.1 c2
      refine lv_iconst (v := 0) hC.x hC.b dX6_in_14 (by decide) ?_
      exact rt_z (u := ()) hC (Or.inl rfl) hw87 hP hD hS dX6_in_15
    · have hw88 := hw86.2 c2
      refine lv_iconst (v := 1) hC.x hC.b dX6_in_10 (by decide) ?_
      refine lv_goto (tgt := 15) hC.x hC.b dX6_in_11 (by decide) ?_
      exact rt_z (u := ()) hC (Or.inr rfl) hw88 hP hD hS dX6_in_15
theorem v6_6_in : GoodIn lw_all (va_wsS RX6 128 yX6_in (ws_ yX6_in cX6_in 3 (some .boolean))) := lw_S q1683 q1684 q126 q1685
theorem v6_6_flaw : GoodIn lw_all (wsV RX6 124 RX6 yX6_flaw (ws_ yX6_flaw cX6_flaw 2 none)) := lw_V q1662 q1664 qs56 q126 q1665
theorem h6_wholeAt : yX6_wholeAt.cls = RX6 ∧ yX6_wholeAt.cls ≠ "java/lang/invoke/MethodHandle" ∧ yX6_wholeAt.cls ≠ "java/lang/invoke/VarHandle" ∧ (parseMethodDescriptor yX6_wholeAt.desc).map (fun d => d.parameters.length) = some 2 := by decide +kernel
def w6_wholeAt (post : Int32 → MS → Prop) (S : MS) (x1 : Int32) (x2 : Int32) : Prop :=
  (((S.1 0 9) = 3 → (w6_in (fun r2 => ((¬ r2 = 0 → ((¬ (S.1 0 9) = 5 → (post (S.1 0 11) S)) ∧ ((S.1 0 9) = 5 → (post x1 S)))) ∧ (r2 = 0 → (w6_flaw (fun S6 => ((¬ (S6.1 0 9) = 5 → (post (S6.1 0 11) S6)) ∧ ((S6.1 0 9) = 5 → (post x1 S6)))) S 4)))) (S.1 0 11) x1 x2)) ∧ (¬ (S.1 0 9) = 3 → (w6_flaw (fun S9 => ((¬ (S9.1 0 9) = 5 → (post (S9.1 0 11) S9)) ∧ ((S9.1 0 9) = 5 → (post x1 S9)))) S 1)))
set_option maxHeartbeats 4000000 in
theorem m6_wholeAt (l : Launch) {post : Int32 → MS → Prop} {S : MS} {x1 : Int32} {x2 : Int32} (hw : w6_wholeAt post S x1 x2) : Met l yX6_wholeAt (ws_ yX6_wholeAt cX6_wholeAt 3 (some .int)) ({ frames := 1, cells := 0, slots := 0, locals := 22 } : Room) (va_Pc [.ref (ad 0), .int x1, .int x2] (PcG D gCl nwG Z Hb A (wM D ad rd rdv tw S))) (va_Qi post (BW D gCl A (fun u => (wM D ad rd rdv tw u))) A) 0 0 A := by
  refine Met.ofG (by decide) (Nat.le_of_ble_eq_true rfl) ?_
  intro p e s m below meth c ls hC _ hP hD hS hl
  have hC : CX RX6 cX6_wholeAt 3 (some .int) D gCl nwG Z Hb A p s m _ meth c := hC
  have hl : lv_has ls 3 [(0, .ref (ad 0)), (1, .int x1), (2, .int x2)] := hl
  unfold w6_wholeAt at hw
  refine lv_aload_n hC.x hC.b dX6_wholeAt_0 rfl (lv_at hl 0 rfl) ?_
  refine gM_9 hC hP dX6_wholeAt_1 ?_
  refine lv_iconst (v := 3) hC.x hC.b dX6_wholeAt_4 (by decide) ?_
  refine lv_icmp_eq (tgt := 16) hC.x hC.b dX6_wholeAt_5 (by decide) (fun c1 => ?_) (fun c1 => ?_)
  · have hw89 := hw.1 c1
    refine lv_aload_n hC.x hC.b dX6_wholeAt_16 rfl (lv_at hl 0 rfl) ?_
    refine gM_11 hC hP dX6_wholeAt_17 ?_
    refine lv_iload_n hC.x hC.b dX6_wholeAt_20 rfl (lv_at hl 1 rfl) ?_
    refine lv_iload_n hC.x hC.b dX6_wholeAt_21 rfl (lv_at hl 2 rfl) ?_
    refine go_i (run_S (rest := []) hC (m6_in l hw89) v6_6_in h6_in ⟨rfl, rfl, Nat.le_of_ble_eq_true rfl, Nat.le_of_ble_eq_true rfl⟩ ⟨Nat.le_refl _, Nat.le_refl _⟩ hP hD hS hl.1 (Nat.le_of_ble_eq_true rfl) dX6_wholeAt_22 rfl) hS (fun r2 u H locs hw90 hP hD hS => ?_)
    refine lv_if_ne (tgt := 33) hC.x hC.b dX6_wholeAt_25 (by decide) (fun c3 => ?_) (fun c3 => ?_)
    · have hw91 := hw90.1 c3
      refine lv_aload_n hC.x hC.b dX6_wholeAt_33 rfl (lv_at hl 0 rfl) ?_
      refine gM_9 hC hP dX6_wholeAt_34 ?_
      refine lv_iconst (v := 5) hC.x hC.b dX6_wholeAt_37 (by decide) ?_
      refine lv_icmp_ne (tgt := 45) hC.x hC.b dX6_wholeAt_38 (by decide) (fun c4 => ?_) (fun c4 => ?_)
      · have hw92 := hw91.1 c4
        refine lv_aload_n hC.x hC.b dX6_wholeAt_45 rfl (lv_at hl 0 rfl) ?_
        refine gM_11 hC hP dX6_wholeAt_46 ?_
        exact rt_i hC hw92 hP hD hS dX6_wholeAt_49
      · have hw93 := hw91.2 c4
        refine lv_iload_n hC.x hC.b dX6_wholeAt_41 rfl (lv_at hl 1 rfl) ?_
        refine lv_goto (tgt := 49) hC.x hC.b dX6_wholeAt_42 (by decide) ?_
        exact rt_i hC hw93 hP hD hS dX6_wholeAt_49
    · have hw94 := hw90.2 c3
      refine lv_aload_n hC.x hC.b dX6_wholeAt_28 rfl (lv_at hl 0 rfl) ?_
      refine lv_iconst (v := 4) hC.x hC.b dX6_wholeAt_29 (by decide) ?_
      refine go_v (run_V (rest := []) hC (m6_flaw l hw94) v6_6_flaw h6_flaw 0 5 gCl_X6 rfl rfl ⟨rfl, rfl, Nat.le_of_ble_eq_true rfl, Nat.le_of_ble_eq_true rfl⟩ ⟨Nat.le_refl _, Nat.le_refl _⟩ hP hD hS hl.1 (Nat.le_of_ble_eq_true rfl) dX6_wholeAt_30 rfl) hS (fun S6 H locs hw95 hP hD hS => ?_)
      refine lv_aload_n hC.x hC.b dX6_wholeAt_33 rfl (lv_at hl 0 rfl) ?_
      refine gM_9 hC hP dX6_wholeAt_34 ?_
      refine lv_iconst (v := 5) hC.x hC.b dX6_wholeAt_37 (by decide) ?_
      refine lv_icmp_ne (tgt := 45) hC.x hC.b dX6_wholeAt_38 (by decide) (fun c7 => ?_) (fun c7 => ?_)
      · have hw96 := hw95.1 c7
        refine lv_aload_n hC.x hC.b dX6_wholeAt_45 rfl (lv_at hl 0 rfl) ?_
        refine gM_11 hC hP dX6_wholeAt_46 ?_
        exact rt_i hC hw96 hP hD hS dX6_wholeAt_49
      · have hw97 := hw95.2 c7
        refine lv_iload_n hC.x hC.b dX6_wholeAt_41 rfl (lv_at hl 1 rfl) ?_
        refine lv_goto (tgt := 49) hC.x hC.b dX6_wholeAt_42 (by decide) ?_
        exact rt_i hC hw97 hP hD hS dX6_wholeAt_49
  · have hw98 := hw.2 c1
    refine lv_aload_n hC.x hC.b dX6_wholeAt_8 rfl (lv_at hl 0 rfl) ?_
    refine lv_iconst (v := 1) hC.x hC.b dX6_wholeAt_9 (by decide) ?_
    refine go_v (run_V (rest := []) hC (m6_flaw l hw98) v6_6_flaw h6_flaw 0 5 gCl_X6 rfl rfl ⟨rfl, rfl, Nat.le_of_ble_eq_true rfl, Nat.le_of_ble_eq_true rfl⟩ ⟨Nat.le_refl _, Nat.le_refl _⟩ hP hD hS hl.1 (Nat.le_of_ble_eq_true rfl) dX6_wholeAt_10 rfl) hS (fun S9 H locs hw99 hP hD hS => ?_)
    refine lv_goto (tgt := 33) hC.x hC.b dX6_wholeAt_13 (by decide) ?_
    refine lv_aload_n hC.x hC.b dX6_wholeAt_33 rfl (lv_at hl 0 rfl) ?_
    refine gM_9 hC hP dX6_wholeAt_34 ?_
    refine lv_iconst (v := 5) hC.x hC.b dX6_wholeAt_37 (by decide) ?_
    refine lv_icmp_ne (tgt := 45) hC.x hC.b dX6_wholeAt_38 (by decide) (fun c10 => ?_) (fun c10 => ?_)
    · have hw100 := hw99.1 c10
      refine lv_aload_n hC.x hC.b dX6_wholeAt_45 rfl (lv_at hl 0 rfl) ?_
      refine gM_11 hC hP dX6_wholeAt_46 ?_
      exact rt_i hC hw100 hP hD hS dX6_wholeAt_49
    · have hw101 := hw99.2 c10
      refine lv_iload_n hC.x hC.b dX6_wholeAt_41 rfl (lv_at hl 1 rfl) ?_
      refine lv_goto (tgt := 49) hC.x hC.b dX6_wholeAt_42 (by decide) ?_
      exact rt_i hC hw101 hP hD hS dX6_wholeAt_49
theorem v6_6_goesOn : GoodIn lw_all (wsV RX6 117 RX6 yX6_goesOn (ws_ yX6_goesOn cX6_goesOn 3 none)) := lw_V q1599 q1601 qs50 q126 q1602
theorem v6_6_wholeAt : GoodIn lw_all (wsV RX6 132 RX6 yX6_wholeAt (ws_ yX6_wholeAt cX6_wholeAt 3 (some .int))) := lw_V q1679 q1681 qs60 q126 q1682
theorem h6_readWhole : yX6_readWhole.cls = RX6 ∧ yX6_readWhole.cls ≠ "java/lang/invoke/MethodHandle" ∧ yX6_readWhole.cls ≠ "java/lang/invoke/VarHandle" ∧ (parseMethodDescriptor yX6_readWhole.desc).map (fun d => d.parameters.length) = some 2 := by decide +kernel
def w6_readWhole (post : Int32 → MS → Prop) (S : MS) (x1 : Int32) (x2 : Int32) : Prop :=
  (w6_wholeAt (fun r1 S2 => (w6_goesOn (fun S4 => (post r1 S4)) S2)) S x1 x2)
set_option maxHeartbeats 4000000 in
theorem m6_readWhole (l : Launch) {post : Int32 → MS → Prop} {S : MS} {x1 : Int32} {x2 : Int32} (hw : w6_readWhole post S x1 x2) : Met l yX6_readWhole (ws_ yX6_readWhole cX6_readWhole 4 (some .int)) ({ frames := 2, cells := 0, slots := 0, locals := 44 } : Room) (va_Pc [.ref (ad 0), .int x1, .int x2] (PcG D gCl nwG Z Hb A (wM D ad rd rdv tw S))) (va_Qi post (BW D gCl A (fun u => (wM D ad rd rdv tw u))) A) 0 0 A := by
  refine Met.ofG (by decide) (Nat.le_of_ble_eq_true rfl) ?_
  intro p e s m below meth c ls hC _ hP hD hS hl
  have hC : CX RX6 cX6_readWhole 4 (some .int) D gCl nwG Z Hb A p s m _ meth c := hC
  have hl : lv_has ls 4 [(0, .ref (ad 0)), (1, .int x1), (2, .int x2)] := hl
  unfold w6_readWhole at hw
  refine lv_aload_n hC.x hC.b dX6_readWhole_0 rfl (lv_at hl 0 rfl) ?_
  refine lv_iload_n hC.x hC.b dX6_readWhole_1 rfl (lv_at hl 1 rfl) ?_
  refine lv_iload_n hC.x hC.b dX6_readWhole_2 rfl (lv_at hl 2 rfl) ?_
  refine go_i (run_V (rest := []) hC (m6_wholeAt l hw) v6_6_wholeAt h6_wholeAt 0 5 gCl_X6 rfl rfl ⟨rfl, rfl, Nat.le_of_ble_eq_true rfl, Nat.le_of_ble_eq_true rfl⟩ ⟨Nat.le_refl _, Nat.le_refl _⟩ hP hD hS hl.1 (Nat.le_of_ble_eq_true rfl) dX6_readWhole_3 rfl) hS (fun r1 S2 H locs hw102 hP hD hS => ?_)
  refine lv_istore_n (lv' := [(3, .int r1), (0, .ref (ad 0)), (1, .int x1), (2, .int x2)]) hC.x hC.b dX6_readWhole_6 rfl hl (by decide) rfl (fun ls hl => ?_)
  refine lv_aload_n hC.x hC.b dX6_readWhole_7 rfl (lv_at hl 1 rfl) ?_
  refine go_v (run_V (rest := []) hC (m6_goesOn l hw102) v6_6_goesOn h6_goesOn 0 5 gCl_X6 rfl rfl ⟨rfl, rfl, Nat.le_of_ble_eq_true rfl, Nat.le_of_ble_eq_true rfl⟩ ⟨Nat.le_refl _, Nat.le_refl _⟩ hP hD hS hl.1 (Nat.le_of_ble_eq_true rfl) dX6_readWhole_8 rfl) hS (fun S4 H locs hw103 hP hD hS => ?_)
  refine lv_iload_n hC.x hC.b dX6_readWhole_11 rfl (lv_at hl 0 rfl) ?_
  exact rt_i hC hw103 hP hD hS dX6_readWhole_12
theorem h6_lineBegins : yX6_lineBegins.cls = RX6 ∧ yX6_lineBegins.cls ≠ "java/lang/invoke/MethodHandle" ∧ yX6_lineBegins.cls ≠ "java/lang/invoke/VarHandle" ∧ (parseMethodDescriptor yX6_lineBegins.desc).map (fun d => d.parameters.length) = some 2 := by decide +kernel
def w6_lineBegins (post : MS → Prop) (S : MS) (x1 : Int32) (x2 : Int32) : Prop :=
  ((¬ x1 = x2 → ((¬ (S.1 40 0) = 0 → (w6_goesOn (fun S4 => (post S4)) S)) ∧ ((S.1 40 0) = 0 → (w6_flaw (fun S6 => (w6_goesOn (fun S8 => (post S8)) S6)) S 6)))) ∧ (x1 = x2 → (w6_flaw (fun S10 => ((¬ (S10.1 40 0) = 0 → (w6_goesOn (fun S13 => (post S13)) S10)) ∧ ((S10.1 40 0) = 0 → (w6_flaw (fun S15 => (w6_goesOn (fun S17 => (post S17)) S15)) S10 6)))) S 5)))
set_option maxHeartbeats 4000000 in
theorem m6_lineBegins (l : Launch) {post : MS → Prop} {S : MS} {x1 : Int32} {x2 : Int32} (hw : w6_lineBegins post S x1 x2) : Met l yX6_lineBegins (ws_ yX6_lineBegins cX6_lineBegins 3 none) ({ frames := 2, cells := 0, slots := 0, locals := 43 } : Room) (va_Pc [.ref (ad 0), .int x1, .int x2] (PcG D gCl nwG Z Hb A (wM D ad (some rt) (some (rt 0)) tw S))) (va_Qv post (BW D gCl A (fun u => (wM D ad (some rt) (some (rt 0)) tw u))) A) 0 0 A := by
  refine Met.ofG (by decide) (Nat.le_of_ble_eq_true rfl) ?_
  intro p e s m below meth c ls hC _ hP hD hS hl
  have hC : CX RX6 cX6_lineBegins 3 none D gCl nwG Z Hb A p s m _ meth c := hC
  have hl : lv_has ls 3 [(0, .ref (ad 0)), (1, .int x1), (2, .int x2)] := hl
  unfold w6_lineBegins at hw
  refine lv_iload_n hC.x hC.b dX6_lineBegins_0 rfl (lv_at hl 1 rfl) ?_
  refine lv_iload_n hC.x hC.b dX6_lineBegins_1 rfl (lv_at hl 2 rfl) ?_
  refine lv_icmp_ne (tgt := 10) hC.x hC.b dX6_lineBegins_2 (by decide) (fun c1 => ?_) (fun c1 => ?_)
  · have hw104 := hw.1 c1
    refine lv_aload_n hC.x hC.b dX6_lineBegins_10 rfl (lv_at hl 0 rfl) ?_
    refine gM_4 hC hP dX6_lineBegins_11 ?_
    refine gR_0 hC hP dX6_lineBegins_14 ?_
    refine lv_if_ne (tgt := 26) hC.x hC.b dX6_lineBegins_17 (by decide) (fun c2 => ?_) (fun c2 => ?_)
    · have hw105 := hw104.1 c2
      refine lv_aload_n hC.x hC.b dX6_lineBegins_26 rfl (lv_at hl 0 rfl) ?_
      refine go_v (run_V (rest := []) hC (m6_goesOn l hw105) v6_6_goesOn h6_goesOn 0 5 gCl_X6 rfl rfl ⟨rfl, rfl, Nat.le_of_ble_eq_true rfl, Nat.le_of_ble_eq_true rfl⟩ ⟨Nat.le_refl _, Nat.le_refl _⟩ hP hD hS hl.1 (Nat.le_of_ble_eq_true rfl) dX6_lineBegins_27 rfl) hS (fun S4 H locs hw106 hP hD hS => ?_)
      exact rt_v hC hw106 hP hD hS dX6_lineBegins_30
    · have hw107 := hw104.2 c2
      refine lv_aload_n hC.x hC.b dX6_lineBegins_20 rfl (lv_at hl 0 rfl) ?_
      refine lv_bipush (v := 6) hC.x hC.b dX6_lineBegins_21 (by decide) ?_
      refine go_v (run_V (rest := []) hC (m6_flaw l hw107) v6_6_flaw h6_flaw 0 5 gCl_X6 rfl rfl ⟨rfl, rfl, Nat.le_of_ble_eq_true rfl, Nat.le_of_ble_eq_true rfl⟩ ⟨Nat.le_refl _, Nat.le_refl _⟩ hP hD hS hl.1 (Nat.le_of_ble_eq_true rfl) dX6_lineBegins_23 rfl) hS (fun S6 H locs hw108 hP hD hS => ?_)
      refine lv_aload_n hC.x hC.b dX6_lineBegins_26 rfl (lv_at hl 0 rfl) ?_
      refine go_v (run_V (rest := []) hC (m6_goesOn l hw108) v6_6_goesOn h6_goesOn 0 5 gCl_X6 rfl rfl ⟨rfl, rfl, Nat.le_of_ble_eq_true rfl, Nat.le_of_ble_eq_true rfl⟩ ⟨Nat.le_refl _, Nat.le_refl _⟩ hP hD hS hl.1 (Nat.le_of_ble_eq_true rfl) dX6_lineBegins_27 rfl) hS (fun S8 H locs hw109 hP hD hS => ?_)
      exact rt_v hC hw109 hP hD hS dX6_lineBegins_30
  · have hw110 := hw.2 c1
    refine lv_aload_n hC.x hC.b dX6_lineBegins_5 rfl (lv_at hl 0 rfl) ?_
    refine lv_iconst (v := 5) hC.x hC.b dX6_lineBegins_6 (by decide) ?_
    refine go_v (run_V (rest := []) hC (m6_flaw l hw110) v6_6_flaw h6_flaw 0 5 gCl_X6 rfl rfl ⟨rfl, rfl, Nat.le_of_ble_eq_true rfl, Nat.le_of_ble_eq_true rfl⟩ ⟨Nat.le_refl _, Nat.le_refl _⟩ hP hD hS hl.1 (Nat.le_of_ble_eq_true rfl) dX6_lineBegins_7 rfl) hS (fun S10 H locs hw111 hP hD hS => ?_)
    refine lv_aload_n hC.x hC.b dX6_lineBegins_10 rfl (lv_at hl 0 rfl) ?_
    refine gM_4 hC hP dX6_lineBegins_11 ?_
    refine gR_0 hC hP dX6_lineBegins_14 ?_
    refine lv_if_ne (tgt := 26) hC.x hC.b dX6_lineBegins_17 (by decide) (fun c11 => ?_) (fun c11 => ?_)
    · have hw112 := hw111.1 c11
      refine lv_aload_n hC.x hC.b dX6_lineBegins_26 rfl (lv_at hl 0 rfl) ?_
      refine go_v (run_V (rest := []) hC (m6_goesOn l hw112) v6_6_goesOn h6_goesOn 0 5 gCl_X6 rfl rfl ⟨rfl, rfl, Nat.le_of_ble_eq_true rfl, Nat.le_of_ble_eq_true rfl⟩ ⟨Nat.le_refl _, Nat.le_refl _⟩ hP hD hS hl.1 (Nat.le_of_ble_eq_true rfl) dX6_lineBegins_27 rfl) hS (fun S13 H locs hw113 hP hD hS => ?_)
      exact rt_v hC hw113 hP hD hS dX6_lineBegins_30
    · have hw114 := hw111.2 c11
      refine lv_aload_n hC.x hC.b dX6_lineBegins_20 rfl (lv_at hl 0 rfl) ?_
      refine lv_bipush (v := 6) hC.x hC.b dX6_lineBegins_21 (by decide) ?_
      refine go_v (run_V (rest := []) hC (m6_flaw l hw114) v6_6_flaw h6_flaw 0 5 gCl_X6 rfl rfl ⟨rfl, rfl, Nat.le_of_ble_eq_true rfl, Nat.le_of_ble_eq_true rfl⟩ ⟨Nat.le_refl _, Nat.le_refl _⟩ hP hD hS hl.1 (Nat.le_of_ble_eq_true rfl) dX6_lineBegins_23 rfl) hS (fun S15 H locs hw115 hP hD hS => ?_)
      refine lv_aload_n hC.x hC.b dX6_lineBegins_26 rfl (lv_at hl 0 rfl) ?_
      refine go_v (run_V (rest := []) hC (m6_goesOn l hw115) v6_6_goesOn h6_goesOn 0 5 gCl_X6 rfl rfl ⟨rfl, rfl, Nat.le_of_ble_eq_true rfl, Nat.le_of_ble_eq_true rfl⟩ ⟨Nat.le_refl _, Nat.le_refl _⟩ hP hD hS hl.1 (Nat.le_of_ble_eq_true rfl) dX6_lineBegins_27 rfl) hS (fun S17 H locs hw116 hP hD hS => ?_)
      exact rt_v hC hw116 hP hD hS dX6_lineBegins_30
theorem h6_names : yX6_names.cls = RX6 ∧ yX6_names.cls ≠ "java/lang/invoke/MethodHandle" ∧ yX6_names.cls ≠ "java/lang/invoke/VarHandle" ∧ (parseMethodDescriptor yX6_names.desc).map (fun d => d.parameters.length) = some 3 := by decide +kernel
def w6_names (post : MS → Prop) (S : MS) (x1 : Int64) (x3 : Int32) (x4 : Int32) : Prop :=
  (vp_in (S.1 40 7) 12 ∧ (∀ S1, S1 = uL S 51 (S.1 40 7).toNatClampNeg x1 → (vp_in (S1.1 40 7) 12 ∧ (∀ S2, S2 = uI S1 52 (S1.1 40 7).toNatClampNeg x3 → (vp_in (S2.1 40 7) 12 ∧ (∀ S3, S3 = uI S2 53 (S2.1 40 7).toNatClampNeg x4 → (∀ S4, S4 = uI S3 40 7 ((S3.1 40 7) + 1) → (post S4))))))))
set_option maxHeartbeats 4000000 in
theorem m6_names (l : Launch) {post : MS → Prop} {S : MS} {x1 : Int64} {x3 : Int32} {x4 : Int32} (hw : w6_names post S x1 x3 x4) : Met l yX6_names (ws_ yX6_names cX6_names 5 none) ({ frames := 0, cells := 0, slots := 0, locals := 0 } : Room) (va_Pc [.ref (ad 0), .long x1, .int x3, .int x4] (PcG D gCl nwG Z Hb A (wM D ad (some rt) (some (rt 0)) tw S))) (va_Qv post (BW D gCl A (fun u => (wM D ad (some rt) (some (rt 0)) tw u))) A) 0 0 A := by
  refine Met.ofG (by decide) (Nat.le_of_ble_eq_true rfl) ?_
  intro p e s m below meth c ls hC _ hP hD hS hl
  have hC : CX RX6 cX6_names 5 none D gCl nwG Z Hb A p s m _ meth c := hC
  have hl : lv_has ls 5 [(0, .ref (ad 0)), (1, .long x1), (3, .int x3), (4, .int x4)] := hl
  unfold w6_names at hw
  refine lv_aload_n hC.x hC.b dX6_names_0 rfl (lv_at hl 0 rfl) ?_
  refine gM_4 hC hP dX6_names_1 ?_
  refine gR_18 hC hP dX6_names_4 ?_
  refine lv_aload_n hC.x hC.b dX6_names_7 rfl (lv_at hl 0 rfl) ?_
  refine gM_4 hC hP dX6_names_8 ?_
  refine gR_7 hC hP dX6_names_11 ?_
  refine lv_lload_n hC.x hC.b dX6_names_14 rfl (lv_at hl 1 rfl) ?_
  obtain ⟨hin, hw117⟩ := hw
  refine sR_11 hC hP hD hS (v := x1) hin rfl dX6_names_15 (fun S1 eS1 H locs hP hD hS => ?_)
  have hw118 := hw117 S1 eS1
  refine lv_aload_n hC.x hC.b dX6_names_16 rfl (lv_at hl 0 rfl) ?_
  refine gM_4 hC hP dX6_names_17 ?_
  refine gR_19 hC hP dX6_names_20 ?_
  refine lv_aload_n hC.x hC.b dX6_names_23 rfl (lv_at hl 0 rfl) ?_
  refine gM_4 hC hP dX6_names_24 ?_
  refine gR_7 hC hP dX6_names_27 ?_
  refine lv_iload_n hC.x hC.b dX6_names_30 rfl (lv_at hl 2 rfl) ?_
  obtain ⟨hin, hw119⟩ := hw118
  refine sR_12 hC hP hD hS (v := x3) hin rfl dX6_names_31 (fun S2 eS2 H locs hP hD hS => ?_)
  have hw120 := hw119 S2 eS2
  refine lv_aload_n hC.x hC.b dX6_names_32 rfl (lv_at hl 0 rfl) ?_
  refine gM_4 hC hP dX6_names_33 ?_
  refine gR_20 hC hP dX6_names_36 ?_
  refine lv_aload_n hC.x hC.b dX6_names_39 rfl (lv_at hl 0 rfl) ?_
  refine gM_4 hC hP dX6_names_40 ?_
  refine gR_7 hC hP dX6_names_43 ?_
  refine lv_iload hC.x hC.b dX6_names_46 (lv_at hl 3 rfl) ?_
  obtain ⟨hin, hw121⟩ := hw120
  refine sR_13 hC hP hD hS (v := x4) hin rfl dX6_names_48 (fun S3 eS3 H locs hP hD hS => ?_)
  have hw122 := hw121 S3 eS3
  refine lv_aload_n hC.x hC.b dX6_names_49 rfl (lv_at hl 0 rfl) ?_
  refine gM_4 hC hP dX6_names_50 ?_
  refine lv_dup hC.x hC.b dX6_names_53 rfl ?_
  refine gR_7 hC hP dX6_names_54 ?_
  refine lv_iconst (v := 1) hC.x hC.b dX6_names_57 (by decide) ?_
  refine lv_iadd hC.x hC.b dX6_names_58 ?_
  refine pR_7 hC hP hD hS (v := ((S3.1 40 7) + 1)) dX6_names_59 (fun S4 eS4 H locs hP hD hS => ?_)
  have hw123 := hw122 S4 eS4
  exact rt_v hC hw123 hP hD hS dX6_names_62
theorem h6_eatsSemicolon : yX6_eatsSemicolon.cls = RX6 ∧ yX6_eatsSemicolon.cls ≠ "java/lang/invoke/MethodHandle" ∧ yX6_eatsSemicolon.cls ≠ "java/lang/invoke/VarHandle" ∧ (parseMethodDescriptor yX6_eatsSemicolon.desc).map (fun d => d.parameters.length) = some 0 := by decide +kernel
def w6_eatsSemicolon (post : Int32 → MS → Prop) (S : MS) : Prop :=
  ((¬ (S.1 0 9) = 4 → (((0 : Int32) = 0 → (post 0 S)) ∧ (¬ (0 : Int32) = 0 → (w6_goesOn (fun S4 => (post 0 S4)) S)))) ∧ ((S.1 0 9) = 4 → (((1 : Int32) = 0 → (post 1 S)) ∧ (¬ (1 : Int32) = 0 → (w6_goesOn (fun S7 => (post 1 S7)) S)))))
set_option maxHeartbeats 4000000 in
theorem m6_eatsSemicolon (l : Launch) {post : Int32 → MS → Prop} {S : MS} (hw : w6_eatsSemicolon post S) : Met l yX6_eatsSemicolon (ws_ yX6_eatsSemicolon cX6_eatsSemicolon 2 (some .boolean)) ({ frames := 2, cells := 0, slots := 0, locals := 43 } : Room) (va_Pc [.ref (ad 0)] (PcG D gCl nwG Z Hb A (wM D ad rd rdv tw S))) (va_Qi post (BW D gCl A (fun u => (wM D ad rd rdv tw u))) A) 0 0 A := by
  refine Met.ofG (by decide) (Nat.le_of_ble_eq_true rfl) ?_
  intro p e s m below meth c ls hC _ hP hD hS hl
  have hC : CX RX6 cX6_eatsSemicolon 2 (some .boolean) D gCl nwG Z Hb A p s m _ meth c := hC
  have hl : lv_has ls 2 [(0, .ref (ad 0))] := hl
  unfold w6_eatsSemicolon at hw
  refine lv_aload_n hC.x hC.b dX6_eatsSemicolon_0 rfl (lv_at hl 0 rfl) ?_
  refine gM_9 hC hP dX6_eatsSemicolon_1 ?_
  refine lv_iconst (v := 4) hC.x hC.b dX6_eatsSemicolon_4 (by decide) ?_
  refine lv_icmp_ne (tgt := 12) hC.x hC.b dX6_eatsSemicolon_5 (by decide) (fun c1 => ?_) (fun c1 => ?_)
  · have hw124 := hw.1 c1
    refine lv_iconst (v := 0) hC.x hC.b dX6_eatsSemicolon_12 (by decide) ?_
    refine lv_istore_n (lv' := [(1, .int 0), (0, .ref (ad 0))]) hC.x hC.b dX6_eatsSemicolon_13 rfl hl (by decide) rfl (fun ls hl => ?_)
    refine lv_iload_n hC.x hC.b dX6_eatsSemicolon_14 rfl (lv_at hl 0 rfl) ?_
    refine lv_if_eq (tgt := 22) hC.x hC.b dX6_eatsSemicolon_15 (by decide) (fun c2 => ?_) (fun c2 => ?_)
    · have hw125 := hw124.1 c2
      refine lv_iload_n hC.x hC.b dX6_eatsSemicolon_22 rfl (lv_at hl 0 rfl) ?_
      exact rt_z hC (Or.inl rfl) hw125 hP hD hS dX6_eatsSemicolon_23
    · have hw126 := hw124.2 c2
      refine lv_aload_n hC.x hC.b dX6_eatsSemicolon_18 rfl (lv_at hl 1 rfl) ?_
      refine go_v (run_V (rest := []) hC (m6_goesOn l hw126) v6_6_goesOn h6_goesOn 0 5 gCl_X6 rfl rfl ⟨rfl, rfl, Nat.le_of_ble_eq_true rfl, Nat.le_of_ble_eq_true rfl⟩ ⟨Nat.le_refl _, Nat.le_refl _⟩ hP hD hS hl.1 (Nat.le_of_ble_eq_true rfl) dX6_eatsSemicolon_19 rfl) hS (fun S4 H locs hw127 hP hD hS => ?_)
      refine lv_iload_n hC.x hC.b dX6_eatsSemicolon_22 rfl (lv_at hl 0 rfl) ?_
      exact rt_z hC (Or.inl rfl) hw127 hP hD hS dX6_eatsSemicolon_23
  · have hw128 := hw.2 c1
    refine lv_iconst (v := 1) hC.x hC.b dX6_eatsSemicolon_8 (by decide) ?_
    refine lv_goto (tgt := 13) hC.x hC.b dX6_eatsSemicolon_9 (by decide) ?_
    refine lv_istore_n (lv' := [(1, .int 1), (0, .ref (ad 0))]) hC.x hC.b dX6_eatsSemicolon_13 rfl hl (by decide) rfl (fun ls hl => ?_)
    refine lv_iload_n hC.x hC.b dX6_eatsSemicolon_14 rfl (lv_at hl 0 rfl) ?_
    refine lv_if_eq (tgt := 22) hC.x hC.b dX6_eatsSemicolon_15 (by decide) (fun c5 => ?_) (fun c5 => ?_)
    · have hw129 := hw128.1 c5
      refine lv_iload_n hC.x hC.b dX6_eatsSemicolon_22 rfl (lv_at hl 0 rfl) ?_
      exact rt_z hC (Or.inr rfl) hw129 hP hD hS dX6_eatsSemicolon_23
    · have hw130 := hw128.2 c5
      refine lv_aload_n hC.x hC.b dX6_eatsSemicolon_18 rfl (lv_at hl 1 rfl) ?_
      refine go_v (run_V (rest := []) hC (m6_goesOn l hw130) v6_6_goesOn h6_goesOn 0 5 gCl_X6 rfl rfl ⟨rfl, rfl, Nat.le_of_ble_eq_true rfl, Nat.le_of_ble_eq_true rfl⟩ ⟨Nat.le_refl _, Nat.le_refl _⟩ hP hD hS hl.1 (Nat.le_of_ble_eq_true rfl) dX6_eatsSemicolon_19 rfl) hS (fun S7 H locs hw131 hP hD hS => ?_)
      refine lv_iload_n hC.x hC.b dX6_eatsSemicolon_22 rfl (lv_at hl 0 rfl) ?_
      exact rt_z hC (Or.inr rfl) hw131 hP hD hS dX6_eatsSemicolon_23
theorem h6_bit : yX6_bit.cls ≠ "java/lang/invoke/MethodHandle" ∧ yX6_bit.cls ≠ "java/lang/invoke/VarHandle" ∧ (parseMethodDescriptor yX6_bit.desc).map (fun d => d.parameters.length) = some 2 := by decide +kernel
def w6_bit (post : Int32 → Prop) (x0 : Int32) (x1 : Int32) : Prop :=
  ((¬ ((x0 >>> (x1 &&& 31)) &&& 1) = 1 → (post 0)) ∧ (((x0 >>> (x1 &&& 31)) &&& 1) = 1 → (post 1)))
set_option maxHeartbeats 4000000 in
theorem m6_bit (l : Launch) {post : Int32 → Prop} {x0 : Int32} {x1 : Int32} (hw : w6_bit post x0 x1) : Met l yX6_bit (ws_ yX6_bit cX6_bit 2 (some .boolean)) ({ frames := 0, cells := 0, slots := 0, locals := 0 } : Room) (va_Pc [.int x0, .int x1] (PcG D gCl nwG Z Hb A w0)) (va_Qi (fun r (_ : Unit) => post r) (BW D gCl A (fun _ => w0)) A) 0 0 A := by
  refine Met.ofG (by decide) (Nat.le_of_ble_eq_true rfl) ?_
  intro p e s m below meth c ls hC _ hP hD hS hl
  have hC : CX RX6 cX6_bit 2 (some .boolean) D gCl nwG Z Hb A p s m _ meth c := hC
  have hl : lv_has ls 2 [(0, .int x0), (1, .int x1)] := hl
  unfold w6_bit at hw
  refine lv_iload_n hC.x hC.b dX6_bit_0 rfl (lv_at hl 0 rfl) ?_
  refine lv_iload_n hC.x hC.b dX6_bit_1 rfl (lv_at hl 1 rfl) ?_
  refine lv_ishr hC.x hC.b dX6_bit_2 ?_
  refine lv_iconst (v := 1) hC.x hC.b dX6_bit_3 (by decide) ?_
  refine lv_iand hC.x hC.b dX6_bit_4 ?_
  refine lv_iconst (v := 1) hC.x hC.b dX6_bit_5 (by decide) ?_
  refine lv_icmp_ne (tgt := 13) hC.x hC.b dX6_bit_6 (by decide) (fun c1 => ?_) (fun c1 => ?_)
  · have hw132 := hw.1 c1
    refine lv_iconst (v := 0) hC.x hC.b dX6_bit_13 (by decide) ?_
    exact rt_z (u := ()) hC (Or.inl rfl) hw132 hP hD hS dX6_bit_14
  · have hw133 := hw.2 c1
    refine lv_iconst (v := 1) hC.x hC.b dX6_bit_9 (by decide) ?_
    refine lv_goto (tgt := 14) hC.x hC.b dX6_bit_10 (by decide) ?_
    exact rt_z (u := ()) hC (Or.inr rfl) hw133 hP hD hS dX6_bit_14
theorem v6_6_bit : GoodIn lw_all (va_wsS RX6 314 yX6_bit (ws_ yX6_bit cX6_bit 2 (some .boolean))) := lw_S q1768 q1769 q126 q1770
theorem h6_asTold : yX6_asTold.cls = RX6 ∧ yX6_asTold.cls ≠ "java/lang/invoke/MethodHandle" ∧ yX6_asTold.cls ≠ "java/lang/invoke/VarHandle" ∧ (parseMethodDescriptor yX6_asTold.desc).map (fun d => d.parameters.length) = some 1 := by decide +kernel
def f6_asTold_102 (post : MS → Prop) (tw : Option (Nat → Nat)) (x1 : Int32) (K102 : (MS × Int32) → Prop) (S : MS) (x2 : Int32) : Prop :=
  ((∃ t, tw = some t) ∧ (((S.1 20 5) ≤ x2 → (post S)) ∧ (¬ (S.1 20 5) ≤ x2 → (w6_bit (fun r5 => ((r5 = 0 → (K102 (S, (x2 + 1)))) ∧ (¬ r5 = 0 → (vp_in x2 4 ∧ (vp_in x2 4 ∧ (vp_in (6 + (S.1 26 x2.toNatClampNeg)) 19 ∧ (∀ S7, S7 = uI S 3 (6 + (S.1 26 x2.toNatClampNeg)).toNatClampNeg (S.1 27 x2.toNatClampNeg) → (K102 (S7, (x2 + 1)))))))))) x1 x2))))
set_option maxHeartbeats 4000000 in
theorem k6_asTold_102 {post : MS → Prop} {x1 : Int32} (hC : CX RX6 cX6_asTold 3 none D gCl nwG Z Hb A p s m args meth c) : ∀ z : (MS × Int32), lp (fun (K : (MS × Int32) → Prop) (z : (MS × Int32)) => f6_asTold_102 post tw x1 K z.1 z.2) z → ∀ (H : Heap) (locs : List Loc) (ls : Array Slot), va_P D gCl (wM D ad none rdv tw z.1) H → va_D A (wM D ad none rdv tw z.1) → va_S A s.heap H locs → lv_has ls 3 [(0, .ref (ad 0)), (1, .int x1), (2, .int z.2)] → W p l e ({ frames := 1, cells := 0, slots := 0, locals := 21 } : Room) s m args below meth c H locs 0 0 (MQ below (va_Qv post (BW D gCl A (fun u => (wM D ad none rdv tw u))) A) args s 0 0 A) (F0 m 102 ls []) := by
  refine lp_ind ?_
  rintro K102 ⟨S, x2⟩ hK102 hw H locs ls hP hD hS hl
  have hw : f6_asTold_102 post tw x1 K102 S x2 := hw
  unfold f6_asTold_102 at hw
  have hP : va_P D gCl (wM D ad none rdv tw S) H := hP
  have hD : va_D A (wM D ad none rdv tw S) := hD
  have hl : lv_has ls 3 [(0, .ref (ad 0)), (1, .int x1), (2, .int x2)] := hl
  refine lv_iload_n hC.x hC.b dX6_asTold_102 rfl (lv_at hl 2 rfl) ?_
  refine lv_aload_n hC.x hC.b dX6_asTold_103 rfl (lv_at hl 0 rfl) ?_
  refine gM_3 hC hP dX6_asTold_104 ?_
  obtain ⟨⟨t, rfl⟩, hw137⟩ := hw
  refine gT_5 hC hP dX6_asTold_107 ?_
  refine lv_icmp_ge (tgt := 153) hC.x hC.b dX6_asTold_110 (by decide) (fun c4 => ?_) (fun c4 => ?_)
  · have hw138 := hw137.1 c4
    exact rt_v hC hw138 hP hD hS dX6_asTold_153
  · have hw139 := hw137.2 c4
    refine lv_iload_n hC.x hC.b dX6_asTold_113 rfl (lv_at hl 1 rfl) ?_
    refine lv_iload_n hC.x hC.b dX6_asTold_114 rfl (lv_at hl 2 rfl) ?_
    refine go_i (run_S (rest := []) hC (m6_bit l hw139) v6_6_bit h6_bit ⟨rfl, rfl, Nat.le_of_ble_eq_true rfl, Nat.le_of_ble_eq_true rfl⟩ ⟨Nat.le_refl _, Nat.le_refl _⟩ hP hD hS hl.1 (Nat.le_of_ble_eq_true rfl) dX6_asTold_115 rfl) hS (fun r5 u H locs hw140 hP hD hS => ?_)
    refine lv_if_eq (tgt := 147) hC.x hC.b dX6_asTold_118 (by decide) (fun c6 => ?_) (fun c6 => ?_)
    · have hw141 := hw140.1 c6
      refine lv_iinc (v := (x2 + 1)) (lv' := [(2, .int (x2 + 1)), (0, .ref (ad 0)), (1, .int x1)]) hC.x hC.b dX6_asTold_147 hl (k := 2) rfl rfl (by decide) rfl (fun ls hl => ?_)
      refine lv_goto (tgt := 102) hC.x hC.b dX6_asTold_150 (by decide) ?_
      exact hK102 (S, (x2 + 1)) hw141 H locs ls hP hD hS (lv_sub hl [1, 2, 0] rfl)
    · have hw142 := hw140.2 c6
      refine lv_aload_n hC.x hC.b dX6_asTold_121 rfl (lv_at hl 0 rfl) ?_
      refine gM_16 hC hP dX6_asTold_122 ?_
      refine lv_bipush (v := 6) hC.x hC.b dX6_asTold_125 (by decide) ?_
      refine lv_aload_n hC.x hC.b dX6_asTold_127 rfl (lv_at hl 0 rfl) ?_
      refine gM_3 hC hP dX6_asTold_128 ?_
      refine gT_13 hC hP dX6_asTold_131 ?_
      refine lv_iload_n hC.x hC.b dX6_asTold_134 rfl (lv_at hl 2 rfl) ?_
      obtain ⟨hin, hw143⟩ := hw142
      refine lT_6 hC hP hin rfl dX6_asTold_135 ?_
      refine lv_iadd hC.x hC.b dX6_asTold_136 ?_
      refine lv_aload_n hC.x hC.b dX6_asTold_137 rfl (lv_at hl 0 rfl) ?_
      refine gM_3 hC hP dX6_asTold_138 ?_
      refine gT_14 hC hP dX6_asTold_141 ?_
      refine lv_iload_n hC.x hC.b dX6_asTold_144 rfl (lv_at hl 2 rfl) ?_
      obtain ⟨hin, hw144⟩ := hw143
      refine lT_7 hC hP hin rfl dX6_asTold_145 ?_
      obtain ⟨hin, hw145⟩ := hw144
      refine sM_3 hC hP hD hS (v := (S.1 27 x2.toNatClampNeg)) hin rfl dX6_asTold_146 (fun S7 eS7 H locs hP hD hS => ?_)
      have hw146 := hw145 S7 eS7
      refine lv_iinc (v := (x2 + 1)) (lv' := [(2, .int (x2 + 1)), (0, .ref (ad 0)), (1, .int x1)]) hC.x hC.b dX6_asTold_147 hl (k := 2) rfl rfl (by decide) rfl (fun ls hl => ?_)
      refine lv_goto (tgt := 102) hC.x hC.b dX6_asTold_150 (by decide) ?_
      exact hK102 (S7, (x2 + 1)) hw146 H locs ls hP hD hS (lv_sub hl [1, 2, 0] rfl)
def f6_asTold_52 (post : MS → Prop) (tw : Option (Nat → Nat)) (x1 : Int32) (K52 : (MS × Int32) → Prop) (S : MS) (x2 : Int32) : Prop :=
  ((6 ≤ x2 → (lp (fun (K : (MS × Int32) → Prop) (z : (MS × Int32)) => f6_asTold_102 post tw x1 K z.1 z.2) (S, 0))) ∧ (¬ 6 ≤ x2 → ((∃ t, tw = some t) ∧ (vp_in x2 6 ∧ (vp_in (6 + x2) 19 ∧ (∀ S8, S8 = uI S 3 (6 + x2).toNatClampNeg (S.1 23 x2.toNatClampNeg) → (vp_in x2 6 ∧ (vp_in (12 + x2) 19 ∧ (∀ S9, S9 = uI S8 3 (12 + x2).toNatClampNeg (S8.1 25 x2.toNatClampNeg) → (K52 (S9, (x2 + 1))))))))))))
set_option maxHeartbeats 4000000 in
theorem k6_asTold_52 {post : MS → Prop} {x1 : Int32} (hC : CX RX6 cX6_asTold 3 none D gCl nwG Z Hb A p s m args meth c) : ∀ z : (MS × Int32), lp (fun (K : (MS × Int32) → Prop) (z : (MS × Int32)) => f6_asTold_52 post tw x1 K z.1 z.2) z → ∀ (H : Heap) (locs : List Loc) (ls : Array Slot), va_P D gCl (wM D ad none rdv tw z.1) H → va_D A (wM D ad none rdv tw z.1) → va_S A s.heap H locs → lv_has ls 3 [(0, .ref (ad 0)), (1, .int x1), (2, .int z.2)] → W p l e ({ frames := 1, cells := 0, slots := 0, locals := 21 } : Room) s m args below meth c H locs 0 0 (MQ below (va_Qv post (BW D gCl A (fun u => (wM D ad none rdv tw u))) A) args s 0 0 A) (F0 m 52 ls []) := by
  refine lp_ind ?_
  rintro K52 ⟨S, x2⟩ hK52 hw H locs ls hP hD hS hl
  have hw : f6_asTold_52 post tw x1 K52 S x2 := hw
  unfold f6_asTold_52 at hw
  have hP : va_P D gCl (wM D ad none rdv tw S) H := hP
  have hD : va_D A (wM D ad none rdv tw S) := hD
  have hl : lv_has ls 3 [(0, .ref (ad 0)), (1, .int x1), (2, .int x2)] := hl
  refine lv_iload_n hC.x hC.b dX6_asTold_52 rfl (lv_at hl 2 rfl) ?_
  refine lv_bipush (v := 6) hC.x hC.b dX6_asTold_53 (by decide) ?_
  refine lv_icmp_ge (tgt := 100) hC.x hC.b dX6_asTold_55 (by decide) (fun c3 => ?_) (fun c3 => ?_)
  · have hw136 := hw.1 c3
    refine lv_iconst (v := 0) hC.x hC.b dX6_asTold_100 (by decide) ?_
    refine lv_istore_n (lv' := [(2, .int 0), (0, .ref (ad 0)), (1, .int x1)]) hC.x hC.b dX6_asTold_101 rfl hl (by decide) rfl (fun ls hl => ?_)
    exact k6_asTold_102 hC (S, 0) hw136 H locs ls hP hD hS (lv_sub hl [1, 2, 0] rfl)
  · have hw147 := hw.2 c3
    refine lv_aload_n hC.x hC.b dX6_asTold_58 rfl (lv_at hl 0 rfl) ?_
    refine gM_16 hC hP dX6_asTold_59 ?_
    refine lv_bipush (v := 6) hC.x hC.b dX6_asTold_62 (by decide) ?_
    refine lv_iload_n hC.x hC.b dX6_asTold_64 rfl (lv_at hl 2 rfl) ?_
    refine lv_iadd hC.x hC.b dX6_asTold_65 ?_
    refine lv_aload_n hC.x hC.b dX6_asTold_66 rfl (lv_at hl 0 rfl) ?_
    refine gM_3 hC hP dX6_asTold_67 ?_
    obtain ⟨⟨t, rfl⟩, hw148⟩ := hw147
    refine gT_10 hC hP dX6_asTold_70 ?_
    refine lv_iload_n hC.x hC.b dX6_asTold_73 rfl (lv_at hl 2 rfl) ?_
    obtain ⟨hin, hw149⟩ := hw148
    refine lT_3 hC hP hin rfl dX6_asTold_74 ?_
    obtain ⟨hin, hw150⟩ := hw149
    refine sM_3 hC hP hD hS (v := (S.1 23 x2.toNatClampNeg)) hin rfl dX6_asTold_75 (fun S8 eS8 H locs hP hD hS => ?_)
    have hw151 := hw150 S8 eS8
    refine lv_aload_n hC.x hC.b dX6_asTold_76 rfl (lv_at hl 0 rfl) ?_
    refine gM_16 hC hP dX6_asTold_77 ?_
    refine lv_bipush (v := 12) hC.x hC.b dX6_asTold_80 (by decide) ?_
    refine lv_iload_n hC.x hC.b dX6_asTold_82 rfl (lv_at hl 2 rfl) ?_
    refine lv_iadd hC.x hC.b dX6_asTold_83 ?_
    refine lv_aload_n hC.x hC.b dX6_asTold_84 rfl (lv_at hl 0 rfl) ?_
    refine gM_3 hC hP dX6_asTold_85 ?_
    refine gT_12 hC hP dX6_asTold_88 ?_
    refine lv_iload_n hC.x hC.b dX6_asTold_91 rfl (lv_at hl 2 rfl) ?_
    obtain ⟨hin, hw152⟩ := hw151
    refine lT_5 hC hP hin rfl dX6_asTold_92 ?_
    obtain ⟨hin, hw153⟩ := hw152
    refine sM_3 hC hP hD hS (v := (S8.1 25 x2.toNatClampNeg)) hin rfl dX6_asTold_93 (fun S9 eS9 H locs hP hD hS => ?_)
    have hw154 := hw153 S9 eS9
    refine lv_iinc (v := (x2 + 1)) (lv' := [(2, .int (x2 + 1)), (0, .ref (ad 0)), (1, .int x1)]) hC.x hC.b dX6_asTold_94 hl (k := 2) rfl rfl (by decide) rfl (fun ls hl => ?_)
    refine lv_goto (tgt := 52) hC.x hC.b dX6_asTold_97 (by decide) ?_
    exact hK52 (S9, (x2 + 1)) hw154 H locs ls hP hD hS (lv_sub hl [1, 2, 0] rfl)
def f6_asTold_23 (post : MS → Prop) (tw : Option (Nat → Nat)) (x1 : Int32) (K23 : (MS × Int32) → Prop) (S : MS) (x2 : Int32) : Prop :=
  ((6 ≤ x2 → (lp (fun (K : (MS × Int32) → Prop) (z : (MS × Int32)) => f6_asTold_52 post tw x1 K z.1 z.2) (S, 0))) ∧ (¬ 6 ≤ x2 → ((∃ t, tw = some t) ∧ (vp_in x2 6 ∧ (vp_in x2 19 ∧ (∀ S10, S10 = uI S 3 x2.toNatClampNeg (S.1 21 x2.toNatClampNeg) → (K23 (S10, (x2 + 1)))))))))
set_option maxHeartbeats 4000000 in
theorem k6_asTold_23 {post : MS → Prop} {x1 : Int32} (hC : CX RX6 cX6_asTold 3 none D gCl nwG Z Hb A p s m args meth c) : ∀ z : (MS × Int32), lp (fun (K : (MS × Int32) → Prop) (z : (MS × Int32)) => f6_asTold_23 post tw x1 K z.1 z.2) z → ∀ (H : Heap) (locs : List Loc) (ls : Array Slot), va_P D gCl (wM D ad none rdv tw z.1) H → va_D A (wM D ad none rdv tw z.1) → va_S A s.heap H locs → lv_has ls 3 [(0, .ref (ad 0)), (1, .int x1), (2, .int z.2)] → W p l e ({ frames := 1, cells := 0, slots := 0, locals := 21 } : Room) s m args below meth c H locs 0 0 (MQ below (va_Qv post (BW D gCl A (fun u => (wM D ad none rdv tw u))) A) args s 0 0 A) (F0 m 23 ls []) := by
  refine lp_ind ?_
  rintro K23 ⟨S, x2⟩ hK23 hw H locs ls hP hD hS hl
  have hw : f6_asTold_23 post tw x1 K23 S x2 := hw
  unfold f6_asTold_23 at hw
  have hP : va_P D gCl (wM D ad none rdv tw S) H := hP
  have hD : va_D A (wM D ad none rdv tw S) := hD
  have hl : lv_has ls 3 [(0, .ref (ad 0)), (1, .int x1), (2, .int x2)] := hl
  refine lv_iload_n hC.x hC.b dX6_asTold_23 rfl (lv_at hl 2 rfl) ?_
  refine lv_bipush (v := 6) hC.x hC.b dX6_asTold_24 (by decide) ?_
  refine lv_icmp_ge (tgt := 50) hC.x hC.b dX6_asTold_26 (by decide) (fun c2 => ?_) (fun c2 => ?_)
  · have hw135 := hw.1 c2
    refine lv_iconst (v := 0) hC.x hC.b dX6_asTold_50 (by decide) ?_
    refine lv_istore_n (lv' := [(2, .int 0), (0, .ref (ad 0)), (1, .int x1)]) hC.x hC.b dX6_asTold_51 rfl hl (by decide) rfl (fun ls hl => ?_)
    exact k6_asTold_52 hC (S, 0) hw135 H locs ls hP hD hS (lv_sub hl [1, 2, 0] rfl)
  · have hw155 := hw.2 c2
    refine lv_aload_n hC.x hC.b dX6_asTold_29 rfl (lv_at hl 0 rfl) ?_
    refine gM_16 hC hP dX6_asTold_30 ?_
    refine lv_iload_n hC.x hC.b dX6_asTold_33 rfl (lv_at hl 2 rfl) ?_
    refine lv_aload_n hC.x hC.b dX6_asTold_34 rfl (lv_at hl 0 rfl) ?_
    refine gM_3 hC hP dX6_asTold_35 ?_
    obtain ⟨⟨t, rfl⟩, hw156⟩ := hw155
    refine gT_8 hC hP dX6_asTold_38 ?_
    refine lv_iload_n hC.x hC.b dX6_asTold_41 rfl (lv_at hl 2 rfl) ?_
    obtain ⟨hin, hw157⟩ := hw156
    refine lT_1 hC hP hin rfl dX6_asTold_42 ?_
    obtain ⟨hin, hw158⟩ := hw157
    refine sM_3 hC hP hD hS (v := (S.1 21 x2.toNatClampNeg)) hin rfl dX6_asTold_43 (fun S10 eS10 H locs hP hD hS => ?_)
    have hw159 := hw158 S10 eS10
    refine lv_iinc (v := (x2 + 1)) (lv' := [(2, .int (x2 + 1)), (0, .ref (ad 0)), (1, .int x1)]) hC.x hC.b dX6_asTold_44 hl (k := 2) rfl rfl (by decide) rfl (fun ls hl => ?_)
    refine lv_goto (tgt := 23) hC.x hC.b dX6_asTold_47 (by decide) ?_
    exact hK23 (S10, (x2 + 1)) hw159 H locs ls hP hD hS (lv_sub hl [1, 2, 0] rfl)
def f6_asTold_2 (post : MS → Prop) (tw : Option (Nat → Nat)) (x1 : Int32) (K2 : (MS × Int32) → Prop) (S : MS) (x2 : Int32) : Prop :=
  ((19 ≤ x2 → (lp (fun (K : (MS × Int32) → Prop) (z : (MS × Int32)) => f6_asTold_23 post tw x1 K z.1 z.2) (S, 0))) ∧ (¬ 19 ≤ x2 → (vp_in x2 19 ∧ (∀ S11, S11 = uI S 3 x2.toNatClampNeg 0 → (K2 (S11, (x2 + 1)))))))
set_option maxHeartbeats 4000000 in
theorem k6_asTold_2 {post : MS → Prop} {x1 : Int32} (hC : CX RX6 cX6_asTold 3 none D gCl nwG Z Hb A p s m args meth c) : ∀ z : (MS × Int32), lp (fun (K : (MS × Int32) → Prop) (z : (MS × Int32)) => f6_asTold_2 post tw x1 K z.1 z.2) z → ∀ (H : Heap) (locs : List Loc) (ls : Array Slot), va_P D gCl (wM D ad none rdv tw z.1) H → va_D A (wM D ad none rdv tw z.1) → va_S A s.heap H locs → lv_has ls 3 [(0, .ref (ad 0)), (1, .int x1), (2, .int z.2)] → W p l e ({ frames := 1, cells := 0, slots := 0, locals := 21 } : Room) s m args below meth c H locs 0 0 (MQ below (va_Qv post (BW D gCl A (fun u => (wM D ad none rdv tw u))) A) args s 0 0 A) (F0 m 2 ls []) := by
  refine lp_ind ?_
  rintro K2 ⟨S, x2⟩ hK2 hw H locs ls hP hD hS hl
  have hw : f6_asTold_2 post tw x1 K2 S x2 := hw
  unfold f6_asTold_2 at hw
  have hP : va_P D gCl (wM D ad none rdv tw S) H := hP
  have hD : va_D A (wM D ad none rdv tw S) := hD
  have hl : lv_has ls 3 [(0, .ref (ad 0)), (1, .int x1), (2, .int x2)] := hl
  refine lv_iload_n hC.x hC.b dX6_asTold_2 rfl (lv_at hl 2 rfl) ?_
  refine lv_bipush (v := 19) hC.x hC.b dX6_asTold_3 (by decide) ?_
  refine lv_icmp_ge (tgt := 21) hC.x hC.b dX6_asTold_5 (by decide) (fun c1 => ?_) (fun c1 => ?_)
  · have hw134 := hw.1 c1
    refine lv_iconst (v := 0) hC.x hC.b dX6_asTold_21 (by decide) ?_
    refine lv_istore_n (lv' := [(2, .int 0), (0, .ref (ad 0)), (1, .int x1)]) hC.x hC.b dX6_asTold_22 rfl hl (by decide) rfl (fun ls hl => ?_)
    exact k6_asTold_23 hC (S, 0) hw134 H locs ls hP hD hS (lv_sub hl [1, 2, 0] rfl)
  · have hw160 := hw.2 c1
    refine lv_aload_n hC.x hC.b dX6_asTold_8 rfl (lv_at hl 0 rfl) ?_
    refine gM_16 hC hP dX6_asTold_9 ?_
    refine lv_iload_n hC.x hC.b dX6_asTold_12 rfl (lv_at hl 2 rfl) ?_
    refine lv_iconst (v := 0) hC.x hC.b dX6_asTold_13 (by decide) ?_
    obtain ⟨hin, hw161⟩ := hw160
    refine sM_3 hC hP hD hS (v := 0) hin rfl dX6_asTold_14 (fun S11 eS11 H locs hP hD hS => ?_)
    have hw162 := hw161 S11 eS11
    refine lv_iinc (v := (x2 + 1)) (lv' := [(2, .int (x2 + 1)), (0, .ref (ad 0)), (1, .int x1)]) hC.x hC.b dX6_asTold_15 hl (k := 2) rfl rfl (by decide) rfl (fun ls hl => ?_)
    refine lv_goto (tgt := 2) hC.x hC.b dX6_asTold_18 (by decide) ?_
    exact hK2 (S11, (x2 + 1)) hw162 H locs ls hP hD hS (lv_sub hl [1, 2, 0] rfl)
def w6_asTold (post : MS → Prop) (tw : Option (Nat → Nat)) (S : MS) (x1 : Int32) : Prop :=
  (lp (fun (K : (MS × Int32) → Prop) (z : (MS × Int32)) => f6_asTold_2 post tw x1 K z.1 z.2) (S, 0))
set_option maxHeartbeats 4000000 in
theorem m6_asTold (l : Launch) {post : MS → Prop} {S : MS} {x1 : Int32} (hw : w6_asTold post tw S x1) : Met l yX6_asTold (ws_ yX6_asTold cX6_asTold 3 none) ({ frames := 1, cells := 0, slots := 0, locals := 21 } : Room) (va_Pc [.ref (ad 0), .int x1] (PcG D gCl nwG Z Hb A (wM D ad none rdv tw S))) (va_Qv post (BW D gCl A (fun u => (wM D ad none rdv tw u))) A) 0 0 A := by
  refine Met.ofG (by decide) (Nat.le_of_ble_eq_true rfl) ?_
  intro p e s m below meth c ls hC _ hP hD hS hl
  have hC : CX RX6 cX6_asTold 3 none D gCl nwG Z Hb A p s m _ meth c := hC
  have hl : lv_has ls 3 [(0, .ref (ad 0)), (1, .int x1)] := hl
  unfold w6_asTold at hw
  refine lv_iconst (v := 0) hC.x hC.b dX6_asTold_0 (by decide) ?_
  refine lv_istore_n (lv' := [(2, .int 0), (0, .ref (ad 0)), (1, .int x1)]) hC.x hC.b dX6_asTold_1 rfl hl (by decide) rfl (fun ls hl => ?_)
  exact k6_asTold_2 hC (S, 0) hw s.heap [] ls hP hD hS (lv_sub hl [1, 2, 0] rfl)
theorem h6_good : yX6_good.cls = RX6 ∧ yX6_good.cls ≠ "java/lang/invoke/MethodHandle" ∧ yX6_good.cls ≠ "java/lang/invoke/VarHandle" ∧ (parseMethodDescriptor yX6_good.desc).map (fun d => d.parameters.length) = some 1 := by decide +kernel
def w6_good (post : Int32 → MS → Prop) (S : MS) (x1 : Int32) : Prop :=
  (∀ S1, S1 = uI S 0 1 0 → (∀ S2, S2 = uI S1 0 2 (-1) → (post x1 S2)))
set_option maxHeartbeats 4000000 in
theorem m6_good (l : Launch) {post : Int32 → MS → Prop} {S : MS} {x1 : Int32} (hw : w6_good post S x1) : Met l yX6_good (ws_ yX6_good cX6_good 2 (some .int)) ({ frames := 0, cells := 0, slots := 0, locals := 0 } : Room) (va_Pc [.ref (ad 0), .int x1] (PcG D gCl nwG Z Hb A (wM D ad rd rdv tw S))) (va_Qi post (BW D gCl A (fun u => (wM D ad rd rdv tw u))) A) 0 0 A := by
  refine Met.ofG (by decide) (Nat.le_of_ble_eq_true rfl) ?_
  intro p e s m below meth c ls hC _ hP hD hS hl
  have hC : CX RX6 cX6_good 2 (some .int) D gCl nwG Z Hb A p s m _ meth c := hC
  have hl : lv_has ls 2 [(0, .ref (ad 0)), (1, .int x1)] := hl
  unfold w6_good at hw
  refine lv_aload_n hC.x hC.b dX6_good_0 rfl (lv_at hl 0 rfl) ?_
  refine lv_iconst (v := 0) hC.x hC.b dX6_good_1 (by decide) ?_
  refine pM_1 hC hP hD hS (v := 0) dX6_good_2 (fun S1 eS1 H locs hP hD hS => ?_)
  have hw163 := hw S1 eS1
  refine lv_aload_n hC.x hC.b dX6_good_5 rfl (lv_at hl 0 rfl) ?_
  refine lv_iconst (v := (-1)) hC.x hC.b dX6_good_6 (by decide) ?_
  refine pM_2 hC hP hD hS (v := (-1)) dX6_good_7 (fun S2 eS2 H locs hP hD hS => ?_)
  have hw164 := hw163 S2 eS2
  refine lv_iload_n hC.x hC.b dX6_good_10 rfl (lv_at hl 1 rfl) ?_
  exact rt_i hC hw164 hP hD hS dX6_good_11
theorem h6_fault : yX6_fault.cls = RX6 ∧ yX6_fault.cls ≠ "java/lang/invoke/MethodHandle" ∧ yX6_fault.cls ≠ "java/lang/invoke/VarHandle" ∧ (parseMethodDescriptor yX6_fault.desc).map (fun d => d.parameters.length) = some 0 := by decide +kernel
def w6_fault (post : Int32 → MS → Prop) (S : MS) : Prop :=
  (∀ S1, S1 = uI S 0 0 0 → (post (S1.1 0 12) S1))
set_option maxHeartbeats 4000000 in
theorem m6_fault (l : Launch) {post : Int32 → MS → Prop} {S : MS} (hw : w6_fault post S) : Met l yX6_fault (ws_ yX6_fault cX6_fault 1 (some .int)) ({ frames := 0, cells := 0, slots := 0, locals := 0 } : Room) (va_Pc [.ref (ad 0)] (PcG D gCl nwG Z Hb A (wM D ad rd rdv tw S))) (va_Qi post (BW D gCl A (fun u => (wM D ad rd rdv tw u))) A) 0 0 A := by
  refine Met.ofG (by decide) (Nat.le_of_ble_eq_true rfl) ?_
  intro p e s m below meth c ls hC _ hP hD hS hl
  have hC : CX RX6 cX6_fault 1 (some .int) D gCl nwG Z Hb A p s m _ meth c := hC
  have hl : lv_has ls 1 [(0, .ref (ad 0))] := hl
  unfold w6_fault at hw
  refine lv_aload_n hC.x hC.b dX6_fault_0 rfl (lv_at hl 0 rfl) ?_
  refine lv_iconst (v := 0) hC.x hC.b dX6_fault_1 (by decide) ?_
  refine pM_0 hC hP hD hS (v := 0) dX6_fault_2 (fun S1 eS1 H locs hP hD hS => ?_)
  have hw165 := hw S1 eS1
  refine lv_aload_n hC.x hC.b dX6_fault_5 rfl (lv_at hl 0 rfl) ?_
  refine gM_12 hC hP dX6_fault_6 ?_
  exact rt_i hC hw165 hP hD hS dX6_fault_9
theorem h6_where : yX6_where.cls = RX6 ∧ yX6_where.cls ≠ "java/lang/invoke/MethodHandle" ∧ yX6_where.cls ≠ "java/lang/invoke/VarHandle" ∧ (parseMethodDescriptor yX6_where.desc).map (fun d => d.parameters.length) = some 0 := by decide +kernel
def w6_where (post : Int32 → MS → Prop) (S : MS) : Prop :=
  (∀ S1, S1 = uI S 0 0 0 → (post (S1.1 0 2) S1))
set_option maxHeartbeats 4000000 in
theorem m6_where (l : Launch) {post : Int32 → MS → Prop} {S : MS} (hw : w6_where post S) : Met l yX6_where (ws_ yX6_where cX6_where 1 (some .int)) ({ frames := 0, cells := 0, slots := 0, locals := 0 } : Room) (va_Pc [.ref (ad 0)] (PcG D gCl nwG Z Hb A (wM D ad rd rdv tw S))) (va_Qi post (BW D gCl A (fun u => (wM D ad rd rdv tw u))) A) 0 0 A := by
  refine Met.ofG (by decide) (Nat.le_of_ble_eq_true rfl) ?_
  intro p e s m below meth c ls hC _ hP hD hS hl
  have hC : CX RX6 cX6_where 1 (some .int) D gCl nwG Z Hb A p s m _ meth c := hC
  have hl : lv_has ls 1 [(0, .ref (ad 0))] := hl
  unfold w6_where at hw
  refine lv_aload_n hC.x hC.b dX6_where_0 rfl (lv_at hl 0 rfl) ?_
  refine lv_iconst (v := 0) hC.x hC.b dX6_where_1 (by decide) ?_
  refine pM_0 hC hP hD hS (v := 0) dX6_where_2 (fun S1 eS1 H locs hP hD hS => ?_)
  have hw166 := hw S1 eS1
  refine lv_aload_n hC.x hC.b dX6_where_5 rfl (lv_at hl 0 rfl) ?_
  refine gM_2 hC hP dX6_where_6 ?_
  exact rt_i hC hw166 hP hD hS dX6_where_9
theorem h6_isPerson : yX6_isPerson.cls = RX6 ∧ yX6_isPerson.cls ≠ "java/lang/invoke/MethodHandle" ∧ yX6_isPerson.cls ≠ "java/lang/invoke/VarHandle" ∧ (parseMethodDescriptor yX6_isPerson.desc).map (fun d => d.parameters.length) = some 1 := by decide +kernel
def w6_isPerson (post : Int32 → Prop) (tw : Option (Nat → Nat)) (S : MS) (x1 : Int32) : Prop :=
  ((tw = none → (post 0)) ∧ ((∃ t, tw = some t) → ((x1 < 0 → (post 0)) ∧ (¬ x1 < 0 → (((S.1 20 2) ≤ x1 → (post 0)) ∧ (¬ (S.1 20 2) ≤ x1 → (post 1)))))))
set_option maxHeartbeats 4000000 in
theorem m6_isPerson (l : Launch) {post : Int32 → Prop} {S : MS} {x1 : Int32} (hw : w6_isPerson post tw S x1) : Met l yX6_isPerson (ws_ yX6_isPerson cX6_isPerson 2 (some .boolean)) ({ frames := 0, cells := 0, slots := 0, locals := 0 } : Room) (va_Pc [.ref (ad 0), .int x1] (PcG D gCl nwG Z Hb A (wM D ad none rdv tw S))) (va_Qi (fun r (_ : Unit) => post r) (BW D gCl A (fun _ => (wM D ad none rdv tw S))) A) 0 0 A := by
  refine Met.ofG (by decide) (Nat.le_of_ble_eq_true rfl) ?_
  intro p e s m below meth c ls hC _ hP hD hS hl
  have hC : CX RX6 cX6_isPerson 2 (some .boolean) D gCl nwG Z Hb A p s m _ meth c := hC
  have hl : lv_has ls 2 [(0, .ref (ad 0)), (1, .int x1)] := hl
  unfold w6_isPerson at hw
  refine lv_aload_n hC.x hC.b dX6_isPerson_0 rfl (lv_at hl 0 rfl) ?_
  refine gM_3 hC hP dX6_isPerson_1 ?_
  rcases va_o2 tw with c1 | ⟨t, c1⟩
  · have hw167 := hw.1 c1
    subst c1
    refine lv_ifnullN (tgt := 26) hC.x hC.b dX6_isPerson_4 (by decide) ?_
    refine lv_iconst (v := 0) hC.x hC.b dX6_isPerson_26 (by decide) ?_
    exact rt_z (u := ()) hC (Or.inl rfl) hw167 hP hD hS dX6_isPerson_27
  · have hw168 := hw.2 ⟨t, c1⟩
    subst c1
    refine lv_ifnull hC.x hC.b dX6_isPerson_4 ?_
    refine lv_iload_n hC.x hC.b dX6_isPerson_7 rfl (lv_at hl 1 rfl) ?_
    refine lv_if_lt (tgt := 26) hC.x hC.b dX6_isPerson_8 (by decide) (fun c2 => ?_) (fun c2 => ?_)
    · have hw169 := hw168.1 c2
      refine lv_iconst (v := 0) hC.x hC.b dX6_isPerson_26 (by decide) ?_
      exact rt_z (u := ()) hC (Or.inl rfl) hw169 hP hD hS dX6_isPerson_27
    · have hw170 := hw168.2 c2
      refine lv_iload_n hC.x hC.b dX6_isPerson_11 rfl (lv_at hl 1 rfl) ?_
      refine lv_aload_n hC.x hC.b dX6_isPerson_12 rfl (lv_at hl 0 rfl) ?_
      refine gM_3 hC hP dX6_isPerson_13 ?_
      refine gT_2 hC hP dX6_isPerson_16 ?_
      refine lv_icmp_ge (tgt := 26) hC.x hC.b dX6_isPerson_19 (by decide) (fun c3 => ?_) (fun c3 => ?_)
      · have hw171 := hw170.1 c3
        refine lv_iconst (v := 0) hC.x hC.b dX6_isPerson_26 (by decide) ?_
        exact rt_z (u := ()) hC (Or.inl rfl) hw171 hP hD hS dX6_isPerson_27
      · have hw172 := hw170.2 c3
        refine lv_iconst (v := 1) hC.x hC.b dX6_isPerson_22 (by decide) ?_
        refine lv_goto (tgt := 27) hC.x hC.b dX6_isPerson_23 (by decide) ?_
        exact rt_z (u := ()) hC (Or.inr rfl) hw172 hP hD hS dX6_isPerson_27
theorem h6_works : yX6_works.cls = RX6 ∧ yX6_works.cls ≠ "java/lang/invoke/MethodHandle" ∧ yX6_works.cls ≠ "java/lang/invoke/VarHandle" ∧ (parseMethodDescriptor yX6_works.desc).map (fun d => d.parameters.length) = some 0 := by decide +kernel
def f6_works_2 (post : MS → Prop) (K2 : (MS × Int32) → Prop) (S : MS) (x1 : Int32) : Prop :=
  ((19 ≤ x1 → (post S)) ∧ (¬ 19 ≤ x1 → (vp_in x1 19 ∧ (vp_in x1 19 ∧ (∀ S2, S2 = uI S 3 x1.toNatClampNeg (S.1 2 x1.toNatClampNeg) → (K2 (S2, (x1 + 1))))))))
set_option maxHeartbeats 4000000 in
theorem k6_works_2 {post : MS → Prop} (hC : CX RX6 cX6_works 2 none D gCl nwG Z Hb A p s m args meth c) : ∀ z : (MS × Int32), lp (fun (K : (MS × Int32) → Prop) (z : (MS × Int32)) => f6_works_2 post K z.1 z.2) z → ∀ (H : Heap) (locs : List Loc) (ls : Array Slot), va_P D gCl (wM D ad rd rdv tw z.1) H → va_D A (wM D ad rd rdv tw z.1) → va_S A s.heap H locs → lv_has ls 2 [(0, .ref (ad 0)), (1, .int z.2)] → W p l e ({ frames := 0, cells := 0, slots := 0, locals := 0 } : Room) s m args below meth c H locs 0 0 (MQ below (va_Qv post (BW D gCl A (fun u => (wM D ad rd rdv tw u))) A) args s 0 0 A) (F0 m 2 ls []) := by
  refine lp_ind ?_
  rintro K2 ⟨S, x1⟩ hK2 hw H locs ls hP hD hS hl
  have hw : f6_works_2 post K2 S x1 := hw
  unfold f6_works_2 at hw
  have hP : va_P D gCl (wM D ad rd rdv tw S) H := hP
  have hD : va_D A (wM D ad rd rdv tw S) := hD
  have hl : lv_has ls 2 [(0, .ref (ad 0)), (1, .int x1)] := hl
  refine lv_iload_n hC.x hC.b dX6_works_2 rfl (lv_at hl 1 rfl) ?_
  refine lv_bipush (v := 19) hC.x hC.b dX6_works_3 (by decide) ?_
  refine lv_icmp_ge (tgt := 26) hC.x hC.b dX6_works_5 (by decide) (fun c1 => ?_) (fun c1 => ?_)
  · have hw173 := hw.1 c1
    exact rt_v hC hw173 hP hD hS dX6_works_26
  · have hw174 := hw.2 c1
    refine lv_aload_n hC.x hC.b dX6_works_8 rfl (lv_at hl 0 rfl) ?_
    refine gM_16 hC hP dX6_works_9 ?_
    refine lv_iload_n hC.x hC.b dX6_works_12 rfl (lv_at hl 1 rfl) ?_
    refine lv_aload_n hC.x hC.b dX6_works_13 rfl (lv_at hl 0 rfl) ?_
    refine gM_15 hC hP dX6_works_14 ?_
    refine lv_iload_n hC.x hC.b dX6_works_17 rfl (lv_at hl 1 rfl) ?_
    obtain ⟨hin, hw175⟩ := hw174
    refine lM_2 hC hP hin rfl dX6_works_18 ?_
    obtain ⟨hin, hw176⟩ := hw175
    refine sM_3 hC hP hD hS (v := (S.1 2 x1.toNatClampNeg)) hin rfl dX6_works_19 (fun S2 eS2 H locs hP hD hS => ?_)
    have hw177 := hw176 S2 eS2
    refine lv_iinc (v := (x1 + 1)) (lv' := [(1, .int (x1 + 1)), (0, .ref (ad 0))]) hC.x hC.b dX6_works_20 hl (k := 1) rfl rfl (by decide) rfl (fun ls hl => ?_)
    refine lv_goto (tgt := 2) hC.x hC.b dX6_works_23 (by decide) ?_
    exact hK2 (S2, (x1 + 1)) hw177 H locs ls hP hD hS (lv_sub hl [1, 0] rfl)
def w6_works (post : MS → Prop) (S : MS) : Prop :=
  (lp (fun (K : (MS × Int32) → Prop) (z : (MS × Int32)) => f6_works_2 post K z.1 z.2) (S, 0))
set_option maxHeartbeats 4000000 in
theorem m6_works (l : Launch) {post : MS → Prop} {S : MS} (hw : w6_works post S) : Met l yX6_works (ws_ yX6_works cX6_works 2 none) ({ frames := 0, cells := 0, slots := 0, locals := 0 } : Room) (va_Pc [.ref (ad 0)] (PcG D gCl nwG Z Hb A (wM D ad rd rdv tw S))) (va_Qv post (BW D gCl A (fun u => (wM D ad rd rdv tw u))) A) 0 0 A := by
  refine Met.ofG (by decide) (Nat.le_of_ble_eq_true rfl) ?_
  intro p e s m below meth c ls hC _ hP hD hS hl
  have hC : CX RX6 cX6_works 2 none D gCl nwG Z Hb A p s m _ meth c := hC
  have hl : lv_has ls 2 [(0, .ref (ad 0))] := hl
  unfold w6_works at hw
  refine lv_iconst (v := 0) hC.x hC.b dX6_works_0 (by decide) ?_
  refine lv_istore_n (lv' := [(1, .int 0), (0, .ref (ad 0))]) hC.x hC.b dX6_works_1 rfl hl (by decide) rfl (fun ls hl => ?_)
  exact k6_works_2 hC (S, 0) hw s.heap [] ls hP hD hS (lv_sub hl [1, 0] rfl)
theorem h6_aimOf : yX6_aimOf.cls = RX6 ∧ yX6_aimOf.cls ≠ "java/lang/invoke/MethodHandle" ∧ yX6_aimOf.cls ≠ "java/lang/invoke/VarHandle" ∧ (parseMethodDescriptor yX6_aimOf.desc).map (fun d => d.parameters.length) = some 1 := by decide +kernel
def w6_aimOf (post : Int32 → Prop) (tw : Option (Nat → Nat)) (S : MS) (x1 : Int32) : Prop :=
  ((∃ t, tw = some t) ∧ (vp_in x1 6 ∧ (vp_in (S.1 24 x1.toNatClampNeg) 19 ∧ (post (S.1 3 (S.1 24 x1.toNatClampNeg).toNatClampNeg)))))
set_option maxHeartbeats 4000000 in
theorem m6_aimOf (l : Launch) {post : Int32 → Prop} {S : MS} {x1 : Int32} (hw : w6_aimOf post tw S x1) : Met l yX6_aimOf (ws_ yX6_aimOf cX6_aimOf 2 (some .int)) ({ frames := 0, cells := 0, slots := 0, locals := 0 } : Room) (va_Pc [.ref (ad 0), .int x1] (PcG D gCl nwG Z Hb A (wM D ad none rdv tw S))) (va_Qi (fun r (_ : Unit) => post r) (BW D gCl A (fun _ => (wM D ad none rdv tw S))) A) 0 0 A := by
  refine Met.ofG (by decide) (Nat.le_of_ble_eq_true rfl) ?_
  intro p e s m below meth c ls hC _ hP hD hS hl
  have hC : CX RX6 cX6_aimOf 2 (some .int) D gCl nwG Z Hb A p s m _ meth c := hC
  have hl : lv_has ls 2 [(0, .ref (ad 0)), (1, .int x1)] := hl
  unfold w6_aimOf at hw
  refine lv_aload_n hC.x hC.b dX6_aimOf_0 rfl (lv_at hl 0 rfl) ?_
  refine gM_16 hC hP dX6_aimOf_1 ?_
  refine lv_aload_n hC.x hC.b dX6_aimOf_4 rfl (lv_at hl 0 rfl) ?_
  refine gM_3 hC hP dX6_aimOf_5 ?_
  obtain ⟨⟨t, rfl⟩, hw178⟩ := hw
  refine gT_11 hC hP dX6_aimOf_8 ?_
  refine lv_iload_n hC.x hC.b dX6_aimOf_11 rfl (lv_at hl 1 rfl) ?_
  obtain ⟨hin, hw179⟩ := hw178
  refine lT_4 hC hP hin rfl dX6_aimOf_12 ?_
  obtain ⟨hin, hw180⟩ := hw179
  refine lM_3 hC hP hin rfl dX6_aimOf_13 ?_
  exact rt_i (u := ()) hC hw180 hP hD hS dX6_aimOf_14
theorem h6_around : yX6_around.cls = RX6 ∧ yX6_around.cls ≠ "java/lang/invoke/MethodHandle" ∧ yX6_around.cls ≠ "java/lang/invoke/VarHandle" ∧ (parseMethodDescriptor yX6_around.desc).map (fun d => d.parameters.length) = some 1 := by decide +kernel
def w6_around (post : Int32 → Prop) (tw : Option (Nat → Nat)) (S : MS) (x1 : Int64) : Prop :=
  ((∃ t, tw = some t) ∧ ((¬ ((S.1 20 0).toInt64) = 0) ∧ ((¬ ((S.1 20 0).toInt64) = 0) ∧ (post ((((x1 - x1 / ((S.1 20 0).toInt64) * ((S.1 20 0).toInt64)) + ((S.1 20 0).toInt64)) - ((x1 - x1 / ((S.1 20 0).toInt64) * ((S.1 20 0).toInt64)) + ((S.1 20 0).toInt64)) / ((S.1 20 0).toInt64) * ((S.1 20 0).toInt64)).toInt32)))))
set_option maxHeartbeats 4000000 in
theorem m6_around (l : Launch) {post : Int32 → Prop} {S : MS} {x1 : Int64} (hw : w6_around post tw S x1) : Met l yX6_around (ws_ yX6_around cX6_around 3 (some .int)) ({ frames := 0, cells := 0, slots := 0, locals := 0 } : Room) (va_Pc [.ref (ad 0), .long x1] (PcG D gCl nwG Z Hb A (wM D ad none rdv tw S))) (va_Qi (fun r (_ : Unit) => post r) (BW D gCl A (fun _ => (wM D ad none rdv tw S))) A) 0 0 A := by
  refine Met.ofG (by decide) (Nat.le_of_ble_eq_true rfl) ?_
  intro p e s m below meth c ls hC _ hP hD hS hl
  have hC : CX RX6 cX6_around 3 (some .int) D gCl nwG Z Hb A p s m _ meth c := hC
  have hl : lv_has ls 3 [(0, .ref (ad 0)), (1, .long x1)] := hl
  unfold w6_around at hw
  refine lv_lload_n hC.x hC.b dX6_around_0 rfl (lv_at hl 1 rfl) ?_
  refine lv_aload_n hC.x hC.b dX6_around_1 rfl (lv_at hl 0 rfl) ?_
  refine gM_3 hC hP dX6_around_2 ?_
  obtain ⟨⟨t, rfl⟩, hw181⟩ := hw
  refine gT_0 hC hP dX6_around_5 ?_
  refine lv_i2l (v := ((S.1 20 0).toInt64)) hC.x hC.b dX6_around_8 rfl ?_
  obtain ⟨hne, hw182⟩ := hw181
  refine lv_lrem hC.x hC.b dX6_around_9 hne ?_
  refine lv_aload_n hC.x hC.b dX6_around_10 rfl (lv_at hl 0 rfl) ?_
  refine gM_3 hC hP dX6_around_11 ?_
  refine gT_0 hC hP dX6_around_14 ?_
  refine lv_i2l (v := ((S.1 20 0).toInt64)) hC.x hC.b dX6_around_17 rfl ?_
  refine lv_ladd hC.x hC.b dX6_around_18 ?_
  refine lv_aload_n hC.x hC.b dX6_around_19 rfl (lv_at hl 0 rfl) ?_
  refine gM_3 hC hP dX6_around_20 ?_
  refine gT_0 hC hP dX6_around_23 ?_
  refine lv_i2l (v := ((S.1 20 0).toInt64)) hC.x hC.b dX6_around_26 rfl ?_
  obtain ⟨hne, hw183⟩ := hw182
  refine lv_lrem hC.x hC.b dX6_around_27 hne ?_
  refine lv_l2i (v := ((((x1 - x1 / ((S.1 20 0).toInt64) * ((S.1 20 0).toInt64)) + ((S.1 20 0).toInt64)) - ((x1 - x1 / ((S.1 20 0).toInt64) * ((S.1 20 0).toInt64)) + ((S.1 20 0).toInt64)) / ((S.1 20 0).toInt64) * ((S.1 20 0).toInt64)).toInt32)) hC.x hC.b dX6_around_28 rfl ?_
  exact rt_i (u := ()) hC hw183 hP hD hS dX6_around_29
theorem v6_6_around : GoodIn lw_all (wsV RX6 317 RX6 yX6_around (ws_ yX6_around cX6_around 3 (some .int))) := lw_V q1811 q1813 qs81 q126 q1814
theorem h6_outOf : yX6_outOf.cls = RX6 ∧ yX6_outOf.cls ≠ "java/lang/invoke/MethodHandle" ∧ yX6_outOf.cls ≠ "java/lang/invoke/VarHandle" ∧ (parseMethodDescriptor yX6_outOf.desc).map (fun d => d.parameters.length) = some 3 := by decide +kernel
def j6_outOf_71 (post : Int32 → Prop) (tw : Option (Nat → Nat)) (S : MS) (x1 : Int32) (x2 : Int32) (y0 : Int32) : Prop :=
  (w6_around (fun r5 => (vp_in (12 + x1) 19 ∧ ((¬ (S.1 3 (12 + x1).toNatClampNeg) = (-2) → (w6_around (fun r7 => (post r7)) tw S (((2 * (S.1 3 (12 + x1).toNatClampNeg)) - r5).toInt64))) ∧ ((S.1 3 (12 + x1).toNatClampNeg) = (-2) → (post r5))))) tw S ((x2 + y0).toInt64))
set_option maxHeartbeats 4000000 in
theorem k6_outOf_71 {post : Int32 → Prop} {S : MS} {x1 : Int32} {x2 : Int32} {y0 : Int32} (hC : CX RX6 cX6_outOf 9 (some .int) D gCl nwG Z Hb A p s m args meth c) (hw : j6_outOf_71 post tw S x1 x2 y0) : ∀ (H : Heap) (locs : List Loc) (ls : Array Slot), va_P D gCl (wM D ad none rdv tw S) H → va_D A (wM D ad none rdv tw S) → va_S A s.heap H locs → lv_has ls 9 [(0, .ref (ad 0)), (1, .int x1), (2, .int x2)] → W p l e ({ frames := 1, cells := 0, slots := 0, locals := 22 } : Room) s m args below meth c H locs 0 0 (MQ below (va_Qi (fun r (_ : Unit) => post r) (BW D gCl A (fun _ => (wM D ad none rdv tw S))) A) args s 0 0 A) (F0 m 71 ls [.int y0]) := by
  intro H locs ls hP hD hS hl
  unfold j6_outOf_71 at hw
  refine lv_istore (lv' := [(6, .int y0), (0, .ref (ad 0)), (1, .int x1), (2, .int x2)]) hC.x hC.b dX6_outOf_71 hl (by decide) rfl (fun ls hl => ?_)
  refine lv_aload_n hC.x hC.b dX6_outOf_73 rfl (lv_at hl 1 rfl) ?_
  refine lv_iload_n hC.x hC.b dX6_outOf_74 rfl (lv_at hl 3 rfl) ?_
  refine lv_iload hC.x hC.b dX6_outOf_75 (lv_at hl 0 rfl) ?_
  refine lv_iadd hC.x hC.b dX6_outOf_77 ?_
  refine lv_i2l (v := ((x2 + y0).toInt64)) hC.x hC.b dX6_outOf_78 rfl ?_
  refine go_i (run_V (rest := []) hC (m6_around l hw) v6_6_around h6_around 0 5 gCl_X6 rfl rfl ⟨rfl, rfl, Nat.le_of_ble_eq_true rfl, Nat.le_of_ble_eq_true rfl⟩ ⟨Nat.le_refl _, Nat.le_refl _⟩ hP hD hS hl.1 (Nat.le_of_ble_eq_true rfl) dX6_outOf_79 rfl) hS (fun r5 u H locs hw191 hP hD hS => ?_)
  refine lv_istore (lv' := [(7, .int r5), (6, .int y0), (0, .ref (ad 0)), (1, .int x1), (2, .int x2)]) hC.x hC.b dX6_outOf_82 hl (by decide) rfl (fun ls hl => ?_)
  refine lv_aload_n hC.x hC.b dX6_outOf_84 rfl (lv_at hl 2 rfl) ?_
  refine gM_16 hC hP dX6_outOf_85 ?_
  refine lv_bipush (v := 12) hC.x hC.b dX6_outOf_88 (by decide) ?_
  refine lv_iload_n hC.x hC.b dX6_outOf_90 rfl (lv_at hl 3 rfl) ?_
  refine lv_iadd hC.x hC.b dX6_outOf_91 ?_
  obtain ⟨hin, hw192⟩ := hw191
  refine lM_3 hC hP hin rfl dX6_outOf_92 ?_
  refine lv_istore (lv' := [(8, .int (S.1 3 (12 + x1).toNatClampNeg)), (7, .int r5), (6, .int y0), (0, .ref (ad 0)), (1, .int x1), (2, .int x2)]) hC.x hC.b dX6_outOf_93 hl (by decide) rfl (fun ls hl => ?_)
  refine lv_iload hC.x hC.b dX6_outOf_95 (lv_at hl 0 rfl) ?_
  refine lv_bipush (v := (-2)) hC.x hC.b dX6_outOf_97 (by decide) ?_
  refine lv_icmp_ne (tgt := 107) hC.x hC.b dX6_outOf_99 (by decide) (fun c6 => ?_) (fun c6 => ?_)
  · have hw193 := hw192.1 c6
    refine lv_aload_n hC.x hC.b dX6_outOf_107 rfl (lv_at hl 3 rfl) ?_
    refine lv_iconst (v := 2) hC.x hC.b dX6_outOf_108 (by decide) ?_
    refine lv_iload hC.x hC.b dX6_outOf_109 (lv_at hl 0 rfl) ?_
    refine lv_imul hC.x hC.b dX6_outOf_111 ?_
    refine lv_iload hC.x hC.b dX6_outOf_112 (lv_at hl 1 rfl) ?_
    refine lv_isub hC.x hC.b dX6_outOf_114 ?_
    refine lv_i2l (v := (((2 * (S.1 3 (12 + x1).toNatClampNeg)) - r5).toInt64)) hC.x hC.b dX6_outOf_115 rfl ?_
    refine go_i (run_V (rest := []) hC (m6_around l hw193) v6_6_around h6_around 0 5 gCl_X6 rfl rfl ⟨rfl, rfl, Nat.le_of_ble_eq_true rfl, Nat.le_of_ble_eq_true rfl⟩ ⟨Nat.le_refl _, Nat.le_refl _⟩ hP hD hS hl.1 (Nat.le_of_ble_eq_true rfl) dX6_outOf_116 rfl) hS (fun r7 u H locs hw194 hP hD hS => ?_)
    exact rt_i (u := ()) hC hw194 hP hD hS dX6_outOf_119
  · have hw195 := hw192.2 c6
    refine lv_iload hC.x hC.b dX6_outOf_102 (lv_at hl 1 rfl) ?_
    refine lv_goto (tgt := 119) hC.x hC.b dX6_outOf_104 (by decide) ?_
    exact rt_i (u := ()) hC hw195 hP hD hS dX6_outOf_119
def w6_outOf (post : Int32 → Prop) (tw : Option (Nat → Nat)) (S : MS) (x1 : Int32) (x2 : Int32) (x3 : Int32) : Prop :=
  (vp_in (6 + x1) 19 ∧ ((∃ t, tw = some t) ∧ (vp_in x1 6 ∧ ((¬ (S.1 22 x1.toNatClampNeg) = 0 → ((¬ (S.1 22 x1.toNatClampNeg) = 1 → ((¬ (S.1 22 x1.toNatClampNeg) = 2 → ((¬ (x3 - x3 / 2 * 2) = 0 → (j6_outOf_71 post tw S x1 x2 (-(S.1 3 (6 + x1).toNatClampNeg)))) ∧ ((x3 - x3 / 2 * 2) = 0 → (j6_outOf_71 post tw S x1 x2 (S.1 3 (6 + x1).toNatClampNeg))))) ∧ ((S.1 22 x1.toNatClampNeg) = 2 → (j6_outOf_71 post tw S x1 x2 ((S.1 3 (6 + x1).toNatClampNeg) * x3))))) ∧ ((S.1 22 x1.toNatClampNeg) = 1 → (j6_outOf_71 post tw S x1 x2 (-(S.1 3 (6 + x1).toNatClampNeg)))))) ∧ ((S.1 22 x1.toNatClampNeg) = 0 → (j6_outOf_71 post tw S x1 x2 (S.1 3 (6 + x1).toNatClampNeg)))))))
set_option maxHeartbeats 4000000 in
theorem m6_outOf (l : Launch) {post : Int32 → Prop} {S : MS} {x1 : Int32} {x2 : Int32} {x3 : Int32} (hw : w6_outOf post tw S x1 x2 x3) : Met l yX6_outOf (ws_ yX6_outOf cX6_outOf 9 (some .int)) ({ frames := 1, cells := 0, slots := 0, locals := 22 } : Room) (va_Pc [.ref (ad 0), .int x1, .int x2, .int x3] (PcG D gCl nwG Z Hb A (wM D ad none rdv tw S))) (va_Qi (fun r (_ : Unit) => post r) (BW D gCl A (fun _ => (wM D ad none rdv tw S))) A) 0 0 A := by
  refine Met.ofG (by decide) (Nat.le_of_ble_eq_true rfl) ?_
  intro p e s m below meth c ls hC _ hP hD hS hl
  have hC : CX RX6 cX6_outOf 9 (some .int) D gCl nwG Z Hb A p s m _ meth c := hC
  have hl : lv_has ls 9 [(0, .ref (ad 0)), (1, .int x1), (2, .int x2), (3, .int x3)] := hl
  unfold w6_outOf at hw
  refine lv_aload_n hC.x hC.b dX6_outOf_0 rfl (lv_at hl 0 rfl) ?_
  refine gM_16 hC hP dX6_outOf_1 ?_
  refine lv_bipush (v := 6) hC.x hC.b dX6_outOf_4 (by decide) ?_
  refine lv_iload_n hC.x hC.b dX6_outOf_6 rfl (lv_at hl 1 rfl) ?_
  refine lv_iadd hC.x hC.b dX6_outOf_7 ?_
  obtain ⟨hin, hw184⟩ := hw
  refine lM_3 hC hP hin rfl dX6_outOf_8 ?_
  refine lv_istore (lv' := [(4, .int (S.1 3 (6 + x1).toNatClampNeg)), (0, .ref (ad 0)), (1, .int x1), (2, .int x2), (3, .int x3)]) hC.x hC.b dX6_outOf_9 hl (by decide) rfl (fun ls hl => ?_)
  refine lv_aload_n hC.x hC.b dX6_outOf_11 rfl (lv_at hl 1 rfl) ?_
  refine gM_3 hC hP dX6_outOf_12 ?_
  obtain ⟨⟨t, rfl⟩, hw185⟩ := hw184
  refine gT_9 hC hP dX6_outOf_15 ?_
  refine lv_iload_n hC.x hC.b dX6_outOf_18 rfl (lv_at hl 2 rfl) ?_
  obtain ⟨hin, hw186⟩ := hw185
  refine lT_2 hC hP hin rfl dX6_outOf_19 ?_
  refine lv_istore (lv' := [(5, .int (S.1 22 x1.toNatClampNeg)), (4, .int (S.1 3 (6 + x1).toNatClampNeg)), (0, .ref (ad 0)), (1, .int x1), (2, .int x2), (3, .int x3)]) hC.x hC.b dX6_outOf_20 hl (by decide) rfl (fun ls hl => ?_)
  refine lv_iload hC.x hC.b dX6_outOf_22 (lv_at hl 0 rfl) ?_
  refine lv_if_ne (tgt := 32) hC.x hC.b dX6_outOf_24 (by decide) (fun c1 => ?_) (fun c1 => ?_)
  · have hw187 := hw186.1 c1
    refine lv_iload hC.x hC.b dX6_outOf_32 (lv_at hl 0 rfl) ?_
    refine lv_iconst (v := 1) hC.x hC.b dX6_outOf_34 (by decide) ?_
    refine lv_icmp_ne (tgt := 44) hC.x hC.b dX6_outOf_35 (by decide) (fun c2 => ?_) (fun c2 => ?_)
    · have hw188 := hw187.1 c2
      refine lv_iload hC.x hC.b dX6_outOf_44 (lv_at hl 0 rfl) ?_
      refine lv_iconst (v := 2) hC.x hC.b dX6_outOf_46 (by decide) ?_
      refine lv_icmp_ne (tgt := 57) hC.x hC.b dX6_outOf_47 (by decide) (fun c3 => ?_) (fun c3 => ?_)
      · have hw189 := hw188.1 c3
        refine lv_iload_n hC.x hC.b dX6_outOf_57 rfl (lv_at hl 5 rfl) ?_
        refine lv_iconst (v := 2) hC.x hC.b dX6_outOf_58 (by decide) ?_
        refine lv_irem hC.x hC.b dX6_outOf_59 (by decide) ?_
        refine lv_if_ne (tgt := 68) hC.x hC.b dX6_outOf_60 (by decide) (fun c4 => ?_) (fun c4 => ?_)
        · have hw190 := hw189.1 c4
          refine lv_iload hC.x hC.b dX6_outOf_68 (lv_at hl 1 rfl) ?_
          refine lv_ineg hC.x hC.b dX6_outOf_70 ?_
          exact k6_outOf_71 hC hw190 s.heap [] ls hP hD hS (lv_sub hl [2, 3, 4] rfl)
        · have hw196 := hw189.2 c4
          refine lv_iload hC.x hC.b dX6_outOf_63 (lv_at hl 1 rfl) ?_
          refine lv_goto (tgt := 71) hC.x hC.b dX6_outOf_65 (by decide) ?_
          exact k6_outOf_71 hC hw196 s.heap [] ls hP hD hS (lv_sub hl [2, 3, 4] rfl)
      · have hw197 := hw188.2 c3
        refine lv_iload hC.x hC.b dX6_outOf_50 (lv_at hl 1 rfl) ?_
        refine lv_iload_n hC.x hC.b dX6_outOf_52 rfl (lv_at hl 5 rfl) ?_
        refine lv_imul hC.x hC.b dX6_outOf_53 ?_
        refine lv_goto (tgt := 71) hC.x hC.b dX6_outOf_54 (by decide) ?_
        exact k6_outOf_71 hC hw197 s.heap [] ls hP hD hS (lv_sub hl [2, 3, 4] rfl)
    · have hw198 := hw187.2 c2
      refine lv_iload hC.x hC.b dX6_outOf_38 (lv_at hl 1 rfl) ?_
      refine lv_ineg hC.x hC.b dX6_outOf_40 ?_
      refine lv_goto (tgt := 71) hC.x hC.b dX6_outOf_41 (by decide) ?_
      exact k6_outOf_71 hC hw198 s.heap [] ls hP hD hS (lv_sub hl [2, 3, 4] rfl)
  · have hw199 := hw186.2 c1
    refine lv_iload hC.x hC.b dX6_outOf_27 (lv_at hl 1 rfl) ?_
    refine lv_goto (tgt := 71) hC.x hC.b dX6_outOf_29 (by decide) ?_
    exact k6_outOf_71 hC hw199 s.heap [] ls hP hD hS (lv_sub hl [2, 3, 4] rfl)
theorem h6_whoIn : yX6_whoIn.cls = RX6 ∧ yX6_whoIn.cls ≠ "java/lang/invoke/MethodHandle" ∧ yX6_whoIn.cls ≠ "java/lang/invoke/VarHandle" ∧ (parseMethodDescriptor yX6_whoIn.desc).map (fun d => d.parameters.length) = some 1 := by decide +kernel
def f6_whoIn_2 (post : Int32 → Prop) (tw : Option (Nat → Nat)) (S : MS) (x1 : Int32) (K2 : Int32 → Prop) (x2 : Int32) : Prop :=
  ((∃ t, tw = some t) ∧ (((S.1 20 2) ≤ x2 → (post (-2))) ∧ (¬ (S.1 20 2) ≤ x2 → (vp_in x2 19 ∧ ((¬ (S.1 3 x2.toNatClampNeg) = x1 → (K2 (x2 + 1))) ∧ ((S.1 3 x2.toNatClampNeg) = x1 → (post x2)))))))
set_option maxHeartbeats 4000000 in
theorem k6_whoIn_2 {post : Int32 → Prop} {S : MS} {x1 : Int32} (hC : CX RX6 cX6_whoIn 3 (some .int) D gCl nwG Z Hb A p s m args meth c) : ∀ z : Int32, lp (fun (K : Int32 → Prop) (z : Int32) => f6_whoIn_2 post tw S x1 K z) z → ∀ (H : Heap) (locs : List Loc) (ls : Array Slot), va_P D gCl (wM D ad none rdv tw S) H → va_D A (wM D ad none rdv tw S) → va_S A s.heap H locs → lv_has ls 3 [(0, .ref (ad 0)), (1, .int x1), (2, .int z)] → W p l e ({ frames := 0, cells := 0, slots := 0, locals := 0 } : Room) s m args below meth c H locs 0 0 (MQ below (va_Qi (fun r (_ : Unit) => post r) (BW D gCl A (fun _ => (wM D ad none rdv tw S))) A) args s 0 0 A) (F0 m 2 ls []) := by
  refine lp_ind ?_
  rintro K2 x2 hK2 hw H locs ls hP hD hS hl
  have hw : f6_whoIn_2 post tw S x1 K2 x2 := hw
  unfold f6_whoIn_2 at hw
  have hP : va_P D gCl (wM D ad none rdv tw S) H := hP
  have hD : va_D A (wM D ad none rdv tw S) := hD
  have hl : lv_has ls 3 [(0, .ref (ad 0)), (1, .int x1), (2, .int x2)] := hl
  refine lv_iload_n hC.x hC.b dX6_whoIn_2 rfl (lv_at hl 2 rfl) ?_
  refine lv_aload_n hC.x hC.b dX6_whoIn_3 rfl (lv_at hl 0 rfl) ?_
  refine gM_3 hC hP dX6_whoIn_4 ?_
  obtain ⟨⟨t, rfl⟩, hw200⟩ := hw
  refine gT_2 hC hP dX6_whoIn_7 ?_
  refine lv_icmp_ge (tgt := 31) hC.x hC.b dX6_whoIn_10 (by decide) (fun c1 => ?_) (fun c1 => ?_)
  · have hw201 := hw200.1 c1
    refine lv_bipush (v := (-2)) hC.x hC.b dX6_whoIn_31 (by decide) ?_
    exact rt_i (u := ()) hC hw201 hP hD hS dX6_whoIn_33
  · have hw202 := hw200.2 c1
    refine lv_aload_n hC.x hC.b dX6_whoIn_13 rfl (lv_at hl 0 rfl) ?_
    refine gM_16 hC hP dX6_whoIn_14 ?_
    refine lv_iload_n hC.x hC.b dX6_whoIn_17 rfl (lv_at hl 2 rfl) ?_
    obtain ⟨hin, hw203⟩ := hw202
    refine lM_3 hC hP hin rfl dX6_whoIn_18 ?_
    refine lv_iload_n hC.x hC.b dX6_whoIn_19 rfl (lv_at hl 1 rfl) ?_
    refine lv_icmp_ne (tgt := 25) hC.x hC.b dX6_whoIn_20 (by decide) (fun c2 => ?_) (fun c2 => ?_)
    · have hw204 := hw203.1 c2
      refine lv_iinc (v := (x2 + 1)) (lv' := [(2, .int (x2 + 1)), (0, .ref (ad 0)), (1, .int x1)]) hC.x hC.b dX6_whoIn_25 hl (k := 2) rfl rfl (by decide) rfl (fun ls hl => ?_)
      refine lv_goto (tgt := 2) hC.x hC.b dX6_whoIn_28 (by decide) ?_
      exact hK2 (x2 + 1) hw204 H locs ls hP hD hS (lv_sub hl [1, 2, 0] rfl)
    · have hw205 := hw203.2 c2
      refine lv_iload_n hC.x hC.b dX6_whoIn_23 rfl (lv_at hl 2 rfl) ?_
      exact rt_i (u := ()) hC hw205 hP hD hS dX6_whoIn_24
def w6_whoIn (post : Int32 → Prop) (tw : Option (Nat → Nat)) (S : MS) (x1 : Int32) : Prop :=
  (lp (fun (K : Int32 → Prop) (z : Int32) => f6_whoIn_2 post tw S x1 K z) 0)
set_option maxHeartbeats 4000000 in
theorem m6_whoIn (l : Launch) {post : Int32 → Prop} {S : MS} {x1 : Int32} (hw : w6_whoIn post tw S x1) : Met l yX6_whoIn (ws_ yX6_whoIn cX6_whoIn 3 (some .int)) ({ frames := 0, cells := 0, slots := 0, locals := 0 } : Room) (va_Pc [.ref (ad 0), .int x1] (PcG D gCl nwG Z Hb A (wM D ad none rdv tw S))) (va_Qi (fun r (_ : Unit) => post r) (BW D gCl A (fun _ => (wM D ad none rdv tw S))) A) 0 0 A := by
  refine Met.ofG (by decide) (Nat.le_of_ble_eq_true rfl) ?_
  intro p e s m below meth c ls hC _ hP hD hS hl
  have hC : CX RX6 cX6_whoIn 3 (some .int) D gCl nwG Z Hb A p s m _ meth c := hC
  have hl : lv_has ls 3 [(0, .ref (ad 0)), (1, .int x1)] := hl
  unfold w6_whoIn at hw
  refine lv_iconst (v := 0) hC.x hC.b dX6_whoIn_0 (by decide) ?_
  refine lv_istore_n (lv' := [(2, .int 0), (0, .ref (ad 0)), (1, .int x1)]) hC.x hC.b dX6_whoIn_1 rfl hl (by decide) rfl (fun ls hl => ?_)
  exact k6_whoIn_2 hC 0 hw s.heap [] ls hP hD hS (lv_sub hl [1, 2, 0] rfl)
theorem v6_6_whoIn : GoodIn lw_all (wsV RX6 320 RX6 yX6_whoIn (ws_ yX6_whoIn cX6_whoIn 3 (some .int))) := lw_V q1819 q1821 qs83 q126 q1822
theorem h6_heardFrom : yX6_heardFrom.cls = RX6 ∧ yX6_heardFrom.cls ≠ "java/lang/invoke/MethodHandle" ∧ yX6_heardFrom.cls ≠ "java/lang/invoke/VarHandle" ∧ (parseMethodDescriptor yX6_heardFrom.desc).map (fun d => d.parameters.length) = some 1 := by decide +kernel
def f6_heardFrom_2 (post : Int32 → Prop) (tw : Option (Nat → Nat)) (S : MS) (K2 : Int32 → Prop) (x2 : Int32) : Prop :=
  (w6_whoIn (fun r1 => ((¬ r1 = (-2) → (w6_whoIn (fun r3 => (post r3)) tw S x2)) ∧ (r1 = (-2) → (w6_around (fun r4 => (K2 r4)) tw S ((x2 + 1).toInt64))))) tw S x2)
set_option maxHeartbeats 4000000 in
theorem k6_heardFrom_2 {post : Int32 → Prop} {S : MS} (hC : CX RX6 cX6_heardFrom 3 (some .int) D gCl nwG Z Hb A p s m args meth c) : ∀ z : Int32, lp (fun (K : Int32 → Prop) (z : Int32) => f6_heardFrom_2 post tw S K z) z → ∀ (H : Heap) (locs : List Loc) (ls : Array Slot), va_P D gCl (wM D ad none rdv tw S) H → va_D A (wM D ad none rdv tw S) → va_S A s.heap H locs → lv_has ls 3 [(0, .ref (ad 0)), (2, .int z)] → W p l e ({ frames := 1, cells := 0, slots := 0, locals := 22 } : Room) s m args below meth c H locs 0 0 (MQ below (va_Qi (fun r (_ : Unit) => post r) (BW D gCl A (fun _ => (wM D ad none rdv tw S))) A) args s 0 0 A) (F0 m 2 ls []) := by
  refine lp_ind ?_
  rintro K2 x2 hK2 hw H locs ls hP hD hS hl
  have hw : f6_heardFrom_2 post tw S K2 x2 := hw
  unfold f6_heardFrom_2 at hw
  have hP : va_P D gCl (wM D ad none rdv tw S) H := hP
  have hD : va_D A (wM D ad none rdv tw S) := hD
  have hl : lv_has ls 3 [(0, .ref (ad 0)), (2, .int x2)] := hl
  refine lv_aload_n hC.x hC.b dX6_heardFrom_2 rfl (lv_at hl 0 rfl) ?_
  refine lv_iload_n hC.x hC.b dX6_heardFrom_3 rfl (lv_at hl 1 rfl) ?_
  refine go_i (run_V (rest := []) hC (m6_whoIn l hw) v6_6_whoIn h6_whoIn 0 5 gCl_X6 rfl rfl ⟨rfl, rfl, Nat.le_of_ble_eq_true rfl, Nat.le_of_ble_eq_true rfl⟩ ⟨Nat.le_refl _, Nat.le_refl _⟩ hP hD hS hl.1 (Nat.le_of_ble_eq_true rfl) dX6_heardFrom_4 rfl) hS (fun r1 u H locs hw206 hP hD hS => ?_)
  refine lv_bipush (v := (-2)) hC.x hC.b dX6_heardFrom_7 (by decide) ?_
  refine lv_icmp_ne (tgt := 24) hC.x hC.b dX6_heardFrom_9 (by decide) (fun c2 => ?_) (fun c2 => ?_)
  · have hw207 := hw206.1 c2
    refine lv_aload_n hC.x hC.b dX6_heardFrom_24 rfl (lv_at hl 0 rfl) ?_
    refine lv_iload_n hC.x hC.b dX6_heardFrom_25 rfl (lv_at hl 1 rfl) ?_
    refine go_i (run_V (rest := []) hC (m6_whoIn l hw207) v6_6_whoIn h6_whoIn 0 5 gCl_X6 rfl rfl ⟨rfl, rfl, Nat.le_of_ble_eq_true rfl, Nat.le_of_ble_eq_true rfl⟩ ⟨Nat.le_refl _, Nat.le_refl _⟩ hP hD hS hl.1 (Nat.le_of_ble_eq_true rfl) dX6_heardFrom_26 rfl) hS (fun r3 u H locs hw208 hP hD hS => ?_)
    exact rt_i (u := ()) hC hw208 hP hD hS dX6_heardFrom_29
  · have hw209 := hw206.2 c2
    refine lv_aload_n hC.x hC.b dX6_heardFrom_12 rfl (lv_at hl 0 rfl) ?_
    refine lv_iload_n hC.x hC.b dX6_heardFrom_13 rfl (lv_at hl 1 rfl) ?_
    refine lv_iconst (v := 1) hC.x hC.b dX6_heardFrom_14 (by decide) ?_
    refine lv_iadd hC.x hC.b dX6_heardFrom_15 ?_
    refine lv_i2l (v := ((x2 + 1).toInt64)) hC.x hC.b dX6_heardFrom_16 rfl ?_
    refine go_i (run_V (rest := []) hC (m6_around l hw209) v6_6_around h6_around 0 5 gCl_X6 rfl rfl ⟨rfl, rfl, Nat.le_of_ble_eq_true rfl, Nat.le_of_ble_eq_true rfl⟩ ⟨Nat.le_refl _, Nat.le_refl _⟩ hP hD hS hl.1 (Nat.le_of_ble_eq_true rfl) dX6_heardFrom_17 rfl) hS (fun r4 u H locs hw210 hP hD hS => ?_)
    refine lv_istore_n (lv' := [(2, .int r4), (0, .ref (ad 0))]) hC.x hC.b dX6_heardFrom_20 rfl hl (by decide) rfl (fun ls hl => ?_)
    refine lv_goto (tgt := 2) hC.x hC.b dX6_heardFrom_21 (by decide) ?_
    exact hK2 r4 hw210 H locs ls hP hD hS (lv_sub hl [1, 0] rfl)
def w6_heardFrom (post : Int32 → Prop) (tw : Option (Nat → Nat)) (S : MS) (x1 : Int32) : Prop :=
  (lp (fun (K : Int32 → Prop) (z : Int32) => f6_heardFrom_2 post tw S K z) x1)
set_option maxHeartbeats 4000000 in
theorem m6_heardFrom (l : Launch) {post : Int32 → Prop} {S : MS} {x1 : Int32} (hw : w6_heardFrom post tw S x1) : Met l yX6_heardFrom (ws_ yX6_heardFrom cX6_heardFrom 3 (some .int)) ({ frames := 1, cells := 0, slots := 0, locals := 22 } : Room) (va_Pc [.ref (ad 0), .int x1] (PcG D gCl nwG Z Hb A (wM D ad none rdv tw S))) (va_Qi (fun r (_ : Unit) => post r) (BW D gCl A (fun _ => (wM D ad none rdv tw S))) A) 0 0 A := by
  refine Met.ofG (by decide) (Nat.le_of_ble_eq_true rfl) ?_
  intro p e s m below meth c ls hC _ hP hD hS hl
  have hC : CX RX6 cX6_heardFrom 3 (some .int) D gCl nwG Z Hb A p s m _ meth c := hC
  have hl : lv_has ls 3 [(0, .ref (ad 0)), (1, .int x1)] := hl
  unfold w6_heardFrom at hw
  refine lv_iload_n hC.x hC.b dX6_heardFrom_0 rfl (lv_at hl 1 rfl) ?_
  refine lv_istore_n (lv' := [(2, .int x1), (0, .ref (ad 0)), (1, .int x1)]) hC.x hC.b dX6_heardFrom_1 rfl hl (by decide) rfl (fun ls hl => ?_)
  exact k6_heardFrom_2 hC x1 hw s.heap [] ls hP hD hS (lv_sub hl [1, 0] rfl)
theorem v6_6_aimOf : GoodIn lw_all (wsV RX6 323 RX6 yX6_aimOf (ws_ yX6_aimOf cX6_aimOf 2 (some .int))) := lw_V q1803 q1805 qs79 q126 q1806
theorem v6_6_outOf : GoodIn lw_all (wsV RX6 326 RX6 yX6_outOf (ws_ yX6_outOf cX6_outOf 9 (some .int))) := lw_V q1807 q1809 qs80 q126 q1810
theorem v6_6_heardFrom : GoodIn lw_all (wsV RX6 330 RX6 yX6_heardFrom (ws_ yX6_heardFrom cX6_heardFrom 3 (some .int))) := lw_V q1815 q1817 qs82 q126 q1818
theorem h6_whoHears : yX6_whoHears.cls = RX6 ∧ yX6_whoHears.cls ≠ "java/lang/invoke/MethodHandle" ∧ yX6_whoHears.cls ≠ "java/lang/invoke/VarHandle" ∧ (parseMethodDescriptor yX6_whoHears.desc).map (fun d => d.parameters.length) = some 2 := by decide +kernel
def w6_whoHears (post : Int32 → Prop) (tw : Option (Nat → Nat)) (S : MS) (x1 : Int32) (x2 : Int32) : Prop :=
  (w6_aimOf (fun r1 => (w6_outOf (fun r2 => (w6_heardFrom (fun r3 => (post r3)) tw S r2)) tw S x1 r1 x2)) tw S x1)
set_option maxHeartbeats 4000000 in
theorem m6_whoHears (l : Launch) {post : Int32 → Prop} {S : MS} {x1 : Int32} {x2 : Int32} (hw : w6_whoHears post tw S x1 x2) : Met l yX6_whoHears (ws_ yX6_whoHears cX6_whoHears 3 (some .int)) ({ frames := 2, cells := 0, slots := 0, locals := 50 } : Room) (va_Pc [.ref (ad 0), .int x1, .int x2] (PcG D gCl nwG Z Hb A (wM D ad none rdv tw S))) (va_Qi (fun r (_ : Unit) => post r) (BW D gCl A (fun _ => (wM D ad none rdv tw S))) A) 0 0 A := by
  refine Met.ofG (by decide) (Nat.le_of_ble_eq_true rfl) ?_
  intro p e s m below meth c ls hC _ hP hD hS hl
  have hC : CX RX6 cX6_whoHears 3 (some .int) D gCl nwG Z Hb A p s m _ meth c := hC
  have hl : lv_has ls 3 [(0, .ref (ad 0)), (1, .int x1), (2, .int x2)] := hl
  unfold w6_whoHears at hw
  refine lv_aload_n hC.x hC.b dX6_whoHears_0 rfl (lv_at hl 0 rfl) ?_
  refine lv_aload_n hC.x hC.b dX6_whoHears_1 rfl (lv_at hl 0 rfl) ?_
  refine lv_iload_n hC.x hC.b dX6_whoHears_2 rfl (lv_at hl 1 rfl) ?_
  refine lv_aload_n hC.x hC.b dX6_whoHears_3 rfl (lv_at hl 0 rfl) ?_
  refine lv_iload_n hC.x hC.b dX6_whoHears_4 rfl (lv_at hl 1 rfl) ?_
  refine go_i (run_V (rest := [.int x1, .ref (ad 0), .ref (ad 0)]) hC (m6_aimOf l hw) v6_6_aimOf h6_aimOf 0 5 gCl_X6 rfl rfl ⟨rfl, rfl, Nat.le_of_ble_eq_true rfl, Nat.le_of_ble_eq_true rfl⟩ ⟨Nat.le_refl _, Nat.le_refl _⟩ hP hD hS hl.1 (Nat.le_of_ble_eq_true rfl) dX6_whoHears_5 rfl) hS (fun r1 u H locs hw211 hP hD hS => ?_)
  refine lv_iload_n hC.x hC.b dX6_whoHears_8 rfl (lv_at hl 2 rfl) ?_
  refine go_i (run_V (rest := [.ref (ad 0)]) hC (m6_outOf l hw211) v6_6_outOf h6_outOf 0 5 gCl_X6 rfl rfl ⟨rfl, rfl, Nat.le_of_ble_eq_true rfl, Nat.le_of_ble_eq_true rfl⟩ ⟨Nat.le_refl _, Nat.le_refl _⟩ hP hD hS hl.1 (Nat.le_of_ble_eq_true rfl) dX6_whoHears_9 rfl) hS (fun r2 u H locs hw212 hP hD hS => ?_)
  refine go_i (run_V (rest := []) hC (m6_heardFrom l hw212) v6_6_heardFrom h6_heardFrom 0 5 gCl_X6 rfl rfl ⟨rfl, rfl, Nat.le_of_ble_eq_true rfl, Nat.le_of_ble_eq_true rfl⟩ ⟨Nat.le_refl _, Nat.le_refl _⟩ hP hD hS hl.1 (Nat.le_of_ble_eq_true rfl) dX6_whoHears_12 rfl) hS (fun r3 u H locs hw213 hP hD hS => ?_)
  exact rt_i (u := ()) hC hw213 hP hD hS dX6_whoHears_15
theorem v6_6_whoHears : GoodIn lw_all (wsV RX6 333 RX6 yX6_whoHears (ws_ yX6_whoHears cX6_whoHears 3 (some .int))) := lw_V q1799 q1801 qs78 q126 q1802
theorem h6_heardOf : yX6_heardOf.cls = RX6 ∧ yX6_heardOf.cls ≠ "java/lang/invoke/MethodHandle" ∧ yX6_heardOf.cls ≠ "java/lang/invoke/VarHandle" ∧ (parseMethodDescriptor yX6_heardOf.desc).map (fun d => d.parameters.length) = some 2 := by decide +kernel
def f6_heardOf_5 (post : Int32 → Prop) (tw : Option (Nat → Nat)) (S : MS) (x1 : Int32) (x2 : Int32) (K5 : (Int32 × Int32) → Prop) (x3 : Int32) (x4 : Int32) : Prop :=
  ((∃ t, tw = some t) ∧ (((S.1 20 3) ≤ x4 → (post x3)) ∧ (¬ (S.1 20 3) ≤ x4 → (w6_whoHears (fun r2 => ((¬ r2 = x1 → (K5 ((x3 ||| 0), (x4 + 1)))) ∧ (r2 = x1 → (K5 ((x3 ||| ((1 : Int32) <<< (x4 &&& 31))), (x4 + 1)))))) tw S x4 x2))))
set_option maxHeartbeats 4000000 in
theorem k6_heardOf_5 {post : Int32 → Prop} {S : MS} {x1 : Int32} {x2 : Int32} (hC : CX RX6 cX6_heardOf 5 (some .int) D gCl nwG Z Hb A p s m args meth c) : ∀ z : (Int32 × Int32), lp (fun (K : (Int32 × Int32) → Prop) (z : (Int32 × Int32)) => f6_heardOf_5 post tw S x1 x2 K z.1 z.2) z → ∀ (H : Heap) (locs : List Loc) (ls : Array Slot), va_P D gCl (wM D ad none rdv tw S) H → va_D A (wM D ad none rdv tw S) → va_S A s.heap H locs → lv_has ls 5 [(0, .ref (ad 0)), (1, .int x1), (2, .int x2), (3, .int z.1), (4, .int z.2)] → W p l e ({ frames := 3, cells := 0, slots := 0, locals := 72 } : Room) s m args below meth c H locs 0 0 (MQ below (va_Qi (fun r (_ : Unit) => post r) (BW D gCl A (fun _ => (wM D ad none rdv tw S))) A) args s 0 0 A) (F0 m 5 ls []) := by
  refine lp_ind ?_
  rintro K5 ⟨x3, x4⟩ hK5 hw H locs ls hP hD hS hl
  have hw : f6_heardOf_5 post tw S x1 x2 K5 x3 x4 := hw
  unfold f6_heardOf_5 at hw
  have hP : va_P D gCl (wM D ad none rdv tw S) H := hP
  have hD : va_D A (wM D ad none rdv tw S) := hD
  have hl : lv_has ls 5 [(0, .ref (ad 0)), (1, .int x1), (2, .int x2), (3, .int x3), (4, .int x4)] := hl
  refine lv_iload hC.x hC.b dX6_heardOf_5 (lv_at hl 4 rfl) ?_
  refine lv_aload_n hC.x hC.b dX6_heardOf_7 rfl (lv_at hl 0 rfl) ?_
  refine gM_3 hC hP dX6_heardOf_8 ?_
  obtain ⟨⟨t, rfl⟩, hw214⟩ := hw
  refine gT_3 hC hP dX6_heardOf_11 ?_
  refine lv_icmp_ge (tgt := 45) hC.x hC.b dX6_heardOf_14 (by decide) (fun c1 => ?_) (fun c1 => ?_)
  · have hw215 := hw214.1 c1
    refine lv_iload_n hC.x hC.b dX6_heardOf_45 rfl (lv_at hl 3 rfl) ?_
    exact rt_i (u := ()) hC hw215 hP hD hS dX6_heardOf_46
  · have hw216 := hw214.2 c1
    refine lv_iload_n hC.x hC.b dX6_heardOf_17 rfl (lv_at hl 3 rfl) ?_
    refine lv_aload_n hC.x hC.b dX6_heardOf_18 rfl (lv_at hl 0 rfl) ?_
    refine lv_iload hC.x hC.b dX6_heardOf_19 (lv_at hl 4 rfl) ?_
    refine lv_iload_n hC.x hC.b dX6_heardOf_21 rfl (lv_at hl 2 rfl) ?_
    refine go_i (run_V (rest := [.int x3]) hC (m6_whoHears l hw216) v6_6_whoHears h6_whoHears 0 5 gCl_X6 rfl rfl ⟨rfl, rfl, Nat.le_of_ble_eq_true rfl, Nat.le_of_ble_eq_true rfl⟩ ⟨Nat.le_refl _, Nat.le_refl _⟩ hP hD hS hl.1 (Nat.le_of_ble_eq_true rfl) dX6_heardOf_22 rfl) hS (fun r2 u H locs hw217 hP hD hS => ?_)
    refine lv_iload_n hC.x hC.b dX6_heardOf_25 rfl (lv_at hl 1 rfl) ?_
    refine lv_icmp_ne (tgt := 36) hC.x hC.b dX6_heardOf_26 (by decide) (fun c3 => ?_) (fun c3 => ?_)
    · have hw218 := hw217.1 c3
      refine lv_iconst (v := 0) hC.x hC.b dX6_heardOf_36 (by decide) ?_
      refine lv_ior hC.x hC.b dX6_heardOf_37 ?_
      refine lv_istore_n (lv' := [(3, .int (x3 ||| 0)), (0, .ref (ad 0)), (1, .int x1), (2, .int x2), (4, .int x4)]) hC.x hC.b dX6_heardOf_38 rfl hl (by decide) rfl (fun ls hl => ?_)
      refine lv_iinc (v := (x4 + 1)) (lv' := [(4, .int (x4 + 1)), (3, .int (x3 ||| 0)), (0, .ref (ad 0)), (1, .int x1), (2, .int x2)]) hC.x hC.b dX6_heardOf_39 hl (k := 4) rfl rfl (by decide) rfl (fun ls hl => ?_)
      refine lv_goto (tgt := 5) hC.x hC.b dX6_heardOf_42 (by decide) ?_
      exact hK5 ((x3 ||| 0), (x4 + 1)) hw218 H locs ls hP hD hS (lv_sub hl [2, 3, 4, 1, 0] rfl)
    · have hw219 := hw217.2 c3
      refine lv_iconst (v := 1) hC.x hC.b dX6_heardOf_29 (by decide) ?_
      refine lv_iload hC.x hC.b dX6_heardOf_30 (lv_at hl 4 rfl) ?_
      refine lv_ishl hC.x hC.b dX6_heardOf_32 ?_
      refine lv_goto (tgt := 37) hC.x hC.b dX6_heardOf_33 (by decide) ?_
      refine lv_ior hC.x hC.b dX6_heardOf_37 ?_
      refine lv_istore_n (lv' := [(3, .int (x3 ||| ((1 : Int32) <<< (x4 &&& 31)))), (0, .ref (ad 0)), (1, .int x1), (2, .int x2), (4, .int x4)]) hC.x hC.b dX6_heardOf_38 rfl hl (by decide) rfl (fun ls hl => ?_)
      refine lv_iinc (v := (x4 + 1)) (lv' := [(4, .int (x4 + 1)), (3, .int (x3 ||| ((1 : Int32) <<< (x4 &&& 31)))), (0, .ref (ad 0)), (1, .int x1), (2, .int x2)]) hC.x hC.b dX6_heardOf_39 hl (k := 4) rfl rfl (by decide) rfl (fun ls hl => ?_)
      refine lv_goto (tgt := 5) hC.x hC.b dX6_heardOf_42 (by decide) ?_
      exact hK5 ((x3 ||| ((1 : Int32) <<< (x4 &&& 31))), (x4 + 1)) hw219 H locs ls hP hD hS (lv_sub hl [2, 3, 4, 1, 0] rfl)
def w6_heardOf (post : Int32 → Prop) (tw : Option (Nat → Nat)) (S : MS) (x1 : Int32) (x2 : Int32) : Prop :=
  (lp (fun (K : (Int32 × Int32) → Prop) (z : (Int32 × Int32)) => f6_heardOf_5 post tw S x1 x2 K z.1 z.2) (0, 0))
set_option maxHeartbeats 4000000 in
theorem m6_heardOf (l : Launch) {post : Int32 → Prop} {S : MS} {x1 : Int32} {x2 : Int32} (hw : w6_heardOf post tw S x1 x2) : Met l yX6_heardOf (ws_ yX6_heardOf cX6_heardOf 5 (some .int)) ({ frames := 3, cells := 0, slots := 0, locals := 72 } : Room) (va_Pc [.ref (ad 0), .int x1, .int x2] (PcG D gCl nwG Z Hb A (wM D ad none rdv tw S))) (va_Qi (fun r (_ : Unit) => post r) (BW D gCl A (fun _ => (wM D ad none rdv tw S))) A) 0 0 A := by
  refine Met.ofG (by decide) (Nat.le_of_ble_eq_true rfl) ?_
  intro p e s m below meth c ls hC _ hP hD hS hl
  have hC : CX RX6 cX6_heardOf 5 (some .int) D gCl nwG Z Hb A p s m _ meth c := hC
  have hl : lv_has ls 5 [(0, .ref (ad 0)), (1, .int x1), (2, .int x2)] := hl
  unfold w6_heardOf at hw
  refine lv_iconst (v := 0) hC.x hC.b dX6_heardOf_0 (by decide) ?_
  refine lv_istore_n (lv' := [(3, .int 0), (0, .ref (ad 0)), (1, .int x1), (2, .int x2)]) hC.x hC.b dX6_heardOf_1 rfl hl (by decide) rfl (fun ls hl => ?_)
  refine lv_iconst (v := 0) hC.x hC.b dX6_heardOf_2 (by decide) ?_
  refine lv_istore (lv' := [(4, .int 0), (3, .int 0), (0, .ref (ad 0)), (1, .int x1), (2, .int x2)]) hC.x hC.b dX6_heardOf_3 hl (by decide) rfl (fun ls hl => ?_)
  exact k6_heardOf_5 hC (0, 0) hw s.heap [] ls hP hD hS (lv_sub hl [2, 3, 4, 1, 0] rfl)
theorem v6_6_refused : GoodIn lw_all (wsV RX6 55 RX6 yX6_refused (ws_ yX6_refused cX6_refused 2 (some .int))) := lw_V q1509 q1511 qs49 q126 q1512
theorem v6_6_good : GoodIn lw_all (wsV RX6 59 RX6 yX6_good (ws_ yX6_good cX6_good 2 (some .int))) := lw_V q1771 q1773 qs74 q126 q1774
theorem v6_6_isPerson : GoodIn lw_all (wsV RX6 339 RX6 yX6_isPerson (ws_ yX6_isPerson cX6_isPerson 2 (some .boolean))) := lw_V q1787 q1789 qs75 q126 q1790
theorem v6_6_works : GoodIn lw_all (wsV RX6 342 RX6 yX6_works (ws_ yX6_works cX6_works 2 none)) := lw_V q1791 q1793 qs76 q126 q1794
theorem v6_6_heardOf : GoodIn lw_all (wsV RX6 345 RX6 yX6_heardOf (ws_ yX6_heardOf cX6_heardOf 5 (some .int))) := lw_V q1795 q1797 qs77 q126 q1798
theorem h6_person : yX6_person.cls = RX6 ∧ yX6_person.cls ≠ "java/lang/invoke/MethodHandle" ∧ yX6_person.cls ≠ "java/lang/invoke/VarHandle" ∧ (parseMethodDescriptor yX6_person.desc).map (fun d => d.parameters.length) = some 2 := by decide +kernel
def f6_person_37 (post : Int32 → MS → Prop) (tw : Option (Nat → Nat)) (S : MS) (x1 : Int32) (x2 : Int32) (K37 : (Int32 × Int32) → Prop) (x3 : Int32) (x4 : Int32) : Prop :=
  ((∃ t, tw = some t) ∧ (((S.1 20 3) ≤ x4 → ((¬ x2 = 0 → ((¬ x2 = 1 → (w6_heardOf (fun r13 => (w6_good (fun r14 S15 => (post r14 S15)) S r13)) tw S x1 (S.1 2 18))) ∧ (x2 = 1 → (w6_good (fun r16 S17 => (post r16 S17)) S x3)))) ∧ (x2 = 0 → (vp_in x1 19 ∧ (w6_good (fun r18 S19 => (post r18 S19)) S (S.1 2 x1.toNatClampNeg)))))) ∧ (¬ (S.1 20 3) ≤ x4 → (vp_in x4 6 ∧ ((¬ (S.1 24 x4.toNatClampNeg) = x1 → (K37 ((x3 ||| 0), (x4 + 1)))) ∧ ((S.1 24 x4.toNatClampNeg) = x1 → (K37 ((x3 ||| ((1 : Int32) <<< (x4 &&& 31))), (x4 + 1)))))))))
set_option maxHeartbeats 4000000 in
theorem k6_person_37 {post : Int32 → MS → Prop} {S : MS} {x1 : Int32} {x2 : Int32} (hC : CX RX6 cX6_person 5 (some .int) D gCl nwG Z Hb A p s m args meth c) : ∀ z : (Int32 × Int32), lp (fun (K : (Int32 × Int32) → Prop) (z : (Int32 × Int32)) => f6_person_37 post tw S x1 x2 K z.1 z.2) z → ∀ (H : Heap) (locs : List Loc) (ls : Array Slot), va_P D gCl (wM D ad none rdv tw S) H → va_D A (wM D ad none rdv tw S) → va_S A s.heap H locs → lv_has ls 5 [(0, .ref (ad 0)), (1, .int x1), (2, .int x2), (3, .int z.1), (4, .int z.2)] → W p l e ({ frames := 4, cells := 0, slots := 0, locals := 96 } : Room) s m args below meth c H locs 0 0 (MQ below (va_Qi post (BW D gCl A (fun u => (wM D ad none rdv tw u))) A) args s 0 0 A) (F0 m 37 ls []) := by
  refine lp_ind ?_
  rintro K37 ⟨x3, x4⟩ hK37 hw H locs ls hP hD hS hl
  have hw : f6_person_37 post tw S x1 x2 K37 x3 x4 := hw
  unfold f6_person_37 at hw
  have hP : va_P D gCl (wM D ad none rdv tw S) H := hP
  have hD : va_D A (wM D ad none rdv tw S) := hD
  have hl : lv_has ls 5 [(0, .ref (ad 0)), (1, .int x1), (2, .int x2), (3, .int x3), (4, .int x4)] := hl
  refine lv_iload hC.x hC.b dX6_person_37 (lv_at hl 4 rfl) ?_
  refine lv_aload_n hC.x hC.b dX6_person_39 rfl (lv_at hl 0 rfl) ?_
  refine gM_3 hC hP dX6_person_40 ?_
  obtain ⟨⟨t, rfl⟩, hw228⟩ := hw
  refine gT_3 hC hP dX6_person_43 ?_
  refine lv_icmp_ge (tgt := 80) hC.x hC.b dX6_person_46 (by decide) (fun c10 => ?_) (fun c10 => ?_)
  · have hw229 := hw228.1 c10
    refine lv_aload_n hC.x hC.b dX6_person_80 rfl (lv_at hl 0 rfl) ?_
    refine lv_iload_n hC.x hC.b dX6_person_81 rfl (lv_at hl 2 rfl) ?_
    refine lv_if_ne (tgt := 94) hC.x hC.b dX6_person_82 (by decide) (fun c11 => ?_) (fun c11 => ?_)
    · have hw230 := hw229.1 c11
      refine lv_iload_n hC.x hC.b dX6_person_94 rfl (lv_at hl 2 rfl) ?_
      refine lv_iconst (v := 1) hC.x hC.b dX6_person_95 (by decide) ?_
      refine lv_icmp_ne (tgt := 103) hC.x hC.b dX6_person_96 (by decide) (fun c12 => ?_) (fun c12 => ?_)
      · have hw231 := hw230.1 c12
        refine lv_aload_n hC.x hC.b dX6_person_103 rfl (lv_at hl 0 rfl) ?_
        refine lv_iload_n hC.x hC.b dX6_person_104 rfl (lv_at hl 1 rfl) ?_
        refine lv_aload_n hC.x hC.b dX6_person_105 rfl (lv_at hl 0 rfl) ?_
        refine gM_15 hC hP dX6_person_106 ?_
        refine lv_bipush (v := 18) hC.x hC.b dX6_person_109 (by decide) ?_
        refine lM_2 hC hP (vp_lit rfl) (k := 18) rfl dX6_person_111 ?_
        refine go_i (run_V (rest := [.ref (ad 0)]) hC (m6_heardOf l hw231) v6_6_heardOf h6_heardOf 0 5 gCl_X6 rfl rfl ⟨rfl, rfl, Nat.le_of_ble_eq_true rfl, Nat.le_of_ble_eq_true rfl⟩ ⟨Nat.le_refl _, Nat.le_refl _⟩ hP hD hS hl.1 (Nat.le_of_ble_eq_true rfl) dX6_person_112 rfl) hS (fun r13 u H locs hw232 hP hD hS => ?_)
        refine go_i (run_V (rest := []) hC (m6_good l hw232) v6_6_good h6_good 0 5 gCl_X6 rfl rfl ⟨rfl, rfl, Nat.le_of_ble_eq_true rfl, Nat.le_of_ble_eq_true rfl⟩ ⟨Nat.le_refl _, Nat.le_refl _⟩ hP hD hS hl.1 (Nat.le_of_ble_eq_true rfl) dX6_person_115 rfl) hS (fun r14 S15 H locs hw233 hP hD hS => ?_)
        exact rt_i hC hw233 hP hD hS dX6_person_118
      · have hw234 := hw230.2 c12
        refine lv_iload_n hC.x hC.b dX6_person_99 rfl (lv_at hl 3 rfl) ?_
        refine lv_goto (tgt := 115) hC.x hC.b dX6_person_100 (by decide) ?_
        refine go_i (run_V (rest := []) hC (m6_good l hw234) v6_6_good h6_good 0 5 gCl_X6 rfl rfl ⟨rfl, rfl, Nat.le_of_ble_eq_true rfl, Nat.le_of_ble_eq_true rfl⟩ ⟨Nat.le_refl _, Nat.le_refl _⟩ hP hD hS hl.1 (Nat.le_of_ble_eq_true rfl) dX6_person_115 rfl) hS (fun r16 S17 H locs hw235 hP hD hS => ?_)
        exact rt_i hC hw235 hP hD hS dX6_person_118
    · have hw236 := hw229.2 c11
      refine lv_aload_n hC.x hC.b dX6_person_85 rfl (lv_at hl 0 rfl) ?_
      refine gM_15 hC hP dX6_person_86 ?_
      refine lv_iload_n hC.x hC.b dX6_person_89 rfl (lv_at hl 1 rfl) ?_
      obtain ⟨hin, hw237⟩ := hw236
      refine lM_2 hC hP hin rfl dX6_person_90 ?_
      refine lv_goto (tgt := 115) hC.x hC.b dX6_person_91 (by decide) ?_
      refine go_i (run_V (rest := []) hC (m6_good l hw237) v6_6_good h6_good 0 5 gCl_X6 rfl rfl ⟨rfl, rfl, Nat.le_of_ble_eq_true rfl, Nat.le_of_ble_eq_true rfl⟩ ⟨Nat.le_refl _, Nat.le_refl _⟩ hP hD hS hl.1 (Nat.le_of_ble_eq_true rfl) dX6_person_115 rfl) hS (fun r18 S19 H locs hw238 hP hD hS => ?_)
      exact rt_i hC hw238 hP hD hS dX6_person_118
  · have hw239 := hw228.2 c10
    refine lv_iload_n hC.x hC.b dX6_person_49 rfl (lv_at hl 3 rfl) ?_
    refine lv_aload_n hC.x hC.b dX6_person_50 rfl (lv_at hl 0 rfl) ?_
    refine gM_3 hC hP dX6_person_51 ?_
    refine gT_11 hC hP dX6_person_54 ?_
    refine lv_iload hC.x hC.b dX6_person_57 (lv_at hl 4 rfl) ?_
    obtain ⟨hin, hw240⟩ := hw239
    refine lT_4 hC hP hin rfl dX6_person_59 ?_
    refine lv_iload_n hC.x hC.b dX6_person_60 rfl (lv_at hl 1 rfl) ?_
    refine lv_icmp_ne (tgt := 71) hC.x hC.b dX6_person_61 (by decide) (fun c20 => ?_) (fun c20 => ?_)
    · have hw241 := hw240.1 c20
      refine lv_iconst (v := 0) hC.x hC.b dX6_person_71 (by decide) ?_
      refine lv_ior hC.x hC.b dX6_person_72 ?_
      refine lv_istore_n (lv' := [(3, .int (x3 ||| 0)), (0, .ref (ad 0)), (1, .int x1), (2, .int x2), (4, .int x4)]) hC.x hC.b dX6_person_73 rfl hl (by decide) rfl (fun ls hl => ?_)
      refine lv_iinc (v := (x4 + 1)) (lv' := [(4, .int (x4 + 1)), (3, .int (x3 ||| 0)), (0, .ref (ad 0)), (1, .int x1), (2, .int x2)]) hC.x hC.b dX6_person_74 hl (k := 4) rfl rfl (by decide) rfl (fun ls hl => ?_)
      refine lv_goto (tgt := 37) hC.x hC.b dX6_person_77 (by decide) ?_
      exact hK37 ((x3 ||| 0), (x4 + 1)) hw241 H locs ls hP hD hS (lv_sub hl [2, 3, 4, 1, 0] rfl)
    · have hw242 := hw240.2 c20
      refine lv_iconst (v := 1) hC.x hC.b dX6_person_64 (by decide) ?_
      refine lv_iload hC.x hC.b dX6_person_65 (lv_at hl 4 rfl) ?_
      refine lv_ishl hC.x hC.b dX6_person_67 ?_
      refine lv_goto (tgt := 72) hC.x hC.b dX6_person_68 (by decide) ?_
      refine lv_ior hC.x hC.b dX6_person_72 ?_
      refine lv_istore_n (lv' := [(3, .int (x3 ||| ((1 : Int32) <<< (x4 &&& 31)))), (0, .ref (ad 0)), (1, .int x1), (2, .int x2), (4, .int x4)]) hC.x hC.b dX6_person_73 rfl hl (by decide) rfl (fun ls hl => ?_)
      refine lv_iinc (v := (x4 + 1)) (lv' := [(4, .int (x4 + 1)), (3, .int (x3 ||| ((1 : Int32) <<< (x4 &&& 31)))), (0, .ref (ad 0)), (1, .int x1), (2, .int x2)]) hC.x hC.b dX6_person_74 hl (k := 4) rfl rfl (by decide) rfl (fun ls hl => ?_)
      refine lv_goto (tgt := 37) hC.x hC.b dX6_person_77 (by decide) ?_
      exact hK37 ((x3 ||| ((1 : Int32) <<< (x4 &&& 31))), (x4 + 1)) hw242 H locs ls hP hD hS (lv_sub hl [2, 3, 4, 1, 0] rfl)
def w6_person (post : Int32 → MS → Prop) (tw : Option (Nat → Nat)) (S : MS) (x1 : Int32) (x2 : Int32) : Prop :=
  (∀ S1, S1 = uI S 0 0 0 → (w6_isPerson (fun r2 => ((r2 = 0 → (w6_refused (fun r4 S5 => (post r4 S5)) S1 1)) ∧ (¬ r2 = 0 → (w6_in (fun r6 => ((¬ r6 = 0 → (w6_works (fun S9 => (lp (fun (K : (Int32 × Int32) → Prop) (z : (Int32 × Int32)) => f6_person_37 post tw S9 x1 x2 K z.1 z.2) (0, 0))) S1)) ∧ (r6 = 0 → (w6_refused (fun r21 S22 => (post r21 S22)) S1 1)))) x2 0 2)))) tw S1 x1))
set_option maxHeartbeats 4000000 in
theorem m6_person (l : Launch) {post : Int32 → MS → Prop} {S : MS} {x1 : Int32} {x2 : Int32} (hw : w6_person post tw S x1 x2) : Met l yX6_person (ws_ yX6_person cX6_person 5 (some .int)) ({ frames := 4, cells := 0, slots := 0, locals := 96 } : Room) (va_Pc [.ref (ad 0), .int x1, .int x2] (PcG D gCl nwG Z Hb A (wM D ad none rdv tw S))) (va_Qi post (BW D gCl A (fun u => (wM D ad none rdv tw u))) A) 0 0 A := by
  refine Met.ofG (by decide) (Nat.le_of_ble_eq_true rfl) ?_
  intro p e s m below meth c ls hC _ hP hD hS hl
  have hC : CX RX6 cX6_person 5 (some .int) D gCl nwG Z Hb A p s m _ meth c := hC
  have hl : lv_has ls 5 [(0, .ref (ad 0)), (1, .int x1), (2, .int x2)] := hl
  unfold w6_person at hw
  refine lv_aload_n hC.x hC.b dX6_person_0 rfl (lv_at hl 0 rfl) ?_
  refine lv_iconst (v := 0) hC.x hC.b dX6_person_1 (by decide) ?_
  refine pM_0 hC hP hD hS (v := 0) dX6_person_2 (fun S1 eS1 H locs hP hD hS => ?_)
  have hw220 := hw S1 eS1
  refine lv_aload_n hC.x hC.b dX6_person_5 rfl (lv_at hl 0 rfl) ?_
  refine lv_iload_n hC.x hC.b dX6_person_6 rfl (lv_at hl 1 rfl) ?_
  refine go_i (run_V (rest := []) hC (m6_isPerson l hw220) v6_6_isPerson h6_isPerson 0 5 gCl_X6 rfl rfl ⟨rfl, rfl, Nat.le_of_ble_eq_true rfl, Nat.le_of_ble_eq_true rfl⟩ ⟨Nat.le_refl _, Nat.le_refl _⟩ hP hD hS hl.1 (Nat.le_of_ble_eq_true rfl) dX6_person_7 rfl) hS (fun r2 u H locs hw221 hP hD hS => ?_)
  refine lv_if_eq (tgt := 22) hC.x hC.b dX6_person_10 (by decide) (fun c3 => ?_) (fun c3 => ?_)
  · have hw222 := hw221.1 c3
    refine lv_aload_n hC.x hC.b dX6_person_22 rfl (lv_at hl 0 rfl) ?_
    refine lv_iconst (v := 1) hC.x hC.b dX6_person_23 (by decide) ?_
    refine go_i (run_V (rest := []) hC (m6_refused l hw222) v6_6_refused h6_refused 0 5 gCl_X6 rfl rfl ⟨rfl, rfl, Nat.le_of_ble_eq_true rfl, Nat.le_of_ble_eq_true rfl⟩ ⟨Nat.le_refl _, Nat.le_refl _⟩ hP hD hS hl.1 (Nat.le_of_ble_eq_true rfl) dX6_person_24 rfl) hS (fun r4 S5 H locs hw223 hP hD hS => ?_)
    exact rt_i hC hw223 hP hD hS dX6_person_27
  · have hw224 := hw221.2 c3
    refine lv_iload_n hC.x hC.b dX6_person_13 rfl (lv_at hl 2 rfl) ?_
    refine lv_iconst (v := 0) hC.x hC.b dX6_person_14 (by decide) ?_
    refine lv_iconst (v := 2) hC.x hC.b dX6_person_15 (by decide) ?_
    refine go_i (run_S (rest := []) hC (m6_in l hw224) v6_6_in h6_in ⟨rfl, rfl, Nat.le_of_ble_eq_true rfl, Nat.le_of_ble_eq_true rfl⟩ ⟨Nat.le_refl _, Nat.le_refl _⟩ hP hD hS hl.1 (Nat.le_of_ble_eq_true rfl) dX6_person_16 rfl) hS (fun r6 u H locs hw225 hP hD hS => ?_)
    refine lv_if_ne (tgt := 28) hC.x hC.b dX6_person_19 (by decide) (fun c7 => ?_) (fun c7 => ?_)
    · have hw226 := hw225.1 c7
      refine lv_aload_n hC.x hC.b dX6_person_28 rfl (lv_at hl 0 rfl) ?_
      refine go_v (run_V (rest := []) hC (m6_works l hw226) v6_6_works h6_works 0 5 gCl_X6 rfl rfl ⟨rfl, rfl, Nat.le_of_ble_eq_true rfl, Nat.le_of_ble_eq_true rfl⟩ ⟨Nat.le_refl _, Nat.le_refl _⟩ hP hD hS hl.1 (Nat.le_of_ble_eq_true rfl) dX6_person_29 rfl) hS (fun S9 H locs hw227 hP hD hS => ?_)
      refine lv_iconst (v := 0) hC.x hC.b dX6_person_32 (by decide) ?_
      refine lv_istore_n (lv' := [(3, .int 0), (0, .ref (ad 0)), (1, .int x1), (2, .int x2)]) hC.x hC.b dX6_person_33 rfl hl (by decide) rfl (fun ls hl => ?_)
      refine lv_iconst (v := 0) hC.x hC.b dX6_person_34 (by decide) ?_
      refine lv_istore (lv' := [(4, .int 0), (3, .int 0), (0, .ref (ad 0)), (1, .int x1), (2, .int x2)]) hC.x hC.b dX6_person_35 hl (by decide) rfl (fun ls hl => ?_)
      exact k6_person_37 hC (0, 0) hw227 H locs ls hP hD hS (lv_sub hl [2, 3, 4, 1, 0] rfl)
    · have hw243 := hw225.2 c7
      refine lv_aload_n hC.x hC.b dX6_person_22 rfl (lv_at hl 0 rfl) ?_
      refine lv_iconst (v := 1) hC.x hC.b dX6_person_23 (by decide) ?_
      refine go_i (run_V (rest := []) hC (m6_refused l hw243) v6_6_refused h6_refused 0 5 gCl_X6 rfl rfl ⟨rfl, rfl, Nat.le_of_ble_eq_true rfl, Nat.le_of_ble_eq_true rfl⟩ ⟨Nat.le_refl _, Nat.le_refl _⟩ hP hD hS hl.1 (Nat.le_of_ble_eq_true rfl) dX6_person_24 rfl) hS (fun r21 S22 H locs hw244 hP hD hS => ?_)
      exact rt_i hC hw244 hP hD hS dX6_person_27
theorem h6_isDead : yX6_isDead.cls = RX6 ∧ yX6_isDead.cls ≠ "java/lang/invoke/MethodHandle" ∧ yX6_isDead.cls ≠ "java/lang/invoke/VarHandle" ∧ (parseMethodDescriptor yX6_isDead.desc).map (fun d => d.parameters.length) = some 1 := by decide +kernel
def w6_isDead (post : Int32 → Prop) (tw : Option (Nat → Nat)) (S : MS) (x1 : Int32) : Prop :=
  ((tw = none → (post 0)) ∧ ((∃ t, tw = some t) → ((x1 < 0 → (post 0)) ∧ (¬ x1 < 0 → (((S.1 20 3) ≤ x1 → (post 0)) ∧ (¬ (S.1 20 3) ≤ x1 → (post 1)))))))
set_option maxHeartbeats 4000000 in
theorem m6_isDead (l : Launch) {post : Int32 → Prop} {S : MS} {x1 : Int32} (hw : w6_isDead post tw S x1) : Met l yX6_isDead (ws_ yX6_isDead cX6_isDead 2 (some .boolean)) ({ frames := 0, cells := 0, slots := 0, locals := 0 } : Room) (va_Pc [.ref (ad 0), .int x1] (PcG D gCl nwG Z Hb A (wM D ad none rdv tw S))) (va_Qi (fun r (_ : Unit) => post r) (BW D gCl A (fun _ => (wM D ad none rdv tw S))) A) 0 0 A := by
  refine Met.ofG (by decide) (Nat.le_of_ble_eq_true rfl) ?_
  intro p e s m below meth c ls hC _ hP hD hS hl
  have hC : CX RX6 cX6_isDead 2 (some .boolean) D gCl nwG Z Hb A p s m _ meth c := hC
  have hl : lv_has ls 2 [(0, .ref (ad 0)), (1, .int x1)] := hl
  unfold w6_isDead at hw
  refine lv_aload_n hC.x hC.b dX6_isDead_0 rfl (lv_at hl 0 rfl) ?_
  refine gM_3 hC hP dX6_isDead_1 ?_
  rcases va_o2 tw with c1 | ⟨t, c1⟩
  · have hw245 := hw.1 c1
    subst c1
    refine lv_ifnullN (tgt := 26) hC.x hC.b dX6_isDead_4 (by decide) ?_
    refine lv_iconst (v := 0) hC.x hC.b dX6_isDead_26 (by decide) ?_
    exact rt_z (u := ()) hC (Or.inl rfl) hw245 hP hD hS dX6_isDead_27
  · have hw246 := hw.2 ⟨t, c1⟩
    subst c1
    refine lv_ifnull hC.x hC.b dX6_isDead_4 ?_
    refine lv_iload_n hC.x hC.b dX6_isDead_7 rfl (lv_at hl 1 rfl) ?_
    refine lv_if_lt (tgt := 26) hC.x hC.b dX6_isDead_8 (by decide) (fun c2 => ?_) (fun c2 => ?_)
    · have hw247 := hw246.1 c2
      refine lv_iconst (v := 0) hC.x hC.b dX6_isDead_26 (by decide) ?_
      exact rt_z (u := ()) hC (Or.inl rfl) hw247 hP hD hS dX6_isDead_27
    · have hw248 := hw246.2 c2
      refine lv_iload_n hC.x hC.b dX6_isDead_11 rfl (lv_at hl 1 rfl) ?_
      refine lv_aload_n hC.x hC.b dX6_isDead_12 rfl (lv_at hl 0 rfl) ?_
      refine gM_3 hC hP dX6_isDead_13 ?_
      refine gT_3 hC hP dX6_isDead_16 ?_
      refine lv_icmp_ge (tgt := 26) hC.x hC.b dX6_isDead_19 (by decide) (fun c3 => ?_) (fun c3 => ?_)
      · have hw249 := hw248.1 c3
        refine lv_iconst (v := 0) hC.x hC.b dX6_isDead_26 (by decide) ?_
        exact rt_z (u := ()) hC (Or.inl rfl) hw249 hP hD hS dX6_isDead_27
      · have hw250 := hw248.2 c3
        refine lv_iconst (v := 1) hC.x hC.b dX6_isDead_22 (by decide) ?_
        refine lv_goto (tgt := 27) hC.x hC.b dX6_isDead_23 (by decide) ?_
        exact rt_z (u := ()) hC (Or.inr rfl) hw250 hP hD hS dX6_isDead_27
theorem v6_6_isDead : GoodIn lw_all (wsV RX6 348 RX6 yX6_isDead (ws_ yX6_isDead cX6_isDead 2 (some .boolean))) := lw_V q1827 q1829 qs84 q126 q1830
theorem h6_dead : yX6_dead.cls = RX6 ∧ yX6_dead.cls ≠ "java/lang/invoke/MethodHandle" ∧ yX6_dead.cls ≠ "java/lang/invoke/VarHandle" ∧ (parseMethodDescriptor yX6_dead.desc).map (fun d => d.parameters.length) = some 2 := by decide +kernel
def w6_dead (post : Int32 → MS → Prop) (tw : Option (Nat → Nat)) (S : MS) (x1 : Int32) (x2 : Int32) : Prop :=
  (∀ S1, S1 = uI S 0 0 0 → (w6_isDead (fun r2 => ((r2 = 0 → (w6_refused (fun r4 S5 => (post r4 S5)) S1 1)) ∧ (¬ r2 = 0 → (w6_in (fun r6 => ((¬ r6 = 0 → ((¬ x2 = 0 → ((¬ x2 = 1 → ((¬ x2 = 2 → (vp_in (12 + x1) 19 ∧ (w6_good (fun r11 S12 => (post r11 S12)) S1 (S1.1 2 (12 + x1).toNatClampNeg)))) ∧ (x2 = 2 → ((∃ t, tw = some t) ∧ (vp_in x1 6 ∧ (w6_good (fun r13 S14 => (post r13 S14)) S1 (S1.1 24 x1.toNatClampNeg))))))) ∧ (x2 = 1 → (vp_in (6 + x1) 19 ∧ (w6_good (fun r15 S16 => (post r15 S16)) S1 (S1.1 2 (6 + x1).toNatClampNeg)))))) ∧ (x2 = 0 → ((∃ t, tw = some t) ∧ (vp_in x1 6 ∧ (w6_good (fun r17 S18 => (post r17 S18)) S1 (S1.1 22 x1.toNatClampNeg))))))) ∧ (r6 = 0 → (w6_refused (fun r19 S20 => (post r19 S20)) S1 1)))) x2 0 3)))) tw S1 x1))
set_option maxHeartbeats 4000000 in
theorem m6_dead (l : Launch) {post : Int32 → MS → Prop} {S : MS} {x1 : Int32} {x2 : Int32} (hw : w6_dead post tw S x1 x2) : Met l yX6_dead (ws_ yX6_dead cX6_dead 3 (some .int)) ({ frames := 1, cells := 0, slots := 0, locals := 22 } : Room) (va_Pc [.ref (ad 0), .int x1, .int x2] (PcG D gCl nwG Z Hb A (wM D ad none rdv tw S))) (va_Qi post (BW D gCl A (fun u => (wM D ad none rdv tw u))) A) 0 0 A := by
  refine Met.ofG (by decide) (Nat.le_of_ble_eq_true rfl) ?_
  intro p e s m below meth c ls hC _ hP hD hS hl
  have hC : CX RX6 cX6_dead 3 (some .int) D gCl nwG Z Hb A p s m _ meth c := hC
  have hl : lv_has ls 3 [(0, .ref (ad 0)), (1, .int x1), (2, .int x2)] := hl
  unfold w6_dead at hw
  refine lv_aload_n hC.x hC.b dX6_dead_0 rfl (lv_at hl 0 rfl) ?_
  refine lv_iconst (v := 0) hC.x hC.b dX6_dead_1 (by decide) ?_
  refine pM_0 hC hP hD hS (v := 0) dX6_dead_2 (fun S1 eS1 H locs hP hD hS => ?_)
  have hw251 := hw S1 eS1
  refine lv_aload_n hC.x hC.b dX6_dead_5 rfl (lv_at hl 0 rfl) ?_
  refine lv_iload_n hC.x hC.b dX6_dead_6 rfl (lv_at hl 1 rfl) ?_
  refine go_i (run_V (rest := []) hC (m6_isDead l hw251) v6_6_isDead h6_isDead 0 5 gCl_X6 rfl rfl ⟨rfl, rfl, Nat.le_of_ble_eq_true rfl, Nat.le_of_ble_eq_true rfl⟩ ⟨Nat.le_refl _, Nat.le_refl _⟩ hP hD hS hl.1 (Nat.le_of_ble_eq_true rfl) dX6_dead_7 rfl) hS (fun r2 u H locs hw252 hP hD hS => ?_)
  refine lv_if_eq (tgt := 22) hC.x hC.b dX6_dead_10 (by decide) (fun c3 => ?_) (fun c3 => ?_)
  · have hw253 := hw252.1 c3
    refine lv_aload_n hC.x hC.b dX6_dead_22 rfl (lv_at hl 0 rfl) ?_
    refine lv_iconst (v := 1) hC.x hC.b dX6_dead_23 (by decide) ?_
    refine go_i (run_V (rest := []) hC (m6_refused l hw253) v6_6_refused h6_refused 0 5 gCl_X6 rfl rfl ⟨rfl, rfl, Nat.le_of_ble_eq_true rfl, Nat.le_of_ble_eq_true rfl⟩ ⟨Nat.le_refl _, Nat.le_refl _⟩ hP hD hS hl.1 (Nat.le_of_ble_eq_true rfl) dX6_dead_24 rfl) hS (fun r4 S5 H locs hw254 hP hD hS => ?_)
    exact rt_i hC hw254 hP hD hS dX6_dead_27
  · have hw255 := hw252.2 c3
    refine lv_iload_n hC.x hC.b dX6_dead_13 rfl (lv_at hl 2 rfl) ?_
    refine lv_iconst (v := 0) hC.x hC.b dX6_dead_14 (by decide) ?_
    refine lv_iconst (v := 3) hC.x hC.b dX6_dead_15 (by decide) ?_
    refine go_i (run_S (rest := []) hC (m6_in l hw255) v6_6_in h6_in ⟨rfl, rfl, Nat.le_of_ble_eq_true rfl, Nat.le_of_ble_eq_true rfl⟩ ⟨Nat.le_refl _, Nat.le_refl _⟩ hP hD hS hl.1 (Nat.le_of_ble_eq_true rfl) dX6_dead_16 rfl) hS (fun r6 u H locs hw256 hP hD hS => ?_)
    refine lv_if_ne (tgt := 28) hC.x hC.b dX6_dead_19 (by decide) (fun c7 => ?_) (fun c7 => ?_)
    · have hw257 := hw256.1 c7
      refine lv_aload_n hC.x hC.b dX6_dead_28 rfl (lv_at hl 0 rfl) ?_
      refine lv_iload_n hC.x hC.b dX6_dead_29 rfl (lv_at hl 2 rfl) ?_
      refine lv_if_ne (tgt := 45) hC.x hC.b dX6_dead_30 (by decide) (fun c8 => ?_) (fun c8 => ?_)
      · have hw258 := hw257.1 c8
        refine lv_iload_n hC.x hC.b dX6_dead_45 rfl (lv_at hl 2 rfl) ?_
        refine lv_iconst (v := 1) hC.x hC.b dX6_dead_46 (by decide) ?_
        refine lv_icmp_ne (tgt := 62) hC.x hC.b dX6_dead_47 (by decide) (fun c9 => ?_) (fun c9 => ?_)
        · have hw259 := hw258.1 c9
          refine lv_iload_n hC.x hC.b dX6_dead_62 rfl (lv_at hl 2 rfl) ?_
          refine lv_iconst (v := 2) hC.x hC.b dX6_dead_63 (by decide) ?_
          refine lv_icmp_ne (tgt := 79) hC.x hC.b dX6_dead_64 (by decide) (fun c10 => ?_) (fun c10 => ?_)
          · have hw260 := hw259.1 c10
            refine lv_aload_n hC.x hC.b dX6_dead_79 rfl (lv_at hl 0 rfl) ?_
            refine gM_15 hC hP dX6_dead_80 ?_
            refine lv_bipush (v := 12) hC.x hC.b dX6_dead_83 (by decide) ?_
            refine lv_iload_n hC.x hC.b dX6_dead_85 rfl (lv_at hl 1 rfl) ?_
            refine lv_iadd hC.x hC.b dX6_dead_86 ?_
            obtain ⟨hin, hw261⟩ := hw260
            refine lM_2 hC hP hin rfl dX6_dead_87 ?_
            refine go_i (run_V (rest := []) hC (m6_good l hw261) v6_6_good h6_good 0 5 gCl_X6 rfl rfl ⟨rfl, rfl, Nat.le_of_ble_eq_true rfl, Nat.le_of_ble_eq_true rfl⟩ ⟨Nat.le_refl _, Nat.le_refl _⟩ hP hD hS hl.1 (Nat.le_of_ble_eq_true rfl) dX6_dead_88 rfl) hS (fun r11 S12 H locs hw262 hP hD hS => ?_)
            exact rt_i hC hw262 hP hD hS dX6_dead_91
          · have hw263 := hw259.2 c10
            refine lv_aload_n hC.x hC.b dX6_dead_67 rfl (lv_at hl 0 rfl) ?_
            refine gM_3 hC hP dX6_dead_68 ?_
            obtain ⟨⟨t, rfl⟩, hw264⟩ := hw263
            refine gT_11 hC hP dX6_dead_71 ?_
            refine lv_iload_n hC.x hC.b dX6_dead_74 rfl (lv_at hl 1 rfl) ?_
            obtain ⟨hin, hw265⟩ := hw264
            refine lT_4 hC hP hin rfl dX6_dead_75 ?_
            refine lv_goto (tgt := 88) hC.x hC.b dX6_dead_76 (by decide) ?_
            refine go_i (run_V (rest := []) hC (m6_good l hw265) v6_6_good h6_good 0 5 gCl_X6 rfl rfl ⟨rfl, rfl, Nat.le_of_ble_eq_true rfl, Nat.le_of_ble_eq_true rfl⟩ ⟨Nat.le_refl _, Nat.le_refl _⟩ hP hD hS hl.1 (Nat.le_of_ble_eq_true rfl) dX6_dead_88 rfl) hS (fun r13 S14 H locs hw266 hP hD hS => ?_)
            exact rt_i hC hw266 hP hD hS dX6_dead_91
        · have hw267 := hw258.2 c9
          refine lv_aload_n hC.x hC.b dX6_dead_50 rfl (lv_at hl 0 rfl) ?_
          refine gM_15 hC hP dX6_dead_51 ?_
          refine lv_bipush (v := 6) hC.x hC.b dX6_dead_54 (by decide) ?_
          refine lv_iload_n hC.x hC.b dX6_dead_56 rfl (lv_at hl 1 rfl) ?_
          refine lv_iadd hC.x hC.b dX6_dead_57 ?_
          obtain ⟨hin, hw268⟩ := hw267
          refine lM_2 hC hP hin rfl dX6_dead_58 ?_
          refine lv_goto (tgt := 88) hC.x hC.b dX6_dead_59 (by decide) ?_
          refine go_i (run_V (rest := []) hC (m6_good l hw268) v6_6_good h6_good 0 5 gCl_X6 rfl rfl ⟨rfl, rfl, Nat.le_of_ble_eq_true rfl, Nat.le_of_ble_eq_true rfl⟩ ⟨Nat.le_refl _, Nat.le_refl _⟩ hP hD hS hl.1 (Nat.le_of_ble_eq_true rfl) dX6_dead_88 rfl) hS (fun r15 S16 H locs hw269 hP hD hS => ?_)
          exact rt_i hC hw269 hP hD hS dX6_dead_91
      · have hw270 := hw257.2 c8
        refine lv_aload_n hC.x hC.b dX6_dead_33 rfl (lv_at hl 0 rfl) ?_
        refine gM_3 hC hP dX6_dead_34 ?_
        obtain ⟨⟨t, rfl⟩, hw271⟩ := hw270
        refine gT_9 hC hP dX6_dead_37 ?_
        refine lv_iload_n hC.x hC.b dX6_dead_40 rfl (lv_at hl 1 rfl) ?_
        obtain ⟨hin, hw272⟩ := hw271
        refine lT_2 hC hP hin rfl dX6_dead_41 ?_
        refine lv_goto (tgt := 88) hC.x hC.b dX6_dead_42 (by decide) ?_
        refine go_i (run_V (rest := []) hC (m6_good l hw272) v6_6_good h6_good 0 5 gCl_X6 rfl rfl ⟨rfl, rfl, Nat.le_of_ble_eq_true rfl, Nat.le_of_ble_eq_true rfl⟩ ⟨Nat.le_refl _, Nat.le_refl _⟩ hP hD hS hl.1 (Nat.le_of_ble_eq_true rfl) dX6_dead_88 rfl) hS (fun r17 S18 H locs hw273 hP hD hS => ?_)
        exact rt_i hC hw273 hP hD hS dX6_dead_91
    · have hw274 := hw256.2 c7
      refine lv_aload_n hC.x hC.b dX6_dead_22 rfl (lv_at hl 0 rfl) ?_
      refine lv_iconst (v := 1) hC.x hC.b dX6_dead_23 (by decide) ?_
      refine go_i (run_V (rest := []) hC (m6_refused l hw274) v6_6_refused h6_refused 0 5 gCl_X6 rfl rfl ⟨rfl, rfl, Nat.le_of_ble_eq_true rfl, Nat.le_of_ble_eq_true rfl⟩ ⟨Nat.le_refl _, Nat.le_refl _⟩ hP hD hS hl.1 (Nat.le_of_ble_eq_true rfl) dX6_dead_24 rfl) hS (fun r19 S20 H locs hw275 hP hD hS => ?_)
      exact rt_i hC hw275 hP hD hS dX6_dead_27
theorem h6_isHouse : yX6_isHouse.cls = RX6 ∧ yX6_isHouse.cls ≠ "java/lang/invoke/MethodHandle" ∧ yX6_isHouse.cls ≠ "java/lang/invoke/VarHandle" ∧ (parseMethodDescriptor yX6_isHouse.desc).map (fun d => d.parameters.length) = some 1 := by decide +kernel
def w6_isHouse (post : Int32 → Prop) (tw : Option (Nat → Nat)) (S : MS) (x1 : Int32) : Prop :=
  ((tw = none → (post 0)) ∧ ((∃ t, tw = some t) → ((x1 < 0 → (post 0)) ∧ (¬ x1 < 0 → (((S.1 20 0) ≤ x1 → (post 0)) ∧ (¬ (S.1 20 0) ≤ x1 → (post 1)))))))
set_option maxHeartbeats 4000000 in
theorem m6_isHouse (l : Launch) {post : Int32 → Prop} {S : MS} {x1 : Int32} (hw : w6_isHouse post tw S x1) : Met l yX6_isHouse (ws_ yX6_isHouse cX6_isHouse 2 (some .boolean)) ({ frames := 0, cells := 0, slots := 0, locals := 0 } : Room) (va_Pc [.ref (ad 0), .int x1] (PcG D gCl nwG Z Hb A (wM D ad none rdv tw S))) (va_Qi (fun r (_ : Unit) => post r) (BW D gCl A (fun _ => (wM D ad none rdv tw S))) A) 0 0 A := by
  refine Met.ofG (by decide) (Nat.le_of_ble_eq_true rfl) ?_
  intro p e s m below meth c ls hC _ hP hD hS hl
  have hC : CX RX6 cX6_isHouse 2 (some .boolean) D gCl nwG Z Hb A p s m _ meth c := hC
  have hl : lv_has ls 2 [(0, .ref (ad 0)), (1, .int x1)] := hl
  unfold w6_isHouse at hw
  refine lv_aload_n hC.x hC.b dX6_isHouse_0 rfl (lv_at hl 0 rfl) ?_
  refine gM_3 hC hP dX6_isHouse_1 ?_
  rcases va_o2 tw with c1 | ⟨t, c1⟩
  · have hw276 := hw.1 c1
    subst c1
    refine lv_ifnullN (tgt := 26) hC.x hC.b dX6_isHouse_4 (by decide) ?_
    refine lv_iconst (v := 0) hC.x hC.b dX6_isHouse_26 (by decide) ?_
    exact rt_z (u := ()) hC (Or.inl rfl) hw276 hP hD hS dX6_isHouse_27
  · have hw277 := hw.2 ⟨t, c1⟩
    subst c1
    refine lv_ifnull hC.x hC.b dX6_isHouse_4 ?_
    refine lv_iload_n hC.x hC.b dX6_isHouse_7 rfl (lv_at hl 1 rfl) ?_
    refine lv_if_lt (tgt := 26) hC.x hC.b dX6_isHouse_8 (by decide) (fun c2 => ?_) (fun c2 => ?_)
    · have hw278 := hw277.1 c2
      refine lv_iconst (v := 0) hC.x hC.b dX6_isHouse_26 (by decide) ?_
      exact rt_z (u := ()) hC (Or.inl rfl) hw278 hP hD hS dX6_isHouse_27
    · have hw279 := hw277.2 c2
      refine lv_iload_n hC.x hC.b dX6_isHouse_11 rfl (lv_at hl 1 rfl) ?_
      refine lv_aload_n hC.x hC.b dX6_isHouse_12 rfl (lv_at hl 0 rfl) ?_
      refine gM_3 hC hP dX6_isHouse_13 ?_
      refine gT_0 hC hP dX6_isHouse_16 ?_
      refine lv_icmp_ge (tgt := 26) hC.x hC.b dX6_isHouse_19 (by decide) (fun c3 => ?_) (fun c3 => ?_)
      · have hw280 := hw279.1 c3
        refine lv_iconst (v := 0) hC.x hC.b dX6_isHouse_26 (by decide) ?_
        exact rt_z (u := ()) hC (Or.inl rfl) hw280 hP hD hS dX6_isHouse_27
      · have hw281 := hw279.2 c3
        refine lv_iconst (v := 1) hC.x hC.b dX6_isHouse_22 (by decide) ?_
        refine lv_goto (tgt := 27) hC.x hC.b dX6_isHouse_23 (by decide) ?_
        exact rt_z (u := ()) hC (Or.inr rfl) hw281 hP hD hS dX6_isHouse_27
theorem v6_6_isHouse : GoodIn lw_all (wsV RX6 351 RX6 yX6_isHouse (ws_ yX6_isHouse cX6_isHouse 2 (some .boolean))) := lw_V q1835 q1837 qs85 q126 q1838
theorem h6_house : yX6_house.cls = RX6 ∧ yX6_house.cls ≠ "java/lang/invoke/MethodHandle" ∧ yX6_house.cls ≠ "java/lang/invoke/VarHandle" ∧ (parseMethodDescriptor yX6_house.desc).map (fun d => d.parameters.length) = some 1 := by decide +kernel
def w6_house (post : Int32 → MS → Prop) (tw : Option (Nat → Nat)) (S : MS) (x1 : Int32) : Prop :=
  (∀ S1, S1 = uI S 0 0 0 → (w6_isHouse (fun r2 => ((¬ r2 = 0 → (w6_works (fun S5 => (w6_whoIn (fun r6 => (w6_good (fun r7 S8 => (post r7 S8)) S5 r6)) tw S5 x1)) S1)) ∧ (r2 = 0 → (w6_refused (fun r9 S10 => (post r9 S10)) S1 1)))) tw S1 x1))
set_option maxHeartbeats 4000000 in
theorem m6_house (l : Launch) {post : Int32 → MS → Prop} {S : MS} {x1 : Int32} (hw : w6_house post tw S x1) : Met l yX6_house (ws_ yX6_house cX6_house 2 (some .int)) ({ frames := 1, cells := 0, slots := 0, locals := 22 } : Room) (va_Pc [.ref (ad 0), .int x1] (PcG D gCl nwG Z Hb A (wM D ad none rdv tw S))) (va_Qi post (BW D gCl A (fun u => (wM D ad none rdv tw u))) A) 0 0 A := by
  refine Met.ofG (by decide) (Nat.le_of_ble_eq_true rfl) ?_
  intro p e s m below meth c ls hC _ hP hD hS hl
  have hC : CX RX6 cX6_house 2 (some .int) D gCl nwG Z Hb A p s m _ meth c := hC
  have hl : lv_has ls 2 [(0, .ref (ad 0)), (1, .int x1)] := hl
  unfold w6_house at hw
  refine lv_aload_n hC.x hC.b dX6_house_0 rfl (lv_at hl 0 rfl) ?_
  refine lv_iconst (v := 0) hC.x hC.b dX6_house_1 (by decide) ?_
  refine pM_0 hC hP hD hS (v := 0) dX6_house_2 (fun S1 eS1 H locs hP hD hS => ?_)
  have hw282 := hw S1 eS1
  refine lv_aload_n hC.x hC.b dX6_house_5 rfl (lv_at hl 0 rfl) ?_
  refine lv_iload_n hC.x hC.b dX6_house_6 rfl (lv_at hl 1 rfl) ?_
  refine go_i (run_V (rest := []) hC (m6_isHouse l hw282) v6_6_isHouse h6_isHouse 0 5 gCl_X6 rfl rfl ⟨rfl, rfl, Nat.le_of_ble_eq_true rfl, Nat.le_of_ble_eq_true rfl⟩ ⟨Nat.le_refl _, Nat.le_refl _⟩ hP hD hS hl.1 (Nat.le_of_ble_eq_true rfl) dX6_house_7 rfl) hS (fun r2 u H locs hw283 hP hD hS => ?_)
  refine lv_if_ne (tgt := 19) hC.x hC.b dX6_house_10 (by decide) (fun c3 => ?_) (fun c3 => ?_)
  · have hw284 := hw283.1 c3
    refine lv_aload_n hC.x hC.b dX6_house_19 rfl (lv_at hl 0 rfl) ?_
    refine go_v (run_V (rest := []) hC (m6_works l hw284) v6_6_works h6_works 0 5 gCl_X6 rfl rfl ⟨rfl, rfl, Nat.le_of_ble_eq_true rfl, Nat.le_of_ble_eq_true rfl⟩ ⟨Nat.le_refl _, Nat.le_refl _⟩ hP hD hS hl.1 (Nat.le_of_ble_eq_true rfl) dX6_house_20 rfl) hS (fun S5 H locs hw285 hP hD hS => ?_)
    refine lv_aload_n hC.x hC.b dX6_house_23 rfl (lv_at hl 0 rfl) ?_
    refine lv_aload_n hC.x hC.b dX6_house_24 rfl (lv_at hl 0 rfl) ?_
    refine lv_iload_n hC.x hC.b dX6_house_25 rfl (lv_at hl 1 rfl) ?_
    refine go_i (run_V (rest := [.ref (ad 0)]) hC (m6_whoIn l hw285) v6_6_whoIn h6_whoIn 0 5 gCl_X6 rfl rfl ⟨rfl, rfl, Nat.le_of_ble_eq_true rfl, Nat.le_of_ble_eq_true rfl⟩ ⟨Nat.le_refl _, Nat.le_refl _⟩ hP hD hS hl.1 (Nat.le_of_ble_eq_true rfl) dX6_house_26 rfl) hS (fun r6 u H locs hw286 hP hD hS => ?_)
    refine go_i (run_V (rest := []) hC (m6_good l hw286) v6_6_good h6_good 0 5 gCl_X6 rfl rfl ⟨rfl, rfl, Nat.le_of_ble_eq_true rfl, Nat.le_of_ble_eq_true rfl⟩ ⟨Nat.le_refl _, Nat.le_refl _⟩ hP hD hS hl.1 (Nat.le_of_ble_eq_true rfl) dX6_house_29 rfl) hS (fun r7 S8 H locs hw287 hP hD hS => ?_)
    exact rt_i hC hw287 hP hD hS dX6_house_32
  · have hw288 := hw283.2 c3
    refine lv_aload_n hC.x hC.b dX6_house_13 rfl (lv_at hl 0 rfl) ?_
    refine lv_iconst (v := 1) hC.x hC.b dX6_house_14 (by decide) ?_
    refine go_i (run_V (rest := []) hC (m6_refused l hw288) v6_6_refused h6_refused 0 5 gCl_X6 rfl rfl ⟨rfl, rfl, Nat.le_of_ble_eq_true rfl, Nat.le_of_ble_eq_true rfl⟩ ⟨Nat.le_refl _, Nat.le_refl _⟩ hP hD hS hl.1 (Nat.le_of_ble_eq_true rfl) dX6_house_15 rfl) hS (fun r9 S10 H locs hw289 hP hD hS => ?_)
    exact rt_i hC hw289 hP hD hS dX6_house_18
theorem h6_refusesNight : yX6_refusesNight.cls = RX6 ∧ yX6_refusesNight.cls ≠ "java/lang/invoke/MethodHandle" ∧ yX6_refusesNight.cls ≠ "java/lang/invoke/VarHandle" ∧ (parseMethodDescriptor yX6_refusesNight.desc).map (fun d => d.parameters.length) = some 2 := by decide +kernel
def w6_refusesNight (post : Int32 → Prop) (S : MS) (x1 : Int32) (x2 : Int32) : Prop :=
  ((¬ x1 = 0 → (w6_in (fun r2 => ((r2 = 0 → (post 2)) ∧ (¬ r2 = 0 → (post 0)))) x2 0 99)) ∧ (x1 = 0 → (post 1)))
set_option maxHeartbeats 4000000 in
theorem m6_refusesNight (l : Launch) {post : Int32 → Prop} {S : MS} {x1 : Int32} {x2 : Int32} (hw : w6_refusesNight post S x1 x2) : Met l yX6_refusesNight (ws_ yX6_refusesNight cX6_refusesNight 3 (some .int)) ({ frames := 1, cells := 0, slots := 0, locals := 22 } : Room) (va_Pc [.ref (ad 0), .int x1, .int x2] (PcG D gCl nwG Z Hb A (wM D ad rd rdv tw S))) (va_Qi (fun r (_ : Unit) => post r) (BW D gCl A (fun _ => (wM D ad rd rdv tw S))) A) 0 0 A := by
  refine Met.ofG (by decide) (Nat.le_of_ble_eq_true rfl) ?_
  intro p e s m below meth c ls hC _ hP hD hS hl
  have hC : CX RX6 cX6_refusesNight 3 (some .int) D gCl nwG Z Hb A p s m _ meth c := hC
  have hl : lv_has ls 3 [(0, .ref (ad 0)), (1, .int x1), (2, .int x2)] := hl
  unfold w6_refusesNight at hw
  refine lv_iload_n hC.x hC.b dX6_refusesNight_0 rfl (lv_at hl 1 rfl) ?_
  refine lv_if_ne (tgt := 8) hC.x hC.b dX6_refusesNight_1 (by decide) (fun c1 => ?_) (fun c1 => ?_)
  · have hw290 := hw.1 c1
    refine lv_iload_n hC.x hC.b dX6_refusesNight_8 rfl (lv_at hl 2 rfl) ?_
    refine lv_iconst (v := 0) hC.x hC.b dX6_refusesNight_9 (by decide) ?_
    refine lv_bipush (v := 99) hC.x hC.b dX6_refusesNight_10 (by decide) ?_
    refine go_i (run_S (rest := []) hC (m6_in l hw290) v6_6_in h6_in ⟨rfl, rfl, Nat.le_of_ble_eq_true rfl, Nat.le_of_ble_eq_true rfl⟩ ⟨Nat.le_refl _, Nat.le_refl _⟩ hP hD hS hl.1 (Nat.le_of_ble_eq_true rfl) dX6_refusesNight_12 rfl) hS (fun r2 u H locs hw291 hP hD hS => ?_)
    refine lv_if_eq (tgt := 22) hC.x hC.b dX6_refusesNight_15 (by decide) (fun c3 => ?_) (fun c3 => ?_)
    · have hw292 := hw291.1 c3
      refine lv_iconst (v := 2) hC.x hC.b dX6_refusesNight_22 (by decide) ?_
      exact rt_i (u := ()) hC hw292 hP hD hS dX6_refusesNight_23
    · have hw293 := hw291.2 c3
      refine lv_iconst (v := 0) hC.x hC.b dX6_refusesNight_18 (by decide) ?_
      refine lv_goto (tgt := 23) hC.x hC.b dX6_refusesNight_19 (by decide) ?_
      exact rt_i (u := ()) hC hw293 hP hD hS dX6_refusesNight_23
  · have hw294 := hw.2 c1
    refine lv_iconst (v := 1) hC.x hC.b dX6_refusesNight_4 (by decide) ?_
    refine lv_goto (tgt := 23) hC.x hC.b dX6_refusesNight_5 (by decide) ?_
    exact rt_i (u := ()) hC hw294 hP hD hS dX6_refusesNight_23
theorem v6_6_refusesNight : GoodIn lw_all (wsV RX6 354 RX6 yX6_refusesNight (ws_ yX6_refusesNight cX6_refusesNight 3 (some .int))) := lw_V q1843 q1845 qs86 q126 q1846
theorem h6_comesOut : yX6_comesOut.cls = RX6 ∧ yX6_comesOut.cls ≠ "java/lang/invoke/MethodHandle" ∧ yX6_comesOut.cls ≠ "java/lang/invoke/VarHandle" ∧ (parseMethodDescriptor yX6_comesOut.desc).map (fun d => d.parameters.length) = some 2 := by decide +kernel
def w6_comesOut (post : Int32 → MS → Prop) (tw : Option (Nat → Nat)) (S : MS) (x1 : Int32) (x2 : Int32) : Prop :=
  (∀ S1, S1 = uI S 0 0 0 → (w6_isDead (fun r2 => (w6_refusesNight (fun r3 => ((r3 ≤ 0 → (w6_works (fun S6 => (w6_aimOf (fun r7 => (w6_outOf (fun r8 => (w6_good (fun r9 S10 => (post r9 S10)) S6 r8)) tw S6 x1 r7 x2)) tw S6 x1)) S1)) ∧ (¬ r3 ≤ 0 → (w6_refused (fun r11 S12 => (post r11 S12)) S1 r3)))) S1 r2 x2)) tw S1 x1))
set_option maxHeartbeats 4000000 in
theorem m6_comesOut (l : Launch) {post : Int32 → MS → Prop} {S : MS} {x1 : Int32} {x2 : Int32} (hw : w6_comesOut post tw S x1 x2) : Met l yX6_comesOut (ws_ yX6_comesOut cX6_comesOut 4 (some .int)) ({ frames := 2, cells := 0, slots := 0, locals := 50 } : Room) (va_Pc [.ref (ad 0), .int x1, .int x2] (PcG D gCl nwG Z Hb A (wM D ad none rdv tw S))) (va_Qi post (BW D gCl A (fun u => (wM D ad none rdv tw u))) A) 0 0 A := by
  refine Met.ofG (by decide) (Nat.le_of_ble_eq_true rfl) ?_
  intro p e s m below meth c ls hC _ hP hD hS hl
  have hC : CX RX6 cX6_comesOut 4 (some .int) D gCl nwG Z Hb A p s m _ meth c := hC
  have hl : lv_has ls 4 [(0, .ref (ad 0)), (1, .int x1), (2, .int x2)] := hl
  unfold w6_comesOut at hw
  refine lv_aload_n hC.x hC.b dX6_comesOut_0 rfl (lv_at hl 0 rfl) ?_
  refine lv_iconst (v := 0) hC.x hC.b dX6_comesOut_1 (by decide) ?_
  refine pM_0 hC hP hD hS (v := 0) dX6_comesOut_2 (fun S1 eS1 H locs hP hD hS => ?_)
  have hw295 := hw S1 eS1
  refine lv_aload_n hC.x hC.b dX6_comesOut_5 rfl (lv_at hl 0 rfl) ?_
  refine lv_aload_n hC.x hC.b dX6_comesOut_6 rfl (lv_at hl 0 rfl) ?_
  refine lv_iload_n hC.x hC.b dX6_comesOut_7 rfl (lv_at hl 1 rfl) ?_
  refine go_i (run_V (rest := [.ref (ad 0)]) hC (m6_isDead l hw295) v6_6_isDead h6_isDead 0 5 gCl_X6 rfl rfl ⟨rfl, rfl, Nat.le_of_ble_eq_true rfl, Nat.le_of_ble_eq_true rfl⟩ ⟨Nat.le_refl _, Nat.le_refl _⟩ hP hD hS hl.1 (Nat.le_of_ble_eq_true rfl) dX6_comesOut_8 rfl) hS (fun r2 u H locs hw296 hP hD hS => ?_)
  refine lv_iload_n hC.x hC.b dX6_comesOut_11 rfl (lv_at hl 2 rfl) ?_
  refine go_i (run_V (rest := []) hC (m6_refusesNight l hw296) v6_6_refusesNight h6_refusesNight 0 5 gCl_X6 rfl rfl ⟨rfl, rfl, Nat.le_of_ble_eq_true rfl, Nat.le_of_ble_eq_true rfl⟩ ⟨Nat.le_refl _, Nat.le_refl _⟩ hP hD hS hl.1 (Nat.le_of_ble_eq_true rfl) dX6_comesOut_12 rfl) hS (fun r3 u H locs hw297 hP hD hS => ?_)
  refine lv_istore_n (lv' := [(3, .int r3), (0, .ref (ad 0)), (1, .int x1), (2, .int x2)]) hC.x hC.b dX6_comesOut_15 rfl hl (by decide) rfl (fun ls hl => ?_)
  refine lv_iload_n hC.x hC.b dX6_comesOut_16 rfl (lv_at hl 0 rfl) ?_
  refine lv_if_le (tgt := 26) hC.x hC.b dX6_comesOut_17 (by decide) (fun c4 => ?_) (fun c4 => ?_)
  · have hw298 := hw297.1 c4
    refine lv_aload_n hC.x hC.b dX6_comesOut_26 rfl (lv_at hl 1 rfl) ?_
    refine go_v (run_V (rest := []) hC (m6_works l hw298) v6_6_works h6_works 0 5 gCl_X6 rfl rfl ⟨rfl, rfl, Nat.le_of_ble_eq_true rfl, Nat.le_of_ble_eq_true rfl⟩ ⟨Nat.le_refl _, Nat.le_refl _⟩ hP hD hS hl.1 (Nat.le_of_ble_eq_true rfl) dX6_comesOut_27 rfl) hS (fun S6 H locs hw299 hP hD hS => ?_)
    refine lv_aload_n hC.x hC.b dX6_comesOut_30 rfl (lv_at hl 1 rfl) ?_
    refine lv_aload_n hC.x hC.b dX6_comesOut_31 rfl (lv_at hl 1 rfl) ?_
    refine lv_iload_n hC.x hC.b dX6_comesOut_32 rfl (lv_at hl 2 rfl) ?_
    refine lv_aload_n hC.x hC.b dX6_comesOut_33 rfl (lv_at hl 1 rfl) ?_
    refine lv_iload_n hC.x hC.b dX6_comesOut_34 rfl (lv_at hl 2 rfl) ?_
    refine go_i (run_V (rest := [.int x1, .ref (ad 0), .ref (ad 0)]) hC (m6_aimOf l hw299) v6_6_aimOf h6_aimOf 0 5 gCl_X6 rfl rfl ⟨rfl, rfl, Nat.le_of_ble_eq_true rfl, Nat.le_of_ble_eq_true rfl⟩ ⟨Nat.le_refl _, Nat.le_refl _⟩ hP hD hS hl.1 (Nat.le_of_ble_eq_true rfl) dX6_comesOut_35 rfl) hS (fun r7 u H locs hw300 hP hD hS => ?_)
    refine lv_iload_n hC.x hC.b dX6_comesOut_38 rfl (lv_at hl 3 rfl) ?_
    refine go_i (run_V (rest := [.ref (ad 0)]) hC (m6_outOf l hw300) v6_6_outOf h6_outOf 0 5 gCl_X6 rfl rfl ⟨rfl, rfl, Nat.le_of_ble_eq_true rfl, Nat.le_of_ble_eq_true rfl⟩ ⟨Nat.le_refl _, Nat.le_refl _⟩ hP hD hS hl.1 (Nat.le_of_ble_eq_true rfl) dX6_comesOut_39 rfl) hS (fun r8 u H locs hw301 hP hD hS => ?_)
    refine go_i (run_V (rest := []) hC (m6_good l hw301) v6_6_good h6_good 0 5 gCl_X6 rfl rfl ⟨rfl, rfl, Nat.le_of_ble_eq_true rfl, Nat.le_of_ble_eq_true rfl⟩ ⟨Nat.le_refl _, Nat.le_refl _⟩ hP hD hS hl.1 (Nat.le_of_ble_eq_true rfl) dX6_comesOut_42 rfl) hS (fun r9 S10 H locs hw302 hP hD hS => ?_)
    exact rt_i hC hw302 hP hD hS dX6_comesOut_45
  · have hw303 := hw297.2 c4
    refine lv_aload_n hC.x hC.b dX6_comesOut_20 rfl (lv_at hl 1 rfl) ?_
    refine lv_iload_n hC.x hC.b dX6_comesOut_21 rfl (lv_at hl 0 rfl) ?_
    refine go_i (run_V (rest := []) hC (m6_refused l hw303) v6_6_refused h6_refused 0 5 gCl_X6 rfl rfl ⟨rfl, rfl, Nat.le_of_ble_eq_true rfl, Nat.le_of_ble_eq_true rfl⟩ ⟨Nat.le_refl _, Nat.le_refl _⟩ hP hD hS hl.1 (Nat.le_of_ble_eq_true rfl) dX6_comesOut_22 rfl) hS (fun r11 S12 H locs hw304 hP hD hS => ?_)
    exact rt_i hC hw304 hP hD hS dX6_comesOut_25
theorem h6_outIf : yX6_outIf.cls = RX6 ∧ yX6_outIf.cls ≠ "java/lang/invoke/MethodHandle" ∧ yX6_outIf.cls ≠ "java/lang/invoke/VarHandle" ∧ (parseMethodDescriptor yX6_outIf.desc).map (fun d => d.parameters.length) = some 3 := by decide +kernel
def j6_outIf_27 (post : Int32 → MS → Prop) (tw : Option (Nat → Nat)) (S : MS) (x1 : Int32) (x2 : Int32) (x3 : Int32) (y1 : Int32) : Prop :=
  (w6_refusesNight (fun r4 => ((r4 ≤ 0 → (w6_works (fun S7 => (w6_outOf (fun r8 => (w6_good (fun r9 S10 => (post r9 S10)) S7 r8)) tw S7 x1 x2 x3)) S)) ∧ (¬ r4 ≤ 0 → (w6_refused (fun r11 S12 => (post r11 S12)) S r4)))) S y1 x3)
set_option maxHeartbeats 4000000 in
theorem k6_outIf_27 {post : Int32 → MS → Prop} {S : MS} {x1 : Int32} {x2 : Int32} {x3 : Int32} {y1 : Int32} (hC : CX RX6 cX6_outIf 5 (some .int) D gCl nwG Z Hb A p s m args meth c) (hw : j6_outIf_27 post tw S x1 x2 x3 y1) : ∀ (H : Heap) (locs : List Loc) (ls : Array Slot), va_P D gCl (wM D ad none rdv tw S) H → va_D A (wM D ad none rdv tw S) → va_S A s.heap H locs → lv_has ls 5 [(0, .ref (ad 0)), (1, .int x1), (2, .int x2), (3, .int x3)] → W p l e ({ frames := 2, cells := 0, slots := 0, locals := 50 } : Room) s m args below meth c H locs 0 0 (MQ below (va_Qi post (BW D gCl A (fun u => (wM D ad none rdv tw u))) A) args s 0 0 A) (F0 m 27 ls [.int y1, .ref (ad 0)]) := by
  intro H locs ls hP hD hS hl
  unfold j6_outIf_27 at hw
  refine lv_iload_n hC.x hC.b dX6_outIf_27 rfl (lv_at hl 3 rfl) ?_
  refine go_i (run_V (rest := []) hC (m6_refusesNight l hw) v6_6_refusesNight h6_refusesNight 0 5 gCl_X6 rfl rfl ⟨rfl, rfl, Nat.le_of_ble_eq_true rfl, Nat.le_of_ble_eq_true rfl⟩ ⟨Nat.le_refl _, Nat.le_refl _⟩ hP hD hS hl.1 (Nat.le_of_ble_eq_true rfl) dX6_outIf_28 rfl) hS (fun r4 u H locs hw308 hP hD hS => ?_)
  refine lv_istore (lv' := [(4, .int r4), (0, .ref (ad 0)), (1, .int x1), (2, .int x2), (3, .int x3)]) hC.x hC.b dX6_outIf_31 hl (by decide) rfl (fun ls hl => ?_)
  refine lv_iload hC.x hC.b dX6_outIf_33 (lv_at hl 0 rfl) ?_
  refine lv_if_le (tgt := 45) hC.x hC.b dX6_outIf_35 (by decide) (fun c5 => ?_) (fun c5 => ?_)
  · have hw309 := hw308.1 c5
    refine lv_aload_n hC.x hC.b dX6_outIf_45 rfl (lv_at hl 1 rfl) ?_
    refine go_v (run_V (rest := []) hC (m6_works l hw309) v6_6_works h6_works 0 5 gCl_X6 rfl rfl ⟨rfl, rfl, Nat.le_of_ble_eq_true rfl, Nat.le_of_ble_eq_true rfl⟩ ⟨Nat.le_refl _, Nat.le_refl _⟩ hP hD hS hl.1 (Nat.le_of_ble_eq_true rfl) dX6_outIf_46 rfl) hS (fun S7 H locs hw310 hP hD hS => ?_)
    refine lv_aload_n hC.x hC.b dX6_outIf_49 rfl (lv_at hl 1 rfl) ?_
    refine lv_aload_n hC.x hC.b dX6_outIf_50 rfl (lv_at hl 1 rfl) ?_
    refine lv_iload_n hC.x hC.b dX6_outIf_51 rfl (lv_at hl 2 rfl) ?_
    refine lv_iload_n hC.x hC.b dX6_outIf_52 rfl (lv_at hl 3 rfl) ?_
    refine lv_iload_n hC.x hC.b dX6_outIf_53 rfl (lv_at hl 4 rfl) ?_
    refine go_i (run_V (rest := [.ref (ad 0)]) hC (m6_outOf l hw310) v6_6_outOf h6_outOf 0 5 gCl_X6 rfl rfl ⟨rfl, rfl, Nat.le_of_ble_eq_true rfl, Nat.le_of_ble_eq_true rfl⟩ ⟨Nat.le_refl _, Nat.le_refl _⟩ hP hD hS hl.1 (Nat.le_of_ble_eq_true rfl) dX6_outIf_54 rfl) hS (fun r8 u H locs hw311 hP hD hS => ?_)
    refine go_i (run_V (rest := []) hC (m6_good l hw311) v6_6_good h6_good 0 5 gCl_X6 rfl rfl ⟨rfl, rfl, Nat.le_of_ble_eq_true rfl, Nat.le_of_ble_eq_true rfl⟩ ⟨Nat.le_refl _, Nat.le_refl _⟩ hP hD hS hl.1 (Nat.le_of_ble_eq_true rfl) dX6_outIf_57 rfl) hS (fun r9 S10 H locs hw312 hP hD hS => ?_)
    exact rt_i hC hw312 hP hD hS dX6_outIf_60
  · have hw313 := hw308.2 c5
    refine lv_aload_n hC.x hC.b dX6_outIf_38 rfl (lv_at hl 1 rfl) ?_
    refine lv_iload hC.x hC.b dX6_outIf_39 (lv_at hl 0 rfl) ?_
    refine go_i (run_V (rest := []) hC (m6_refused l hw313) v6_6_refused h6_refused 0 5 gCl_X6 rfl rfl ⟨rfl, rfl, Nat.le_of_ble_eq_true rfl, Nat.le_of_ble_eq_true rfl⟩ ⟨Nat.le_refl _, Nat.le_refl _⟩ hP hD hS hl.1 (Nat.le_of_ble_eq_true rfl) dX6_outIf_41 rfl) hS (fun r11 S12 H locs hw314 hP hD hS => ?_)
    exact rt_i hC hw314 hP hD hS dX6_outIf_44
def j6_outIf_26 (post : Int32 → MS → Prop) (tw : Option (Nat → Nat)) (S : MS) (x1 : Int32) (x2 : Int32) (x3 : Int32) : Prop :=
  (j6_outIf_27 post tw S x1 x2 x3 0)
set_option maxHeartbeats 4000000 in
theorem k6_outIf_26 {post : Int32 → MS → Prop} {S : MS} {x1 : Int32} {x2 : Int32} {x3 : Int32} (hC : CX RX6 cX6_outIf 5 (some .int) D gCl nwG Z Hb A p s m args meth c) (hw : j6_outIf_26 post tw S x1 x2 x3) : ∀ (H : Heap) (locs : List Loc) (ls : Array Slot), va_P D gCl (wM D ad none rdv tw S) H → va_D A (wM D ad none rdv tw S) → va_S A s.heap H locs → lv_has ls 5 [(0, .ref (ad 0)), (1, .int x1), (2, .int x2), (3, .int x3)] → W p l e ({ frames := 2, cells := 0, slots := 0, locals := 50 } : Room) s m args below meth c H locs 0 0 (MQ below (va_Qi post (BW D gCl A (fun u => (wM D ad none rdv tw u))) A) args s 0 0 A) (F0 m 26 ls [.ref (ad 0)]) := by
  intro H locs ls hP hD hS hl
  unfold j6_outIf_26 at hw
  refine lv_iconst (v := 0) hC.x hC.b dX6_outIf_26 (by decide) ?_
  exact k6_outIf_27 hC hw H locs ls hP hD hS (lv_sub hl [0, 1, 2, 3] rfl)
def w6_outIf (post : Int32 → MS → Prop) (tw : Option (Nat → Nat)) (S : MS) (x1 : Int32) (x2 : Int32) (x3 : Int32) : Prop :=
  (∀ S1, S1 = uI S 0 0 0 → (w6_isDead (fun r2 => ((r2 = 0 → (j6_outIf_26 post tw S1 x1 x2 x3)) ∧ (¬ r2 = 0 → (w6_isHouse (fun r13 => ((r13 = 0 → (j6_outIf_26 post tw S1 x1 x2 x3)) ∧ (¬ r13 = 0 → (j6_outIf_27 post tw S1 x1 x2 x3 1)))) tw S1 x2)))) tw S1 x1))
set_option maxHeartbeats 4000000 in
theorem m6_outIf (l : Launch) {post : Int32 → MS → Prop} {S : MS} {x1 : Int32} {x2 : Int32} {x3 : Int32} (hw : w6_outIf post tw S x1 x2 x3) : Met l yX6_outIf (ws_ yX6_outIf cX6_outIf 5 (some .int)) ({ frames := 2, cells := 0, slots := 0, locals := 50 } : Room) (va_Pc [.ref (ad 0), .int x1, .int x2, .int x3] (PcG D gCl nwG Z Hb A (wM D ad none rdv tw S))) (va_Qi post (BW D gCl A (fun u => (wM D ad none rdv tw u))) A) 0 0 A := by
  refine Met.ofG (by decide) (Nat.le_of_ble_eq_true rfl) ?_
  intro p e s m below meth c ls hC _ hP hD hS hl
  have hC : CX RX6 cX6_outIf 5 (some .int) D gCl nwG Z Hb A p s m _ meth c := hC
  have hl : lv_has ls 5 [(0, .ref (ad 0)), (1, .int x1), (2, .int x2), (3, .int x3)] := hl
  unfold w6_outIf at hw
  refine lv_aload_n hC.x hC.b dX6_outIf_0 rfl (lv_at hl 0 rfl) ?_
  refine lv_iconst (v := 0) hC.x hC.b dX6_outIf_1 (by decide) ?_
  refine pM_0 hC hP hD hS (v := 0) dX6_outIf_2 (fun S1 eS1 H locs hP hD hS => ?_)
  have hw305 := hw S1 eS1
  refine lv_aload_n hC.x hC.b dX6_outIf_5 rfl (lv_at hl 0 rfl) ?_
  refine lv_aload_n hC.x hC.b dX6_outIf_6 rfl (lv_at hl 0 rfl) ?_
  refine lv_iload_n hC.x hC.b dX6_outIf_7 rfl (lv_at hl 1 rfl) ?_
  refine go_i (run_V (rest := [.ref (ad 0)]) hC (m6_isDead l hw305) v6_6_isDead h6_isDead 0 5 gCl_X6 rfl rfl ⟨rfl, rfl, Nat.le_of_ble_eq_true rfl, Nat.le_of_ble_eq_true rfl⟩ ⟨Nat.le_refl _, Nat.le_refl _⟩ hP hD hS hl.1 (Nat.le_of_ble_eq_true rfl) dX6_outIf_8 rfl) hS (fun r2 u H locs hw306 hP hD hS => ?_)
  refine lv_if_eq (tgt := 26) hC.x hC.b dX6_outIf_11 (by decide) (fun c3 => ?_) (fun c3 => ?_)
  · have hw307 := hw306.1 c3
    exact k6_outIf_26 hC hw307 H locs ls hP hD hS (lv_sub hl [0, 1, 2, 3] rfl)
  · have hw315 := hw306.2 c3
    refine lv_aload_n hC.x hC.b dX6_outIf_14 rfl (lv_at hl 0 rfl) ?_
    refine lv_iload_n hC.x hC.b dX6_outIf_15 rfl (lv_at hl 2 rfl) ?_
    refine go_i (run_V (rest := [.ref (ad 0)]) hC (m6_isHouse l hw315) v6_6_isHouse h6_isHouse 0 5 gCl_X6 rfl rfl ⟨rfl, rfl, Nat.le_of_ble_eq_true rfl, Nat.le_of_ble_eq_true rfl⟩ ⟨Nat.le_refl _, Nat.le_refl _⟩ hP hD hS hl.1 (Nat.le_of_ble_eq_true rfl) dX6_outIf_16 rfl) hS (fun r13 u H locs hw316 hP hD hS => ?_)
    refine lv_if_eq (tgt := 26) hC.x hC.b dX6_outIf_19 (by decide) (fun c14 => ?_) (fun c14 => ?_)
    · have hw317 := hw316.1 c14
      exact k6_outIf_26 hC hw317 H locs ls hP hD hS (lv_sub hl [0, 1, 2, 3] rfl)
    · have hw318 := hw316.2 c14
      refine lv_iconst (v := 1) hC.x hC.b dX6_outIf_22 (by decide) ?_
      refine lv_goto (tgt := 27) hC.x hC.b dX6_outIf_23 (by decide) ?_
      exact k6_outIf_27 hC hw318 H locs ls hP hD hS (lv_sub hl [0, 1, 2, 3] rfl)
theorem h6_hears : yX6_hears.cls = RX6 ∧ yX6_hears.cls ≠ "java/lang/invoke/MethodHandle" ∧ yX6_hears.cls ≠ "java/lang/invoke/VarHandle" ∧ (parseMethodDescriptor yX6_hears.desc).map (fun d => d.parameters.length) = some 2 := by decide +kernel
def w6_hears (post : Int32 → MS → Prop) (tw : Option (Nat → Nat)) (S : MS) (x1 : Int32) (x2 : Int32) : Prop :=
  (∀ S1, S1 = uI S 0 0 0 → (w6_isDead (fun r2 => (w6_refusesNight (fun r3 => ((r3 ≤ 0 → (w6_works (fun S6 => (w6_whoHears (fun r7 => (w6_good (fun r8 S9 => (post r8 S9)) S6 r7)) tw S6 x1 x2)) S1)) ∧ (¬ r3 ≤ 0 → (w6_refused (fun r10 S11 => (post r10 S11)) S1 r3)))) S1 r2 x2)) tw S1 x1))
set_option maxHeartbeats 4000000 in
theorem m6_hears (l : Launch) {post : Int32 → MS → Prop} {S : MS} {x1 : Int32} {x2 : Int32} (hw : w6_hears post tw S x1 x2) : Met l yX6_hears (ws_ yX6_hears cX6_hears 4 (some .int)) ({ frames := 3, cells := 0, slots := 0, locals := 72 } : Room) (va_Pc [.ref (ad 0), .int x1, .int x2] (PcG D gCl nwG Z Hb A (wM D ad none rdv tw S))) (va_Qi post (BW D gCl A (fun u => (wM D ad none rdv tw u))) A) 0 0 A := by
  refine Met.ofG (by decide) (Nat.le_of_ble_eq_true rfl) ?_
  intro p e s m below meth c ls hC _ hP hD hS hl
  have hC : CX RX6 cX6_hears 4 (some .int) D gCl nwG Z Hb A p s m _ meth c := hC
  have hl : lv_has ls 4 [(0, .ref (ad 0)), (1, .int x1), (2, .int x2)] := hl
  unfold w6_hears at hw
  refine lv_aload_n hC.x hC.b dX6_hears_0 rfl (lv_at hl 0 rfl) ?_
  refine lv_iconst (v := 0) hC.x hC.b dX6_hears_1 (by decide) ?_
  refine pM_0 hC hP hD hS (v := 0) dX6_hears_2 (fun S1 eS1 H locs hP hD hS => ?_)
  have hw319 := hw S1 eS1
  refine lv_aload_n hC.x hC.b dX6_hears_5 rfl (lv_at hl 0 rfl) ?_
  refine lv_aload_n hC.x hC.b dX6_hears_6 rfl (lv_at hl 0 rfl) ?_
  refine lv_iload_n hC.x hC.b dX6_hears_7 rfl (lv_at hl 1 rfl) ?_
  refine go_i (run_V (rest := [.ref (ad 0)]) hC (m6_isDead l hw319) v6_6_isDead h6_isDead 0 5 gCl_X6 rfl rfl ⟨rfl, rfl, Nat.le_of_ble_eq_true rfl, Nat.le_of_ble_eq_true rfl⟩ ⟨Nat.le_refl _, Nat.le_refl _⟩ hP hD hS hl.1 (Nat.le_of_ble_eq_true rfl) dX6_hears_8 rfl) hS (fun r2 u H locs hw320 hP hD hS => ?_)
  refine lv_iload_n hC.x hC.b dX6_hears_11 rfl (lv_at hl 2 rfl) ?_
  refine go_i (run_V (rest := []) hC (m6_refusesNight l hw320) v6_6_refusesNight h6_refusesNight 0 5 gCl_X6 rfl rfl ⟨rfl, rfl, Nat.le_of_ble_eq_true rfl, Nat.le_of_ble_eq_true rfl⟩ ⟨Nat.le_refl _, Nat.le_refl _⟩ hP hD hS hl.1 (Nat.le_of_ble_eq_true rfl) dX6_hears_12 rfl) hS (fun r3 u H locs hw321 hP hD hS => ?_)
  refine lv_istore_n (lv' := [(3, .int r3), (0, .ref (ad 0)), (1, .int x1), (2, .int x2)]) hC.x hC.b dX6_hears_15 rfl hl (by decide) rfl (fun ls hl => ?_)
  refine lv_iload_n hC.x hC.b dX6_hears_16 rfl (lv_at hl 0 rfl) ?_
  refine lv_if_le (tgt := 26) hC.x hC.b dX6_hears_17 (by decide) (fun c4 => ?_) (fun c4 => ?_)
  · have hw322 := hw321.1 c4
    refine lv_aload_n hC.x hC.b dX6_hears_26 rfl (lv_at hl 1 rfl) ?_
    refine go_v (run_V (rest := []) hC (m6_works l hw322) v6_6_works h6_works 0 5 gCl_X6 rfl rfl ⟨rfl, rfl, Nat.le_of_ble_eq_true rfl, Nat.le_of_ble_eq_true rfl⟩ ⟨Nat.le_refl _, Nat.le_refl _⟩ hP hD hS hl.1 (Nat.le_of_ble_eq_true rfl) dX6_hears_27 rfl) hS (fun S6 H locs hw323 hP hD hS => ?_)
    refine lv_aload_n hC.x hC.b dX6_hears_30 rfl (lv_at hl 1 rfl) ?_
    refine lv_aload_n hC.x hC.b dX6_hears_31 rfl (lv_at hl 1 rfl) ?_
    refine lv_iload_n hC.x hC.b dX6_hears_32 rfl (lv_at hl 2 rfl) ?_
    refine lv_iload_n hC.x hC.b dX6_hears_33 rfl (lv_at hl 3 rfl) ?_
    refine go_i (run_V (rest := [.ref (ad 0)]) hC (m6_whoHears l hw323) v6_6_whoHears h6_whoHears 0 5 gCl_X6 rfl rfl ⟨rfl, rfl, Nat.le_of_ble_eq_true rfl, Nat.le_of_ble_eq_true rfl⟩ ⟨Nat.le_refl _, Nat.le_refl _⟩ hP hD hS hl.1 (Nat.le_of_ble_eq_true rfl) dX6_hears_34 rfl) hS (fun r7 u H locs hw324 hP hD hS => ?_)
    refine go_i (run_V (rest := []) hC (m6_good l hw324) v6_6_good h6_good 0 5 gCl_X6 rfl rfl ⟨rfl, rfl, Nat.le_of_ble_eq_true rfl, Nat.le_of_ble_eq_true rfl⟩ ⟨Nat.le_refl _, Nat.le_refl _⟩ hP hD hS hl.1 (Nat.le_of_ble_eq_true rfl) dX6_hears_37 rfl) hS (fun r8 S9 H locs hw325 hP hD hS => ?_)
    exact rt_i hC hw325 hP hD hS dX6_hears_40
  · have hw326 := hw321.2 c4
    refine lv_aload_n hC.x hC.b dX6_hears_20 rfl (lv_at hl 1 rfl) ?_
    refine lv_iload_n hC.x hC.b dX6_hears_21 rfl (lv_at hl 0 rfl) ?_
    refine go_i (run_V (rest := []) hC (m6_refused l hw326) v6_6_refused h6_refused 0 5 gCl_X6 rfl rfl ⟨rfl, rfl, Nat.le_of_ble_eq_true rfl, Nat.le_of_ble_eq_true rfl⟩ ⟨Nat.le_refl _, Nat.le_refl _⟩ hP hD hS hl.1 (Nat.le_of_ble_eq_true rfl) dX6_hears_22 rfl) hS (fun r10 S11 H locs hw327 hP hD hS => ?_)
    exact rt_i hC hw327 hP hD hS dX6_hears_25
theorem h6_off : yX6_off.cls = RX6 ∧ yX6_off.cls ≠ "java/lang/invoke/MethodHandle" ∧ yX6_off.cls ≠ "java/lang/invoke/VarHandle" ∧ (parseMethodDescriptor yX6_off.desc).map (fun d => d.parameters.length) = some 2 := by decide +kernel
def w6_off (post : Int32 → MS → Prop) (tw : Option (Nat → Nat)) (S : MS) (x1 : Int32) (x2 : Int32) : Prop :=
  (∀ S1, S1 = uI S 0 0 0 → (w6_isDead (fun r2 => (w6_refusesNight (fun r3 => ((r3 ≤ 0 → (w6_works (fun S6 => (w6_whoHears (fun r7 => (vp_in r7 19 ∧ (w6_aimOf (fun r8 => (w6_outOf (fun r9 => (w6_around (fun r10 => (w6_good (fun r11 S12 => (post r11 S12)) S6 r10)) tw S6 (((S6.1 3 r7.toNatClampNeg) - r9).toInt64))) tw S6 x1 r8 x2)) tw S6 x1))) tw S6 x1 x2)) S1)) ∧ (¬ r3 ≤ 0 → (w6_refused (fun r13 S14 => (post r13 S14)) S1 r3)))) S1 r2 x2)) tw S1 x1))
set_option maxHeartbeats 4000000 in
theorem m6_off (l : Launch) {post : Int32 → MS → Prop} {S : MS} {x1 : Int32} {x2 : Int32} (hw : w6_off post tw S x1 x2) : Met l yX6_off (ws_ yX6_off cX6_off 4 (some .int)) ({ frames := 3, cells := 0, slots := 0, locals := 72 } : Room) (va_Pc [.ref (ad 0), .int x1, .int x2] (PcG D gCl nwG Z Hb A (wM D ad none rdv tw S))) (va_Qi post (BW D gCl A (fun u => (wM D ad none rdv tw u))) A) 0 0 A := by
  refine Met.ofG (by decide) (Nat.le_of_ble_eq_true rfl) ?_
  intro p e s m below meth c ls hC _ hP hD hS hl
  have hC : CX RX6 cX6_off 4 (some .int) D gCl nwG Z Hb A p s m _ meth c := hC
  have hl : lv_has ls 4 [(0, .ref (ad 0)), (1, .int x1), (2, .int x2)] := hl
  unfold w6_off at hw
  refine lv_aload_n hC.x hC.b dX6_off_0 rfl (lv_at hl 0 rfl) ?_
  refine lv_iconst (v := 0) hC.x hC.b dX6_off_1 (by decide) ?_
  refine pM_0 hC hP hD hS (v := 0) dX6_off_2 (fun S1 eS1 H locs hP hD hS => ?_)
  have hw328 := hw S1 eS1
  refine lv_aload_n hC.x hC.b dX6_off_5 rfl (lv_at hl 0 rfl) ?_
  refine lv_aload_n hC.x hC.b dX6_off_6 rfl (lv_at hl 0 rfl) ?_
  refine lv_iload_n hC.x hC.b dX6_off_7 rfl (lv_at hl 1 rfl) ?_
  refine go_i (run_V (rest := [.ref (ad 0)]) hC (m6_isDead l hw328) v6_6_isDead h6_isDead 0 5 gCl_X6 rfl rfl ⟨rfl, rfl, Nat.le_of_ble_eq_true rfl, Nat.le_of_ble_eq_true rfl⟩ ⟨Nat.le_refl _, Nat.le_refl _⟩ hP hD hS hl.1 (Nat.le_of_ble_eq_true rfl) dX6_off_8 rfl) hS (fun r2 u H locs hw329 hP hD hS => ?_)
  refine lv_iload_n hC.x hC.b dX6_off_11 rfl (lv_at hl 2 rfl) ?_
  refine go_i (run_V (rest := []) hC (m6_refusesNight l hw329) v6_6_refusesNight h6_refusesNight 0 5 gCl_X6 rfl rfl ⟨rfl, rfl, Nat.le_of_ble_eq_true rfl, Nat.le_of_ble_eq_true rfl⟩ ⟨Nat.le_refl _, Nat.le_refl _⟩ hP hD hS hl.1 (Nat.le_of_ble_eq_true rfl) dX6_off_12 rfl) hS (fun r3 u H locs hw330 hP hD hS => ?_)
  refine lv_istore_n (lv' := [(3, .int r3), (0, .ref (ad 0)), (1, .int x1), (2, .int x2)]) hC.x hC.b dX6_off_15 rfl hl (by decide) rfl (fun ls hl => ?_)
  refine lv_iload_n hC.x hC.b dX6_off_16 rfl (lv_at hl 0 rfl) ?_
  refine lv_if_le (tgt := 26) hC.x hC.b dX6_off_17 (by decide) (fun c4 => ?_) (fun c4 => ?_)
  · have hw331 := hw330.1 c4
    refine lv_aload_n hC.x hC.b dX6_off_26 rfl (lv_at hl 1 rfl) ?_
    refine go_v (run_V (rest := []) hC (m6_works l hw331) v6_6_works h6_works 0 5 gCl_X6 rfl rfl ⟨rfl, rfl, Nat.le_of_ble_eq_true rfl, Nat.le_of_ble_eq_true rfl⟩ ⟨Nat.le_refl _, Nat.le_refl _⟩ hP hD hS hl.1 (Nat.le_of_ble_eq_true rfl) dX6_off_27 rfl) hS (fun S6 H locs hw332 hP hD hS => ?_)
    refine lv_aload_n hC.x hC.b dX6_off_30 rfl (lv_at hl 1 rfl) ?_
    refine lv_aload_n hC.x hC.b dX6_off_31 rfl (lv_at hl 1 rfl) ?_
    refine lv_aload_n hC.x hC.b dX6_off_32 rfl (lv_at hl 1 rfl) ?_
    refine gM_16 hC hP dX6_off_33 ?_
    refine lv_aload_n hC.x hC.b dX6_off_36 rfl (lv_at hl 1 rfl) ?_
    refine lv_iload_n hC.x hC.b dX6_off_37 rfl (lv_at hl 2 rfl) ?_
    refine lv_iload_n hC.x hC.b dX6_off_38 rfl (lv_at hl 3 rfl) ?_
    refine go_i (run_V (rest := [.ref (ad 3), .ref (ad 0), .ref (ad 0)]) hC (m6_whoHears l hw332) v6_6_whoHears h6_whoHears 0 5 gCl_X6 rfl rfl ⟨rfl, rfl, Nat.le_of_ble_eq_true rfl, Nat.le_of_ble_eq_true rfl⟩ ⟨Nat.le_refl _, Nat.le_refl _⟩ hP hD hS hl.1 (Nat.le_of_ble_eq_true rfl) dX6_off_39 rfl) hS (fun r7 u H locs hw333 hP hD hS => ?_)
    obtain ⟨hin, hw334⟩ := hw333
    refine lM_3 hC hP hin rfl dX6_off_42 ?_
    refine lv_aload_n hC.x hC.b dX6_off_43 rfl (lv_at hl 1 rfl) ?_
    refine lv_iload_n hC.x hC.b dX6_off_44 rfl (lv_at hl 2 rfl) ?_
    refine lv_aload_n hC.x hC.b dX6_off_45 rfl (lv_at hl 1 rfl) ?_
    refine lv_iload_n hC.x hC.b dX6_off_46 rfl (lv_at hl 2 rfl) ?_
    refine go_i (run_V (rest := [.int x1, .ref (ad 0), .int (S6.1 3 r7.toNatClampNeg), .ref (ad 0), .ref (ad 0)]) hC (m6_aimOf l hw334) v6_6_aimOf h6_aimOf 0 5 gCl_X6 rfl rfl ⟨rfl, rfl, Nat.le_of_ble_eq_true rfl, Nat.le_of_ble_eq_true rfl⟩ ⟨Nat.le_refl _, Nat.le_refl _⟩ hP hD hS hl.1 (Nat.le_of_ble_eq_true rfl) dX6_off_47 rfl) hS (fun r8 u H locs hw335 hP hD hS => ?_)
    refine lv_iload_n hC.x hC.b dX6_off_50 rfl (lv_at hl 3 rfl) ?_
    refine go_i (run_V (rest := [.int (S6.1 3 r7.toNatClampNeg), .ref (ad 0), .ref (ad 0)]) hC (m6_outOf l hw335) v6_6_outOf h6_outOf 0 5 gCl_X6 rfl rfl ⟨rfl, rfl, Nat.le_of_ble_eq_true rfl, Nat.le_of_ble_eq_true rfl⟩ ⟨Nat.le_refl _, Nat.le_refl _⟩ hP hD hS hl.1 (Nat.le_of_ble_eq_true rfl) dX6_off_51 rfl) hS (fun r9 u H locs hw336 hP hD hS => ?_)
    refine lv_isub hC.x hC.b dX6_off_54 ?_
    refine lv_i2l (v := (((S6.1 3 r7.toNatClampNeg) - r9).toInt64)) hC.x hC.b dX6_off_55 rfl ?_
    refine go_i (run_V (rest := [.ref (ad 0)]) hC (m6_around l hw336) v6_6_around h6_around 0 5 gCl_X6 rfl rfl ⟨rfl, rfl, Nat.le_of_ble_eq_true rfl, Nat.le_of_ble_eq_true rfl⟩ ⟨Nat.le_refl _, Nat.le_refl _⟩ hP hD hS hl.1 (Nat.le_of_ble_eq_true rfl) dX6_off_56 rfl) hS (fun r10 u H locs hw337 hP hD hS => ?_)
    refine go_i (run_V (rest := []) hC (m6_good l hw337) v6_6_good h6_good 0 5 gCl_X6 rfl rfl ⟨rfl, rfl, Nat.le_of_ble_eq_true rfl, Nat.le_of_ble_eq_true rfl⟩ ⟨Nat.le_refl _, Nat.le_refl _⟩ hP hD hS hl.1 (Nat.le_of_ble_eq_true rfl) dX6_off_59 rfl) hS (fun r11 S12 H locs hw338 hP hD hS => ?_)
    exact rt_i hC hw338 hP hD hS dX6_off_62
  · have hw339 := hw330.2 c4
    refine lv_aload_n hC.x hC.b dX6_off_20 rfl (lv_at hl 1 rfl) ?_
    refine lv_iload_n hC.x hC.b dX6_off_21 rfl (lv_at hl 0 rfl) ?_
    refine go_i (run_V (rest := []) hC (m6_refused l hw339) v6_6_refused h6_refused 0 5 gCl_X6 rfl rfl ⟨rfl, rfl, Nat.le_of_ble_eq_true rfl, Nat.le_of_ble_eq_true rfl⟩ ⟨Nat.le_refl _, Nat.le_refl _⟩ hP hD hS hl.1 (Nat.le_of_ble_eq_true rfl) dX6_off_22 rfl) hS (fun r13 S14 H locs hw340 hP hD hS => ?_)
    exact rt_i hC hw340 hP hD hS dX6_off_25
theorem h6_isRight : yX6_isRight.cls = RX6 ∧ yX6_isRight.cls ≠ "java/lang/invoke/MethodHandle" ∧ yX6_isRight.cls ≠ "java/lang/invoke/VarHandle" ∧ (parseMethodDescriptor yX6_isRight.desc).map (fun d => d.parameters.length) = some 2 := by decide +kernel
def w6_isRight (post : Int32 → Prop) (tw : Option (Nat → Nat)) (S : MS) (x1 : Int32) (x2 : Int32) : Prop :=
  (w6_whoHears (fun r1 => ((∃ t, tw = some t) ∧ (vp_in x1 6 ∧ ((¬ r1 = (S.1 24 x1.toNatClampNeg) → (post 0)) ∧ (r1 = (S.1 24 x1.toNatClampNeg) → (post 1)))))) tw S x1 x2)
set_option maxHeartbeats 4000000 in
theorem m6_isRight (l : Launch) {post : Int32 → Prop} {S : MS} {x1 : Int32} {x2 : Int32} (hw : w6_isRight post tw S x1 x2) : Met l yX6_isRight (ws_ yX6_isRight cX6_isRight 3 (some .boolean)) ({ frames := 3, cells := 0, slots := 0, locals := 72 } : Room) (va_Pc [.ref (ad 0), .int x1, .int x2] (PcG D gCl nwG Z Hb A (wM D ad none rdv tw S))) (va_Qi (fun r (_ : Unit) => post r) (BW D gCl A (fun _ => (wM D ad none rdv tw S))) A) 0 0 A := by
  refine Met.ofG (by decide) (Nat.le_of_ble_eq_true rfl) ?_
  intro p e s m below meth c ls hC _ hP hD hS hl
  have hC : CX RX6 cX6_isRight 3 (some .boolean) D gCl nwG Z Hb A p s m _ meth c := hC
  have hl : lv_has ls 3 [(0, .ref (ad 0)), (1, .int x1), (2, .int x2)] := hl
  unfold w6_isRight at hw
  refine lv_aload_n hC.x hC.b dX6_isRight_0 rfl (lv_at hl 0 rfl) ?_
  refine lv_iload_n hC.x hC.b dX6_isRight_1 rfl (lv_at hl 1 rfl) ?_
  refine lv_iload_n hC.x hC.b dX6_isRight_2 rfl (lv_at hl 2 rfl) ?_
  refine go_i (run_V (rest := []) hC (m6_whoHears l hw) v6_6_whoHears h6_whoHears 0 5 gCl_X6 rfl rfl ⟨rfl, rfl, Nat.le_of_ble_eq_true rfl, Nat.le_of_ble_eq_true rfl⟩ ⟨Nat.le_refl _, Nat.le_refl _⟩ hP hD hS hl.1 (Nat.le_of_ble_eq_true rfl) dX6_isRight_3 rfl) hS (fun r1 u H locs hw341 hP hD hS => ?_)
  refine lv_aload_n hC.x hC.b dX6_isRight_6 rfl (lv_at hl 0 rfl) ?_
  refine gM_3 hC hP dX6_isRight_7 ?_
  obtain ⟨⟨t, rfl⟩, hw342⟩ := hw341
  refine gT_11 hC hP dX6_isRight_10 ?_
  refine lv_iload_n hC.x hC.b dX6_isRight_13 rfl (lv_at hl 1 rfl) ?_
  obtain ⟨hin, hw343⟩ := hw342
  refine lT_4 hC hP hin rfl dX6_isRight_14 ?_
  refine lv_icmp_ne (tgt := 22) hC.x hC.b dX6_isRight_15 (by decide) (fun c2 => ?_) (fun c2 => ?_)
  · have hw344 := hw343.1 c2
    refine lv_iconst (v := 0) hC.x hC.b dX6_isRight_22 (by decide) ?_
    exact rt_z (u := ()) hC (Or.inl rfl) hw344 hP hD hS dX6_isRight_23
  · have hw345 := hw343.2 c2
    refine lv_iconst (v := 1) hC.x hC.b dX6_isRight_18 (by decide) ?_
    refine lv_goto (tgt := 23) hC.x hC.b dX6_isRight_19 (by decide) ?_
    exact rt_z (u := ()) hC (Or.inr rfl) hw345 hP hD hS dX6_isRight_23
theorem v6_6_isRight : GoodIn lw_all (wsV RX6 336 RX6 yX6_isRight (ws_ yX6_isRight cX6_isRight 3 (some .boolean))) := lw_V q1867 q1869 qs88 q126 q1870
theorem h6_rightOn : yX6_rightOn.cls = RX6 ∧ yX6_rightOn.cls ≠ "java/lang/invoke/MethodHandle" ∧ yX6_rightOn.cls ≠ "java/lang/invoke/VarHandle" ∧ (parseMethodDescriptor yX6_rightOn.desc).map (fun d => d.parameters.length) = some 1 := by decide +kernel
def f6_rightOn_4 (post : Int32 → Prop) (tw : Option (Nat → Nat)) (S : MS) (x1 : Int32) (K4 : (Int32 × Int32) → Prop) (x2 : Int32) (x3 : Int32) : Prop :=
  ((∃ t, tw = some t) ∧ (((S.1 20 3) ≤ x3 → (post x2)) ∧ (¬ (S.1 20 3) ≤ x3 → (w6_isRight (fun r2 => ((r2 = 0 → (K4 ((x2 ||| 0), (x3 + 1)))) ∧ (¬ r2 = 0 → (K4 ((x2 ||| ((1 : Int32) <<< (x3 &&& 31))), (x3 + 1)))))) tw S x3 x1))))
set_option maxHeartbeats 4000000 in
theorem k6_rightOn_4 {post : Int32 → Prop} {S : MS} {x1 : Int32} (hC : CX RX6 cX6_rightOn 4 (some .int) D gCl nwG Z Hb A p s m args meth c) : ∀ z : (Int32 × Int32), lp (fun (K : (Int32 × Int32) → Prop) (z : (Int32 × Int32)) => f6_rightOn_4 post tw S x1 K z.1 z.2) z → ∀ (H : Heap) (locs : List Loc) (ls : Array Slot), va_P D gCl (wM D ad none rdv tw S) H → va_D A (wM D ad none rdv tw S) → va_S A s.heap H locs → lv_has ls 4 [(0, .ref (ad 0)), (1, .int x1), (2, .int z.1), (3, .int z.2)] → W p l e ({ frames := 4, cells := 0, slots := 0, locals := 94 } : Room) s m args below meth c H locs 0 0 (MQ below (va_Qi (fun r (_ : Unit) => post r) (BW D gCl A (fun _ => (wM D ad none rdv tw S))) A) args s 0 0 A) (F0 m 4 ls []) := by
  refine lp_ind ?_
  rintro K4 ⟨x2, x3⟩ hK4 hw H locs ls hP hD hS hl
  have hw : f6_rightOn_4 post tw S x1 K4 x2 x3 := hw
  unfold f6_rightOn_4 at hw
  have hP : va_P D gCl (wM D ad none rdv tw S) H := hP
  have hD : va_D A (wM D ad none rdv tw S) := hD
  have hl : lv_has ls 4 [(0, .ref (ad 0)), (1, .int x1), (2, .int x2), (3, .int x3)] := hl
  refine lv_iload_n hC.x hC.b dX6_rightOn_4 rfl (lv_at hl 3 rfl) ?_
  refine lv_aload_n hC.x hC.b dX6_rightOn_5 rfl (lv_at hl 0 rfl) ?_
  refine gM_3 hC hP dX6_rightOn_6 ?_
  obtain ⟨⟨t, rfl⟩, hw346⟩ := hw
  refine gT_3 hC hP dX6_rightOn_9 ?_
  refine lv_icmp_ge (tgt := 40) hC.x hC.b dX6_rightOn_12 (by decide) (fun c1 => ?_) (fun c1 => ?_)
  · have hw347 := hw346.1 c1
    refine lv_iload_n hC.x hC.b dX6_rightOn_40 rfl (lv_at hl 2 rfl) ?_
    exact rt_i (u := ()) hC hw347 hP hD hS dX6_rightOn_41
  · have hw348 := hw346.2 c1
    refine lv_iload_n hC.x hC.b dX6_rightOn_15 rfl (lv_at hl 2 rfl) ?_
    refine lv_aload_n hC.x hC.b dX6_rightOn_16 rfl (lv_at hl 0 rfl) ?_
    refine lv_iload_n hC.x hC.b dX6_rightOn_17 rfl (lv_at hl 3 rfl) ?_
    refine lv_iload_n hC.x hC.b dX6_rightOn_18 rfl (lv_at hl 1 rfl) ?_
    refine go_i (run_V (rest := [.int x2]) hC (m6_isRight l hw348) v6_6_isRight h6_isRight 0 5 gCl_X6 rfl rfl ⟨rfl, rfl, Nat.le_of_ble_eq_true rfl, Nat.le_of_ble_eq_true rfl⟩ ⟨Nat.le_refl _, Nat.le_refl _⟩ hP hD hS hl.1 (Nat.le_of_ble_eq_true rfl) dX6_rightOn_19 rfl) hS (fun r2 u H locs hw349 hP hD hS => ?_)
    refine lv_if_eq (tgt := 31) hC.x hC.b dX6_rightOn_22 (by decide) (fun c3 => ?_) (fun c3 => ?_)
    · have hw350 := hw349.1 c3
      refine lv_iconst (v := 0) hC.x hC.b dX6_rightOn_31 (by decide) ?_
      refine lv_ior hC.x hC.b dX6_rightOn_32 ?_
      refine lv_istore_n (lv' := [(2, .int (x2 ||| 0)), (0, .ref (ad 0)), (1, .int x1), (3, .int x3)]) hC.x hC.b dX6_rightOn_33 rfl hl (by decide) rfl (fun ls hl => ?_)
      refine lv_iinc (v := (x3 + 1)) (lv' := [(3, .int (x3 + 1)), (2, .int (x2 ||| 0)), (0, .ref (ad 0)), (1, .int x1)]) hC.x hC.b dX6_rightOn_34 hl (k := 3) rfl rfl (by decide) rfl (fun ls hl => ?_)
      refine lv_goto (tgt := 4) hC.x hC.b dX6_rightOn_37 (by decide) ?_
      exact hK4 ((x2 ||| 0), (x3 + 1)) hw350 H locs ls hP hD hS (lv_sub hl [2, 3, 1, 0] rfl)
    · have hw351 := hw349.2 c3
      refine lv_iconst (v := 1) hC.x hC.b dX6_rightOn_25 (by decide) ?_
      refine lv_iload_n hC.x hC.b dX6_rightOn_26 rfl (lv_at hl 3 rfl) ?_
      refine lv_ishl hC.x hC.b dX6_rightOn_27 ?_
      refine lv_goto (tgt := 32) hC.x hC.b dX6_rightOn_28 (by decide) ?_
      refine lv_ior hC.x hC.b dX6_rightOn_32 ?_
      refine lv_istore_n (lv' := [(2, .int (x2 ||| ((1 : Int32) <<< (x3 &&& 31)))), (0, .ref (ad 0)), (1, .int x1), (3, .int x3)]) hC.x hC.b dX6_rightOn_33 rfl hl (by decide) rfl (fun ls hl => ?_)
      refine lv_iinc (v := (x3 + 1)) (lv' := [(3, .int (x3 + 1)), (2, .int (x2 ||| ((1 : Int32) <<< (x3 &&& 31)))), (0, .ref (ad 0)), (1, .int x1)]) hC.x hC.b dX6_rightOn_34 hl (k := 3) rfl rfl (by decide) rfl (fun ls hl => ?_)
      refine lv_goto (tgt := 4) hC.x hC.b dX6_rightOn_37 (by decide) ?_
      exact hK4 ((x2 ||| ((1 : Int32) <<< (x3 &&& 31))), (x3 + 1)) hw351 H locs ls hP hD hS (lv_sub hl [2, 3, 1, 0] rfl)
def w6_rightOn (post : Int32 → Prop) (tw : Option (Nat → Nat)) (S : MS) (x1 : Int32) : Prop :=
  (lp (fun (K : (Int32 × Int32) → Prop) (z : (Int32 × Int32)) => f6_rightOn_4 post tw S x1 K z.1 z.2) (0, 0))
set_option maxHeartbeats 4000000 in
theorem m6_rightOn (l : Launch) {post : Int32 → Prop} {S : MS} {x1 : Int32} (hw : w6_rightOn post tw S x1) : Met l yX6_rightOn (ws_ yX6_rightOn cX6_rightOn 4 (some .int)) ({ frames := 4, cells := 0, slots := 0, locals := 94 } : Room) (va_Pc [.ref (ad 0), .int x1] (PcG D gCl nwG Z Hb A (wM D ad none rdv tw S))) (va_Qi (fun r (_ : Unit) => post r) (BW D gCl A (fun _ => (wM D ad none rdv tw S))) A) 0 0 A := by
  refine Met.ofG (by decide) (Nat.le_of_ble_eq_true rfl) ?_
  intro p e s m below meth c ls hC _ hP hD hS hl
  have hC : CX RX6 cX6_rightOn 4 (some .int) D gCl nwG Z Hb A p s m _ meth c := hC
  have hl : lv_has ls 4 [(0, .ref (ad 0)), (1, .int x1)] := hl
  unfold w6_rightOn at hw
  refine lv_iconst (v := 0) hC.x hC.b dX6_rightOn_0 (by decide) ?_
  refine lv_istore_n (lv' := [(2, .int 0), (0, .ref (ad 0)), (1, .int x1)]) hC.x hC.b dX6_rightOn_1 rfl hl (by decide) rfl (fun ls hl => ?_)
  refine lv_iconst (v := 0) hC.x hC.b dX6_rightOn_2 (by decide) ?_
  refine lv_istore_n (lv' := [(3, .int 0), (2, .int 0), (0, .ref (ad 0)), (1, .int x1)]) hC.x hC.b dX6_rightOn_3 rfl hl (by decide) rfl (fun ls hl => ?_)
  exact k6_rightOn_4 hC (0, 0) hw s.heap [] ls hP hD hS (lv_sub hl [2, 3, 1, 0] rfl)
theorem v6_6_rightOn : GoodIn lw_all (wsV RX6 358 RX6 yX6_rightOn (ws_ yX6_rightOn cX6_rightOn 4 (some .int))) := lw_V q1863 q1865 qs87 q126 q1866
theorem h6_right : yX6_right.cls = RX6 ∧ yX6_right.cls ≠ "java/lang/invoke/MethodHandle" ∧ yX6_right.cls ≠ "java/lang/invoke/VarHandle" ∧ (parseMethodDescriptor yX6_right.desc).map (fun d => d.parameters.length) = some 1 := by decide +kernel
def j6_right_18 (post : Int32 → MS → Prop) (tw : Option (Nat → Nat)) (S : MS) (x1 : Int32) (y1 : Int32) : Prop :=
  (w6_refusesNight (fun r3 => ((r3 ≤ 0 → (w6_works (fun S6 => (w6_rightOn (fun r7 => (w6_good (fun r8 S9 => (post r8 S9)) S6 r7)) tw S6 x1)) S)) ∧ (¬ r3 ≤ 0 → (w6_refused (fun r10 S11 => (post r10 S11)) S r3)))) S y1 x1)
set_option maxHeartbeats 4000000 in
theorem k6_right_18 {post : Int32 → MS → Prop} {S : MS} {x1 : Int32} {y1 : Int32} (hC : CX RX6 cX6_right 3 (some .int) D gCl nwG Z Hb A p s m args meth c) (hw : j6_right_18 post tw S x1 y1) : ∀ (H : Heap) (locs : List Loc) (ls : Array Slot), va_P D gCl (wM D ad none rdv tw S) H → va_D A (wM D ad none rdv tw S) → va_S A s.heap H locs → lv_has ls 3 [(0, .ref (ad 0)), (1, .int x1)] → W p l e ({ frames := 5, cells := 0, slots := 0, locals := 117 } : Room) s m args below meth c H locs 0 0 (MQ below (va_Qi post (BW D gCl A (fun u => (wM D ad none rdv tw u))) A) args s 0 0 A) (F0 m 18 ls [.int y1, .ref (ad 0)]) := by
  intro H locs ls hP hD hS hl
  unfold j6_right_18 at hw
  refine lv_iload_n hC.x hC.b dX6_right_18 rfl (lv_at hl 1 rfl) ?_
  refine go_i (run_V (rest := []) hC (m6_refusesNight l hw) v6_6_refusesNight h6_refusesNight 0 5 gCl_X6 rfl rfl ⟨rfl, rfl, Nat.le_of_ble_eq_true rfl, Nat.le_of_ble_eq_true rfl⟩ ⟨Nat.le_refl _, Nat.le_refl _⟩ hP hD hS hl.1 (Nat.le_of_ble_eq_true rfl) dX6_right_19 rfl) hS (fun r3 u H locs hw354 hP hD hS => ?_)
  refine lv_istore_n (lv' := [(2, .int r3), (0, .ref (ad 0)), (1, .int x1)]) hC.x hC.b dX6_right_22 rfl hl (by decide) rfl (fun ls hl => ?_)
  refine lv_iload_n hC.x hC.b dX6_right_23 rfl (lv_at hl 0 rfl) ?_
  refine lv_if_le (tgt := 33) hC.x hC.b dX6_right_24 (by decide) (fun c4 => ?_) (fun c4 => ?_)
  · have hw355 := hw354.1 c4
    refine lv_aload_n hC.x hC.b dX6_right_33 rfl (lv_at hl 1 rfl) ?_
    refine go_v (run_V (rest := []) hC (m6_works l hw355) v6_6_works h6_works 0 5 gCl_X6 rfl rfl ⟨rfl, rfl, Nat.le_of_ble_eq_true rfl, Nat.le_of_ble_eq_true rfl⟩ ⟨Nat.le_refl _, Nat.le_refl _⟩ hP hD hS hl.1 (Nat.le_of_ble_eq_true rfl) dX6_right_34 rfl) hS (fun S6 H locs hw356 hP hD hS => ?_)
    refine lv_aload_n hC.x hC.b dX6_right_37 rfl (lv_at hl 1 rfl) ?_
    refine lv_aload_n hC.x hC.b dX6_right_38 rfl (lv_at hl 1 rfl) ?_
    refine lv_iload_n hC.x hC.b dX6_right_39 rfl (lv_at hl 2 rfl) ?_
    refine go_i (run_V (rest := [.ref (ad 0)]) hC (m6_rightOn l hw356) v6_6_rightOn h6_rightOn 0 5 gCl_X6 rfl rfl ⟨rfl, rfl, Nat.le_of_ble_eq_true rfl, Nat.le_of_ble_eq_true rfl⟩ ⟨Nat.le_refl _, Nat.le_refl _⟩ hP hD hS hl.1 (Nat.le_of_ble_eq_true rfl) dX6_right_40 rfl) hS (fun r7 u H locs hw357 hP hD hS => ?_)
    refine go_i (run_V (rest := []) hC (m6_good l hw357) v6_6_good h6_good 0 5 gCl_X6 rfl rfl ⟨rfl, rfl, Nat.le_of_ble_eq_true rfl, Nat.le_of_ble_eq_true rfl⟩ ⟨Nat.le_refl _, Nat.le_refl _⟩ hP hD hS hl.1 (Nat.le_of_ble_eq_true rfl) dX6_right_43 rfl) hS (fun r8 S9 H locs hw358 hP hD hS => ?_)
    exact rt_i hC hw358 hP hD hS dX6_right_46
  · have hw359 := hw354.2 c4
    refine lv_aload_n hC.x hC.b dX6_right_27 rfl (lv_at hl 1 rfl) ?_
    refine lv_iload_n hC.x hC.b dX6_right_28 rfl (lv_at hl 0 rfl) ?_
    refine go_i (run_V (rest := []) hC (m6_refused l hw359) v6_6_refused h6_refused 0 5 gCl_X6 rfl rfl ⟨rfl, rfl, Nat.le_of_ble_eq_true rfl, Nat.le_of_ble_eq_true rfl⟩ ⟨Nat.le_refl _, Nat.le_refl _⟩ hP hD hS hl.1 (Nat.le_of_ble_eq_true rfl) dX6_right_29 rfl) hS (fun r10 S11 H locs hw360 hP hD hS => ?_)
    exact rt_i hC hw360 hP hD hS dX6_right_32
def w6_right (post : Int32 → MS → Prop) (tw : Option (Nat → Nat)) (S : MS) (x1 : Int32) : Prop :=
  (∀ S1, S1 = uI S 0 0 0 → ((tw = none → (j6_right_18 post tw S1 x1 0)) ∧ ((∃ t, tw = some t) → (j6_right_18 post tw S1 x1 1))))
set_option maxHeartbeats 4000000 in
theorem m6_right (l : Launch) {post : Int32 → MS → Prop} {S : MS} {x1 : Int32} (hw : w6_right post tw S x1) : Met l yX6_right (ws_ yX6_right cX6_right 3 (some .int)) ({ frames := 5, cells := 0, slots := 0, locals := 117 } : Room) (va_Pc [.ref (ad 0), .int x1] (PcG D gCl nwG Z Hb A (wM D ad none rdv tw S))) (va_Qi post (BW D gCl A (fun u => (wM D ad none rdv tw u))) A) 0 0 A := by
  refine Met.ofG (by decide) (Nat.le_of_ble_eq_true rfl) ?_
  intro p e s m below meth c ls hC _ hP hD hS hl
  have hC : CX RX6 cX6_right 3 (some .int) D gCl nwG Z Hb A p s m _ meth c := hC
  have hl : lv_has ls 3 [(0, .ref (ad 0)), (1, .int x1)] := hl
  unfold w6_right at hw
  refine lv_aload_n hC.x hC.b dX6_right_0 rfl (lv_at hl 0 rfl) ?_
  refine lv_iconst (v := 0) hC.x hC.b dX6_right_1 (by decide) ?_
  refine pM_0 hC hP hD hS (v := 0) dX6_right_2 (fun S1 eS1 H locs hP hD hS => ?_)
  have hw352 := hw S1 eS1
  refine lv_aload_n hC.x hC.b dX6_right_5 rfl (lv_at hl 0 rfl) ?_
  refine lv_aload_n hC.x hC.b dX6_right_6 rfl (lv_at hl 0 rfl) ?_
  refine gM_3 hC hP dX6_right_7 ?_
  rcases va_o2 tw with c2 | ⟨t, c2⟩
  · have hw353 := hw352.1 c2
    subst c2
    refine lv_ifnullN (tgt := 17) hC.x hC.b dX6_right_10 (by decide) ?_
    refine lv_iconst (v := 0) hC.x hC.b dX6_right_17 (by decide) ?_
    exact k6_right_18 hC hw353 H locs ls hP hD hS (lv_sub hl [0, 1] rfl)
  · have hw361 := hw352.2 ⟨t, c2⟩
    subst c2
    refine lv_ifnull hC.x hC.b dX6_right_10 ?_
    refine lv_iconst (v := 1) hC.x hC.b dX6_right_13 (by decide) ?_
    refine lv_goto (tgt := 18) hC.x hC.b dX6_right_14 (by decide) ?_
    exact k6_right_18 hC hw361 H locs ls hP hD hS (lv_sub hl [0, 1] rfl)
theorem h6_bits : yX6_bits.cls ≠ "java/lang/invoke/MethodHandle" ∧ yX6_bits.cls ≠ "java/lang/invoke/VarHandle" ∧ (parseMethodDescriptor yX6_bits.desc).map (fun d => d.parameters.length) = some 1 := by decide +kernel
def f6_bits_4 (post : Int32 → Prop) (K4 : (Int32 × Int32) → Prop) (x1 : Int32) (x2 : Int32) : Prop :=
  ((x2 = 0 → (post x1)) ∧ (¬ x2 = 0 → (K4 ((x1 + 1), (x2 &&& (x2 - 1))))))
set_option maxHeartbeats 4000000 in
theorem k6_bits_4 {post : Int32 → Prop} (hC : CX RX6 cX6_bits 3 (some .int) D gCl nwG Z Hb A p s m args meth c) : ∀ z : (Int32 × Int32), lp (fun (K : (Int32 × Int32) → Prop) (z : (Int32 × Int32)) => f6_bits_4 post K z.1 z.2) z → ∀ (H : Heap) (locs : List Loc) (ls : Array Slot), va_P D gCl w0 H → va_D A w0 → va_S A s.heap H locs → lv_has ls 3 [(1, .int z.1), (2, .int z.2)] → W p l e ({ frames := 0, cells := 0, slots := 0, locals := 0 } : Room) s m args below meth c H locs 0 0 (MQ below (va_Qi (fun r (_ : Unit) => post r) (BW D gCl A (fun _ => w0)) A) args s 0 0 A) (F0 m 4 ls []) := by
  refine lp_ind ?_
  rintro K4 ⟨x1, x2⟩ hK4 hw H locs ls hP hD hS hl
  have hw : f6_bits_4 post K4 x1 x2 := hw
  unfold f6_bits_4 at hw
  have hP : va_P D gCl w0 H := hP
  have hD : va_D A w0 := hD
  have hl : lv_has ls 3 [(1, .int x1), (2, .int x2)] := hl
  refine lv_iload_n hC.x hC.b dX6_bits_4 rfl (lv_at hl 1 rfl) ?_
  refine lv_if_eq (tgt := 20) hC.x hC.b dX6_bits_5 (by decide) (fun c1 => ?_) (fun c1 => ?_)
  · have hw362 := hw.1 c1
    refine lv_iload_n hC.x hC.b dX6_bits_20 rfl (lv_at hl 0 rfl) ?_
    exact rt_i (u := ()) hC hw362 hP hD hS dX6_bits_21
  · have hw363 := hw.2 c1
    refine lv_iinc (v := (x1 + 1)) (lv' := [(1, .int (x1 + 1)), (2, .int x2)]) hC.x hC.b dX6_bits_8 hl (k := 0) rfl rfl (by decide) rfl (fun ls hl => ?_)
    refine lv_iload_n hC.x hC.b dX6_bits_11 rfl (lv_at hl 1 rfl) ?_
    refine lv_iload_n hC.x hC.b dX6_bits_12 rfl (lv_at hl 1 rfl) ?_
    refine lv_iconst (v := 1) hC.x hC.b dX6_bits_13 (by decide) ?_
    refine lv_isub hC.x hC.b dX6_bits_14 ?_
    refine lv_iand hC.x hC.b dX6_bits_15 ?_
    refine lv_istore_n (lv' := [(2, .int (x2 &&& (x2 - 1))), (1, .int (x1 + 1))]) hC.x hC.b dX6_bits_16 rfl hl (by decide) rfl (fun ls hl => ?_)
    refine lv_goto (tgt := 4) hC.x hC.b dX6_bits_17 (by decide) ?_
    exact hK4 ((x1 + 1), (x2 &&& (x2 - 1))) hw363 H locs ls hP hD hS (lv_sub hl [1, 0] rfl)
def w6_bits (post : Int32 → Prop) (x0 : Int32) : Prop :=
  (lp (fun (K : (Int32 × Int32) → Prop) (z : (Int32 × Int32)) => f6_bits_4 post K z.1 z.2) (0, x0))
set_option maxHeartbeats 4000000 in
theorem m6_bits (l : Launch) {post : Int32 → Prop} {x0 : Int32} (hw : w6_bits post x0) : Met l yX6_bits (ws_ yX6_bits cX6_bits 3 (some .int)) ({ frames := 0, cells := 0, slots := 0, locals := 0 } : Room) (va_Pc [.int x0] (PcG D gCl nwG Z Hb A w0)) (va_Qi (fun r (_ : Unit) => post r) (BW D gCl A (fun _ => w0)) A) 0 0 A := by
  refine Met.ofG (by decide) (Nat.le_of_ble_eq_true rfl) ?_
  intro p e s m below meth c ls hC _ hP hD hS hl
  have hC : CX RX6 cX6_bits 3 (some .int) D gCl nwG Z Hb A p s m _ meth c := hC
  have hl : lv_has ls 3 [(0, .int x0)] := hl
  unfold w6_bits at hw
  refine lv_iconst (v := 0) hC.x hC.b dX6_bits_0 (by decide) ?_
  refine lv_istore_n (lv' := [(1, .int 0), (0, .int x0)]) hC.x hC.b dX6_bits_1 rfl hl (by decide) rfl (fun ls hl => ?_)
  refine lv_iload_n hC.x hC.b dX6_bits_2 rfl (lv_at hl 1 rfl) ?_
  refine lv_istore_n (lv' := [(2, .int x0), (1, .int 0), (0, .int x0)]) hC.x hC.b dX6_bits_3 rfl hl (by decide) rfl (fun ls hl => ?_)
  exact k6_bits_4 hC (0, x0) hw s.heap [] ls hP hD hS (lv_sub hl [1, 0] rfl)
end MWm0
