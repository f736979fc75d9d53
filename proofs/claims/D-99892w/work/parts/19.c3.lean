set_option maxRecDepth 100000
section CWc3
variable {p : Program} {l : Launch} {e : Env} {s : State} {m : MethodId} {args : Array Value} {below : List Frame} {meth : Method} {c : Code} {D : va_G} {Z : State → Prop} {Hb : Heap} {A : Nat → Prop} {ad : Nat → Nat} {sc : Option Nat × Option Nat × (Nat → Value)} {tw : Option TD} {τ : TD} {w0 : va_W} {b0 : Nat}
theorem v5_5_passing : GoodIn lw_all (wsV RX5 65 RX5 yX5_passing (ws_ yX5_passing cX5_passing 6 (some .int))) := lw_V q1158 q1160 qs35 q125 q1161
theorem v5_5_meet : GoodIn lw_all (wsV RX5 69 RX5 yX5_meet (ws_ yX5_meet cX5_meet 5 none)) := lw_V q1162 q1164 qs36 q125 q1165
theorem h5_least : yX5_least.cls = RX5 ∧ yX5_least.cls ≠ "java/lang/invoke/MethodHandle" ∧ yX5_least.cls ≠ "java/lang/invoke/VarHandle" ∧ (parseMethodDescriptor yX5_least.desc).map (fun d => d.parameters.length) = some 2 := by decide +kernel
def f5_least_98 (K42 : (CS × Int32) → Prop) (x2 : Int32) (x3 : Int32) (x4 : Int32) (x5 : Int32) (K98 : (CS × Int32) → Prop) (S : CS) (x6 : Int32) : Prop :=
  ((x2 ≤ x6 → (K42 (S, (x3 + 1)))) ∧ (¬ x2 ≤ x6 → ((¬ x2 = 0) ∧ (w5_passing (fun r11 => (vp_in x3 29160 ∧ (vp_in (S.1.1 6 x3.toNatClampNeg) 29160 ∧ (w5_meet (fun S15 => (K98 (S15, (x6 + (if 1 < (x2 - 2) then (x2 - 2) else 1))))) S ((x4 + x6) - (x4 + x6) / x2 * x2) r11 ((S.1.1 5 (S.1.1 6 x3.toNatClampNeg).toNatClampNeg) + 1))))) S x5 ((x4 + x6) - (x4 + x6) / x2 * x2)))))
set_option maxHeartbeats 4000000 in
theorem k5_least_98 {post : Int32 → CS → Prop} {x2 : Int32} {x3 : Int32} {x4 : Int32} {x5 : Int32} {K42 : (CS × Int32) → Prop} (hC : CX RX5 cX5_least 8 (some .int) D gCl nwG Z Hb A p s m args meth c) (hK42 : ∀ z : (CS × Int32), K42 z → ∀ (H : Heap) (locs : List Loc) (ls : Array Slot), va_P D gCl (wC D ad sc tw z.1) H → va_D A (wC D ad sc tw z.1) → va_S A s.heap H locs → lv_has ls 8 [(0, .ref (ad 4)), (2, .int x2), (3, .int z.2)] → W p l e ({ frames := 1, cells := 0, slots := 0, locals := 40 } : Room) s m args below meth c H locs 0 0 (MQ below (va_Qi post (BW D gCl A (fun u => (wC D ad sc tw u))) A) args s 0 0 A) (F0 m 42 ls [])) : ∀ z : (CS × Int32), lp (fun (K : (CS × Int32) → Prop) (z : (CS × Int32)) => f5_least_98 K42 x2 x3 x4 x5 K z.1 z.2) z → ∀ (H : Heap) (locs : List Loc) (ls : Array Slot), va_P D gCl (wC D ad sc tw z.1) H → va_D A (wC D ad sc tw z.1) → va_S A s.heap H locs → lv_has ls 8 [(0, .ref (ad 4)), (2, .int x2), (3, .int x3), (4, .int x4), (5, .int x5), (6, .int z.2)] → W p l e ({ frames := 1, cells := 0, slots := 0, locals := 40 } : Room) s m args below meth c H locs 0 0 (MQ below (va_Qi post (BW D gCl A (fun u => (wC D ad sc tw u))) A) args s 0 0 A) (F0 m 98 ls []) := by
  refine lp_ind ?_
  rintro K98 ⟨S, x6⟩ hK98 hw H locs ls hP hD hS hl
  have hw : f5_least_98 K42 x2 x3 x4 x5 K98 S x6 := hw
  unfold f5_least_98 at hw
  have hP : va_P D gCl (wC D ad sc tw S) H := hP
  have hD : va_D A (wC D ad sc tw S) := hD
  have hl : lv_has ls 8 [(0, .ref (ad 4)), (2, .int x2), (3, .int x3), (4, .int x4), (5, .int x5), (6, .int x6)] := hl
  refine lv_iload hC.x hC.b dX5_least_98 (lv_at hl 5 rfl) ?_
  refine lv_iload_n hC.x hC.b dX5_least_100 rfl (lv_at hl 1 rfl) ?_
  refine lv_icmp_ge (tgt := 155) hC.x hC.b dX5_least_101 (by decide) (fun c10 => ?_) (fun c10 => ?_)
  · have hw578 := hw.1 c10
    refine lv_iinc (v := (x3 + 1)) (lv' := [(3, .int (x3 + 1)), (0, .ref (ad 4)), (2, .int x2), (4, .int x4), (5, .int x5), (6, .int x6)]) hC.x hC.b dX5_least_155 hl (k := 2) rfl rfl (by decide) rfl (fun ls hl => ?_)
    refine lv_goto (tgt := 42) hC.x hC.b dX5_least_158 (by decide) ?_
    exact hK42 (S, (x3 + 1)) hw578 H locs ls hP hD hS (lv_sub hl [1, 2, 0] rfl)
  · have hw579 := hw.2 c10
    refine lv_iload hC.x hC.b dX5_least_104 (lv_at hl 3 rfl) ?_
    refine lv_iload hC.x hC.b dX5_least_106 (lv_at hl 5 rfl) ?_
    refine lv_iadd hC.x hC.b dX5_least_108 ?_
    refine lv_iload_n hC.x hC.b dX5_least_109 rfl (lv_at hl 1 rfl) ?_
    obtain ⟨hne, hw580⟩ := hw579
    refine lv_irem hC.x hC.b dX5_least_110 hne ?_
    refine lv_istore (lv' := [(7, .int ((x4 + x6) - (x4 + x6) / x2 * x2)), (0, .ref (ad 4)), (2, .int x2), (3, .int x3), (4, .int x4), (5, .int x5), (6, .int x6)]) hC.x hC.b dX5_least_111 hl (by decide) rfl (fun ls hl => ?_)
    refine lv_aload_n hC.x hC.b dX5_least_113 rfl (lv_at hl 1 rfl) ?_
    refine lv_iload hC.x hC.b dX5_least_114 (lv_at hl 0 rfl) ?_
    refine lv_aload_n hC.x hC.b dX5_least_116 rfl (lv_at hl 1 rfl) ?_
    refine lv_iload hC.x hC.b dX5_least_117 (lv_at hl 5 rfl) ?_
    refine lv_iload hC.x hC.b dX5_least_119 (lv_at hl 0 rfl) ?_
    refine go_i (run_V (rest := [.int ((x4 + x6) - (x4 + x6) / x2 * x2), .ref (ad 4)]) hC (m5_passing l hw580) v5_5_passing h5_passing 4 4 gCl_X5 rfl rfl ⟨rfl, rfl, Nat.le_of_ble_eq_true rfl, Nat.le_of_ble_eq_true rfl⟩ ⟨Nat.le_refl _, Nat.le_refl _⟩ hP hD hS hl.1 (Nat.le_of_ble_eq_true rfl) dX5_least_121 rfl) hS (fun r11 u H locs hw581 hP hD hS => ?_)
    refine lv_aload_n hC.x hC.b dX5_least_124 rfl (lv_at hl 1 rfl) ?_
    refine gW_0 hC hP dX5_least_125 ?_
    refine lv_aload_n hC.x hC.b dX5_least_128 rfl (lv_at hl 1 rfl) ?_
    refine gW_1 hC hP dX5_least_129 ?_
    refine lv_iload_n hC.x hC.b dX5_least_132 rfl (lv_at hl 3 rfl) ?_
    obtain ⟨hin12, hw582⟩ := hw581
    refine lF_6 hC hP hin12 rfl dX5_least_133 ?_
    obtain ⟨hin13, hw583⟩ := hw582
    refine lF_5 hC hP hin13 rfl dX5_least_134 ?_
    refine lv_iconst (v := 1) hC.x hC.b dX5_least_135 (by decide) ?_
    refine lv_iadd hC.x hC.b dX5_least_136 ?_
    refine go_v (run_V (rest := []) hC (m5_meet l hw583) v5_5_meet h5_meet 4 4 gCl_X5 rfl rfl ⟨rfl, rfl, Nat.le_of_ble_eq_true rfl, Nat.le_of_ble_eq_true rfl⟩ ⟨Nat.le_refl _, Nat.le_refl _⟩ hP hD hS hl.1 (Nat.le_of_ble_eq_true rfl) dX5_least_137 rfl) hS (fun S15 H locs hw584 hP hD hS => ?_)
    refine lv_iload hC.x hC.b dX5_least_140 (lv_at hl 6 rfl) ?_
    refine lv_iconst (v := 1) hC.x hC.b dX5_least_142 (by decide) ?_
    refine lv_iload_n hC.x hC.b dX5_least_143 rfl (lv_at hl 2 rfl) ?_
    refine lv_iconst (v := 2) hC.x hC.b dX5_least_144 (by decide) ?_
    refine lv_isub hC.x hC.b dX5_least_145 ?_
    refine va_mmax hC.x hC.b (hC.ml.trans hl.1.symm) hC.ow (hC.ts _ q1166) (hC.ts _ q1167) (hC.ts _ q142) (hC.ts _ q1168) (Nat.le_of_ble_eq_true rfl) (Nat.le_of_ble_eq_true rfl) (Nat.le_refl _) (Nat.le_refl _) dX5_least_146 ?_
    refine lv_iadd hC.x hC.b dX5_least_149 ?_
    refine lv_istore (lv' := [(6, .int (x6 + (if 1 < (x2 - 2) then (x2 - 2) else 1))), (7, .int ((x4 + x6) - (x4 + x6) / x2 * x2)), (0, .ref (ad 4)), (2, .int x2), (3, .int x3), (4, .int x4), (5, .int x5)]) hC.x hC.b dX5_least_150 hl (by decide) rfl (fun ls hl => ?_)
    refine lv_goto (tgt := 98) hC.x hC.b dX5_least_152 (by decide) ?_
    exact hK98 (S15, (x6 + (if 1 < (x2 - 2) then (x2 - 2) else 1))) hw584 H locs ls hP hD hS (lv_sub hl [2, 3, 4, 5, 6, 0] rfl)
def f5_least_42 (post : Int32 → CS → Prop) (x2 : Int32) (K42 : (CS × Int32) → Prop) (S : CS) (x3 : Int32) : Prop :=
  (((S.1.1 4 5) ≤ x3 → (post 1000000 S)) ∧ (¬ (S.1.1 4 5) ≤ x3 → (vp_in x3 29160 ∧ (vp_in x3 29160 ∧ ((¬ ((S.1.1 6 x3.toNatClampNeg) - (S.1.1 6 x3.toNatClampNeg) / 729 * 729) = (S.1.1 4 7) → (lp (fun (K : (CS × Int32) → Prop) (z : (CS × Int32)) => f5_least_98 K42 x2 x3 ((S.1.1 6 x3.toNatClampNeg) / 729) ((S.1.1 6 x3.toNatClampNeg) - (S.1.1 6 x3.toNatClampNeg) / 729 * 729) K z.1 z.2) (S, 1))) ∧ (((S.1.1 6 x3.toNatClampNeg) - (S.1.1 6 x3.toNatClampNeg) / 729 * 729) = (S.1.1 4 7) → (vp_in x3 29160 ∧ (vp_in (S.1.1 6 x3.toNatClampNeg) 29160 ∧ (post (S.1.1 5 (S.1.1 6 x3.toNatClampNeg).toNatClampNeg) S)))))))))
set_option maxHeartbeats 4000000 in
theorem k5_least_42 {post : Int32 → CS → Prop} {x2 : Int32} (hC : CX RX5 cX5_least 8 (some .int) D gCl nwG Z Hb A p s m args meth c) : ∀ z : (CS × Int32), lp (fun (K : (CS × Int32) → Prop) (z : (CS × Int32)) => f5_least_42 post x2 K z.1 z.2) z → ∀ (H : Heap) (locs : List Loc) (ls : Array Slot), va_P D gCl (wC D ad sc tw z.1) H → va_D A (wC D ad sc tw z.1) → va_S A s.heap H locs → lv_has ls 8 [(0, .ref (ad 4)), (2, .int x2), (3, .int z.2)] → W p l e ({ frames := 1, cells := 0, slots := 0, locals := 40 } : Room) s m args below meth c H locs 0 0 (MQ below (va_Qi post (BW D gCl A (fun u => (wC D ad sc tw u))) A) args s 0 0 A) (F0 m 42 ls []) := by
  refine lp_ind ?_
  rintro K42 ⟨S, x3⟩ hK42 hw H locs ls hP hD hS hl
  have hw : f5_least_42 post x2 K42 S x3 := hw
  unfold f5_least_42 at hw
  have hP : va_P D gCl (wC D ad sc tw S) H := hP
  have hD : va_D A (wC D ad sc tw S) := hD
  have hl : lv_has ls 8 [(0, .ref (ad 4)), (2, .int x2), (3, .int x3)] := hl
  refine lv_iload_n hC.x hC.b dX5_least_42 rfl (lv_at hl 2 rfl) ?_
  refine lv_aload_n hC.x hC.b dX5_least_43 rfl (lv_at hl 0 rfl) ?_
  refine gW_5 hC hP dX5_least_44 ?_
  refine lv_icmp_ge (tgt := 161) hC.x hC.b dX5_least_47 (by decide) (fun c6 => ?_) (fun c6 => ?_)
  · have hw573 := hw.1 c6
    refine lv_ldc (v := 1000000) hC.x hC.b hC.ow (hC.ts _ q1157) dX5_least_161 ?_
    exact rt_i hC hw573 hP hD hS dX5_least_163
  · have hw574 := hw.2 c6
    refine lv_aload_n hC.x hC.b dX5_least_50 rfl (lv_at hl 0 rfl) ?_
    refine gW_1 hC hP dX5_least_51 ?_
    refine lv_iload_n hC.x hC.b dX5_least_54 rfl (lv_at hl 2 rfl) ?_
    obtain ⟨hin7, hw575⟩ := hw574
    refine lF_6 hC hP hin7 rfl dX5_least_55 ?_
    refine lv_sipush (v := 729) hC.x hC.b dX5_least_56 (by decide) ?_
    refine lv_idiv hC.x hC.b dX5_least_59 (by decide) ?_
    refine lv_istore (lv' := [(4, .int ((S.1.1 6 x3.toNatClampNeg) / 729)), (0, .ref (ad 4)), (2, .int x2), (3, .int x3)]) hC.x hC.b dX5_least_60 hl (by decide) rfl (fun ls hl => ?_)
    refine lv_aload_n hC.x hC.b dX5_least_62 rfl (lv_at hl 1 rfl) ?_
    refine gW_1 hC hP dX5_least_63 ?_
    refine lv_iload_n hC.x hC.b dX5_least_66 rfl (lv_at hl 3 rfl) ?_
    obtain ⟨hin8, hw576⟩ := hw575
    refine lF_6 hC hP hin8 rfl dX5_least_67 ?_
    refine lv_sipush (v := 729) hC.x hC.b dX5_least_68 (by decide) ?_
    refine lv_irem hC.x hC.b dX5_least_71 (by decide) ?_
    refine lv_istore (lv' := [(5, .int ((S.1.1 6 x3.toNatClampNeg) - (S.1.1 6 x3.toNatClampNeg) / 729 * 729)), (4, .int ((S.1.1 6 x3.toNatClampNeg) / 729)), (0, .ref (ad 4)), (2, .int x2), (3, .int x3)]) hC.x hC.b dX5_least_72 hl (by decide) rfl (fun ls hl => ?_)
    refine lv_iload hC.x hC.b dX5_least_74 (lv_at hl 0 rfl) ?_
    refine lv_aload_n hC.x hC.b dX5_least_76 rfl (lv_at hl 2 rfl) ?_
    refine gW_7 hC hP dX5_least_77 ?_
    refine lv_icmp_ne (tgt := 95) hC.x hC.b dX5_least_80 (by decide) (fun c9 => ?_) (fun c9 => ?_)
    · have hw577 := hw576.1 c9
      refine lv_iconst (v := 1) hC.x hC.b dX5_least_95 (by decide) ?_
      refine lv_istore (lv' := [(6, .int 1), (5, .int ((S.1.1 6 x3.toNatClampNeg) - (S.1.1 6 x3.toNatClampNeg) / 729 * 729)), (4, .int ((S.1.1 6 x3.toNatClampNeg) / 729)), (0, .ref (ad 4)), (2, .int x2), (3, .int x3)]) hC.x hC.b dX5_least_96 hl (by decide) rfl (fun ls hl => ?_)
      exact k5_least_98 hC hK42 (S, 1) hw577 H locs ls hP hD hS (lv_sub hl [3, 4, 5, 2, 1, 0] rfl)
    · have hw585 := hw576.2 c9
      refine lv_aload_n hC.x hC.b dX5_least_83 rfl (lv_at hl 2 rfl) ?_
      refine gW_0 hC hP dX5_least_84 ?_
      refine lv_aload_n hC.x hC.b dX5_least_87 rfl (lv_at hl 2 rfl) ?_
      refine gW_1 hC hP dX5_least_88 ?_
      refine lv_iload_n hC.x hC.b dX5_least_91 rfl (lv_at hl 4 rfl) ?_
      obtain ⟨hin16, hw586⟩ := hw585
      refine lF_6 hC hP hin16 rfl dX5_least_92 ?_
      obtain ⟨hin17, hw587⟩ := hw586
      refine lF_5 hC hP hin17 rfl dX5_least_93 ?_
      exact rt_i hC hw587 hP hD hS dX5_least_94
def f5_least_2 (post : Int32 → CS → Prop) (x1 : Int32) (x2 : Int32) (K2 : (CS × Int32) → Prop) (S : CS) (x3 : Int32) : Prop :=
  ((29160 ≤ x3 → (∀ S2, S2 = sI S 4 5 0 → (w5_passing (fun r3 => (w5_meet (fun S5 => (lp (fun (K : (CS × Int32) → Prop) (z : (CS × Int32)) => f5_least_42 post x2 K z.1 z.2) (S5, 0))) S2 x1 r3 0)) S2 0 x1))) ∧ (¬ 29160 ≤ x3 → (vp_in x3 29160 ∧ (∀ S19, S19 = sI S 5 x3.toNatClampNeg 1000000 → (K2 (S19, (x3 + 1)))))))
set_option maxHeartbeats 4000000 in
theorem k5_least_2 {post : Int32 → CS → Prop} {x1 : Int32} {x2 : Int32} (hC : CX RX5 cX5_least 8 (some .int) D gCl nwG Z Hb A p s m args meth c) : ∀ z : (CS × Int32), lp (fun (K : (CS × Int32) → Prop) (z : (CS × Int32)) => f5_least_2 post x1 x2 K z.1 z.2) z → ∀ (H : Heap) (locs : List Loc) (ls : Array Slot), va_P D gCl (wC D ad sc tw z.1) H → va_D A (wC D ad sc tw z.1) → va_S A s.heap H locs → lv_has ls 8 [(0, .ref (ad 4)), (1, .int x1), (2, .int x2), (3, .int z.2)] → W p l e ({ frames := 1, cells := 0, slots := 0, locals := 40 } : Room) s m args below meth c H locs 0 0 (MQ below (va_Qi post (BW D gCl A (fun u => (wC D ad sc tw u))) A) args s 0 0 A) (F0 m 2 ls []) := by
  refine lp_ind ?_
  rintro K2 ⟨S, x3⟩ hK2 hw H locs ls hP hD hS hl
  have hw : f5_least_2 post x1 x2 K2 S x3 := hw
  unfold f5_least_2 at hw
  have hP : va_P D gCl (wC D ad sc tw S) H := hP
  have hD : va_D A (wC D ad sc tw S) := hD
  have hl : lv_has ls 8 [(0, .ref (ad 4)), (1, .int x1), (2, .int x2), (3, .int x3)] := hl
  refine lv_iload_n hC.x hC.b dX5_least_2 rfl (lv_at hl 3 rfl) ?_
  refine lv_sipush (v := 29160) hC.x hC.b dX5_least_3 (by decide) ?_
  refine lv_icmp_ge (tgt := 23) hC.x hC.b dX5_least_6 (by decide) (fun c1 => ?_) (fun c1 => ?_)
  · have hw569 := hw.1 c1
    refine lv_aload_n hC.x hC.b dX5_least_23 rfl (lv_at hl 0 rfl) ?_
    refine lv_iconst (v := 0) hC.x hC.b dX5_least_24 (by decide) ?_
    refine pW_5 hC hP hD hS (v := 0) dX5_least_25 (fun S2 eS2 H locs hP hD hS => ?_)
    have hw570 := hw569 S2 eS2
    refine lv_aload_n hC.x hC.b dX5_least_28 rfl (lv_at hl 0 rfl) ?_
    refine lv_iload_n hC.x hC.b dX5_least_29 rfl (lv_at hl 1 rfl) ?_
    refine lv_aload_n hC.x hC.b dX5_least_30 rfl (lv_at hl 0 rfl) ?_
    refine lv_iconst (v := 0) hC.x hC.b dX5_least_31 (by decide) ?_
    refine lv_iload_n hC.x hC.b dX5_least_32 rfl (lv_at hl 1 rfl) ?_
    refine go_i (run_V (rest := [.int x1, .ref (ad 4)]) hC (m5_passing l hw570) v5_5_passing h5_passing 4 4 gCl_X5 rfl rfl ⟨rfl, rfl, Nat.le_of_ble_eq_true rfl, Nat.le_of_ble_eq_true rfl⟩ ⟨Nat.le_refl _, Nat.le_refl _⟩ hP hD hS hl.1 (Nat.le_of_ble_eq_true rfl) dX5_least_33 rfl) hS (fun r3 u H locs hw571 hP hD hS => ?_)
    refine lv_iconst (v := 0) hC.x hC.b dX5_least_36 (by decide) ?_
    refine go_v (run_V (rest := []) hC (m5_meet l hw571) v5_5_meet h5_meet 4 4 gCl_X5 rfl rfl ⟨rfl, rfl, Nat.le_of_ble_eq_true rfl, Nat.le_of_ble_eq_true rfl⟩ ⟨Nat.le_refl _, Nat.le_refl _⟩ hP hD hS hl.1 (Nat.le_of_ble_eq_true rfl) dX5_least_37 rfl) hS (fun S5 H locs hw572 hP hD hS => ?_)
    refine lv_iconst (v := 0) hC.x hC.b dX5_least_40 (by decide) ?_
    refine lv_istore_n (lv' := [(3, .int 0), (0, .ref (ad 4)), (1, .int x1), (2, .int x2)]) hC.x hC.b dX5_least_41 rfl hl (by decide) rfl (fun ls hl => ?_)
    exact k5_least_42 hC (S5, 0) hw572 H locs ls hP hD hS (lv_sub hl [1, 3, 0] rfl)
  · have hw588 := hw.2 c1
    refine lv_aload_n hC.x hC.b dX5_least_9 rfl (lv_at hl 0 rfl) ?_
    refine gW_0 hC hP dX5_least_10 ?_
    refine lv_iload_n hC.x hC.b dX5_least_13 rfl (lv_at hl 3 rfl) ?_
    refine lv_ldc (v := 1000000) hC.x hC.b hC.ow (hC.ts _ q1157) dX5_least_14 ?_
    obtain ⟨hin18, hw589⟩ := hw588
    refine sF_5 hC hP hD hS (v := 1000000) hin18 rfl dX5_least_16 (fun S19 eS19 H locs hP hD hS => ?_)
    have hw590 := hw589 S19 eS19
    refine lv_iinc (v := (x3 + 1)) (lv' := [(3, .int (x3 + 1)), (0, .ref (ad 4)), (1, .int x1), (2, .int x2)]) hC.x hC.b dX5_least_17 hl (k := 3) rfl rfl (by decide) rfl (fun ls hl => ?_)
    refine lv_goto (tgt := 2) hC.x hC.b dX5_least_20 (by decide) ?_
    exact hK2 (S19, (x3 + 1)) hw590 H locs ls hP hD hS (lv_sub hl [1, 2, 3, 0] rfl)
def w5_least (post : Int32 → CS → Prop) (S : CS) (x1 : Int32) (x2 : Int32) : Prop :=
  (lp (fun (K : (CS × Int32) → Prop) (z : (CS × Int32)) => f5_least_2 post x1 x2 K z.1 z.2) (S, 0))
set_option maxHeartbeats 4000000 in
theorem m5_least (l : Launch) {post : Int32 → CS → Prop} {S : CS} {x1 : Int32} {x2 : Int32} (hw : w5_least post S x1 x2) : Met l yX5_least (ws_ yX5_least cX5_least 8 (some .int)) ({ frames := 1, cells := 0, slots := 0, locals := 40 } : Room) (va_Pc [.ref (ad 4), .int x1, .int x2] (PcG D gCl nwG Z Hb A (wC D ad sc tw S))) (va_Qi post (BW D gCl A (fun u => (wC D ad sc tw u))) A) 0 0 A := by
  refine Met.ofG (by decide) (Nat.le_of_ble_eq_true rfl) ?_
  intro p e s m below meth c ls hC _ hP hD hS hl
  have hC : CX RX5 cX5_least 8 (some .int) D gCl nwG Z Hb A p s m _ meth c := hC
  have hl : lv_has ls 8 [(0, .ref (ad 4)), (1, .int x1), (2, .int x2)] := hl
  unfold w5_least at hw
  refine lv_iconst (v := 0) hC.x hC.b dX5_least_0 (by decide) ?_
  refine lv_istore_n (lv' := [(3, .int 0), (0, .ref (ad 4)), (1, .int x1), (2, .int x2)]) hC.x hC.b dX5_least_1 rfl hl (by decide) rfl (fun ls hl => ?_)
  exact k5_least_2 hC (S, 0) hw s.heap [] ls hP hD hS (lv_sub hl [1, 2, 3, 0] rfl)
theorem v1_5_lay : GoodIn lw_all (wsV RX1 250 RX5 yX5_lay (ws_ yX5_lay cX5_lay 7 (some (.object "SeanceStreet$Walk")))) := lw_V q1147 q1148 q1149 q125 q1150
theorem v1_5_least : GoodIn lw_all (wsV RX1 254 RX5 yX5_least (ws_ yX5_least cX5_least 8 (some .int))) := lw_V q1153 q1154 q1155 q125 q1156
theorem h1_bring : yX1_bring.cls = RX1 ∧ yX1_bring.cls ≠ "java/lang/invoke/MethodHandle" ∧ yX1_bring.cls ≠ "java/lang/invoke/VarHandle" ∧ (parseMethodDescriptor yX1_bring.desc).map (fun d => d.parameters.length) = some 2 := by decide +kernel
def w1_bring (post : Int32 → CS → Prop) (tw : Option TD) (S : CS) (x1 : Int32) (x2 : Int32) : Prop :=
  (w1_anew (fun S2 => (w1_isHouse (fun r3 => (w1_nightWhy (fun r4 => ((r4 = 0 → ((∃ τ, tw = some τ) ∧ (w5_lay (fun S7 => (w5_least (fun r8 S9 => (post r8 S9)) S7 x1 (S7.1.1 50 6))) tw S2 0 x2))) ∧ (¬ r4 = 0 → (w1_no (fun r10 S11 => (post r10 S11)) S2 r4)))) S2 r3 x2)) tw S2 x1)) S)
set_option maxHeartbeats 4000000 in
theorem m1_bring (l : Launch) {post : Int32 → CS → Prop} {S : CS} {x1 : Int32} {x2 : Int32} (hw : w1_bring post tw S x1 x2) : Met l yX1_bring (ws_ yX1_bring cX1_bring 4 (some .int)) ({ frames := 123, cells := 0, slots := 0, locals := 6073 } : Room) (va_Pc [.ref (ad 0), .int x1, .int x2] (PcG D gCl nwG Z Hb A (wC D ad sc tw S))) (va_Qi post (BW D gCl A (fun u => (wC D ad sc tw u))) A) 0 0 A := by
  refine Met.ofG (by decide) (Nat.le_of_ble_eq_true rfl) ?_
  intro p e s m below meth c ls hC _ hP hD hS hl
  have hC : CX RX1 cX1_bring 4 (some .int) D gCl nwG Z Hb A p s m _ meth c := hC
  have hl : lv_has ls 4 [(0, .ref (ad 0)), (1, .int x1), (2, .int x2)] := hl
  unfold w1_bring at hw
  refine lv_aload_n hC.x hC.b dX1_bring_0 rfl (lv_at hl 0 rfl) ?_
  refine go_v (run_V (rest := []) hC (m1_anew l hw) v1_1_anew h1_anew 0 0 gCl_X1 rfl rfl ⟨rfl, rfl, Nat.le_of_ble_eq_true rfl, Nat.le_of_ble_eq_true rfl⟩ ⟨Nat.le_refl _, Nat.le_refl _⟩ hP hD hS hl.1 (Nat.le_of_ble_eq_true rfl) dX1_bring_1 rfl) hS (fun S2 H locs hw591 hP hD hS => ?_)
  refine lv_aload_n hC.x hC.b dX1_bring_4 rfl (lv_at hl 0 rfl) ?_
  refine lv_aload_n hC.x hC.b dX1_bring_5 rfl (lv_at hl 0 rfl) ?_
  refine lv_iload_n hC.x hC.b dX1_bring_6 rfl (lv_at hl 1 rfl) ?_
  refine go_i (run_V (rest := [.ref (ad 0)]) hC (m1_isHouse l hw591) v1_1_isHouse h1_isHouse 0 0 gCl_X1 rfl rfl ⟨rfl, rfl, Nat.le_of_ble_eq_true rfl, Nat.le_of_ble_eq_true rfl⟩ ⟨Nat.le_refl _, Nat.le_refl _⟩ hP hD hS hl.1 (Nat.le_of_ble_eq_true rfl) dX1_bring_7 rfl) hS (fun r3 u H locs hw592 hP hD hS => ?_)
  refine lv_iload_n hC.x hC.b dX1_bring_10 rfl (lv_at hl 2 rfl) ?_
  refine go_i (run_V (rest := []) hC (m1_nightWhy l hw592) v1_1_nightWhy h1_nightWhy 0 0 gCl_X1 rfl rfl ⟨rfl, rfl, Nat.le_of_ble_eq_true rfl, Nat.le_of_ble_eq_true rfl⟩ ⟨Nat.le_refl _, Nat.le_refl _⟩ hP hD hS hl.1 (Nat.le_of_ble_eq_true rfl) dX1_bring_11 rfl) hS (fun r4 u H locs hw593 hP hD hS => ?_)
  refine lv_istore_n (lv' := [(3, .int r4), (0, .ref (ad 0)), (1, .int x1), (2, .int x2)]) hC.x hC.b dX1_bring_14 rfl hl (by decide) rfl (fun ls hl => ?_)
  refine lv_iload_n hC.x hC.b dX1_bring_15 rfl (lv_at hl 0 rfl) ?_
  refine lv_if_eq (tgt := 27) hC.x hC.b dX1_bring_16 (by decide) (fun c5 => ?_) (fun c5 => ?_)
  · have hw594 := hw593.1 c5
    refine lv_aload_n hC.x hC.b dX1_bring_27 rfl (lv_at hl 1 rfl) ?_
    refine gO_12 hC hP dX1_bring_28 ?_
    refine lv_aload_n hC.x hC.b dX1_bring_31 rfl (lv_at hl 1 rfl) ?_
    refine gO_3 hC hP dX1_bring_32 ?_
    refine lv_aload_n hC.x hC.b dX1_bring_35 rfl (lv_at hl 1 rfl) ?_
    refine gO_9 hC hP dX1_bring_36 ?_
    refine lv_iload_n hC.x hC.b dX1_bring_39 rfl (lv_at hl 3 rfl) ?_
    obtain ⟨⟨τ, rfl⟩, hw595⟩ := hw594
    refine go_r (run_V (rest := []) hC (m5_lay l (by decide) hw595) v1_5_lay h5_lay 4 4 gCl_X5 rfl rfl ⟨rfl, rfl, Nat.le_of_ble_eq_true rfl, Nat.le_of_ble_eq_true rfl⟩ ⟨Nat.le_refl _, Nat.le_refl _⟩ hP hD hS hl.1 (Nat.le_of_ble_eq_true rfl) dX1_bring_40 rfl) hS (fun S7 H locs hw596 hP hD hS => ?_)
    refine lv_iload_n hC.x hC.b dX1_bring_43 rfl (lv_at hl 2 rfl) ?_
    refine lv_aload_n hC.x hC.b dX1_bring_44 rfl (lv_at hl 1 rfl) ?_
    refine gO_3 hC hP dX1_bring_45 ?_
    refine gX1T_6 hC hP dX1_bring_48 ?_
    refine go_i (run_V (rest := []) hC (m5_least l hw596) v1_5_least h5_least 4 4 gCl_X5 rfl rfl ⟨rfl, rfl, Nat.le_of_ble_eq_true rfl, Nat.le_of_ble_eq_true rfl⟩ ⟨Nat.le_refl _, Nat.le_refl _⟩ hP hD hS hl.1 (Nat.le_of_ble_eq_true rfl) dX1_bring_51 rfl) hS (fun r8 S9 H locs hw597 hP hD hS => ?_)
    exact rt_i hC hw597 hP hD hS dX1_bring_54
  · have hw598 := hw593.2 c5
    refine lv_aload_n hC.x hC.b dX1_bring_19 rfl (lv_at hl 1 rfl) ?_
    refine lv_iload_n hC.x hC.b dX1_bring_20 rfl (lv_at hl 0 rfl) ?_
    refine go_i (run_V (rest := []) hC (m1_no l hw598) v1_1_no h1_no 0 0 gCl_X1 rfl rfl ⟨rfl, rfl, Nat.le_of_ble_eq_true rfl, Nat.le_of_ble_eq_true rfl⟩ ⟨Nat.le_refl _, Nat.le_refl _⟩ hP hD hS hl.1 (Nat.le_of_ble_eq_true rfl) dX1_bring_21 rfl) hS (fun r10 S11 H locs hw599 hP hD hS => ?_)
    refine lv_goto (tgt := 54) hC.x hC.b dX1_bring_24 (by decide) ?_
    exact rt_i hC hw599 hP hD hS dX1_bring_54
theorem h1_bringFrom : yX1_bringFrom.cls = RX1 ∧ yX1_bringFrom.cls ≠ "java/lang/invoke/MethodHandle" ∧ yX1_bringFrom.cls ≠ "java/lang/invoke/VarHandle" ∧ (parseMethodDescriptor yX1_bringFrom.desc).map (fun d => d.parameters.length) = some 1 := by decide +kernel
def f1_bringFrom_60 (post : Int32 → CS → Prop) (K60 : (CS × Int32 × Int32 × Int32) → Prop) (S : CS) (x3 : Int32) (x4 : Int32) (x5 : Int32) : Prop :=
  (((S.1.1 50 6) ≤ x5 → (post x3 S)) ∧ (¬ (S.1.1 50 6) ≤ x5 → (w5_least (fun r9 S10 => ((r9 < x4 → (K60 (S10, x5, r9, (x5 + 1)))) ∧ (¬ r9 < x4 → (K60 (S10, x3, x4, (x5 + 1)))))) S x5 (S.1.1 50 6))))
set_option maxHeartbeats 4000000 in
theorem k1_bringFrom_60 {post : Int32 → CS → Prop} (hC : CX RX1 cX1_bringFrom 7 (some .int) D gCl nwG Z Hb A p s m args meth c) : ∀ z : (CS × Int32 × Int32 × Int32), lp (fun (K : (CS × Int32 × Int32 × Int32) → Prop) (z : (CS × Int32 × Int32 × Int32)) => f1_bringFrom_60 post K z.1 z.2.1 z.2.2.1 z.2.2.2) z → ∀ (H : Heap) (locs : List Loc) (ls : Array Slot), va_P D gCl (wC D ad sc (some τ) z.1) H → va_D A (wC D ad sc (some τ) z.1) → va_S A s.heap H locs → lv_has ls 7 [(0, .ref (ad 0)), (3, .int z.2.1), (4, .int z.2.2.1), (5, .int z.2.2.2)] → W p l e ({ frames := 123, cells := 0, slots := 0, locals := 6073 } : Room) s m args below meth c H locs 0 0 (MQ below (va_Qi post (BW D gCl A (fun u => (wC D ad sc (some τ) u))) A) args s 0 0 A) (F0 m 60 ls []) := by
  refine lp_ind ?_
  rintro K60 ⟨S, x3, x4, x5⟩ hK60 hw H locs ls hP hD hS hl
  have hw : f1_bringFrom_60 post K60 S x3 x4 x5 := hw
  unfold f1_bringFrom_60 at hw
  have hP : va_P D gCl (wC D ad sc (some τ) S) H := hP
  have hD : va_D A (wC D ad sc (some τ) S) := hD
  have hl : lv_has ls 7 [(0, .ref (ad 0)), (3, .int x3), (4, .int x4), (5, .int x5)] := hl
  refine lv_iload hC.x hC.b dX1_bringFrom_60 (lv_at hl 3 rfl) ?_
  refine lv_aload_n hC.x hC.b dX1_bringFrom_62 rfl (lv_at hl 0 rfl) ?_
  refine gO_3 hC hP dX1_bringFrom_63 ?_
  refine gX1T_6 hC hP dX1_bringFrom_66 ?_
  refine lv_icmp_ge (tgt := 113) hC.x hC.b dX1_bringFrom_69 (by decide) (fun c8 => ?_) (fun c8 => ?_)
  · have hw606 := hw.1 c8
    refine lv_iload_n hC.x hC.b dX1_bringFrom_113 rfl (lv_at hl 1 rfl) ?_
    exact rt_i hC hw606 hP hD hS dX1_bringFrom_114
  · have hw607 := hw.2 c8
    refine lv_aload_n hC.x hC.b dX1_bringFrom_72 rfl (lv_at hl 0 rfl) ?_
    refine gO_12 hC hP dX1_bringFrom_73 ?_
    refine lv_iload hC.x hC.b dX1_bringFrom_76 (lv_at hl 3 rfl) ?_
    refine lv_aload_n hC.x hC.b dX1_bringFrom_78 rfl (lv_at hl 0 rfl) ?_
    refine gO_3 hC hP dX1_bringFrom_79 ?_
    refine gX1T_6 hC hP dX1_bringFrom_82 ?_
    refine go_i (run_V (rest := []) hC (m5_least l hw607) v1_5_least h5_least 4 4 gCl_X5 rfl rfl ⟨rfl, rfl, Nat.le_of_ble_eq_true rfl, Nat.le_of_ble_eq_true rfl⟩ ⟨Nat.le_refl _, Nat.le_refl _⟩ hP hD hS hl.1 (Nat.le_of_ble_eq_true rfl) dX1_bringFrom_85 rfl) hS (fun r9 S10 H locs hw608 hP hD hS => ?_)
    refine lv_istore (lv' := [(6, .int r9), (0, .ref (ad 0)), (3, .int x3), (4, .int x4), (5, .int x5)]) hC.x hC.b dX1_bringFrom_88 hl (by decide) rfl (fun ls hl => ?_)
    refine lv_iload hC.x hC.b dX1_bringFrom_90 (lv_at hl 0 rfl) ?_
    refine lv_iload hC.x hC.b dX1_bringFrom_92 (lv_at hl 3 rfl) ?_
    refine lv_icmp_lt (tgt := 100) hC.x hC.b dX1_bringFrom_94 (by decide) (fun c11 => ?_) (fun c11 => ?_)
    · have hw609 := hw608.1 c11
      refine lv_iload hC.x hC.b dX1_bringFrom_100 (lv_at hl 4 rfl) ?_
      refine lv_istore_n (lv' := [(3, .int x5), (6, .int r9), (0, .ref (ad 0)), (4, .int x4), (5, .int x5)]) hC.x hC.b dX1_bringFrom_102 rfl hl (by decide) rfl (fun ls hl => ?_)
      refine lv_iload hC.x hC.b dX1_bringFrom_103 (lv_at hl 1 rfl) ?_
      refine lv_istore (lv' := [(4, .int r9), (3, .int x5), (6, .int r9), (0, .ref (ad 0)), (5, .int x5)]) hC.x hC.b dX1_bringFrom_105 hl (by decide) rfl (fun ls hl => ?_)
      refine lv_iinc (v := (x5 + 1)) (lv' := [(5, .int (x5 + 1)), (4, .int r9), (3, .int x5), (6, .int r9), (0, .ref (ad 0))]) hC.x hC.b dX1_bringFrom_107 hl (k := 4) rfl rfl (by decide) rfl (fun ls hl => ?_)
      refine lv_goto (tgt := 60) hC.x hC.b dX1_bringFrom_110 (by decide) ?_
      exact hK60 (S10, x5, r9, (x5 + 1)) hw609 H locs ls hP hD hS (lv_sub hl [4, 2, 1, 0] rfl)
    · have hw610 := hw608.2 c11
      refine lv_goto (tgt := 107) hC.x hC.b dX1_bringFrom_97 (by decide) ?_
      refine lv_iinc (v := (x5 + 1)) (lv' := [(5, .int (x5 + 1)), (6, .int r9), (0, .ref (ad 0)), (3, .int x3), (4, .int x4)]) hC.x hC.b dX1_bringFrom_107 hl (k := 4) rfl rfl (by decide) rfl (fun ls hl => ?_)
      refine lv_goto (tgt := 60) hC.x hC.b dX1_bringFrom_110 (by decide) ?_
      exact hK60 (S10, x3, x4, (x5 + 1)) hw610 H locs ls hP hD hS (lv_sub hl [2, 3, 4, 0] rfl)
def j1_bringFrom_17 (post : Int32 → CS → Prop) (tw : Option TD) (S : CS) (x1 : Int32) (y1 : Int32) : Prop :=
  (w1_nightWhy (fun r4 => ((r4 = 0 → ((∃ τ, tw = some τ) ∧ (w5_lay (fun S7 => (lp (fun (K : (CS × Int32 × Int32 × Int32) → Prop) (z : (CS × Int32 × Int32 × Int32)) => f1_bringFrom_60 post K z.1 z.2.1 z.2.2.1 z.2.2.2) (S7, (-2), 1000000, 0))) tw S 0 x1))) ∧ (¬ r4 = 0 → (w1_no (fun r12 S13 => (post r12 S13)) S r4)))) S y1 x1)
set_option maxHeartbeats 4000000 in
theorem k1_bringFrom_17 {post : Int32 → CS → Prop} {S : CS} {x1 : Int32} {y1 : Int32} (hC : CX RX1 cX1_bringFrom 7 (some .int) D gCl nwG Z Hb A p s m args meth c) (hw : j1_bringFrom_17 post tw S x1 y1) : ∀ (H : Heap) (locs : List Loc) (ls : Array Slot), va_P D gCl (wC D ad sc tw S) H → va_D A (wC D ad sc tw S) → va_S A s.heap H locs → lv_has ls 7 [(0, .ref (ad 0)), (1, .int x1)] → W p l e ({ frames := 123, cells := 0, slots := 0, locals := 6073 } : Room) s m args below meth c H locs 0 0 (MQ below (va_Qi post (BW D gCl A (fun u => (wC D ad sc tw u))) A) args s 0 0 A) (F0 m 17 ls [.int y1, .ref (ad 0)]) := by
  intro H locs ls hP hD hS hl
  unfold j1_bringFrom_17 at hw
  refine lv_iload_n hC.x hC.b dX1_bringFrom_17 rfl (lv_at hl 1 rfl) ?_
  refine go_i (run_V (rest := []) hC (m1_nightWhy l hw) v1_1_nightWhy h1_nightWhy 0 0 gCl_X1 rfl rfl ⟨rfl, rfl, Nat.le_of_ble_eq_true rfl, Nat.le_of_ble_eq_true rfl⟩ ⟨Nat.le_refl _, Nat.le_refl _⟩ hP hD hS hl.1 (Nat.le_of_ble_eq_true rfl) dX1_bringFrom_18 rfl) hS (fun r4 u H locs hw602 hP hD hS => ?_)
  refine lv_istore_n (lv' := [(2, .int r4), (0, .ref (ad 0)), (1, .int x1)]) hC.x hC.b dX1_bringFrom_21 rfl hl (by decide) rfl (fun ls hl => ?_)
  refine lv_iload_n hC.x hC.b dX1_bringFrom_22 rfl (lv_at hl 0 rfl) ?_
  refine lv_if_eq (tgt := 32) hC.x hC.b dX1_bringFrom_23 (by decide) (fun c5 => ?_) (fun c5 => ?_)
  · have hw603 := hw602.1 c5
    refine lv_aload_n hC.x hC.b dX1_bringFrom_32 rfl (lv_at hl 1 rfl) ?_
    refine gO_12 hC hP dX1_bringFrom_33 ?_
    refine lv_aload_n hC.x hC.b dX1_bringFrom_36 rfl (lv_at hl 1 rfl) ?_
    refine gO_3 hC hP dX1_bringFrom_37 ?_
    refine lv_aload_n hC.x hC.b dX1_bringFrom_40 rfl (lv_at hl 1 rfl) ?_
    refine gO_9 hC hP dX1_bringFrom_41 ?_
    refine lv_iload_n hC.x hC.b dX1_bringFrom_44 rfl (lv_at hl 2 rfl) ?_
    obtain ⟨⟨τ, rfl⟩, hw604⟩ := hw603
    refine go_r (run_V (rest := []) hC (m5_lay l (by decide) hw604) v1_5_lay h5_lay 4 4 gCl_X5 rfl rfl ⟨rfl, rfl, Nat.le_of_ble_eq_true rfl, Nat.le_of_ble_eq_true rfl⟩ ⟨Nat.le_refl _, Nat.le_refl _⟩ hP hD hS hl.1 (Nat.le_of_ble_eq_true rfl) dX1_bringFrom_45 rfl) hS (fun S7 H locs hw605 hP hD hS => ?_)
    refine lv_pop hC.x hC.b dX1_bringFrom_48 rfl ?_
    refine lv_bipush (v := (-2)) hC.x hC.b dX1_bringFrom_49 (by decide) ?_
    refine lv_istore_n (lv' := [(3, .int (-2)), (2, .int r4), (0, .ref (ad 0)), (1, .int x1)]) hC.x hC.b dX1_bringFrom_51 rfl hl (by decide) rfl (fun ls hl => ?_)
    refine lv_ldcw (v := 1000000) hC.x hC.b hC.ow (hC.ts _ q1173) dX1_bringFrom_52 ?_
    refine lv_istore (lv' := [(4, .int 1000000), (3, .int (-2)), (2, .int r4), (0, .ref (ad 0)), (1, .int x1)]) hC.x hC.b dX1_bringFrom_55 hl (by decide) rfl (fun ls hl => ?_)
    refine lv_iconst (v := 0) hC.x hC.b dX1_bringFrom_57 (by decide) ?_
    refine lv_istore (lv' := [(5, .int 0), (4, .int 1000000), (3, .int (-2)), (2, .int r4), (0, .ref (ad 0)), (1, .int x1)]) hC.x hC.b dX1_bringFrom_58 hl (by decide) rfl (fun ls hl => ?_)
    exact k1_bringFrom_60 hC (S7, (-2), 1000000, 0) hw605 H locs ls hP hD hS (lv_sub hl [4, 2, 1, 0] rfl)
  · have hw611 := hw602.2 c5
    refine lv_aload_n hC.x hC.b dX1_bringFrom_26 rfl (lv_at hl 1 rfl) ?_
    refine lv_iload_n hC.x hC.b dX1_bringFrom_27 rfl (lv_at hl 0 rfl) ?_
    refine go_i (run_V (rest := []) hC (m1_no l hw611) v1_1_no h1_no 0 0 gCl_X1 rfl rfl ⟨rfl, rfl, Nat.le_of_ble_eq_true rfl, Nat.le_of_ble_eq_true rfl⟩ ⟨Nat.le_refl _, Nat.le_refl _⟩ hP hD hS hl.1 (Nat.le_of_ble_eq_true rfl) dX1_bringFrom_28 rfl) hS (fun r12 S13 H locs hw612 hP hD hS => ?_)
    exact rt_i hC hw612 hP hD hS dX1_bringFrom_31
def w1_bringFrom (post : Int32 → CS → Prop) (tw : Option TD) (S : CS) (x1 : Int32) : Prop :=
  (w1_anew (fun S2 => ((tw = none → (j1_bringFrom_17 post tw S2 x1 0)) ∧ ((∃ τ, tw = some τ) → (j1_bringFrom_17 post tw S2 x1 1)))) S)
set_option maxHeartbeats 4000000 in
theorem m1_bringFrom (l : Launch) {post : Int32 → CS → Prop} {S : CS} {x1 : Int32} (hw : w1_bringFrom post tw S x1) : Met l yX1_bringFrom (ws_ yX1_bringFrom cX1_bringFrom 7 (some .int)) ({ frames := 123, cells := 0, slots := 0, locals := 6073 } : Room) (va_Pc [.ref (ad 0), .int x1] (PcG D gCl nwG Z Hb A (wC D ad sc tw S))) (va_Qi post (BW D gCl A (fun u => (wC D ad sc tw u))) A) 0 0 A := by
  refine Met.ofG (by decide) (Nat.le_of_ble_eq_true rfl) ?_
  intro p e s m below meth c ls hC _ hP hD hS hl
  have hC : CX RX1 cX1_bringFrom 7 (some .int) D gCl nwG Z Hb A p s m _ meth c := hC
  have hl : lv_has ls 7 [(0, .ref (ad 0)), (1, .int x1)] := hl
  unfold w1_bringFrom at hw
  refine lv_aload_n hC.x hC.b dX1_bringFrom_0 rfl (lv_at hl 0 rfl) ?_
  refine go_v (run_V (rest := []) hC (m1_anew l hw) v1_1_anew h1_anew 0 0 gCl_X1 rfl rfl ⟨rfl, rfl, Nat.le_of_ble_eq_true rfl, Nat.le_of_ble_eq_true rfl⟩ ⟨Nat.le_refl _, Nat.le_refl _⟩ hP hD hS hl.1 (Nat.le_of_ble_eq_true rfl) dX1_bringFrom_1 rfl) hS (fun S2 H locs hw600 hP hD hS => ?_)
  refine lv_aload_n hC.x hC.b dX1_bringFrom_4 rfl (lv_at hl 0 rfl) ?_
  refine lv_aload_n hC.x hC.b dX1_bringFrom_5 rfl (lv_at hl 0 rfl) ?_
  refine gO_3 hC hP dX1_bringFrom_6 ?_
  rcases va_o2 tw with c3 | ⟨τ, c3⟩
  · have hw601 := hw600.1 c3
    subst c3
    refine lv_ifnullN (tgt := 16) hC.x hC.b dX1_bringFrom_9 (by decide) ?_
    refine lv_iconst (v := 0) hC.x hC.b dX1_bringFrom_16 (by decide) ?_
    exact k1_bringFrom_17 hC hw601 H locs ls hP hD hS (lv_sub hl [0, 1] rfl)
  · have hw613 := hw600.2 ⟨τ, c3⟩
    subst c3
    refine lv_ifnull hC.x hC.b dX1_bringFrom_9 ?_
    refine lv_iconst (v := 1) hC.x hC.b dX1_bringFrom_12 (by decide) ?_
    refine lv_goto (tgt := 17) hC.x hC.b dX1_bringFrom_13 (by decide) ?_
    exact k1_bringFrom_17 hC hw613 H locs ls hP hD hS (lv_sub hl [0, 1] rfl)
theorem h7_between : yX7_between.cls = RX7 ∧ yX7_between.cls ≠ "java/lang/invoke/MethodHandle" ∧ yX7_between.cls ≠ "java/lang/invoke/VarHandle" ∧ (parseMethodDescriptor yX7_between.desc).map (fun d => d.parameters.length) = some 2 := by decide +kernel
def w7_between (post : Int32 → Prop) (S : CS) (x1 : Int32) (x2 : Int32) : Prop :=
  (post (if ((S.1.1 50 6) - (if 0 ≤ (x1 - x2) then (x1 - x2) else 0 - (x1 - x2))) < (if 0 ≤ (x1 - x2) then (x1 - x2) else 0 - (x1 - x2)) then ((S.1.1 50 6) - (if 0 ≤ (x1 - x2) then (x1 - x2) else 0 - (x1 - x2))) else (if 0 ≤ (x1 - x2) then (x1 - x2) else 0 - (x1 - x2))))
set_option maxHeartbeats 4000000 in
theorem m7_between (l : Launch) {post : Int32 → Prop} {S : CS} {x1 : Int32} {x2 : Int32} (hw : w7_between post S x1 x2) : Met l yX7_between (ws_ yX7_between cX7_between 4 (some .int)) ({ frames := 1, cells := 0, slots := 0, locals := 40 } : Room) (va_Pc [.ref (τ.1 0), .int x1, .int x2] (PcG D gCl nwG Z Hb A (wC D ad sc (some τ) S))) (va_Qi (fun r (_ : Unit) => post r) (BW D gCl A (fun _ => (wC D ad sc (some τ) S))) A) 0 0 A := by
  refine Met.ofG (by decide) (Nat.le_of_ble_eq_true rfl) ?_
  intro p e s m below meth c ls hC _ hP hD hS hl
  have hC : CX RX7 cX7_between 4 (some .int) D gCl nwG Z Hb A p s m _ meth c := hC
  have hl : lv_has ls 4 [(0, .ref (τ.1 0)), (1, .int x1), (2, .int x2)] := hl
  unfold w7_between at hw
  refine lv_iload_n hC.x hC.b dX7_between_0 rfl (lv_at hl 1 rfl) ?_
  refine lv_iload_n hC.x hC.b dX7_between_1 rfl (lv_at hl 2 rfl) ?_
  refine lv_isub hC.x hC.b dX7_between_2 ?_
  refine va_mabs hC.x hC.b (hC.ml.trans hl.1.symm) hC.ow (hC.ts _ q1182) (hC.ts _ q1183) (hC.ts _ q142) (hC.ts _ q1184) (Nat.le_of_ble_eq_true rfl) (Nat.le_of_ble_eq_true rfl) (Nat.le_refl _) (Nat.le_refl _) dX7_between_3 ?_
  refine lv_istore_n (lv' := [(3, .int (if 0 ≤ (x1 - x2) then (x1 - x2) else 0 - (x1 - x2))), (0, .ref (τ.1 0)), (1, .int x1), (2, .int x2)]) hC.x hC.b dX7_between_6 rfl hl (by decide) rfl (fun ls hl => ?_)
  refine lv_iload_n hC.x hC.b dX7_between_7 rfl (lv_at hl 0 rfl) ?_
  refine lv_aload_n hC.x hC.b dX7_between_8 rfl (lv_at hl 1 rfl) ?_
  refine gX7T_6 hC hP dX7_between_9 ?_
  refine lv_iload_n hC.x hC.b dX7_between_12 rfl (lv_at hl 0 rfl) ?_
  refine lv_isub hC.x hC.b dX7_between_13 ?_
  refine va_mmin hC.x hC.b (hC.ml.trans hl.1.symm) hC.ow (hC.ts _ q1185) (hC.ts _ q1186) (hC.ts _ q142) (hC.ts _ q1187) (Nat.le_of_ble_eq_true rfl) (Nat.le_of_ble_eq_true rfl) (Nat.le_refl _) (Nat.le_refl _) dX7_between_14 ?_
  exact rt_i (u := ()) hC hw hP hD hS dX7_between_17
theorem v1_7_between : GoodIn lw_all (wsV RX1 258 RX7 yX7_between (ws_ yX7_between cX7_between 4 (some .int))) := lw_V q1178 q1179 q1180 q127 q1181
theorem h1_steps : yX1_steps.cls = RX1 ∧ yX1_steps.cls ≠ "java/lang/invoke/MethodHandle" ∧ yX1_steps.cls ≠ "java/lang/invoke/VarHandle" ∧ (parseMethodDescriptor yX1_steps.desc).map (fun d => d.parameters.length) = some 2 := by decide +kernel
def w1_steps (post : Int32 → CS → Prop) (tw : Option TD) (S : CS) (x1 : Int32) (x2 : Int32) : Prop :=
  (w1_anew (fun S2 => (w1_isHouse (fun r3 => ((r3 = 0 → (w1_no (fun r5 S6 => (post r5 S6)) S2 1)) ∧ (¬ r3 = 0 → (w1_isHouse (fun r7 => ((r7 = 0 → (w1_no (fun r9 S10 => (post r9 S10)) S2 1)) ∧ (¬ r7 = 0 → ((∃ τ, tw = some τ) ∧ (w7_between (fun r11 => (post r11 S2)) S2 x1 x2))))) tw S2 x2)))) tw S2 x1)) S)
set_option maxHeartbeats 4000000 in
theorem m1_steps (l : Launch) {post : Int32 → CS → Prop} {S : CS} {x1 : Int32} {x2 : Int32} (hw : w1_steps post tw S x1 x2) : Met l yX1_steps (ws_ yX1_steps cX1_steps 3 (some .int)) ({ frames := 2, cells := 0, slots := 0, locals := 63 } : Room) (va_Pc [.ref (ad 0), .int x1, .int x2] (PcG D gCl nwG Z Hb A (wC D ad sc tw S))) (va_Qi post (BW D gCl A (fun u => (wC D ad sc tw u))) A) 0 0 A := by
  refine Met.ofG (by decide) (Nat.le_of_ble_eq_true rfl) ?_
  intro p e s m below meth c ls hC _ hP hD hS hl
  have hC : CX RX1 cX1_steps 3 (some .int) D gCl nwG Z Hb A p s m _ meth c := hC
  have hl : lv_has ls 3 [(0, .ref (ad 0)), (1, .int x1), (2, .int x2)] := hl
  unfold w1_steps at hw
  refine lv_aload_n hC.x hC.b dX1_steps_0 rfl (lv_at hl 0 rfl) ?_
  refine go_v (run_V (rest := []) hC (m1_anew l hw) v1_1_anew h1_anew 0 0 gCl_X1 rfl rfl ⟨rfl, rfl, Nat.le_of_ble_eq_true rfl, Nat.le_of_ble_eq_true rfl⟩ ⟨Nat.le_refl _, Nat.le_refl _⟩ hP hD hS hl.1 (Nat.le_of_ble_eq_true rfl) dX1_steps_1 rfl) hS (fun S2 H locs hw614 hP hD hS => ?_)
  refine lv_aload_n hC.x hC.b dX1_steps_4 rfl (lv_at hl 0 rfl) ?_
  refine lv_iload_n hC.x hC.b dX1_steps_5 rfl (lv_at hl 1 rfl) ?_
  refine go_i (run_V (rest := []) hC (m1_isHouse l hw614) v1_1_isHouse h1_isHouse 0 0 gCl_X1 rfl rfl ⟨rfl, rfl, Nat.le_of_ble_eq_true rfl, Nat.le_of_ble_eq_true rfl⟩ ⟨Nat.le_refl _, Nat.le_refl _⟩ hP hD hS hl.1 (Nat.le_of_ble_eq_true rfl) dX1_steps_6 rfl) hS (fun r3 u H locs hw615 hP hD hS => ?_)
  refine lv_if_eq (tgt := 32) hC.x hC.b dX1_steps_9 (by decide) (fun c4 => ?_) (fun c4 => ?_)
  · have hw616 := hw615.1 c4
    refine lv_aload_n hC.x hC.b dX1_steps_32 rfl (lv_at hl 0 rfl) ?_
    refine lv_iconst (v := 1) hC.x hC.b dX1_steps_33 (by decide) ?_
    refine go_i (run_V (rest := []) hC (m1_no l hw616) v1_1_no h1_no 0 0 gCl_X1 rfl rfl ⟨rfl, rfl, Nat.le_of_ble_eq_true rfl, Nat.le_of_ble_eq_true rfl⟩ ⟨Nat.le_refl _, Nat.le_refl _⟩ hP hD hS hl.1 (Nat.le_of_ble_eq_true rfl) dX1_steps_34 rfl) hS (fun r5 S6 H locs hw617 hP hD hS => ?_)
    exact rt_i hC hw617 hP hD hS dX1_steps_37
  · have hw618 := hw615.2 c4
    refine lv_aload_n hC.x hC.b dX1_steps_12 rfl (lv_at hl 0 rfl) ?_
    refine lv_iload_n hC.x hC.b dX1_steps_13 rfl (lv_at hl 2 rfl) ?_
    refine go_i (run_V (rest := []) hC (m1_isHouse l hw618) v1_1_isHouse h1_isHouse 0 0 gCl_X1 rfl rfl ⟨rfl, rfl, Nat.le_of_ble_eq_true rfl, Nat.le_of_ble_eq_true rfl⟩ ⟨Nat.le_refl _, Nat.le_refl _⟩ hP hD hS hl.1 (Nat.le_of_ble_eq_true rfl) dX1_steps_14 rfl) hS (fun r7 u H locs hw619 hP hD hS => ?_)
    refine lv_if_eq (tgt := 32) hC.x hC.b dX1_steps_17 (by decide) (fun c8 => ?_) (fun c8 => ?_)
    · have hw620 := hw619.1 c8
      refine lv_aload_n hC.x hC.b dX1_steps_32 rfl (lv_at hl 0 rfl) ?_
      refine lv_iconst (v := 1) hC.x hC.b dX1_steps_33 (by decide) ?_
      refine go_i (run_V (rest := []) hC (m1_no l hw620) v1_1_no h1_no 0 0 gCl_X1 rfl rfl ⟨rfl, rfl, Nat.le_of_ble_eq_true rfl, Nat.le_of_ble_eq_true rfl⟩ ⟨Nat.le_refl _, Nat.le_refl _⟩ hP hD hS hl.1 (Nat.le_of_ble_eq_true rfl) dX1_steps_34 rfl) hS (fun r9 S10 H locs hw621 hP hD hS => ?_)
      exact rt_i hC hw621 hP hD hS dX1_steps_37
    · have hw622 := hw619.2 c8
      refine lv_aload_n hC.x hC.b dX1_steps_20 rfl (lv_at hl 0 rfl) ?_
      refine gO_3 hC hP dX1_steps_21 ?_
      refine lv_iload_n hC.x hC.b dX1_steps_24 rfl (lv_at hl 1 rfl) ?_
      refine lv_iload_n hC.x hC.b dX1_steps_25 rfl (lv_at hl 2 rfl) ?_
      obtain ⟨⟨τ, rfl⟩, hw623⟩ := hw622
      refine go_i (run_V (rest := []) hC (m7_between l hw623) v1_7_between h7_between 105 6 gCl_X7 (wC_t (j := 0) (by omega) rfl) rfl ⟨rfl, rfl, Nat.le_of_ble_eq_true rfl, Nat.le_of_ble_eq_true rfl⟩ ⟨Nat.le_refl _, Nat.le_refl _⟩ hP hD hS hl.1 (Nat.le_of_ble_eq_true rfl) dX1_steps_26 rfl) hS (fun r11 u H locs hw624 hP hD hS => ?_)
      refine lv_goto (tgt := 37) hC.x hC.b dX1_steps_29 (by decide) ?_
      exact rt_i hC hw624 hP hD hS dX1_steps_37
theorem h1_ringOf : yX1_ringOf.cls = RX1 ∧ yX1_ringOf.cls ≠ "java/lang/invoke/MethodHandle" ∧ yX1_ringOf.cls ≠ "java/lang/invoke/VarHandle" ∧ (parseMethodDescriptor yX1_ringOf.desc).map (fun d => d.parameters.length) = some 2 := by decide +kernel
def j1_ringOf_63 (post : Int32 → CS → Prop) (tw : Option TD) (K5 : (CS × Int32 × Int32) → Prop) (S : CS) (x1 : Int32) (x2 : Int32) (x4 : Int32) (x5 : Int32) : Prop :=
  ((¬ x5 = (S.1.1 50 9) → (w4_ear (fun r6 => ((¬ r6 = x1 → (K5 (S, r6, (x4 + 1)))) ∧ (r6 = x1 → (post (x4 + 1) S)))) tw S 0 x5 x2 0)) ∧ (x5 = (S.1.1 50 9) → (post (-2) S)))
set_option maxHeartbeats 4000000 in
theorem k1_ringOf_63 {post : Int32 → CS → Prop} {S : CS} {x1 : Int32} {x2 : Int32} {x4 : Int32} {x5 : Int32} {K5 : (CS × Int32 × Int32) → Prop} (hC : CX RX1 cX1_ringOf 6 (some .int) D gCl nwG Z Hb A p s m args meth c) (hK5 : ∀ z : (CS × Int32 × Int32), K5 z → ∀ (H : Heap) (locs : List Loc) (ls : Array Slot), va_P D gCl (wC D ad sc (some τ) z.1) H → va_D A (wC D ad sc (some τ) z.1) → va_S A s.heap H locs → lv_has ls 6 [(0, .ref (ad 0)), (1, .int x1), (2, .int x2), (3, .int z.2.1), (4, .int z.2.2)] → W p l e ({ frames := 122, cells := 0, slots := 0, locals := 6047 } : Room) s m args below meth c H locs 0 0 (MQ below (va_Qi post (BW D gCl A (fun u => (wC D ad sc (some τ) u))) A) args s 0 0 A) (F0 m 5 ls [])) (hw : j1_ringOf_63 post (some τ) K5 S x1 x2 x4 x5) : ∀ (H : Heap) (locs : List Loc) (ls : Array Slot), va_P D gCl (wC D ad sc (some τ) S) H → va_D A (wC D ad sc (some τ) S) → va_S A s.heap H locs → lv_has ls 6 [(0, .ref (ad 0)), (1, .int x1), (2, .int x2), (4, .int x4), (5, .int x5)] → W p l e ({ frames := 122, cells := 0, slots := 0, locals := 6047 } : Room) s m args below meth c H locs 0 0 (MQ below (va_Qi post (BW D gCl A (fun u => (wC D ad sc (some τ) u))) A) args s 0 0 A) (F0 m 63 ls []) := by
  intro H locs ls hP hD hS hl
  unfold j1_ringOf_63 at hw
  refine lv_iload hC.x hC.b dX1_ringOf_63 (lv_at hl 4 rfl) ?_
  refine lv_aload_n hC.x hC.b dX1_ringOf_65 rfl (lv_at hl 0 rfl) ?_
  refine gO_3 hC hP dX1_ringOf_66 ?_
  refine gX1T_9 hC hP dX1_ringOf_69 ?_
  refine lv_icmp_ne (tgt := 78) hC.x hC.b dX1_ringOf_72 (by decide) (fun c5 => ?_) (fun c5 => ?_)
  · have hw631 := hw.1 c5
    refine lv_aload_n hC.x hC.b dX1_ringOf_78 rfl (lv_at hl 0 rfl) ?_
    refine gO_9 hC hP dX1_ringOf_79 ?_
    refine lv_iload hC.x hC.b dX1_ringOf_82 (lv_at hl 4 rfl) ?_
    refine lv_iload_n hC.x hC.b dX1_ringOf_84 rfl (lv_at hl 2 rfl) ?_
    refine lv_iconst (v := 0) hC.x hC.b dX1_ringOf_85 (by decide) ?_
    refine go_i (run_V (rest := []) hC (m4_ear l (by decide) hw631) v1_4_ear h4_ear (17 + 4 * 0) 3 gCl_X4 (wC_so (by decide)) rfl ⟨rfl, rfl, Nat.le_of_ble_eq_true rfl, Nat.le_of_ble_eq_true rfl⟩ ⟨Nat.le_refl _, Nat.le_refl _⟩ hP hD hS hl.1 (Nat.le_of_ble_eq_true rfl) dX1_ringOf_86 rfl) hS (fun r6 u H locs hw632 hP hD hS => ?_)
    refine lv_istore_n (lv' := [(3, .int r6), (0, .ref (ad 0)), (1, .int x1), (2, .int x2), (4, .int x4), (5, .int x5)]) hC.x hC.b dX1_ringOf_89 rfl hl (by decide) rfl (fun ls hl => ?_)
    refine lv_iload_n hC.x hC.b dX1_ringOf_90 rfl (lv_at hl 0 rfl) ?_
    refine lv_iload_n hC.x hC.b dX1_ringOf_91 rfl (lv_at hl 2 rfl) ?_
    refine lv_icmp_ne (tgt := 100) hC.x hC.b dX1_ringOf_92 (by decide) (fun c7 => ?_) (fun c7 => ?_)
    · have hw633 := hw632.1 c7
      refine lv_iinc (v := (x4 + 1)) (lv' := [(4, .int (x4 + 1)), (3, .int r6), (0, .ref (ad 0)), (1, .int x1), (2, .int x2), (5, .int x5)]) hC.x hC.b dX1_ringOf_100 hl (k := 4) rfl rfl (by decide) rfl (fun ls hl => ?_)
      refine lv_goto (tgt := 5) hC.x hC.b dX1_ringOf_103 (by decide) ?_
      exact hK5 (S, r6, (x4 + 1)) hw633 H locs ls hP hD hS (lv_sub hl [2, 3, 4, 1, 0] rfl)
    · have hw634 := hw632.2 c7
      refine lv_iload hC.x hC.b dX1_ringOf_95 (lv_at hl 4 rfl) ?_
      refine lv_iconst (v := 1) hC.x hC.b dX1_ringOf_97 (by decide) ?_
      refine lv_iadd hC.x hC.b dX1_ringOf_98 ?_
      exact rt_i hC hw634 hP hD hS dX1_ringOf_99
  · have hw635 := hw.2 c5
    refine lv_bipush (v := (-2)) hC.x hC.b dX1_ringOf_75 (by decide) ?_
    exact rt_i hC hw635 hP hD hS dX1_ringOf_77
def f1_ringOf_28 (post : Int32 → CS → Prop) (tw : Option TD) (K5 : (CS × Int32 × Int32) → Prop) (S : CS) (x1 : Int32) (x2 : Int32) (x3 : Int32) (x4 : Int32) (K28 : Int32 → Prop) (x5 : Int32) : Prop :=
  (((S.1.1 50 9) ≤ x5 → (j1_ringOf_63 post tw K5 S x1 x2 x4 x5)) ∧ (¬ (S.1.1 50 9) ≤ x5 → (vp_in x5 6 ∧ (x5.toNatClampNeg < tG tw ∧ (tL tw x5.toNatClampNeg < 4 ∧ (((S.1.1 (1001 + 2 * x5.toNatClampNeg) 1) = x3 → (j1_ringOf_63 post tw K5 S x1 x2 x4 x5)) ∧ (¬ (S.1.1 (1001 + 2 * x5.toNatClampNeg) 1) = x3 → (K28 (x5 + 1)))))))))
set_option maxHeartbeats 4000000 in
theorem k1_ringOf_28 {post : Int32 → CS → Prop} {S : CS} {x1 : Int32} {x2 : Int32} {x3 : Int32} {x4 : Int32} {K5 : (CS × Int32 × Int32) → Prop} (hC : CX RX1 cX1_ringOf 6 (some .int) D gCl nwG Z Hb A p s m args meth c) (hK5 : ∀ z : (CS × Int32 × Int32), K5 z → ∀ (H : Heap) (locs : List Loc) (ls : Array Slot), va_P D gCl (wC D ad sc (some τ) z.1) H → va_D A (wC D ad sc (some τ) z.1) → va_S A s.heap H locs → lv_has ls 6 [(0, .ref (ad 0)), (1, .int x1), (2, .int x2), (3, .int z.2.1), (4, .int z.2.2)] → W p l e ({ frames := 122, cells := 0, slots := 0, locals := 6047 } : Room) s m args below meth c H locs 0 0 (MQ below (va_Qi post (BW D gCl A (fun u => (wC D ad sc (some τ) u))) A) args s 0 0 A) (F0 m 5 ls [])) : ∀ z : Int32, lp (fun (K : Int32 → Prop) (z : Int32) => f1_ringOf_28 post (some τ) K5 S x1 x2 x3 x4 K z) z → ∀ (H : Heap) (locs : List Loc) (ls : Array Slot), va_P D gCl (wC D ad sc (some τ) S) H → va_D A (wC D ad sc (some τ) S) → va_S A s.heap H locs → lv_has ls 6 [(0, .ref (ad 0)), (1, .int x1), (2, .int x2), (3, .int x3), (4, .int x4), (5, .int z)] → W p l e ({ frames := 122, cells := 0, slots := 0, locals := 6047 } : Room) s m args below meth c H locs 0 0 (MQ below (va_Qi post (BW D gCl A (fun u => (wC D ad sc (some τ) u))) A) args s 0 0 A) (F0 m 28 ls []) := by
  refine lp_ind ?_
  rintro K28 x5 hK28 hw H locs ls hP hD hS hl
  have hw : f1_ringOf_28 post (some τ) K5 S x1 x2 x3 x4 K28 x5 := hw
  unfold f1_ringOf_28 at hw
  have hP : va_P D gCl (wC D ad sc (some τ) S) H := hP
  have hD : va_D A (wC D ad sc (some τ) S) := hD
  have hl : lv_has ls 6 [(0, .ref (ad 0)), (1, .int x1), (2, .int x2), (3, .int x3), (4, .int x4), (5, .int x5)] := hl
  refine lv_iload hC.x hC.b dX1_ringOf_28 (lv_at hl 5 rfl) ?_
  refine lv_aload_n hC.x hC.b dX1_ringOf_30 rfl (lv_at hl 0 rfl) ?_
  refine gO_3 hC hP dX1_ringOf_31 ?_
  refine gX1T_9 hC hP dX1_ringOf_34 ?_
  refine lv_icmp_ge (tgt := 63) hC.x hC.b dX1_ringOf_37 (by decide) (fun c4 => ?_) (fun c4 => ?_)
  · have hw630 := hw.1 c4
    exact k1_ringOf_63 hC hK5 hw630 H locs ls hP hD hS (lv_sub hl [0, 1, 2, 4, 5] rfl)
  · have hw636 := hw.2 c4
    refine lv_aload_n hC.x hC.b dX1_ringOf_40 rfl (lv_at hl 0 rfl) ?_
    refine gO_3 hC hP dX1_ringOf_41 ?_
    refine gX1T_1 hC hP dX1_ringOf_44 ?_
    refine lv_iload hC.x hC.b dX1_ringOf_47 (lv_at hl 5 rfl) ?_
    obtain ⟨hin8, hw637⟩ := hw636
    obtain ⟨hg9, hw638⟩ := hw637
    refine lGh hC hP hin8 rfl hg9 dX1_ringOf_49 ?_
    obtain ⟨hlw, hw639⟩ := hw638
    refine gX1G_1 (i := x5.toNatClampNeg) hg9 hlw hC hP dX1_ringOf_50 ?_
    refine lv_iload_n hC.x hC.b dX1_ringOf_53 rfl (lv_at hl 3 rfl) ?_
    refine lv_icmp_eq (tgt := 63) hC.x hC.b dX1_ringOf_54 (by decide) (fun c10 => ?_) (fun c10 => ?_)
    · have hw640 := hw639.1 c10
      exact k1_ringOf_63 hC hK5 hw640 H locs ls hP hD hS (lv_sub hl [0, 1, 2, 4, 5] rfl)
    · have hw641 := hw639.2 c10
      refine lv_iinc (v := (x5 + 1)) (lv' := [(5, .int (x5 + 1)), (0, .ref (ad 0)), (1, .int x1), (2, .int x2), (3, .int x3), (4, .int x4)]) hC.x hC.b dX1_ringOf_57 hl (k := 5) rfl rfl (by decide) rfl (fun ls hl => ?_)
      refine lv_goto (tgt := 28) hC.x hC.b dX1_ringOf_60 (by decide) ?_
      exact hK28 (x5 + 1) hw641 H locs ls hP hD hS (lv_sub hl [1, 2, 3, 4, 5, 0] rfl)
def f1_ringOf_5 (post : Int32 → CS → Prop) (tw : Option TD) (x1 : Int32) (x2 : Int32) (K5 : (CS × Int32 × Int32) → Prop) (S : CS) (x3 : Int32) (x4 : Int32) : Prop :=
  ((∃ τ, tw = some τ) ∧ (((S.1.1 50 8) ≤ x4 → (post (-2) S)) ∧ (¬ (S.1.1 50 8) ≤ x4 → (vp_in x4 7 ∧ (∀ S3, S3 = sI S 12 x4.toNatClampNeg x3 → (lp (fun (K : Int32 → Prop) (z : Int32) => f1_ringOf_28 post tw K5 S3 x1 x2 x3 x4 K z) 0))))))
set_option maxHeartbeats 4000000 in
theorem k1_ringOf_5 {post : Int32 → CS → Prop} {x1 : Int32} {x2 : Int32} (hC : CX RX1 cX1_ringOf 6 (some .int) D gCl nwG Z Hb A p s m args meth c) : ∀ z : (CS × Int32 × Int32), lp (fun (K : (CS × Int32 × Int32) → Prop) (z : (CS × Int32 × Int32)) => f1_ringOf_5 post tw x1 x2 K z.1 z.2.1 z.2.2) z → ∀ (H : Heap) (locs : List Loc) (ls : Array Slot), va_P D gCl (wC D ad sc tw z.1) H → va_D A (wC D ad sc tw z.1) → va_S A s.heap H locs → lv_has ls 6 [(0, .ref (ad 0)), (1, .int x1), (2, .int x2), (3, .int z.2.1), (4, .int z.2.2)] → W p l e ({ frames := 122, cells := 0, slots := 0, locals := 6047 } : Room) s m args below meth c H locs 0 0 (MQ below (va_Qi post (BW D gCl A (fun u => (wC D ad sc tw u))) A) args s 0 0 A) (F0 m 5 ls []) := by
  refine lp_ind ?_
  rintro K5 ⟨S, x3, x4⟩ hK5 hw H locs ls hP hD hS hl
  have hw : f1_ringOf_5 post tw x1 x2 K5 S x3 x4 := hw
  unfold f1_ringOf_5 at hw
  have hP : va_P D gCl (wC D ad sc tw S) H := hP
  have hD : va_D A (wC D ad sc tw S) := hD
  have hl : lv_has ls 6 [(0, .ref (ad 0)), (1, .int x1), (2, .int x2), (3, .int x3), (4, .int x4)] := hl
  refine lv_iload hC.x hC.b dX1_ringOf_5 (lv_at hl 4 rfl) ?_
  refine lv_aload_n hC.x hC.b dX1_ringOf_7 rfl (lv_at hl 0 rfl) ?_
  refine gO_3 hC hP dX1_ringOf_8 ?_
  obtain ⟨⟨τ, rfl⟩, hw625⟩ := hw
  refine gX1T_8 hC hP dX1_ringOf_11 ?_
  refine lv_icmp_ge (tgt := 106) hC.x hC.b dX1_ringOf_14 (by decide) (fun c1 => ?_) (fun c1 => ?_)
  · have hw626 := hw625.1 c1
    refine lv_bipush (v := (-2)) hC.x hC.b dX1_ringOf_106 (by decide) ?_
    exact rt_i hC hw626 hP hD hS dX1_ringOf_108
  · have hw627 := hw625.2 c1
    refine lv_aload_n hC.x hC.b dX1_ringOf_17 rfl (lv_at hl 0 rfl) ?_
    refine gO_18 hC hP dX1_ringOf_18 ?_
    refine lv_iload hC.x hC.b dX1_ringOf_21 (lv_at hl 4 rfl) ?_
    refine lv_iload_n hC.x hC.b dX1_ringOf_23 rfl (lv_at hl 3 rfl) ?_
    obtain ⟨hin2, hw628⟩ := hw627
    refine sF_12 hC hP hD hS (v := x3) hin2 rfl dX1_ringOf_24 (fun S3 eS3 H locs hP hD hS => ?_)
    have hw629 := hw628 S3 eS3
    refine lv_iconst (v := 0) hC.x hC.b dX1_ringOf_25 (by decide) ?_
    refine lv_istore (lv' := [(5, .int 0), (0, .ref (ad 0)), (1, .int x1), (2, .int x2), (3, .int x3), (4, .int x4)]) hC.x hC.b dX1_ringOf_26 hl (by decide) rfl (fun ls hl => ?_)
    exact k1_ringOf_28 hC hK5 0 hw629 H locs ls hP hD hS (lv_sub hl [1, 2, 3, 4, 5, 0] rfl)
def w1_ringOf (post : Int32 → CS → Prop) (tw : Option TD) (S : CS) (x1 : Int32) (x2 : Int32) : Prop :=
  (lp (fun (K : (CS × Int32 × Int32) → Prop) (z : (CS × Int32 × Int32)) => f1_ringOf_5 post tw x1 x2 K z.1 z.2.1 z.2.2) (S, x1, 0))
set_option maxHeartbeats 4000000 in
theorem m1_ringOf (l : Launch) {post : Int32 → CS → Prop} {S : CS} {x1 : Int32} {x2 : Int32} (hw : w1_ringOf post tw S x1 x2) : Met l yX1_ringOf (ws_ yX1_ringOf cX1_ringOf 6 (some .int)) ({ frames := 122, cells := 0, slots := 0, locals := 6047 } : Room) (va_Pc [.ref (ad 0), .int x1, .int x2] (PcG D gCl nwG Z Hb A (wC D ad sc tw S))) (va_Qi post (BW D gCl A (fun u => (wC D ad sc tw u))) A) 0 0 A := by
  refine Met.ofG (by decide) (Nat.le_of_ble_eq_true rfl) ?_
  intro p e s m below meth c ls hC _ hP hD hS hl
  have hC : CX RX1 cX1_ringOf 6 (some .int) D gCl nwG Z Hb A p s m _ meth c := hC
  have hl : lv_has ls 6 [(0, .ref (ad 0)), (1, .int x1), (2, .int x2)] := hl
  unfold w1_ringOf at hw
  refine lv_iload_n hC.x hC.b dX1_ringOf_0 rfl (lv_at hl 1 rfl) ?_
  refine lv_istore_n (lv' := [(3, .int x1), (0, .ref (ad 0)), (1, .int x1), (2, .int x2)]) hC.x hC.b dX1_ringOf_1 rfl hl (by decide) rfl (fun ls hl => ?_)
  refine lv_iconst (v := 0) hC.x hC.b dX1_ringOf_2 (by decide) ?_
  refine lv_istore (lv' := [(4, .int 0), (3, .int x1), (0, .ref (ad 0)), (1, .int x1), (2, .int x2)]) hC.x hC.b dX1_ringOf_3 hl (by decide) rfl (fun ls hl => ?_)
  exact k1_ringOf_5 hC (S, x1, 0) hw s.heap [] ls hP hD hS (lv_sub hl [2, 3, 4, 1, 0] rfl)
theorem v1_1_ringOf : GoodIn lw_all (wsV RX1 261 RX1 yX1_ringOf (ws_ yX1_ringOf cX1_ringOf 6 (some .int))) := lw_V q1192 q1194 qs37 q118 q1195
theorem h1_ring : yX1_ring.cls = RX1 ∧ yX1_ring.cls ≠ "java/lang/invoke/MethodHandle" ∧ yX1_ring.cls ≠ "java/lang/invoke/VarHandle" ∧ (parseMethodDescriptor yX1_ring.desc).map (fun d => d.parameters.length) = some 2 := by decide +kernel
def w1_ring (post : Int32 → CS → Prop) (tw : Option TD) (S : CS) (x1 : Int32) (x2 : Int32) : Prop :=
  (w1_anew (fun S2 => (w1_isPerson (fun r3 => (w1_nightWhy (fun r4 => ((r4 = 0 → (w1_ringOf (fun r6 S7 => (post r6 S7)) tw S2 x1 x2)) ∧ (¬ r4 = 0 → (w1_no (fun r8 S9 => (post r8 S9)) S2 r4)))) S2 r3 x2)) tw S2 x1)) S)
set_option maxHeartbeats 4000000 in
theorem m1_ring (l : Launch) {post : Int32 → CS → Prop} {S : CS} {x1 : Int32} {x2 : Int32} (hw : w1_ring post tw S x1 x2) : Met l yX1_ring (ws_ yX1_ring cX1_ring 4 (some .int)) ({ frames := 123, cells := 0, slots := 0, locals := 6072 } : Room) (va_Pc [.ref (ad 0), .int x1, .int x2] (PcG D gCl nwG Z Hb A (wC D ad sc tw S))) (va_Qi post (BW D gCl A (fun u => (wC D ad sc tw u))) A) 0 0 A := by
  refine Met.ofG (by decide) (Nat.le_of_ble_eq_true rfl) ?_
  intro p e s m below meth c ls hC _ hP hD hS hl
  have hC : CX RX1 cX1_ring 4 (some .int) D gCl nwG Z Hb A p s m _ meth c := hC
  have hl : lv_has ls 4 [(0, .ref (ad 0)), (1, .int x1), (2, .int x2)] := hl
  unfold w1_ring at hw
  refine lv_aload_n hC.x hC.b dX1_ring_0 rfl (lv_at hl 0 rfl) ?_
  refine go_v (run_V (rest := []) hC (m1_anew l hw) v1_1_anew h1_anew 0 0 gCl_X1 rfl rfl ⟨rfl, rfl, Nat.le_of_ble_eq_true rfl, Nat.le_of_ble_eq_true rfl⟩ ⟨Nat.le_refl _, Nat.le_refl _⟩ hP hD hS hl.1 (Nat.le_of_ble_eq_true rfl) dX1_ring_1 rfl) hS (fun S2 H locs hw642 hP hD hS => ?_)
  refine lv_aload_n hC.x hC.b dX1_ring_4 rfl (lv_at hl 0 rfl) ?_
  refine lv_aload_n hC.x hC.b dX1_ring_5 rfl (lv_at hl 0 rfl) ?_
  refine lv_iload_n hC.x hC.b dX1_ring_6 rfl (lv_at hl 1 rfl) ?_
  refine go_i (run_V (rest := [.ref (ad 0)]) hC (m1_isPerson l hw642) v1_1_isPerson h1_isPerson 0 0 gCl_X1 rfl rfl ⟨rfl, rfl, Nat.le_of_ble_eq_true rfl, Nat.le_of_ble_eq_true rfl⟩ ⟨Nat.le_refl _, Nat.le_refl _⟩ hP hD hS hl.1 (Nat.le_of_ble_eq_true rfl) dX1_ring_7 rfl) hS (fun r3 u H locs hw643 hP hD hS => ?_)
  refine lv_iload_n hC.x hC.b dX1_ring_10 rfl (lv_at hl 2 rfl) ?_
  refine go_i (run_V (rest := []) hC (m1_nightWhy l hw643) v1_1_nightWhy h1_nightWhy 0 0 gCl_X1 rfl rfl ⟨rfl, rfl, Nat.le_of_ble_eq_true rfl, Nat.le_of_ble_eq_true rfl⟩ ⟨Nat.le_refl _, Nat.le_refl _⟩ hP hD hS hl.1 (Nat.le_of_ble_eq_true rfl) dX1_ring_11 rfl) hS (fun r4 u H locs hw644 hP hD hS => ?_)
  refine lv_istore_n (lv' := [(3, .int r4), (0, .ref (ad 0)), (1, .int x1), (2, .int x2)]) hC.x hC.b dX1_ring_14 rfl hl (by decide) rfl (fun ls hl => ?_)
  refine lv_iload_n hC.x hC.b dX1_ring_15 rfl (lv_at hl 0 rfl) ?_
  refine lv_if_eq (tgt := 27) hC.x hC.b dX1_ring_16 (by decide) (fun c5 => ?_) (fun c5 => ?_)
  · have hw645 := hw644.1 c5
    refine lv_aload_n hC.x hC.b dX1_ring_27 rfl (lv_at hl 1 rfl) ?_
    refine lv_iload_n hC.x hC.b dX1_ring_28 rfl (lv_at hl 2 rfl) ?_
    refine lv_iload_n hC.x hC.b dX1_ring_29 rfl (lv_at hl 3 rfl) ?_
    refine go_i (run_V (rest := []) hC (m1_ringOf l hw645) v1_1_ringOf h1_ringOf 0 0 gCl_X1 rfl rfl ⟨rfl, rfl, Nat.le_of_ble_eq_true rfl, Nat.le_of_ble_eq_true rfl⟩ ⟨Nat.le_refl _, Nat.le_refl _⟩ hP hD hS hl.1 (Nat.le_of_ble_eq_true rfl) dX1_ring_30 rfl) hS (fun r6 S7 H locs hw646 hP hD hS => ?_)
    exact rt_i hC hw646 hP hD hS dX1_ring_33
  · have hw647 := hw644.2 c5
    refine lv_aload_n hC.x hC.b dX1_ring_19 rfl (lv_at hl 1 rfl) ?_
    refine lv_iload_n hC.x hC.b dX1_ring_20 rfl (lv_at hl 0 rfl) ?_
    refine go_i (run_V (rest := []) hC (m1_no l hw647) v1_1_no h1_no 0 0 gCl_X1 rfl rfl ⟨rfl, rfl, Nat.le_of_ble_eq_true rfl, Nat.le_of_ble_eq_true rfl⟩ ⟨Nat.le_refl _, Nat.le_refl _⟩ hP hD hS hl.1 (Nat.le_of_ble_eq_true rfl) dX1_ring_21 rfl) hS (fun r8 S9 H locs hw648 hP hD hS => ?_)
    refine lv_goto (tgt := 33) hC.x hC.b dX1_ring_24 (by decide) ?_
    exact rt_i hC hw648 hP hD hS dX1_ring_33
theorem h1_ringAt : yX1_ringAt.cls = RX1 ∧ yX1_ringAt.cls ≠ "java/lang/invoke/MethodHandle" ∧ yX1_ringAt.cls ≠ "java/lang/invoke/VarHandle" ∧ (parseMethodDescriptor yX1_ringAt.desc).map (fun d => d.parameters.length) = some 3 := by decide +kernel
def w1_ringAt (post : Int32 → CS → Prop) (tw : Option TD) (S : CS) (x1 : Int32) (x2 : Int32) (x3 : Int32) : Prop :=
  (w1_anew (fun S2 => (w1_isPerson (fun r3 => (w1_nightWhy (fun r4 => ((r4 = 0 → (w1_ringOf (fun r6 S7 => (w1_in (fun r8 => ((r8 = 0 → (w1_no (fun r10 S11 => (post r10 S11)) S7 1)) ∧ (¬ r8 = 0 → (vp_in x3 7 ∧ (post (S7.1.1 12 x3.toNatClampNeg) S7))))) x3 0 (r6 - 1))) tw S2 x1 x2)) ∧ (¬ r4 = 0 → (w1_no (fun r13 S14 => (post r13 S14)) S2 r4)))) S2 r3 x2)) tw S2 x1)) S)
set_option maxHeartbeats 4000000 in
theorem m1_ringAt (l : Launch) {post : Int32 → CS → Prop} {S : CS} {x1 : Int32} {x2 : Int32} {x3 : Int32} (hw : w1_ringAt post tw S x1 x2 x3) : Met l yX1_ringAt (ws_ yX1_ringAt cX1_ringAt 5 (some .int)) ({ frames := 123, cells := 0, slots := 0, locals := 6072 } : Room) (va_Pc [.ref (ad 0), .int x1, .int x2, .int x3] (PcG D gCl nwG Z Hb A (wC D ad sc tw S))) (va_Qi post (BW D gCl A (fun u => (wC D ad sc tw u))) A) 0 0 A := by
  refine Met.ofG (by decide) (Nat.le_of_ble_eq_true rfl) ?_
  intro p e s m below meth c ls hC _ hP hD hS hl
  have hC : CX RX1 cX1_ringAt 5 (some .int) D gCl nwG Z Hb A p s m _ meth c := hC
  have hl : lv_has ls 5 [(0, .ref (ad 0)), (1, .int x1), (2, .int x2), (3, .int x3)] := hl
  unfold w1_ringAt at hw
  refine lv_aload_n hC.x hC.b dX1_ringAt_0 rfl (lv_at hl 0 rfl) ?_
  refine go_v (run_V (rest := []) hC (m1_anew l hw) v1_1_anew h1_anew 0 0 gCl_X1 rfl rfl ⟨rfl, rfl, Nat.le_of_ble_eq_true rfl, Nat.le_of_ble_eq_true rfl⟩ ⟨Nat.le_refl _, Nat.le_refl _⟩ hP hD hS hl.1 (Nat.le_of_ble_eq_true rfl) dX1_ringAt_1 rfl) hS (fun S2 H locs hw649 hP hD hS => ?_)
  refine lv_aload_n hC.x hC.b dX1_ringAt_4 rfl (lv_at hl 0 rfl) ?_
  refine lv_aload_n hC.x hC.b dX1_ringAt_5 rfl (lv_at hl 0 rfl) ?_
  refine lv_iload_n hC.x hC.b dX1_ringAt_6 rfl (lv_at hl 1 rfl) ?_
  refine go_i (run_V (rest := [.ref (ad 0)]) hC (m1_isPerson l hw649) v1_1_isPerson h1_isPerson 0 0 gCl_X1 rfl rfl ⟨rfl, rfl, Nat.le_of_ble_eq_true rfl, Nat.le_of_ble_eq_true rfl⟩ ⟨Nat.le_refl _, Nat.le_refl _⟩ hP hD hS hl.1 (Nat.le_of_ble_eq_true rfl) dX1_ringAt_7 rfl) hS (fun r3 u H locs hw650 hP hD hS => ?_)
  refine lv_iload_n hC.x hC.b dX1_ringAt_10 rfl (lv_at hl 2 rfl) ?_
  refine go_i (run_V (rest := []) hC (m1_nightWhy l hw650) v1_1_nightWhy h1_nightWhy 0 0 gCl_X1 rfl rfl ⟨rfl, rfl, Nat.le_of_ble_eq_true rfl, Nat.le_of_ble_eq_true rfl⟩ ⟨Nat.le_refl _, Nat.le_refl _⟩ hP hD hS hl.1 (Nat.le_of_ble_eq_true rfl) dX1_ringAt_11 rfl) hS (fun r4 u H locs hw651 hP hD hS => ?_)
  refine lv_istore (lv' := [(4, .int r4), (0, .ref (ad 0)), (1, .int x1), (2, .int x2), (3, .int x3)]) hC.x hC.b dX1_ringAt_14 hl (by decide) rfl (fun ls hl => ?_)
  refine lv_iload hC.x hC.b dX1_ringAt_16 (lv_at hl 0 rfl) ?_
  refine lv_if_eq (tgt := 28) hC.x hC.b dX1_ringAt_18 (by decide) (fun c5 => ?_) (fun c5 => ?_)
  · have hw652 := hw651.1 c5
    refine lv_iload_n hC.x hC.b dX1_ringAt_28 rfl (lv_at hl 4 rfl) ?_
    refine lv_iconst (v := 0) hC.x hC.b dX1_ringAt_29 (by decide) ?_
    refine lv_aload_n hC.x hC.b dX1_ringAt_30 rfl (lv_at hl 1 rfl) ?_
    refine lv_iload_n hC.x hC.b dX1_ringAt_31 rfl (lv_at hl 2 rfl) ?_
    refine lv_iload_n hC.x hC.b dX1_ringAt_32 rfl (lv_at hl 3 rfl) ?_
    refine go_i (run_V (rest := [.int 0, .int x3]) hC (m1_ringOf l hw652) v1_1_ringOf h1_ringOf 0 0 gCl_X1 rfl rfl ⟨rfl, rfl, Nat.le_of_ble_eq_true rfl, Nat.le_of_ble_eq_true rfl⟩ ⟨Nat.le_refl _, Nat.le_refl _⟩ hP hD hS hl.1 (Nat.le_of_ble_eq_true rfl) dX1_ringAt_33 rfl) hS (fun r6 S7 H locs hw653 hP hD hS => ?_)
    refine lv_iconst (v := 1) hC.x hC.b dX1_ringAt_36 (by decide) ?_
    refine lv_isub hC.x hC.b dX1_ringAt_37 ?_
    refine go_i (run_S (rest := []) hC (m1_in l hw653) v1_1_in h1_in ⟨rfl, rfl, Nat.le_of_ble_eq_true rfl, Nat.le_of_ble_eq_true rfl⟩ ⟨Nat.le_refl _, Nat.le_refl _⟩ hP hD hS hl.1 (Nat.le_of_ble_eq_true rfl) dX1_ringAt_38 rfl) hS (fun r8 u H locs hw654 hP hD hS => ?_)
    refine lv_if_eq (tgt := 53) hC.x hC.b dX1_ringAt_41 (by decide) (fun c9 => ?_) (fun c9 => ?_)
    · have hw655 := hw654.1 c9
      refine lv_aload_n hC.x hC.b dX1_ringAt_53 rfl (lv_at hl 1 rfl) ?_
      refine lv_iconst (v := 1) hC.x hC.b dX1_ringAt_54 (by decide) ?_
      refine go_i (run_V (rest := []) hC (m1_no l hw655) v1_1_no h1_no 0 0 gCl_X1 rfl rfl ⟨rfl, rfl, Nat.le_of_ble_eq_true rfl, Nat.le_of_ble_eq_true rfl⟩ ⟨Nat.le_refl _, Nat.le_refl _⟩ hP hD hS hl.1 (Nat.le_of_ble_eq_true rfl) dX1_ringAt_55 rfl) hS (fun r10 S11 H locs hw656 hP hD hS => ?_)
      exact rt_i hC hw656 hP hD hS dX1_ringAt_58
    · have hw657 := hw654.2 c9
      refine lv_aload_n hC.x hC.b dX1_ringAt_44 rfl (lv_at hl 1 rfl) ?_
      refine gO_18 hC hP dX1_ringAt_45 ?_
      refine lv_iload_n hC.x hC.b dX1_ringAt_48 rfl (lv_at hl 4 rfl) ?_
      obtain ⟨hin12, hw658⟩ := hw657
      refine lF_12 hC hP hin12 rfl dX1_ringAt_49 ?_
      refine lv_goto (tgt := 58) hC.x hC.b dX1_ringAt_50 (by decide) ?_
      exact rt_i hC hw658 hP hD hS dX1_ringAt_58
  · have hw659 := hw651.2 c5
    refine lv_aload_n hC.x hC.b dX1_ringAt_21 rfl (lv_at hl 1 rfl) ?_
    refine lv_iload hC.x hC.b dX1_ringAt_22 (lv_at hl 0 rfl) ?_
    refine go_i (run_V (rest := []) hC (m1_no l hw659) v1_1_no h1_no 0 0 gCl_X1 rfl rfl ⟨rfl, rfl, Nat.le_of_ble_eq_true rfl, Nat.le_of_ble_eq_true rfl⟩ ⟨Nat.le_refl _, Nat.le_refl _⟩ hP hD hS hl.1 (Nat.le_of_ble_eq_true rfl) dX1_ringAt_24 rfl) hS (fun r13 S14 H locs hw660 hP hD hS => ?_)
    exact rt_i hC hw660 hP hD hS dX1_ringAt_27
theorem h4_begin : yX4_begin.cls = RX4 ∧ yX4_begin.cls ≠ "java/lang/invoke/MethodHandle" ∧ yX4_begin.cls ≠ "java/lang/invoke/VarHandle" ∧ (parseMethodDescriptor yX4_begin.desc).map (fun d => d.parameters.length) = some 1 := by decide +kernel
def f4_begin_43 (post : CS → Prop) (tw : Option TD) (x0 : Nat) (K43 : (CS × Int32) → Prop) (S : CS) (x2 : Int32) : Prop :=
  (((S.1.1 50 9) ≤ x2 → (post S)) ∧ (¬ (S.1.1 50 9) ≤ x2 → (vp_in x2 6 ∧ (x2.toNatClampNeg < tG tw ∧ (tL tw x2.toNatClampNeg < 4 ∧ (vp_in x2 6 ∧ (∀ S8, S8 = sI S (300 + 4 * x0 + 2) x2.toNatClampNeg (S.1.1 (1001 + 2 * x2.toNatClampNeg) 2) → (vp_in x2 6 ∧ (x2.toNatClampNeg < tG tw ∧ (tL tw x2.toNatClampNeg < 4 ∧ (vp_in x2 6 ∧ (∀ S12, S12 = sI S8 (300 + 4 * x0 + 3) x2.toNatClampNeg (S8.1.1 (1001 + 2 * x2.toNatClampNeg) 0) → (K43 (S12, (x2 + 1)))))))))))))))
set_option maxHeartbeats 4000000 in
theorem k4_begin_43 {post : CS → Prop} {x0 : Nat} (hC : CX RX4 cX4_begin 3 (some (.object "SeanceStreet$Street")) D gCl nwG Z Hb A p s m args meth c) (h_x0 : x0 < 22) : ∀ z : (CS × Int32), lp (fun (K : (CS × Int32) → Prop) (z : (CS × Int32)) => f4_begin_43 post (some τ) x0 K z.1 z.2) z → ∀ (H : Heap) (locs : List Loc) (ls : Array Slot), va_P D gCl (wC D ad sc (some τ) z.1) H → va_D A (wC D ad sc (some τ) z.1) → va_S A s.heap H locs → lv_has ls 3 [(0, .ref (ad (20 + 4 * x0))), (1, .ref (τ.1 0)), (2, .int z.2)] → W p l e ({ frames := 0, cells := 0, slots := 0, locals := 0 } : Room) s m args below meth c H locs 0 0 (MQ below (va_Qr post (fun u x t => x = ((ad (20 + 4 * x0))) ∧ BW D gCl A (fun u => (wC D ad sc (some τ) u)) u t) A) args s 0 0 A) (F0 m 43 ls []) := by
  refine lp_ind ?_
  rintro K43 ⟨S, x2⟩ hK43 hw H locs ls hP hD hS hl
  have hw : f4_begin_43 post (some τ) x0 K43 S x2 := hw
  unfold f4_begin_43 at hw
  have hP : va_P D gCl (wC D ad sc (some τ) S) H := hP
  have hD : va_D A (wC D ad sc (some τ) S) := hD
  have hl : lv_has ls 3 [(0, .ref (ad (20 + 4 * x0))), (1, .ref (τ.1 0)), (2, .int x2)] := hl
  refine lv_iload_n hC.x hC.b dX4_begin_43 rfl (lv_at hl 2 rfl) ?_
  refine lv_aload_n hC.x hC.b dX4_begin_44 rfl (lv_at hl 1 rfl) ?_
  refine gX4T_9 hC hP dX4_begin_45 ?_
  refine lv_icmp_ge (tgt := 87) hC.x hC.b dX4_begin_48 (by decide) (fun c4 => ?_) (fun c4 => ?_)
  · have hw664 := hw.1 c4
    refine lv_aload_n hC.x hC.b dX4_begin_87 rfl (lv_at hl 0 rfl) ?_
    exact rt_r hC ⟨_, rfl⟩ hw664 hP hD hS dX4_begin_88
  · have hw665 := hw.2 c4
    refine lv_aload_n hC.x hC.b dX4_begin_51 rfl (lv_at hl 0 rfl) ?_
    refine gX4S_1 (r := x0) h_x0 hC hP dX4_begin_52 ?_
    refine lv_iload_n hC.x hC.b dX4_begin_55 rfl (lv_at hl 2 rfl) ?_
    refine lv_aload_n hC.x hC.b dX4_begin_56 rfl (lv_at hl 1 rfl) ?_
    refine gX4T_1 hC hP dX4_begin_57 ?_
    refine lv_iload_n hC.x hC.b dX4_begin_60 rfl (lv_at hl 2 rfl) ?_
    obtain ⟨hin5, hw666⟩ := hw665
    obtain ⟨hg6, hw667⟩ := hw666
    refine lGh hC hP hin5 rfl hg6 dX4_begin_61 ?_
    obtain ⟨hlw, hw668⟩ := hw667
    refine gX4G_2 (i := x2.toNatClampNeg) hg6 hlw hC hP dX4_begin_62 ?_
    obtain ⟨hin7, hw669⟩ := hw668
    refine sS_2 (r := x0) h_x0 hC hP hD hS (v := (S.1.1 (1001 + 2 * x2.toNatClampNeg) 2)) hin7 rfl dX4_begin_65 (fun S8 eS8 H locs hP hD hS => ?_)
    have hw670 := hw669 S8 eS8
    refine lv_aload_n hC.x hC.b dX4_begin_66 rfl (lv_at hl 0 rfl) ?_
    refine gX4S_2 (r := x0) h_x0 hC hP dX4_begin_67 ?_
    refine lv_iload_n hC.x hC.b dX4_begin_70 rfl (lv_at hl 2 rfl) ?_
    refine lv_aload_n hC.x hC.b dX4_begin_71 rfl (lv_at hl 1 rfl) ?_
    refine gX4T_1 hC hP dX4_begin_72 ?_
    refine lv_iload_n hC.x hC.b dX4_begin_75 rfl (lv_at hl 2 rfl) ?_
    obtain ⟨hin9, hw671⟩ := hw670
    obtain ⟨hg10, hw672⟩ := hw671
    refine lGh hC hP hin9 rfl hg10 dX4_begin_76 ?_
    obtain ⟨hlw, hw673⟩ := hw672
    refine gX4G_0 (i := x2.toNatClampNeg) hg10 hlw hC hP dX4_begin_77 ?_
    obtain ⟨hin11, hw674⟩ := hw673
    refine sS_3 (r := x0) h_x0 hC hP hD hS (v := (S8.1.1 (1001 + 2 * x2.toNatClampNeg) 0)) hin11 rfl dX4_begin_80 (fun S12 eS12 H locs hP hD hS => ?_)
    have hw675 := hw674 S12 eS12
    refine lv_iinc (v := (x2 + 1)) (lv' := [(2, .int (x2 + 1)), (0, .ref (ad (20 + 4 * x0))), (1, .ref (τ.1 0))]) hC.x hC.b dX4_begin_81 hl (k := 2) rfl rfl (by decide) rfl (fun ls hl => ?_)
    refine lv_goto (tgt := 43) hC.x hC.b dX4_begin_84 (by decide) ?_
    exact hK43 (S12, (x2 + 1)) hw675 H locs ls hP hD hS (lv_sub hl [1, 2, 0] rfl)
def f4_begin_12 (post : CS → Prop) (tw : Option TD) (x0 : Nat) (K12 : (CS × Int32) → Prop) (S : CS) (x2 : Int32) : Prop :=
  (((S.1.1 50 8) ≤ x2 → (lp (fun (K : (CS × Int32) → Prop) (z : (CS × Int32)) => f4_begin_43 post tw x0 K z.1 z.2) (S, 0))) ∧ (¬ (S.1.1 50 8) ≤ x2 → (vp_in x2 6 ∧ (x2.toNatClampNeg < tP tw ∧ (vp_in x2 6 ∧ (∀ S16, S16 = sI S (300 + 4 * x0 + 1) x2.toNatClampNeg (S.1.1 (1000 + 2 * x2.toNatClampNeg) 2) → (K12 (S16, (x2 + 1)))))))))
set_option maxHeartbeats 4000000 in
theorem k4_begin_12 {post : CS → Prop} {x0 : Nat} (hC : CX RX4 cX4_begin 3 (some (.object "SeanceStreet$Street")) D gCl nwG Z Hb A p s m args meth c) (h_x0 : x0 < 22) : ∀ z : (CS × Int32), lp (fun (K : (CS × Int32) → Prop) (z : (CS × Int32)) => f4_begin_12 post (some τ) x0 K z.1 z.2) z → ∀ (H : Heap) (locs : List Loc) (ls : Array Slot), va_P D gCl (wC D ad sc (some τ) z.1) H → va_D A (wC D ad sc (some τ) z.1) → va_S A s.heap H locs → lv_has ls 3 [(0, .ref (ad (20 + 4 * x0))), (1, .ref (τ.1 0)), (2, .int z.2)] → W p l e ({ frames := 0, cells := 0, slots := 0, locals := 0 } : Room) s m args below meth c H locs 0 0 (MQ below (va_Qr post (fun u x t => x = ((ad (20 + 4 * x0))) ∧ BW D gCl A (fun u => (wC D ad sc (some τ) u)) u t) A) args s 0 0 A) (F0 m 12 ls []) := by
  refine lp_ind ?_
  rintro K12 ⟨S, x2⟩ hK12 hw H locs ls hP hD hS hl
  have hw : f4_begin_12 post (some τ) x0 K12 S x2 := hw
  unfold f4_begin_12 at hw
  have hP : va_P D gCl (wC D ad sc (some τ) S) H := hP
  have hD : va_D A (wC D ad sc (some τ) S) := hD
  have hl : lv_has ls 3 [(0, .ref (ad (20 + 4 * x0))), (1, .ref (τ.1 0)), (2, .int x2)] := hl
  refine lv_iload_n hC.x hC.b dX4_begin_12 rfl (lv_at hl 2 rfl) ?_
  refine lv_aload_n hC.x hC.b dX4_begin_13 rfl (lv_at hl 1 rfl) ?_
  refine gX4T_8 hC hP dX4_begin_14 ?_
  refine lv_icmp_ge (tgt := 41) hC.x hC.b dX4_begin_17 (by decide) (fun c3 => ?_) (fun c3 => ?_)
  · have hw663 := hw.1 c3
    refine lv_iconst (v := 0) hC.x hC.b dX4_begin_41 (by decide) ?_
    refine lv_istore_n (lv' := [(2, .int 0), (0, .ref (ad (20 + 4 * x0))), (1, .ref (τ.1 0))]) hC.x hC.b dX4_begin_42 rfl hl (by decide) rfl (fun ls hl => ?_)
    exact k4_begin_43 hC h_x0 (S, 0) hw663 H locs ls hP hD hS (lv_sub hl [1, 2, 0] rfl)
  · have hw676 := hw.2 c3
    refine lv_aload_n hC.x hC.b dX4_begin_20 rfl (lv_at hl 0 rfl) ?_
    refine gX4S_0 (r := x0) h_x0 hC hP dX4_begin_21 ?_
    refine lv_iload_n hC.x hC.b dX4_begin_24 rfl (lv_at hl 2 rfl) ?_
    refine lv_aload_n hC.x hC.b dX4_begin_25 rfl (lv_at hl 1 rfl) ?_
    refine gX4T_0 hC hP dX4_begin_26 ?_
    refine lv_iload_n hC.x hC.b dX4_begin_29 rfl (lv_at hl 2 rfl) ?_
    obtain ⟨hin13, hw677⟩ := hw676
    obtain ⟨hg14, hw678⟩ := hw677
    refine lPe hC hP hin13 rfl hg14 dX4_begin_30 ?_
    refine gX4P_2 (i := x2.toNatClampNeg) hg14 hC hP dX4_begin_31 ?_
    obtain ⟨hin15, hw679⟩ := hw678
    refine sS_1 (r := x0) h_x0 hC hP hD hS (v := (S.1.1 (1000 + 2 * x2.toNatClampNeg) 2)) hin15 rfl dX4_begin_34 (fun S16 eS16 H locs hP hD hS => ?_)
    have hw680 := hw679 S16 eS16
    refine lv_iinc (v := (x2 + 1)) (lv' := [(2, .int (x2 + 1)), (0, .ref (ad (20 + 4 * x0))), (1, .ref (τ.1 0))]) hC.x hC.b dX4_begin_35 hl (k := 2) rfl rfl (by decide) rfl (fun ls hl => ?_)
    refine lv_goto (tgt := 12) hC.x hC.b dX4_begin_38 (by decide) ?_
    exact hK12 (S16, (x2 + 1)) hw680 H locs ls hP hD hS (lv_sub hl [1, 2, 0] rfl)
def w4_begin (post : CS → Prop) (tw : Option TD) (S : CS) (x0 : Nat) : Prop :=
  (∀ S1, S1 = sT S x0 (tw.map fun τ => τ.1 0) → (∀ S2, S2 = sI S1 (300 + 4 * x0) 4 0 → (lp (fun (K : (CS × Int32) → Prop) (z : (CS × Int32)) => f4_begin_12 post tw x0 K z.1 z.2) (S2, 0))))
set_option maxHeartbeats 4000000 in
theorem m4_begin (l : Launch) {post : CS → Prop} {S : CS} {x0 : Nat} (h_x0 : x0 < 22) (hw : w4_begin post (some τ) S x0) : Met l yX4_begin (ws_ yX4_begin cX4_begin 3 (some (.object "SeanceStreet$Street"))) ({ frames := 0, cells := 0, slots := 0, locals := 0 } : Room) (va_Pc [.ref (ad (20 + 4 * x0)), .ref (τ.1 0)] (PcG D gCl nwG Z Hb A (wC D ad sc (some τ) S))) (va_Qr post (fun u x t => x = ((ad (20 + 4 * x0))) ∧ BW D gCl A (fun u => (wC D ad sc (some τ) u)) u t) A) 0 0 A := by
  refine Met.ofG (by decide) (Nat.le_of_ble_eq_true rfl) ?_
  intro p e s m below meth c ls hC _ hP hD hS hl
  have hC : CX RX4 cX4_begin 3 (some (.object "SeanceStreet$Street")) D gCl nwG Z Hb A p s m _ meth c := hC
  have hl : lv_has ls 3 [(0, .ref (ad (20 + 4 * x0))), (1, .ref (τ.1 0))] := hl
  unfold w4_begin at hw
  refine lv_aload_n hC.x hC.b dX4_begin_0 rfl (lv_at hl 0 rfl) ?_
  refine lv_aload_n hC.x hC.b dX4_begin_1 rfl (lv_at hl 1 rfl) ?_
  refine pX4S_3 (r := x0) h_x0 hC hP hD hS (v := (some (τ.1 0))) dX4_begin_2 (fun S1 eS1 H locs hP hD hS => ?_)
  have hw661 := hw S1 eS1
  refine lv_aload_n hC.x hC.b dX4_begin_5 rfl (lv_at hl 0 rfl) ?_
  refine lv_iconst (v := 0) hC.x hC.b dX4_begin_6 (by decide) ?_
  refine pX4S_4 (r := x0) h_x0 hC hP hD hS (v := 0) dX4_begin_7 (fun S2 eS2 H locs hP hD hS => ?_)
  have hw662 := hw661 S2 eS2
  refine lv_iconst (v := 0) hC.x hC.b dX4_begin_10 (by decide) ?_
  refine lv_istore_n (lv' := [(2, .int 0), (0, .ref (ad (20 + 4 * x0))), (1, .ref (τ.1 0))]) hC.x hC.b dX4_begin_11 rfl hl (by decide) rfl (fun ls hl => ?_)
  exact k4_begin_12 hC h_x0 (S2, 0) hw662 H locs ls hP hD hS (lv_sub hl [1, 2, 0] rfl)
theorem v1_4_begin : GoodIn lw_all (wsV RX1 108 RX4 yX4_begin (ws_ yX4_begin cX4_begin 3 (some (.object "SeanceStreet$Street")))) := lw_V q873 q874 q875 q124 q876
theorem h1_wrong : yX1_wrong.cls = RX1 ∧ yX1_wrong.cls ≠ "java/lang/invoke/MethodHandle" ∧ yX1_wrong.cls ≠ "java/lang/invoke/VarHandle" ∧ (parseMethodDescriptor yX1_wrong.desc).map (fun d => d.parameters.length) = some 1 := by decide +kernel
def f1_wrong_78 (post : Int32 → CS → Prop) (tw : Option TD) (S : CS) (K78 : Int32 → Prop) (x2 : Int32) : Prop :=
  (((S.1.1 50 11) ≤ x2 → (post (-2) S)) ∧ (¬ (S.1.1 50 11) ≤ x2 → (vp_in x2 8 ∧ (vp_in x2 8 ∧ (w4_ear (fun r7 => (vp_in x2 8 ∧ ((r7 = (S.1.1 54 x2.toNatClampNeg) → (K78 (x2 + 1))) ∧ (¬ r7 = (S.1.1 54 x2.toNatClampNeg) → (post x2 S))))) tw S 2 (S.1.1 55 x2.toNatClampNeg) (S.1.1 56 x2.toNatClampNeg) 0)))))
set_option maxHeartbeats 4000000 in
theorem k1_wrong_78 {post : Int32 → CS → Prop} {S : CS} (hC : CX RX1 cX1_wrong 3 (some .int) D gCl nwG Z Hb A p s m args meth c) : ∀ z : Int32, lp (fun (K : Int32 → Prop) (z : Int32) => f1_wrong_78 post (some τ) S K z) z → ∀ (H : Heap) (locs : List Loc) (ls : Array Slot), va_P D gCl (wC D ad sc (some τ) S) H → va_D A (wC D ad sc (some τ) S) → va_S A s.heap H locs → lv_has ls 3 [(0, .ref (ad 0)), (2, .int z)] → W p l e ({ frames := 122, cells := 0, slots := 0, locals := 6047 } : Room) s m args below meth c H locs 0 0 (MQ below (va_Qi post (BW D gCl A (fun u => (wC D ad sc (some τ) u))) A) args s 0 0 A) (F0 m 78 ls []) := by
  refine lp_ind ?_
  rintro K78 x2 hK78 hw H locs ls hP hD hS hl
  have hw : f1_wrong_78 post (some τ) S K78 x2 := hw
  unfold f1_wrong_78 at hw
  have hP : va_P D gCl (wC D ad sc (some τ) S) H := hP
  have hD : va_D A (wC D ad sc (some τ) S) := hD
  have hl : lv_has ls 3 [(0, .ref (ad 0)), (2, .int x2)] := hl
  refine lv_iload_n hC.x hC.b dX1_wrong_78 rfl (lv_at hl 1 rfl) ?_
  refine lv_aload_n hC.x hC.b dX1_wrong_79 rfl (lv_at hl 0 rfl) ?_
  refine gO_3 hC hP dX1_wrong_80 ?_
  refine gX1T_11 hC hP dX1_wrong_83 ?_
  refine lv_icmp_ge (tgt := 135) hC.x hC.b dX1_wrong_86 (by decide) (fun c4 => ?_) (fun c4 => ?_)
  · have hw684 := hw.1 c4
    refine lv_bipush (v := (-2)) hC.x hC.b dX1_wrong_135 (by decide) ?_
    exact rt_i hC hw684 hP hD hS dX1_wrong_137
  · have hw685 := hw.2 c4
    refine lv_aload_n hC.x hC.b dX1_wrong_89 rfl (lv_at hl 0 rfl) ?_
    refine gO_11 hC hP dX1_wrong_90 ?_
    refine lv_aload_n hC.x hC.b dX1_wrong_93 rfl (lv_at hl 0 rfl) ?_
    refine gO_3 hC hP dX1_wrong_94 ?_
    refine gX1T_4 hC hP dX1_wrong_97 ?_
    refine lv_iload_n hC.x hC.b dX1_wrong_100 rfl (lv_at hl 1 rfl) ?_
    obtain ⟨hin5, hw686⟩ := hw685
    refine lT7_5 hC hP hin5 rfl dX1_wrong_101 ?_
    refine lv_aload_n hC.x hC.b dX1_wrong_102 rfl (lv_at hl 0 rfl) ?_
    refine gO_3 hC hP dX1_wrong_103 ?_
    refine gX1T_5 hC hP dX1_wrong_106 ?_
    refine lv_iload_n hC.x hC.b dX1_wrong_109 rfl (lv_at hl 1 rfl) ?_
    obtain ⟨hin6, hw687⟩ := hw686
    refine lT7_6 hC hP hin6 rfl dX1_wrong_110 ?_
    refine lv_iconst (v := 0) hC.x hC.b dX1_wrong_111 (by decide) ?_
    refine go_i (run_V (rest := []) hC (m4_ear l (by decide) hw687) v1_4_ear h4_ear (17 + 4 * 2) 3 gCl_X4 (wC_so (by decide)) rfl ⟨rfl, rfl, Nat.le_of_ble_eq_true rfl, Nat.le_of_ble_eq_true rfl⟩ ⟨Nat.le_refl _, Nat.le_refl _⟩ hP hD hS hl.1 (Nat.le_of_ble_eq_true rfl) dX1_wrong_112 rfl) hS (fun r7 u H locs hw688 hP hD hS => ?_)
    refine lv_aload_n hC.x hC.b dX1_wrong_115 rfl (lv_at hl 0 rfl) ?_
    refine gO_3 hC hP dX1_wrong_116 ?_
    refine gX1T_3 hC hP dX1_wrong_119 ?_
    refine lv_iload_n hC.x hC.b dX1_wrong_122 rfl (lv_at hl 1 rfl) ?_
    obtain ⟨hin8, hw689⟩ := hw688
    refine lT7_4 hC hP hin8 rfl dX1_wrong_123 ?_
    refine lv_icmp_eq (tgt := 129) hC.x hC.b dX1_wrong_124 (by decide) (fun c9 => ?_) (fun c9 => ?_)
    · have hw690 := hw689.1 c9
      refine lv_iinc (v := (x2 + 1)) (lv' := [(2, .int (x2 + 1)), (0, .ref (ad 0))]) hC.x hC.b dX1_wrong_129 hl (k := 1) rfl rfl (by decide) rfl (fun ls hl => ?_)
      refine lv_goto (tgt := 78) hC.x hC.b dX1_wrong_132 (by decide) ?_
      exact hK78 (x2 + 1) hw690 H locs ls hP hD hS (lv_sub hl [1, 0] rfl)
    · have hw691 := hw689.2 c9
      refine lv_iload_n hC.x hC.b dX1_wrong_127 rfl (lv_at hl 1 rfl) ?_
      exact rt_i hC hw691 hP hD hS dX1_wrong_128
def f1_wrong_14 (post : Int32 → CS → Prop) (tw : Option TD) (x1 : Int32) (K14 : (CS × Int32) → Prop) (S : CS) (x2 : Int32) : Prop :=
  (((S.1.1 50 10) ≤ x2 → (lp (fun (K : Int32 → Prop) (z : Int32) => f1_wrong_78 post tw S K z) 0)) ∧ (¬ (S.1.1 50 10) ≤ x2 → (w1_has (fun r10 => ((r10 = 0 → (K14 (S, (x2 + 1)))) ∧ (¬ r10 = 0 → (vp_in x2 4 ∧ (vp_in x2 4 ∧ (vp_in (S.1.1 53 x2.toNatClampNeg) 6 ∧ ((S.1.1 53 x2.toNatClampNeg).toNatClampNeg < tG tw ∧ (tL tw (S.1.1 53 x2.toNatClampNeg).toNatClampNeg < 4 ∧ (vp_in (S.1.1 53 x2.toNatClampNeg) 6 ∧ (∀ S17, S17 = sI S (300 + 4 * 2 + 3) (S.1.1 53 x2.toNatClampNeg).toNatClampNeg (S.1.1 (1001 + 2 * (S.1.1 53 x2.toNatClampNeg).toNatClampNeg) 3) → (K14 (S17, (x2 + 1))))))))))))) x1 x2)))
set_option maxHeartbeats 4000000 in
theorem k1_wrong_14 {post : Int32 → CS → Prop} {x1 : Int32} (hC : CX RX1 cX1_wrong 3 (some .int) D gCl nwG Z Hb A p s m args meth c) : ∀ z : (CS × Int32), lp (fun (K : (CS × Int32) → Prop) (z : (CS × Int32)) => f1_wrong_14 post (some τ) x1 K z.1 z.2) z → ∀ (H : Heap) (locs : List Loc) (ls : Array Slot), va_P D gCl (wC D ad sc (some τ) z.1) H → va_D A (wC D ad sc (some τ) z.1) → va_S A s.heap H locs → lv_has ls 3 [(0, .ref (ad 0)), (1, .int x1), (2, .int z.2)] → W p l e ({ frames := 122, cells := 0, slots := 0, locals := 6047 } : Room) s m args below meth c H locs 0 0 (MQ below (va_Qi post (BW D gCl A (fun u => (wC D ad sc (some τ) u))) A) args s 0 0 A) (F0 m 14 ls []) := by
  refine lp_ind ?_
  rintro K14 ⟨S, x2⟩ hK14 hw H locs ls hP hD hS hl
  have hw : f1_wrong_14 post (some τ) x1 K14 S x2 := hw
  unfold f1_wrong_14 at hw
  have hP : va_P D gCl (wC D ad sc (some τ) S) H := hP
  have hD : va_D A (wC D ad sc (some τ) S) := hD
  have hl : lv_has ls 3 [(0, .ref (ad 0)), (1, .int x1), (2, .int x2)] := hl
  refine lv_iload_n hC.x hC.b dX1_wrong_14 rfl (lv_at hl 2 rfl) ?_
  refine lv_aload_n hC.x hC.b dX1_wrong_15 rfl (lv_at hl 0 rfl) ?_
  refine gO_3 hC hP dX1_wrong_16 ?_
  refine gX1T_10 hC hP dX1_wrong_19 ?_
  refine lv_icmp_ge (tgt := 76) hC.x hC.b dX1_wrong_22 (by decide) (fun c3 => ?_) (fun c3 => ?_)
  · have hw683 := hw.1 c3
    refine lv_iconst (v := 0) hC.x hC.b dX1_wrong_76 (by decide) ?_
    refine lv_istore_n (lv' := [(2, .int 0), (0, .ref (ad 0)), (1, .int x1)]) hC.x hC.b dX1_wrong_77 rfl hl (by decide) rfl (fun ls hl => ?_)
    exact k1_wrong_78 hC 0 hw683 H locs ls hP hD hS (lv_sub hl [1, 0] rfl)
  · have hw692 := hw.2 c3
    refine lv_iload_n hC.x hC.b dX1_wrong_25 rfl (lv_at hl 1 rfl) ?_
    refine lv_iload_n hC.x hC.b dX1_wrong_26 rfl (lv_at hl 2 rfl) ?_
    refine go_i (run_S (rest := []) hC (m1_has l hw692) v1_1_has h1_has ⟨rfl, rfl, Nat.le_of_ble_eq_true rfl, Nat.le_of_ble_eq_true rfl⟩ ⟨Nat.le_refl _, Nat.le_refl _⟩ hP hD hS hl.1 (Nat.le_of_ble_eq_true rfl) dX1_wrong_27 rfl) hS (fun r10 u H locs hw693 hP hD hS => ?_)
    refine lv_if_eq (tgt := 70) hC.x hC.b dX1_wrong_30 (by decide) (fun c11 => ?_) (fun c11 => ?_)
    · have hw694 := hw693.1 c11
      refine lv_iinc (v := (x2 + 1)) (lv' := [(2, .int (x2 + 1)), (0, .ref (ad 0)), (1, .int x1)]) hC.x hC.b dX1_wrong_70 hl (k := 2) rfl rfl (by decide) rfl (fun ls hl => ?_)
      refine lv_goto (tgt := 14) hC.x hC.b dX1_wrong_73 (by decide) ?_
      exact hK14 (S, (x2 + 1)) hw694 H locs ls hP hD hS (lv_sub hl [1, 2, 0] rfl)
    · have hw695 := hw693.2 c11
      refine lv_aload_n hC.x hC.b dX1_wrong_33 rfl (lv_at hl 0 rfl) ?_
      refine gO_11 hC hP dX1_wrong_34 ?_
      refine gX1S_2 (r := 2) (by decide) hC hP dX1_wrong_37 ?_
      refine lv_aload_n hC.x hC.b dX1_wrong_40 rfl (lv_at hl 0 rfl) ?_
      refine gO_3 hC hP dX1_wrong_41 ?_
      refine gX1T_2 hC hP dX1_wrong_44 ?_
      refine lv_iload_n hC.x hC.b dX1_wrong_47 rfl (lv_at hl 2 rfl) ?_
      obtain ⟨hin12, hw696⟩ := hw695
      refine lT7_3 hC hP hin12 rfl dX1_wrong_48 ?_
      refine lv_aload_n hC.x hC.b dX1_wrong_49 rfl (lv_at hl 0 rfl) ?_
      refine gO_3 hC hP dX1_wrong_50 ?_
      refine gX1T_1 hC hP dX1_wrong_53 ?_
      refine lv_aload_n hC.x hC.b dX1_wrong_56 rfl (lv_at hl 0 rfl) ?_
      refine gO_3 hC hP dX1_wrong_57 ?_
      refine gX1T_2 hC hP dX1_wrong_60 ?_
      refine lv_iload_n hC.x hC.b dX1_wrong_63 rfl (lv_at hl 2 rfl) ?_
      obtain ⟨hin13, hw697⟩ := hw696
      refine lT7_3 hC hP hin13 rfl dX1_wrong_64 ?_
      obtain ⟨hin14, hw698⟩ := hw697
      obtain ⟨hg15, hw699⟩ := hw698
      refine lGh hC hP hin14 rfl hg15 dX1_wrong_65 ?_
      obtain ⟨hlw, hw700⟩ := hw699
      refine gX1G_3 (i := (S.1.1 53 x2.toNatClampNeg).toNatClampNeg) hg15 hlw hC hP dX1_wrong_66 ?_
      obtain ⟨hin16, hw701⟩ := hw700
      refine sS_3 (r := 2) (by decide) hC hP hD hS (v := (S.1.1 (1001 + 2 * (S.1.1 53 x2.toNatClampNeg).toNatClampNeg) 3)) hin16 rfl dX1_wrong_69 (fun S17 eS17 H locs hP hD hS => ?_)
      have hw702 := hw701 S17 eS17
      refine lv_iinc (v := (x2 + 1)) (lv' := [(2, .int (x2 + 1)), (0, .ref (ad 0)), (1, .int x1)]) hC.x hC.b dX1_wrong_70 hl (k := 2) rfl rfl (by decide) rfl (fun ls hl => ?_)
      refine lv_goto (tgt := 14) hC.x hC.b dX1_wrong_73 (by decide) ?_
      exact hK14 (S17, (x2 + 1)) hw702 H locs ls hP hD hS (lv_sub hl [1, 2, 0] rfl)
def w1_wrong (post : Int32 → CS → Prop) (tw : Option TD) (S : CS) (x1 : Int32) : Prop :=
  ((∃ τ, tw = some τ) ∧ (w4_begin (fun S2 => (lp (fun (K : (CS × Int32) → Prop) (z : (CS × Int32)) => f1_wrong_14 post tw x1 K z.1 z.2) (S2, 0))) tw S 2))
set_option maxHeartbeats 4000000 in
theorem m1_wrong (l : Launch) {post : Int32 → CS → Prop} {S : CS} {x1 : Int32} (hw : w1_wrong post tw S x1) : Met l yX1_wrong (ws_ yX1_wrong cX1_wrong 3 (some .int)) ({ frames := 122, cells := 0, slots := 0, locals := 6047 } : Room) (va_Pc [.ref (ad 0), .int x1] (PcG D gCl nwG Z Hb A (wC D ad sc tw S))) (va_Qi post (BW D gCl A (fun u => (wC D ad sc tw u))) A) 0 0 A := by
  refine Met.ofG (by decide) (Nat.le_of_ble_eq_true rfl) ?_
  intro p e s m below meth c ls hC _ hP hD hS hl
  have hC : CX RX1 cX1_wrong 3 (some .int) D gCl nwG Z Hb A p s m _ meth c := hC
  have hl : lv_has ls 3 [(0, .ref (ad 0)), (1, .int x1)] := hl
  unfold w1_wrong at hw
  refine lv_aload_n hC.x hC.b dX1_wrong_0 rfl (lv_at hl 0 rfl) ?_
  refine gO_11 hC hP dX1_wrong_1 ?_
  refine lv_aload_n hC.x hC.b dX1_wrong_4 rfl (lv_at hl 0 rfl) ?_
  refine gO_3 hC hP dX1_wrong_5 ?_
  obtain ⟨⟨τ, rfl⟩, hw681⟩ := hw
  refine go_r (run_V (rest := []) hC (m4_begin l (by decide) hw681) v1_4_begin h4_begin (17 + 4 * 2) 3 gCl_X4 (wC_so (by decide)) rfl ⟨rfl, rfl, Nat.le_of_ble_eq_true rfl, Nat.le_of_ble_eq_true rfl⟩ ⟨Nat.le_refl _, Nat.le_refl _⟩ hP hD hS hl.1 (Nat.le_of_ble_eq_true rfl) dX1_wrong_8 rfl) hS (fun S2 H locs hw682 hP hD hS => ?_)
  refine lv_pop hC.x hC.b dX1_wrong_11 rfl ?_
  refine lv_iconst (v := 0) hC.x hC.b dX1_wrong_12 (by decide) ?_
  refine lv_istore_n (lv' := [(2, .int 0), (0, .ref (ad 0)), (1, .int x1)]) hC.x hC.b dX1_wrong_13 rfl hl (by decide) rfl (fun ls hl => ?_)
  exact k1_wrong_14 hC (S2, 0) hw682 H locs ls hP hD hS (lv_sub hl [1, 2, 0] rfl)
theorem v1_1_wrong : GoodIn lw_all (wsV RX1 297 RX1 yX1_wrong (ws_ yX1_wrong cX1_wrong 3 (some .int))) := lw_V q1208 q1210 qs39 q118 q1211
theorem h1_fitting : yX1_fitting.cls = RX1 ∧ yX1_fitting.cls ≠ "java/lang/invoke/MethodHandle" ∧ yX1_fitting.cls ≠ "java/lang/invoke/VarHandle" ∧ (parseMethodDescriptor yX1_fitting.desc).map (fun d => d.parameters.length) = some 1 := by decide +kernel
def f1_fitting_123 (K52 : (CS × Int32) → Prop) (x2 : Int32) (K123 : (CS × Int32) → Prop) (S : CS) (x3 : Int32) : Prop :=
  (((S.1.1 50 10) ≤ x3 → (K52 (S, (x2 + 1)))) ∧ (¬ (S.1.1 50 10) ≤ x3 → (vp_in x3 4 ∧ (vp_in x3 4 ∧ (∀ S19, S19 = sI S 13 x3.toNatClampNeg ((S.1.1 13 x3.toNatClampNeg) + ((x2 >>> (x3 &&& 31)) &&& 1)) → (K123 (S19, (x3 + 1))))))))
set_option maxHeartbeats 4000000 in
theorem k1_fitting_123 {post : CS → Prop} {x1 : Int32} {x2 : Int32} {K52 : (CS × Int32) → Prop} (hC : CX RX1 cX1_fitting 4 none D gCl nwG Z Hb A p s m args meth c) (hK52 : ∀ z : (CS × Int32), K52 z → ∀ (H : Heap) (locs : List Loc) (ls : Array Slot), va_P D gCl (wC D ad sc (some τ) z.1) H → va_D A (wC D ad sc (some τ) z.1) → va_S A s.heap H locs → lv_has ls 4 [(0, .ref (ad 0)), (1, .int x1), (2, .int z.2)] → W p l e ({ frames := 123, cells := 0, slots := 0, locals := 6069 } : Room) s m args below meth c H locs 0 0 (MQ below (va_Qv post (BW D gCl A (fun u => (wC D ad sc (some τ) u))) A) args s 0 0 A) (F0 m 52 ls [])) : ∀ z : (CS × Int32), lp (fun (K : (CS × Int32) → Prop) (z : (CS × Int32)) => f1_fitting_123 K52 x2 K z.1 z.2) z → ∀ (H : Heap) (locs : List Loc) (ls : Array Slot), va_P D gCl (wC D ad sc (some τ) z.1) H → va_D A (wC D ad sc (some τ) z.1) → va_S A s.heap H locs → lv_has ls 4 [(0, .ref (ad 0)), (1, .int x1), (2, .int x2), (3, .int z.2)] → W p l e ({ frames := 123, cells := 0, slots := 0, locals := 6069 } : Room) s m args below meth c H locs 0 0 (MQ below (va_Qv post (BW D gCl A (fun u => (wC D ad sc (some τ) u))) A) args s 0 0 A) (F0 m 123 ls []) := by
  refine lp_ind ?_
  rintro K123 ⟨S, x3⟩ hK123 hw H locs ls hP hD hS hl
  have hw : f1_fitting_123 K52 x2 K123 S x3 := hw
  unfold f1_fitting_123 at hw
  have hP : va_P D gCl (wC D ad sc (some τ) S) H := hP
  have hD : va_D A (wC D ad sc (some τ) S) := hD
  have hl : lv_has ls 4 [(0, .ref (ad 0)), (1, .int x1), (2, .int x2), (3, .int x3)] := hl
  refine lv_iload_n hC.x hC.b dX1_fitting_123 rfl (lv_at hl 3 rfl) ?_
  refine lv_aload_n hC.x hC.b dX1_fitting_124 rfl (lv_at hl 0 rfl) ?_
  refine gO_3 hC hP dX1_fitting_125 ?_
  refine gX1T_10 hC hP dX1_fitting_128 ?_
  refine lv_icmp_ge (tgt := 154) hC.x hC.b dX1_fitting_131 (by decide) (fun c16 => ?_) (fun c16 => ?_)
  · have hw720 := hw.1 c16
    refine lv_iinc (v := (x2 + 1)) (lv' := [(2, .int (x2 + 1)), (0, .ref (ad 0)), (1, .int x1), (3, .int x3)]) hC.x hC.b dX1_fitting_154 hl (k := 2) rfl rfl (by decide) rfl (fun ls hl => ?_)
    refine lv_goto (tgt := 52) hC.x hC.b dX1_fitting_157 (by decide) ?_
    exact hK52 (S, (x2 + 1)) hw720 H locs ls hP hD hS (lv_sub hl [1, 2, 0] rfl)
  · have hw721 := hw.2 c16
    refine lv_aload_n hC.x hC.b dX1_fitting_134 rfl (lv_at hl 0 rfl) ?_
    refine gO_19 hC hP dX1_fitting_135 ?_
    refine lv_iload_n hC.x hC.b dX1_fitting_138 rfl (lv_at hl 3 rfl) ?_
    refine lv_dup2_11 hC.x hC.b dX1_fitting_139 rfl rfl ?_
    obtain ⟨hin17, hw722⟩ := hw721
    refine lF_13 hC hP hin17 rfl dX1_fitting_140 ?_
    refine lv_iload_n hC.x hC.b dX1_fitting_141 rfl (lv_at hl 2 rfl) ?_
    refine lv_iload_n hC.x hC.b dX1_fitting_142 rfl (lv_at hl 3 rfl) ?_
    refine lv_ishr hC.x hC.b dX1_fitting_143 ?_
    refine lv_iconst (v := 1) hC.x hC.b dX1_fitting_144 (by decide) ?_
    refine lv_iand hC.x hC.b dX1_fitting_145 ?_
    refine lv_iadd hC.x hC.b dX1_fitting_146 ?_
    obtain ⟨hin18, hw723⟩ := hw722
    refine sF_13 hC hP hD hS (v := ((S.1.1 13 x3.toNatClampNeg) + ((x2 >>> (x3 &&& 31)) &&& 1))) hin18 rfl dX1_fitting_147 (fun S19 eS19 H locs hP hD hS => ?_)
    have hw724 := hw723 S19 eS19
    refine lv_iinc (v := (x3 + 1)) (lv' := [(3, .int (x3 + 1)), (0, .ref (ad 0)), (1, .int x1), (2, .int x2)]) hC.x hC.b dX1_fitting_148 hl (k := 3) rfl rfl (by decide) rfl (fun ls hl => ?_)
    refine lv_goto (tgt := 123) hC.x hC.b dX1_fitting_151 (by decide) ?_
    exact hK123 (S19, (x3 + 1)) hw724 H locs ls hP hD hS (lv_sub hl [1, 2, 3, 0] rfl)
def j1_fitting_91 (K52 : (CS × Int32) → Prop) (S : CS) (x2 : Int32) : Prop :=
  (∀ S13, S13 = sI S 0 20 ((S.1.1 0 20) + 1) → (∀ S14, S14 = sI S13 0 22 ((S13.1.1 0 22) ||| x2) → (∀ S15, S15 = sI S14 0 23 ((S14.1.1 0 23) &&& x2) → (lp (fun (K : (CS × Int32) → Prop) (z : (CS × Int32)) => f1_fitting_123 K52 x2 K z.1 z.2) (S15, 0)))))
set_option maxHeartbeats 4000000 in
theorem k1_fitting_91 {post : CS → Prop} {S : CS} {x1 : Int32} {x2 : Int32} {K52 : (CS × Int32) → Prop} (hC : CX RX1 cX1_fitting 4 none D gCl nwG Z Hb A p s m args meth c) (hK52 : ∀ z : (CS × Int32), K52 z → ∀ (H : Heap) (locs : List Loc) (ls : Array Slot), va_P D gCl (wC D ad sc (some τ) z.1) H → va_D A (wC D ad sc (some τ) z.1) → va_S A s.heap H locs → lv_has ls 4 [(0, .ref (ad 0)), (1, .int x1), (2, .int z.2)] → W p l e ({ frames := 123, cells := 0, slots := 0, locals := 6069 } : Room) s m args below meth c H locs 0 0 (MQ below (va_Qv post (BW D gCl A (fun u => (wC D ad sc (some τ) u))) A) args s 0 0 A) (F0 m 52 ls [])) (hw : j1_fitting_91 K52 S x2) : ∀ (H : Heap) (locs : List Loc) (ls : Array Slot), va_P D gCl (wC D ad sc (some τ) S) H → va_D A (wC D ad sc (some τ) S) → va_S A s.heap H locs → lv_has ls 4 [(0, .ref (ad 0)), (1, .int x1), (2, .int x2)] → W p l e ({ frames := 123, cells := 0, slots := 0, locals := 6069 } : Room) s m args below meth c H locs 0 0 (MQ below (va_Qv post (BW D gCl A (fun u => (wC D ad sc (some τ) u))) A) args s 0 0 A) (F0 m 91 ls []) := by
  intro H locs ls hP hD hS hl
  unfold j1_fitting_91 at hw
  refine lv_aload_n hC.x hC.b dX1_fitting_91 rfl (lv_at hl 0 rfl) ?_
  refine lv_dup hC.x hC.b dX1_fitting_92 rfl ?_
  refine gO_20 hC hP dX1_fitting_93 ?_
  refine lv_iconst (v := 1) hC.x hC.b dX1_fitting_96 (by decide) ?_
  refine lv_iadd hC.x hC.b dX1_fitting_97 ?_
  refine pO_20 hC hP hD hS (v := ((S.1.1 0 20) + 1)) dX1_fitting_98 (fun S13 eS13 H locs hP hD hS => ?_)
  have hw717 := hw S13 eS13
  refine lv_aload_n hC.x hC.b dX1_fitting_101 rfl (lv_at hl 0 rfl) ?_
  refine lv_dup hC.x hC.b dX1_fitting_102 rfl ?_
  refine gO_22 hC hP dX1_fitting_103 ?_
  refine lv_iload_n hC.x hC.b dX1_fitting_106 rfl (lv_at hl 2 rfl) ?_
  refine lv_ior hC.x hC.b dX1_fitting_107 ?_
  refine pO_22 hC hP hD hS (v := ((S13.1.1 0 22) ||| x2)) dX1_fitting_108 (fun S14 eS14 H locs hP hD hS => ?_)
  have hw718 := hw717 S14 eS14
  refine lv_aload_n hC.x hC.b dX1_fitting_111 rfl (lv_at hl 0 rfl) ?_
  refine lv_dup hC.x hC.b dX1_fitting_112 rfl ?_
  refine gO_23 hC hP dX1_fitting_113 ?_
  refine lv_iload_n hC.x hC.b dX1_fitting_116 rfl (lv_at hl 2 rfl) ?_
  refine lv_iand hC.x hC.b dX1_fitting_117 ?_
  refine pO_23 hC hP hD hS (v := ((S14.1.1 0 23) &&& x2)) dX1_fitting_118 (fun S15 eS15 H locs hP hD hS => ?_)
  have hw719 := hw718 S15 eS15
  refine lv_iconst (v := 0) hC.x hC.b dX1_fitting_121 (by decide) ?_
  refine lv_istore_n (lv' := [(3, .int 0), (0, .ref (ad 0)), (1, .int x1), (2, .int x2)]) hC.x hC.b dX1_fitting_122 rfl hl (by decide) rfl (fun ls hl => ?_)
  exact k1_fitting_123 hC hK52 (S15, 0) hw719 H locs ls hP hD hS (lv_sub hl [1, 2, 3, 0] rfl)
def f1_fitting_52 (post : CS → Prop) (tw : Option TD) (x1 : Int32) (K52 : (CS × Int32) → Prop) (S : CS) (x2 : Int32) : Prop :=
  ((((1 : Int32) <<< ((S.1.1 50 10) &&& 31)) ≤ x2 → ((¬ (S.1.1 0 20) = 0 → (post S)) ∧ ((S.1.1 0 20) = 0 → (∀ S8, S8 = sI S 0 23 0 → (post S8))))) ∧ (¬ ((1 : Int32) <<< ((S.1.1 50 10) &&& 31)) ≤ x2 → (w1_wrong (fun r9 S10 => ((r9 = (-2) → ((¬ (S10.1.1 0 20) = x1 → (j1_fitting_91 K52 S10 x2)) ∧ ((S10.1.1 0 20) = x1 → (∀ S20, S20 = sI S10 0 21 x2 → (j1_fitting_91 K52 S20 x2))))) ∧ (¬ r9 = (-2) → (K52 (S10, (x2 + 1)))))) tw S x2)))
set_option maxHeartbeats 4000000 in
theorem k1_fitting_52 {post : CS → Prop} {x1 : Int32} (hC : CX RX1 cX1_fitting 4 none D gCl nwG Z Hb A p s m args meth c) : ∀ z : (CS × Int32), lp (fun (K : (CS × Int32) → Prop) (z : (CS × Int32)) => f1_fitting_52 post (some τ) x1 K z.1 z.2) z → ∀ (H : Heap) (locs : List Loc) (ls : Array Slot), va_P D gCl (wC D ad sc (some τ) z.1) H → va_D A (wC D ad sc (some τ) z.1) → va_S A s.heap H locs → lv_has ls 4 [(0, .ref (ad 0)), (1, .int x1), (2, .int z.2)] → W p l e ({ frames := 123, cells := 0, slots := 0, locals := 6069 } : Room) s m args below meth c H locs 0 0 (MQ below (va_Qv post (BW D gCl A (fun u => (wC D ad sc (some τ) u))) A) args s 0 0 A) (F0 m 52 ls []) := by
  refine lp_ind ?_
  rintro K52 ⟨S, x2⟩ hK52 hw H locs ls hP hD hS hl
  have hw : f1_fitting_52 post (some τ) x1 K52 S x2 := hw
  unfold f1_fitting_52 at hw
  have hP : va_P D gCl (wC D ad sc (some τ) S) H := hP
  have hD : va_D A (wC D ad sc (some τ) S) := hD
  have hl : lv_has ls 4 [(0, .ref (ad 0)), (1, .int x1), (2, .int x2)] := hl
  refine lv_iload_n hC.x hC.b dX1_fitting_52 rfl (lv_at hl 2 rfl) ?_
  refine lv_iconst (v := 1) hC.x hC.b dX1_fitting_53 (by decide) ?_
  refine lv_aload_n hC.x hC.b dX1_fitting_54 rfl (lv_at hl 0 rfl) ?_
  refine gO_3 hC hP dX1_fitting_55 ?_
  refine gX1T_10 hC hP dX1_fitting_58 ?_
  refine lv_ishl hC.x hC.b dX1_fitting_61 ?_
  refine lv_icmp_ge (tgt := 160) hC.x hC.b dX1_fitting_62 (by decide) (fun c6 => ?_) (fun c6 => ?_)
  · have hw709 := hw.1 c6
    refine lv_aload_n hC.x hC.b dX1_fitting_160 rfl (lv_at hl 0 rfl) ?_
    refine gO_20 hC hP dX1_fitting_161 ?_
    refine lv_if_ne (tgt := 172) hC.x hC.b dX1_fitting_164 (by decide) (fun c7 => ?_) (fun c7 => ?_)
    · have hw710 := hw709.1 c7
      exact rt_v hC hw710 hP hD hS dX1_fitting_172
    · have hw711 := hw709.2 c7
      refine lv_aload_n hC.x hC.b dX1_fitting_167 rfl (lv_at hl 0 rfl) ?_
      refine lv_iconst (v := 0) hC.x hC.b dX1_fitting_168 (by decide) ?_
      refine pO_23 hC hP hD hS (v := 0) dX1_fitting_169 (fun S8 eS8 H locs hP hD hS => ?_)
      have hw712 := hw711 S8 eS8
      exact rt_v hC hw712 hP hD hS dX1_fitting_172
  · have hw713 := hw.2 c6
    refine lv_aload_n hC.x hC.b dX1_fitting_65 rfl (lv_at hl 0 rfl) ?_
    refine lv_iload_n hC.x hC.b dX1_fitting_66 rfl (lv_at hl 2 rfl) ?_
    refine go_i (run_V (rest := []) hC (m1_wrong l hw713) v1_1_wrong h1_wrong 0 0 gCl_X1 rfl rfl ⟨rfl, rfl, Nat.le_of_ble_eq_true rfl, Nat.le_of_ble_eq_true rfl⟩ ⟨Nat.le_refl _, Nat.le_refl _⟩ hP hD hS hl.1 (Nat.le_of_ble_eq_true rfl) dX1_fitting_67 rfl) hS (fun r9 S10 H locs hw714 hP hD hS => ?_)
    refine lv_bipush (v := (-2)) hC.x hC.b dX1_fitting_70 (by decide) ?_
    refine lv_icmp_eq (tgt := 78) hC.x hC.b dX1_fitting_72 (by decide) (fun c11 => ?_) (fun c11 => ?_)
    · have hw715 := hw714.1 c11
      refine lv_aload_n hC.x hC.b dX1_fitting_78 rfl (lv_at hl 0 rfl) ?_
      refine gO_20 hC hP dX1_fitting_79 ?_
      refine lv_iload_n hC.x hC.b dX1_fitting_82 rfl (lv_at hl 1 rfl) ?_
      refine lv_icmp_ne (tgt := 91) hC.x hC.b dX1_fitting_83 (by decide) (fun c12 => ?_) (fun c12 => ?_)
      · have hw716 := hw715.1 c12
        exact k1_fitting_91 hC hK52 hw716 H locs ls hP hD hS (lv_sub hl [0, 1, 2] rfl)
      · have hw725 := hw715.2 c12
        refine lv_aload_n hC.x hC.b dX1_fitting_86 rfl (lv_at hl 0 rfl) ?_
        refine lv_iload_n hC.x hC.b dX1_fitting_87 rfl (lv_at hl 2 rfl) ?_
        refine pO_21 hC hP hD hS (v := x2) dX1_fitting_88 (fun S20 eS20 H locs hP hD hS => ?_)
        have hw726 := hw725 S20 eS20
        exact k1_fitting_91 hC hK52 hw726 H locs ls hP hD hS (lv_sub hl [0, 1, 2] rfl)
    · have hw727 := hw714.2 c11
      refine lv_goto (tgt := 154) hC.x hC.b dX1_fitting_75 (by decide) ?_
      refine lv_iinc (v := (x2 + 1)) (lv' := [(2, .int (x2 + 1)), (0, .ref (ad 0)), (1, .int x1)]) hC.x hC.b dX1_fitting_154 hl (k := 2) rfl rfl (by decide) rfl (fun ls hl => ?_)
      refine lv_goto (tgt := 52) hC.x hC.b dX1_fitting_157 (by decide) ?_
      exact hK52 (S10, (x2 + 1)) hw727 H locs ls hP hD hS (lv_sub hl [1, 2, 0] rfl)
def f1_fitting_32 (post : CS → Prop) (tw : Option TD) (x1 : Int32) (K32 : (CS × Int32) → Prop) (S : CS) (x2 : Int32) : Prop :=
  ((4 ≤ x2 → (lp (fun (K : (CS × Int32) → Prop) (z : (CS × Int32)) => f1_fitting_52 post tw x1 K z.1 z.2) (S, 0))) ∧ (¬ 4 ≤ x2 → (vp_in x2 4 ∧ (∀ S22, S22 = sI S 13 x2.toNatClampNeg 0 → (K32 (S22, (x2 + 1)))))))
set_option maxHeartbeats 4000000 in
theorem k1_fitting_32 {post : CS → Prop} {x1 : Int32} (hC : CX RX1 cX1_fitting 4 none D gCl nwG Z Hb A p s m args meth c) : ∀ z : (CS × Int32), lp (fun (K : (CS × Int32) → Prop) (z : (CS × Int32)) => f1_fitting_32 post (some τ) x1 K z.1 z.2) z → ∀ (H : Heap) (locs : List Loc) (ls : Array Slot), va_P D gCl (wC D ad sc (some τ) z.1) H → va_D A (wC D ad sc (some τ) z.1) → va_S A s.heap H locs → lv_has ls 4 [(0, .ref (ad 0)), (1, .int x1), (2, .int z.2)] → W p l e ({ frames := 123, cells := 0, slots := 0, locals := 6069 } : Room) s m args below meth c H locs 0 0 (MQ below (va_Qv post (BW D gCl A (fun u => (wC D ad sc (some τ) u))) A) args s 0 0 A) (F0 m 32 ls []) := by
  refine lp_ind ?_
  rintro K32 ⟨S, x2⟩ hK32 hw H locs ls hP hD hS hl
  have hw : f1_fitting_32 post (some τ) x1 K32 S x2 := hw
  unfold f1_fitting_32 at hw
  have hP : va_P D gCl (wC D ad sc (some τ) S) H := hP
  have hD : va_D A (wC D ad sc (some τ) S) := hD
  have hl : lv_has ls 4 [(0, .ref (ad 0)), (1, .int x1), (2, .int x2)] := hl
  refine lv_iload_n hC.x hC.b dX1_fitting_32 rfl (lv_at hl 2 rfl) ?_
  refine lv_iconst (v := 4) hC.x hC.b dX1_fitting_33 (by decide) ?_
  refine lv_icmp_ge (tgt := 50) hC.x hC.b dX1_fitting_34 (by decide) (fun c5 => ?_) (fun c5 => ?_)
  · have hw708 := hw.1 c5
    refine lv_iconst (v := 0) hC.x hC.b dX1_fitting_50 (by decide) ?_
    refine lv_istore_n (lv' := [(2, .int 0), (0, .ref (ad 0)), (1, .int x1)]) hC.x hC.b dX1_fitting_51 rfl hl (by decide) rfl (fun ls hl => ?_)
    exact k1_fitting_52 hC (S, 0) hw708 H locs ls hP hD hS (lv_sub hl [1, 2, 0] rfl)
  · have hw728 := hw.2 c5
    refine lv_aload_n hC.x hC.b dX1_fitting_37 rfl (lv_at hl 0 rfl) ?_
    refine gO_19 hC hP dX1_fitting_38 ?_
    refine lv_iload_n hC.x hC.b dX1_fitting_41 rfl (lv_at hl 2 rfl) ?_
    refine lv_iconst (v := 0) hC.x hC.b dX1_fitting_42 (by decide) ?_
    obtain ⟨hin21, hw729⟩ := hw728
    refine sF_13 hC hP hD hS (v := 0) hin21 rfl dX1_fitting_43 (fun S22 eS22 H locs hP hD hS => ?_)
    have hw730 := hw729 S22 eS22
    refine lv_iinc (v := (x2 + 1)) (lv' := [(2, .int (x2 + 1)), (0, .ref (ad 0)), (1, .int x1)]) hC.x hC.b dX1_fitting_44 hl (k := 2) rfl rfl (by decide) rfl (fun ls hl => ?_)
    refine lv_goto (tgt := 32) hC.x hC.b dX1_fitting_47 (by decide) ?_
    exact hK32 (S22, (x2 + 1)) hw730 H locs ls hP hD hS (lv_sub hl [1, 2, 0] rfl)
def w1_fitting (post : CS → Prop) (tw : Option TD) (S : CS) (x1 : Int32) : Prop :=
  (∀ S1, S1 = sI S 0 20 0 → (∀ S2, S2 = sI S1 0 21 (-1) → (∀ S3, S3 = sI S2 0 22 0 → ((∃ τ, tw = some τ) ∧ (∀ S4, S4 = sI S3 0 23 (((1 : Int32) <<< ((S3.1.1 50 10) &&& 31)) - 1) → (lp (fun (K : (CS × Int32) → Prop) (z : (CS × Int32)) => f1_fitting_32 post tw x1 K z.1 z.2) (S4, 0)))))))
set_option maxHeartbeats 4000000 in
theorem m1_fitting (l : Launch) {post : CS → Prop} {S : CS} {x1 : Int32} (hw : w1_fitting post tw S x1) : Met l yX1_fitting (ws_ yX1_fitting cX1_fitting 4 none) ({ frames := 123, cells := 0, slots := 0, locals := 6069 } : Room) (va_Pc [.ref (ad 0), .int x1] (PcG D gCl nwG Z Hb A (wC D ad sc tw S))) (va_Qv post (BW D gCl A (fun u => (wC D ad sc tw u))) A) 0 0 A := by
  refine Met.ofG (by decide) (Nat.le_of_ble_eq_true rfl) ?_
  intro p e s m below meth c ls hC _ hP hD hS hl
  have hC : CX RX1 cX1_fitting 4 none D gCl nwG Z Hb A p s m _ meth c := hC
  have hl : lv_has ls 4 [(0, .ref (ad 0)), (1, .int x1)] := hl
  unfold w1_fitting at hw
  refine lv_aload_n hC.x hC.b dX1_fitting_0 rfl (lv_at hl 0 rfl) ?_
  refine lv_iconst (v := 0) hC.x hC.b dX1_fitting_1 (by decide) ?_
  refine pO_20 hC hP hD hS (v := 0) dX1_fitting_2 (fun S1 eS1 H locs hP hD hS => ?_)
  have hw703 := hw S1 eS1
  refine lv_aload_n hC.x hC.b dX1_fitting_5 rfl (lv_at hl 0 rfl) ?_
  refine lv_iconst (v := (-1)) hC.x hC.b dX1_fitting_6 (by decide) ?_
  refine pO_21 hC hP hD hS (v := (-1)) dX1_fitting_7 (fun S2 eS2 H locs hP hD hS => ?_)
  have hw704 := hw703 S2 eS2
  refine lv_aload_n hC.x hC.b dX1_fitting_10 rfl (lv_at hl 0 rfl) ?_
  refine lv_iconst (v := 0) hC.x hC.b dX1_fitting_11 (by decide) ?_
  refine pO_22 hC hP hD hS (v := 0) dX1_fitting_12 (fun S3 eS3 H locs hP hD hS => ?_)
  have hw705 := hw704 S3 eS3
  refine lv_aload_n hC.x hC.b dX1_fitting_15 rfl (lv_at hl 0 rfl) ?_
  refine lv_iconst (v := 1) hC.x hC.b dX1_fitting_16 (by decide) ?_
  refine lv_aload_n hC.x hC.b dX1_fitting_17 rfl (lv_at hl 0 rfl) ?_
  refine gO_3 hC hP dX1_fitting_18 ?_
  obtain ⟨⟨τ, rfl⟩, hw706⟩ := hw705
  refine gX1T_10 hC hP dX1_fitting_21 ?_
  refine lv_ishl hC.x hC.b dX1_fitting_24 ?_
  refine lv_iconst (v := 1) hC.x hC.b dX1_fitting_25 (by decide) ?_
  refine lv_isub hC.x hC.b dX1_fitting_26 ?_
  refine pO_23 hC hP hD hS (v := (((1 : Int32) <<< ((S3.1.1 50 10) &&& 31)) - 1)) dX1_fitting_27 (fun S4 eS4 H locs hP hD hS => ?_)
  have hw707 := hw706 S4 eS4
  refine lv_iconst (v := 0) hC.x hC.b dX1_fitting_30 (by decide) ?_
  refine lv_istore_n (lv' := [(2, .int 0), (0, .ref (ad 0)), (1, .int x1)]) hC.x hC.b dX1_fitting_31 rfl hl (by decide) rfl (fun ls hl => ?_)
  exact k1_fitting_32 hC (S4, 0) hw707 H locs ls hP hD hS (lv_sub hl [1, 2, 0] rfl)
theorem v1_1_fitting : GoodIn lw_all (wsV RX1 300 RX1 yX1_fitting (ws_ yX1_fitting cX1_fitting 4 none)) := lw_V q1204 q1206 qs38 q118 q1207
theorem h1_fits : yX1_fits.cls = RX1 ∧ yX1_fits.cls ≠ "java/lang/invoke/MethodHandle" ∧ yX1_fits.cls ≠ "java/lang/invoke/VarHandle" ∧ (parseMethodDescriptor yX1_fits.desc).map (fun d => d.parameters.length) = some 0 := by decide +kernel
def w1_fits (post : Int32 → CS → Prop) (tw : Option TD) (S : CS) : Prop :=
  (w1_anew (fun S2 => ((tw = none → (w1_no (fun r4 S5 => (post r4 S5)) S2 1)) ∧ ((∃ τ, tw = some τ) → (w1_fitting (fun S7 => (post (S7.1.1 0 20) S7)) tw S2 (-1))))) S)
set_option maxHeartbeats 4000000 in
theorem m1_fits (l : Launch) {post : Int32 → CS → Prop} {S : CS} (hw : w1_fits post tw S) : Met l yX1_fits (ws_ yX1_fits cX1_fits 1 (some .int)) ({ frames := 124, cells := 0, slots := 0, locals := 6092 } : Room) (va_Pc [.ref (ad 0)] (PcG D gCl nwG Z Hb A (wC D ad sc tw S))) (va_Qi post (BW D gCl A (fun u => (wC D ad sc tw u))) A) 0 0 A := by
  refine Met.ofG (by decide) (Nat.le_of_ble_eq_true rfl) ?_
  intro p e s m below meth c ls hC _ hP hD hS hl
  have hC : CX RX1 cX1_fits 1 (some .int) D gCl nwG Z Hb A p s m _ meth c := hC
  have hl : lv_has ls 1 [(0, .ref (ad 0))] := hl
  unfold w1_fits at hw
  refine lv_aload_n hC.x hC.b dX1_fits_0 rfl (lv_at hl 0 rfl) ?_
  refine go_v (run_V (rest := []) hC (m1_anew l hw) v1_1_anew h1_anew 0 0 gCl_X1 rfl rfl ⟨rfl, rfl, Nat.le_of_ble_eq_true rfl, Nat.le_of_ble_eq_true rfl⟩ ⟨Nat.le_refl _, Nat.le_refl _⟩ hP hD hS hl.1 (Nat.le_of_ble_eq_true rfl) dX1_fits_1 rfl) hS (fun S2 H locs hw731 hP hD hS => ?_)
  refine lv_aload_n hC.x hC.b dX1_fits_4 rfl (lv_at hl 0 rfl) ?_
  refine gO_3 hC hP dX1_fits_5 ?_
  rcases va_o2 tw with c3 | ⟨τ, c3⟩
  · have hw732 := hw731.1 c3
    subst c3
    refine lv_ifnonnullN hC.x hC.b dX1_fits_8 ?_
    refine lv_aload_n hC.x hC.b dX1_fits_11 rfl (lv_at hl 0 rfl) ?_
    refine lv_iconst (v := 1) hC.x hC.b dX1_fits_12 (by decide) ?_
    refine go_i (run_V (rest := []) hC (m1_no l hw732) v1_1_no h1_no 0 0 gCl_X1 rfl rfl ⟨rfl, rfl, Nat.le_of_ble_eq_true rfl, Nat.le_of_ble_eq_true rfl⟩ ⟨Nat.le_refl _, Nat.le_refl _⟩ hP hD hS hl.1 (Nat.le_of_ble_eq_true rfl) dX1_fits_13 rfl) hS (fun r4 S5 H locs hw733 hP hD hS => ?_)
    exact rt_i hC hw733 hP hD hS dX1_fits_16
  · have hw734 := hw731.2 ⟨τ, c3⟩
    subst c3
    refine lv_ifnonnull (tgt := 17) hC.x hC.b dX1_fits_8 (by decide) ?_
    refine lv_aload_n hC.x hC.b dX1_fits_17 rfl (lv_at hl 0 rfl) ?_
    refine lv_iconst (v := (-1)) hC.x hC.b dX1_fits_18 (by decide) ?_
    refine go_v (run_V (rest := []) hC (m1_fitting l hw734) v1_1_fitting h1_fitting 0 0 gCl_X1 rfl rfl ⟨rfl, rfl, Nat.le_of_ble_eq_true rfl, Nat.le_of_ble_eq_true rfl⟩ ⟨Nat.le_refl _, Nat.le_refl _⟩ hP hD hS hl.1 (Nat.le_of_ble_eq_true rfl) dX1_fits_19 rfl) hS (fun S7 H locs hw735 hP hD hS => ?_)
    refine lv_aload_n hC.x hC.b dX1_fits_22 rfl (lv_at hl 0 rfl) ?_
    refine gO_20 hC hP dX1_fits_23 ?_
    exact rt_i hC hw735 hP hD hS dX1_fits_26
theorem h1_fitAt : yX1_fitAt.cls = RX1 ∧ yX1_fitAt.cls ≠ "java/lang/invoke/MethodHandle" ∧ yX1_fitAt.cls ≠ "java/lang/invoke/VarHandle" ∧ (parseMethodDescriptor yX1_fitAt.desc).map (fun d => d.parameters.length) = some 1 := by decide +kernel
def w1_fitAt (post : Int32 → CS → Prop) (tw : Option TD) (S : CS) (x1 : Int32) : Prop :=
  (w1_anew (fun S2 => ((tw = none → (w1_no (fun r4 S5 => (post r4 S5)) S2 1)) ∧ ((∃ τ, tw = some τ) → (w1_fitting (fun S7 => ((0 ≤ (S7.1.1 0 21) → (post (S7.1.1 0 21) S7)) ∧ (¬ 0 ≤ (S7.1.1 0 21) → (w1_no (fun r9 S10 => (post r9 S10)) S7 1)))) tw S2 x1)))) S)
set_option maxHeartbeats 4000000 in
theorem m1_fitAt (l : Launch) {post : Int32 → CS → Prop} {S : CS} {x1 : Int32} (hw : w1_fitAt post tw S x1) : Met l yX1_fitAt (ws_ yX1_fitAt cX1_fitAt 2 (some .int)) ({ frames := 124, cells := 0, slots := 0, locals := 6092 } : Room) (va_Pc [.ref (ad 0), .int x1] (PcG D gCl nwG Z Hb A (wC D ad sc tw S))) (va_Qi post (BW D gCl A (fun u => (wC D ad sc tw u))) A) 0 0 A := by
  refine Met.ofG (by decide) (Nat.le_of_ble_eq_true rfl) ?_
  intro p e s m below meth c ls hC _ hP hD hS hl
  have hC : CX RX1 cX1_fitAt 2 (some .int) D gCl nwG Z Hb A p s m _ meth c := hC
  have hl : lv_has ls 2 [(0, .ref (ad 0)), (1, .int x1)] := hl
  unfold w1_fitAt at hw
  refine lv_aload_n hC.x hC.b dX1_fitAt_0 rfl (lv_at hl 0 rfl) ?_
  refine go_v (run_V (rest := []) hC (m1_anew l hw) v1_1_anew h1_anew 0 0 gCl_X1 rfl rfl ⟨rfl, rfl, Nat.le_of_ble_eq_true rfl, Nat.le_of_ble_eq_true rfl⟩ ⟨Nat.le_refl _, Nat.le_refl _⟩ hP hD hS hl.1 (Nat.le_of_ble_eq_true rfl) dX1_fitAt_1 rfl) hS (fun S2 H locs hw736 hP hD hS => ?_)
  refine lv_aload_n hC.x hC.b dX1_fitAt_4 rfl (lv_at hl 0 rfl) ?_
  refine gO_3 hC hP dX1_fitAt_5 ?_
  rcases va_o2 tw with c3 | ⟨τ, c3⟩
  · have hw737 := hw736.1 c3
    subst c3
    refine lv_ifnonnullN hC.x hC.b dX1_fitAt_8 ?_
    refine lv_aload_n hC.x hC.b dX1_fitAt_11 rfl (lv_at hl 0 rfl) ?_
    refine lv_iconst (v := 1) hC.x hC.b dX1_fitAt_12 (by decide) ?_
    refine go_i (run_V (rest := []) hC (m1_no l hw737) v1_1_no h1_no 0 0 gCl_X1 rfl rfl ⟨rfl, rfl, Nat.le_of_ble_eq_true rfl, Nat.le_of_ble_eq_true rfl⟩ ⟨Nat.le_refl _, Nat.le_refl _⟩ hP hD hS hl.1 (Nat.le_of_ble_eq_true rfl) dX1_fitAt_13 rfl) hS (fun r4 S5 H locs hw738 hP hD hS => ?_)
    exact rt_i hC hw738 hP hD hS dX1_fitAt_16
  · have hw739 := hw736.2 ⟨τ, c3⟩
    subst c3
    refine lv_ifnonnull (tgt := 17) hC.x hC.b dX1_fitAt_8 (by decide) ?_
    refine lv_aload_n hC.x hC.b dX1_fitAt_17 rfl (lv_at hl 0 rfl) ?_
    refine lv_iload_n hC.x hC.b dX1_fitAt_18 rfl (lv_at hl 1 rfl) ?_
    refine go_v (run_V (rest := []) hC (m1_fitting l hw739) v1_1_fitting h1_fitting 0 0 gCl_X1 rfl rfl ⟨rfl, rfl, Nat.le_of_ble_eq_true rfl, Nat.le_of_ble_eq_true rfl⟩ ⟨Nat.le_refl _, Nat.le_refl _⟩ hP hD hS hl.1 (Nat.le_of_ble_eq_true rfl) dX1_fitAt_19 rfl) hS (fun S7 H locs hw740 hP hD hS => ?_)
    refine lv_aload_n hC.x hC.b dX1_fitAt_22 rfl (lv_at hl 0 rfl) ?_
    refine gO_21 hC hP dX1_fitAt_23 ?_
    refine lv_if_ge (tgt := 37) hC.x hC.b dX1_fitAt_26 (by decide) (fun c8 => ?_) (fun c8 => ?_)
    · have hw741 := hw740.1 c8
      refine lv_aload_n hC.x hC.b dX1_fitAt_37 rfl (lv_at hl 0 rfl) ?_
      refine gO_21 hC hP dX1_fitAt_38 ?_
      exact rt_i hC hw741 hP hD hS dX1_fitAt_41
    · have hw742 := hw740.2 c8
      refine lv_aload_n hC.x hC.b dX1_fitAt_29 rfl (lv_at hl 0 rfl) ?_
      refine lv_iconst (v := 1) hC.x hC.b dX1_fitAt_30 (by decide) ?_
      refine go_i (run_V (rest := []) hC (m1_no l hw742) v1_1_no h1_no 0 0 gCl_X1 rfl rfl ⟨rfl, rfl, Nat.le_of_ble_eq_true rfl, Nat.le_of_ble_eq_true rfl⟩ ⟨Nat.le_refl _, Nat.le_refl _⟩ hP hD hS hl.1 (Nat.le_of_ble_eq_true rfl) dX1_fitAt_31 rfl) hS (fun r9 S10 H locs hw743 hP hD hS => ?_)
      refine lv_goto (tgt := 41) hC.x hC.b dX1_fitAt_34 (by decide) ?_
      exact rt_i hC hw743 hP hD hS dX1_fitAt_41
theorem h1_could : yX1_could.cls = RX1 ∧ yX1_could.cls ≠ "java/lang/invoke/MethodHandle" ∧ yX1_could.cls ≠ "java/lang/invoke/VarHandle" ∧ (parseMethodDescriptor yX1_could.desc).map (fun d => d.parameters.length) = some 0 := by decide +kernel
def w1_could (post : Int32 → CS → Prop) (tw : Option TD) (S : CS) : Prop :=
  (w1_anew (fun S2 => ((tw = none → (w1_no (fun r4 S5 => (post r4 S5)) S2 1)) ∧ ((∃ τ, tw = some τ) → (w1_fitting (fun S7 => (post (S7.1.1 0 22) S7)) tw S2 (-1))))) S)
set_option maxHeartbeats 4000000 in
theorem m1_could (l : Launch) {post : Int32 → CS → Prop} {S : CS} (hw : w1_could post tw S) : Met l yX1_could (ws_ yX1_could cX1_could 1 (some .int)) ({ frames := 124, cells := 0, slots := 0, locals := 6092 } : Room) (va_Pc [.ref (ad 0)] (PcG D gCl nwG Z Hb A (wC D ad sc tw S))) (va_Qi post (BW D gCl A (fun u => (wC D ad sc tw u))) A) 0 0 A := by
  refine Met.ofG (by decide) (Nat.le_of_ble_eq_true rfl) ?_
  intro p e s m below meth c ls hC _ hP hD hS hl
  have hC : CX RX1 cX1_could 1 (some .int) D gCl nwG Z Hb A p s m _ meth c := hC
  have hl : lv_has ls 1 [(0, .ref (ad 0))] := hl
  unfold w1_could at hw
  refine lv_aload_n hC.x hC.b dX1_could_0 rfl (lv_at hl 0 rfl) ?_
  refine go_v (run_V (rest := []) hC (m1_anew l hw) v1_1_anew h1_anew 0 0 gCl_X1 rfl rfl ⟨rfl, rfl, Nat.le_of_ble_eq_true rfl, Nat.le_of_ble_eq_true rfl⟩ ⟨Nat.le_refl _, Nat.le_refl _⟩ hP hD hS hl.1 (Nat.le_of_ble_eq_true rfl) dX1_could_1 rfl) hS (fun S2 H locs hw744 hP hD hS => ?_)
  refine lv_aload_n hC.x hC.b dX1_could_4 rfl (lv_at hl 0 rfl) ?_
  refine gO_3 hC hP dX1_could_5 ?_
  rcases va_o2 tw with c3 | ⟨τ, c3⟩
  · have hw745 := hw744.1 c3
    subst c3
    refine lv_ifnonnullN hC.x hC.b dX1_could_8 ?_
    refine lv_aload_n hC.x hC.b dX1_could_11 rfl (lv_at hl 0 rfl) ?_
    refine lv_iconst (v := 1) hC.x hC.b dX1_could_12 (by decide) ?_
    refine go_i (run_V (rest := []) hC (m1_no l hw745) v1_1_no h1_no 0 0 gCl_X1 rfl rfl ⟨rfl, rfl, Nat.le_of_ble_eq_true rfl, Nat.le_of_ble_eq_true rfl⟩ ⟨Nat.le_refl _, Nat.le_refl _⟩ hP hD hS hl.1 (Nat.le_of_ble_eq_true rfl) dX1_could_13 rfl) hS (fun r4 S5 H locs hw746 hP hD hS => ?_)
    exact rt_i hC hw746 hP hD hS dX1_could_16
  · have hw747 := hw744.2 ⟨τ, c3⟩
    subst c3
    refine lv_ifnonnull (tgt := 17) hC.x hC.b dX1_could_8 (by decide) ?_
    refine lv_aload_n hC.x hC.b dX1_could_17 rfl (lv_at hl 0 rfl) ?_
    refine lv_iconst (v := (-1)) hC.x hC.b dX1_could_18 (by decide) ?_
    refine go_v (run_V (rest := []) hC (m1_fitting l hw747) v1_1_fitting h1_fitting 0 0 gCl_X1 rfl rfl ⟨rfl, rfl, Nat.le_of_ble_eq_true rfl, Nat.le_of_ble_eq_true rfl⟩ ⟨Nat.le_refl _, Nat.le_refl _⟩ hP hD hS hl.1 (Nat.le_of_ble_eq_true rfl) dX1_could_19 rfl) hS (fun S7 H locs hw748 hP hD hS => ?_)
    refine lv_aload_n hC.x hC.b dX1_could_22 rfl (lv_at hl 0 rfl) ?_
    refine gO_22 hC hP dX1_could_23 ?_
    exact rt_i hC hw748 hP hD hS dX1_could_26
theorem h1_surely : yX1_surely.cls = RX1 ∧ yX1_surely.cls ≠ "java/lang/invoke/MethodHandle" ∧ yX1_surely.cls ≠ "java/lang/invoke/VarHandle" ∧ (parseMethodDescriptor yX1_surely.desc).map (fun d => d.parameters.length) = some 0 := by decide +kernel
def w1_surely (post : Int32 → CS → Prop) (tw : Option TD) (S : CS) : Prop :=
  (w1_anew (fun S2 => ((tw = none → (w1_no (fun r4 S5 => (post r4 S5)) S2 1)) ∧ ((∃ τ, tw = some τ) → (w1_fitting (fun S7 => (post (S7.1.1 0 23) S7)) tw S2 (-1))))) S)
set_option maxHeartbeats 4000000 in
theorem m1_surely (l : Launch) {post : Int32 → CS → Prop} {S : CS} (hw : w1_surely post tw S) : Met l yX1_surely (ws_ yX1_surely cX1_surely 1 (some .int)) ({ frames := 124, cells := 0, slots := 0, locals := 6092 } : Room) (va_Pc [.ref (ad 0)] (PcG D gCl nwG Z Hb A (wC D ad sc tw S))) (va_Qi post (BW D gCl A (fun u => (wC D ad sc tw u))) A) 0 0 A := by
  refine Met.ofG (by decide) (Nat.le_of_ble_eq_true rfl) ?_
  intro p e s m below meth c ls hC _ hP hD hS hl
  have hC : CX RX1 cX1_surely 1 (some .int) D gCl nwG Z Hb A p s m _ meth c := hC
  have hl : lv_has ls 1 [(0, .ref (ad 0))] := hl
  unfold w1_surely at hw
  refine lv_aload_n hC.x hC.b dX1_surely_0 rfl (lv_at hl 0 rfl) ?_
  refine go_v (run_V (rest := []) hC (m1_anew l hw) v1_1_anew h1_anew 0 0 gCl_X1 rfl rfl ⟨rfl, rfl, Nat.le_of_ble_eq_true rfl, Nat.le_of_ble_eq_true rfl⟩ ⟨Nat.le_refl _, Nat.le_refl _⟩ hP hD hS hl.1 (Nat.le_of_ble_eq_true rfl) dX1_surely_1 rfl) hS (fun S2 H locs hw749 hP hD hS => ?_)
  refine lv_aload_n hC.x hC.b dX1_surely_4 rfl (lv_at hl 0 rfl) ?_
  refine gO_3 hC hP dX1_surely_5 ?_
  rcases va_o2 tw with c3 | ⟨τ, c3⟩
  · have hw750 := hw749.1 c3
    subst c3
    refine lv_ifnonnullN hC.x hC.b dX1_surely_8 ?_
    refine lv_aload_n hC.x hC.b dX1_surely_11 rfl (lv_at hl 0 rfl) ?_
    refine lv_iconst (v := 1) hC.x hC.b dX1_surely_12 (by decide) ?_
    refine go_i (run_V (rest := []) hC (m1_no l hw750) v1_1_no h1_no 0 0 gCl_X1 rfl rfl ⟨rfl, rfl, Nat.le_of_ble_eq_true rfl, Nat.le_of_ble_eq_true rfl⟩ ⟨Nat.le_refl _, Nat.le_refl _⟩ hP hD hS hl.1 (Nat.le_of_ble_eq_true rfl) dX1_surely_13 rfl) hS (fun r4 S5 H locs hw751 hP hD hS => ?_)
    exact rt_i hC hw751 hP hD hS dX1_surely_16
  · have hw752 := hw749.2 ⟨τ, c3⟩
    subst c3
    refine lv_ifnonnull (tgt := 17) hC.x hC.b dX1_surely_8 (by decide) ?_
    refine lv_aload_n hC.x hC.b dX1_surely_17 rfl (lv_at hl 0 rfl) ?_
    refine lv_iconst (v := (-1)) hC.x hC.b dX1_surely_18 (by decide) ?_
    refine go_v (run_V (rest := []) hC (m1_fitting l hw752) v1_1_fitting h1_fitting 0 0 gCl_X1 rfl rfl ⟨rfl, rfl, Nat.le_of_ble_eq_true rfl, Nat.le_of_ble_eq_true rfl⟩ ⟨Nat.le_refl _, Nat.le_refl _⟩ hP hD hS hl.1 (Nat.le_of_ble_eq_true rfl) dX1_surely_19 rfl) hS (fun S7 H locs hw753 hP hD hS => ?_)
    refine lv_aload_n hC.x hC.b dX1_surely_22 rfl (lv_at hl 0 rfl) ?_
    refine gO_23 hC hP dX1_surely_23 ?_
    exact rt_i hC hw753 hP hD hS dX1_surely_26
theorem h1_leaves : yX1_leaves.cls = RX1 ∧ yX1_leaves.cls ≠ "java/lang/invoke/MethodHandle" ∧ yX1_leaves.cls ≠ "java/lang/invoke/VarHandle" ∧ (parseMethodDescriptor yX1_leaves.desc).map (fun d => d.parameters.length) = some 1 := by decide +kernel
def w1_leaves (post : Int32 → Prop) (S : CS) (x1 : Int32) : Prop :=
  (vp_in x1 4 ∧ (vp_in x1 4 ∧ (post (if (S.1.1 13 x1.toNatClampNeg) < ((S.1.1 0 20) - (S.1.1 13 x1.toNatClampNeg)) then ((S.1.1 0 20) - (S.1.1 13 x1.toNatClampNeg)) else (S.1.1 13 x1.toNatClampNeg)))))
set_option maxHeartbeats 4000000 in
theorem m1_leaves (l : Launch) {post : Int32 → Prop} {S : CS} {x1 : Int32} (hw : w1_leaves post S x1) : Met l yX1_leaves (ws_ yX1_leaves cX1_leaves 2 (some .int)) ({ frames := 1, cells := 0, slots := 0, locals := 40 } : Room) (va_Pc [.ref (ad 0), .int x1] (PcG D gCl nwG Z Hb A (wC D ad sc tw S))) (va_Qi (fun r (_ : Unit) => post r) (BW D gCl A (fun _ => (wC D ad sc tw S))) A) 0 0 A := by
  refine Met.ofG (by decide) (Nat.le_of_ble_eq_true rfl) ?_
  intro p e s m below meth c ls hC _ hP hD hS hl
  have hC : CX RX1 cX1_leaves 2 (some .int) D gCl nwG Z Hb A p s m _ meth c := hC
  have hl : lv_has ls 2 [(0, .ref (ad 0)), (1, .int x1)] := hl
  unfold w1_leaves at hw
  refine lv_aload_n hC.x hC.b dX1_leaves_0 rfl (lv_at hl 0 rfl) ?_
  refine gO_19 hC hP dX1_leaves_1 ?_
  refine lv_iload_n hC.x hC.b dX1_leaves_4 rfl (lv_at hl 1 rfl) ?_
  obtain ⟨hin1, hw754⟩ := hw
  refine lF_13 hC hP hin1 rfl dX1_leaves_5 ?_
  refine lv_aload_n hC.x hC.b dX1_leaves_6 rfl (lv_at hl 0 rfl) ?_
  refine gO_20 hC hP dX1_leaves_7 ?_
  refine lv_aload_n hC.x hC.b dX1_leaves_10 rfl (lv_at hl 0 rfl) ?_
  refine gO_19 hC hP dX1_leaves_11 ?_
  refine lv_iload_n hC.x hC.b dX1_leaves_14 rfl (lv_at hl 1 rfl) ?_
  obtain ⟨hin2, hw755⟩ := hw754
  refine lF_13 hC hP hin2 rfl dX1_leaves_15 ?_
  refine lv_isub hC.x hC.b dX1_leaves_16 ?_
  refine va_mmax hC.x hC.b (hC.ml.trans hl.1.symm) hC.ow (hC.ts _ q1236) (hC.ts _ q1167) (hC.ts _ q142) (hC.ts _ q1168) (Nat.le_of_ble_eq_true rfl) (Nat.le_of_ble_eq_true rfl) (Nat.le_refl _) (Nat.le_refl _) dX1_leaves_17 ?_
  exact rt_i (u := ()) hC hw755 hP hD hS dX1_leaves_20
theorem v1_1_leaves : GoodIn lw_all (wsV RX1 308 RX1 yX1_leaves (ws_ yX1_leaves cX1_leaves 2 (some .int))) := lw_V q1232 q1234 qs41 q118 q1235
theorem h1_askOf : yX1_askOf.cls = RX1 ∧ yX1_askOf.cls ≠ "java/lang/invoke/MethodHandle" ∧ yX1_askOf.cls ≠ "java/lang/invoke/VarHandle" ∧ (parseMethodDescriptor yX1_askOf.desc).map (fun d => d.parameters.length) = some 0 := by decide +kernel
def f1_askOf_10 (post : Int32 → CS → Prop) (tw : Option TD) (S : CS) (K10 : (Int32 × Int32) → Prop) (x1 : Int32) (x2 : Int32) : Prop :=
  ((∃ τ, tw = some τ) ∧ (((S.1.1 50 10) ≤ x2 → (post x1 S)) ∧ (¬ (S.1.1 50 10) ≤ x2 → (((S.1.1 0 20) ≤ 0 → (post x1 S)) ∧ (¬ (S.1.1 0 20) ≤ 0 → ((x1 = (-2) → (K10 (x2, (x2 + 1)))) ∧ (¬ x1 = (-2) → (w1_leaves (fun r6 => (w1_leaves (fun r7 => ((r7 ≤ r6 → (K10 (x1, (x2 + 1)))) ∧ (¬ r7 ≤ r6 → (K10 (x2, (x2 + 1)))))) S x1)) S x2))))))))
set_option maxHeartbeats 4000000 in
theorem k1_askOf_10 {post : Int32 → CS → Prop} {S : CS} (hC : CX RX1 cX1_askOf 3 (some .int) D gCl nwG Z Hb A p s m args meth c) : ∀ z : (Int32 × Int32), lp (fun (K : (Int32 × Int32) → Prop) (z : (Int32 × Int32)) => f1_askOf_10 post tw S K z.1 z.2) z → ∀ (H : Heap) (locs : List Loc) (ls : Array Slot), va_P D gCl (wC D ad sc tw S) H → va_D A (wC D ad sc tw S) → va_S A s.heap H locs → lv_has ls 3 [(0, .ref (ad 0)), (1, .int z.1), (2, .int z.2)] → W p l e ({ frames := 124, cells := 0, slots := 0, locals := 6092 } : Room) s m args below meth c H locs 0 0 (MQ below (va_Qi post (BW D gCl A (fun u => (wC D ad sc tw u))) A) args s 0 0 A) (F0 m 10 ls []) := by
  refine lp_ind ?_
  rintro K10 ⟨x1, x2⟩ hK10 hw H locs ls hP hD hS hl
  have hw : f1_askOf_10 post tw S K10 x1 x2 := hw
  unfold f1_askOf_10 at hw
  have hP : va_P D gCl (wC D ad sc tw S) H := hP
  have hD : va_D A (wC D ad sc tw S) := hD
  have hl : lv_has ls 3 [(0, .ref (ad 0)), (1, .int x1), (2, .int x2)] := hl
  refine lv_iload_n hC.x hC.b dX1_askOf_10 rfl (lv_at hl 2 rfl) ?_
  refine lv_aload_n hC.x hC.b dX1_askOf_11 rfl (lv_at hl 0 rfl) ?_
  refine gO_3 hC hP dX1_askOf_12 ?_
  obtain ⟨⟨τ, rfl⟩, hw757⟩ := hw
  refine gX1T_10 hC hP dX1_askOf_15 ?_
  refine lv_icmp_ge (tgt := 55) hC.x hC.b dX1_askOf_18 (by decide) (fun c3 => ?_) (fun c3 => ?_)
  · have hw758 := hw757.1 c3
    refine lv_iload_n hC.x hC.b dX1_askOf_55 rfl (lv_at hl 1 rfl) ?_
    exact rt_i hC hw758 hP hD hS dX1_askOf_56
  · have hw759 := hw757.2 c3
    refine lv_aload_n hC.x hC.b dX1_askOf_21 rfl (lv_at hl 0 rfl) ?_
    refine gO_20 hC hP dX1_askOf_22 ?_
    refine lv_if_le (tgt := 55) hC.x hC.b dX1_askOf_25 (by decide) (fun c4 => ?_) (fun c4 => ?_)
    · have hw760 := hw759.1 c4
      refine lv_iload_n hC.x hC.b dX1_askOf_55 rfl (lv_at hl 1 rfl) ?_
      exact rt_i hC hw760 hP hD hS dX1_askOf_56
    · have hw761 := hw759.2 c4
      refine lv_iload_n hC.x hC.b dX1_askOf_28 rfl (lv_at hl 1 rfl) ?_
      refine lv_bipush (v := (-2)) hC.x hC.b dX1_askOf_29 (by decide) ?_
      refine lv_icmp_eq (tgt := 47) hC.x hC.b dX1_askOf_31 (by decide) (fun c5 => ?_) (fun c5 => ?_)
      · have hw762 := hw761.1 c5
        refine lv_iload_n hC.x hC.b dX1_askOf_47 rfl (lv_at hl 2 rfl) ?_
        refine lv_istore_n (lv' := [(1, .int x2), (0, .ref (ad 0)), (2, .int x2)]) hC.x hC.b dX1_askOf_48 rfl hl (by decide) rfl (fun ls hl => ?_)
        refine lv_iinc (v := (x2 + 1)) (lv' := [(2, .int (x2 + 1)), (1, .int x2), (0, .ref (ad 0))]) hC.x hC.b dX1_askOf_49 hl (k := 2) rfl rfl (by decide) rfl (fun ls hl => ?_)
        refine lv_goto (tgt := 10) hC.x hC.b dX1_askOf_52 (by decide) ?_
        exact hK10 (x2, (x2 + 1)) hw762 H locs ls hP hD hS (lv_sub hl [2, 1, 0] rfl)
      · have hw763 := hw761.2 c5
        refine lv_aload_n hC.x hC.b dX1_askOf_34 rfl (lv_at hl 0 rfl) ?_
        refine lv_iload_n hC.x hC.b dX1_askOf_35 rfl (lv_at hl 2 rfl) ?_
        refine go_i (run_V (rest := []) hC (m1_leaves l hw763) v1_1_leaves h1_leaves 0 0 gCl_X1 rfl rfl ⟨rfl, rfl, Nat.le_of_ble_eq_true rfl, Nat.le_of_ble_eq_true rfl⟩ ⟨Nat.le_refl _, Nat.le_refl _⟩ hP hD hS hl.1 (Nat.le_of_ble_eq_true rfl) dX1_askOf_36 rfl) hS (fun r6 u H locs hw764 hP hD hS => ?_)
        refine lv_aload_n hC.x hC.b dX1_askOf_39 rfl (lv_at hl 0 rfl) ?_
        refine lv_iload_n hC.x hC.b dX1_askOf_40 rfl (lv_at hl 1 rfl) ?_
        refine go_i (run_V (rest := [.int r6]) hC (m1_leaves l hw764) v1_1_leaves h1_leaves 0 0 gCl_X1 rfl rfl ⟨rfl, rfl, Nat.le_of_ble_eq_true rfl, Nat.le_of_ble_eq_true rfl⟩ ⟨Nat.le_refl _, Nat.le_refl _⟩ hP hD hS hl.1 (Nat.le_of_ble_eq_true rfl) dX1_askOf_41 rfl) hS (fun r7 u H locs hw765 hP hD hS => ?_)
        refine lv_icmp_ge (tgt := 49) hC.x hC.b dX1_askOf_44 (by decide) (fun c8 => ?_) (fun c8 => ?_)
        · have hw766 := hw765.1 c8
          refine lv_iinc (v := (x2 + 1)) (lv' := [(2, .int (x2 + 1)), (0, .ref (ad 0)), (1, .int x1)]) hC.x hC.b dX1_askOf_49 hl (k := 2) rfl rfl (by decide) rfl (fun ls hl => ?_)
          refine lv_goto (tgt := 10) hC.x hC.b dX1_askOf_52 (by decide) ?_
          exact hK10 (x1, (x2 + 1)) hw766 H locs ls hP hD hS (lv_sub hl [1, 2, 0] rfl)
        · have hw767 := hw765.2 c8
          refine lv_iload_n hC.x hC.b dX1_askOf_47 rfl (lv_at hl 2 rfl) ?_
          refine lv_istore_n (lv' := [(1, .int x2), (0, .ref (ad 0)), (2, .int x2)]) hC.x hC.b dX1_askOf_48 rfl hl (by decide) rfl (fun ls hl => ?_)
          refine lv_iinc (v := (x2 + 1)) (lv' := [(2, .int (x2 + 1)), (1, .int x2), (0, .ref (ad 0))]) hC.x hC.b dX1_askOf_49 hl (k := 2) rfl rfl (by decide) rfl (fun ls hl => ?_)
          refine lv_goto (tgt := 10) hC.x hC.b dX1_askOf_52 (by decide) ?_
          exact hK10 (x2, (x2 + 1)) hw767 H locs ls hP hD hS (lv_sub hl [2, 1, 0] rfl)
def w1_askOf (post : Int32 → CS → Prop) (tw : Option TD) (S : CS) : Prop :=
  (w1_fitting (fun S2 => (lp (fun (K : (Int32 × Int32) → Prop) (z : (Int32 × Int32)) => f1_askOf_10 post tw S2 K z.1 z.2) ((-2), 0))) tw S (-1))
set_option maxHeartbeats 4000000 in
theorem m1_askOf (l : Launch) {post : Int32 → CS → Prop} {S : CS} (hw : w1_askOf post tw S) : Met l yX1_askOf (ws_ yX1_askOf cX1_askOf 3 (some .int)) ({ frames := 124, cells := 0, slots := 0, locals := 6092 } : Room) (va_Pc [.ref (ad 0)] (PcG D gCl nwG Z Hb A (wC D ad sc tw S))) (va_Qi post (BW D gCl A (fun u => (wC D ad sc tw u))) A) 0 0 A := by
  refine Met.ofG (by decide) (Nat.le_of_ble_eq_true rfl) ?_
  intro p e s m below meth c ls hC _ hP hD hS hl
  have hC : CX RX1 cX1_askOf 3 (some .int) D gCl nwG Z Hb A p s m _ meth c := hC
  have hl : lv_has ls 3 [(0, .ref (ad 0))] := hl
  unfold w1_askOf at hw
  refine lv_aload_n hC.x hC.b dX1_askOf_0 rfl (lv_at hl 0 rfl) ?_
  refine lv_iconst (v := (-1)) hC.x hC.b dX1_askOf_1 (by decide) ?_
  refine go_v (run_V (rest := []) hC (m1_fitting l hw) v1_1_fitting h1_fitting 0 0 gCl_X1 rfl rfl ⟨rfl, rfl, Nat.le_of_ble_eq_true rfl, Nat.le_of_ble_eq_true rfl⟩ ⟨Nat.le_refl _, Nat.le_refl _⟩ hP hD hS hl.1 (Nat.le_of_ble_eq_true rfl) dX1_askOf_2 rfl) hS (fun S2 H locs hw756 hP hD hS => ?_)
  refine lv_bipush (v := (-2)) hC.x hC.b dX1_askOf_5 (by decide) ?_
  refine lv_istore_n (lv' := [(1, .int (-2)), (0, .ref (ad 0))]) hC.x hC.b dX1_askOf_7 rfl hl (by decide) rfl (fun ls hl => ?_)
  refine lv_iconst (v := 0) hC.x hC.b dX1_askOf_8 (by decide) ?_
  refine lv_istore_n (lv' := [(2, .int 0), (1, .int (-2)), (0, .ref (ad 0))]) hC.x hC.b dX1_askOf_9 rfl hl (by decide) rfl (fun ls hl => ?_)
  exact k1_askOf_10 hC ((-2), 0) hw756 H locs ls hP hD hS (lv_sub hl [2, 1, 0] rfl)
theorem v1_1_askOf : GoodIn lw_all (wsV RX1 311 RX1 yX1_askOf (ws_ yX1_askOf cX1_askOf 3 (some .int))) := lw_V q1228 q1230 qs40 q118 q1231
theorem h1_ask : yX1_ask.cls = RX1 ∧ yX1_ask.cls ≠ "java/lang/invoke/MethodHandle" ∧ yX1_ask.cls ≠ "java/lang/invoke/VarHandle" ∧ (parseMethodDescriptor yX1_ask.desc).map (fun d => d.parameters.length) = some 0 := by decide +kernel
def w1_ask (post : Int32 → CS → Prop) (tw : Option TD) (S : CS) : Prop :=
  (w1_anew (fun S2 => ((tw = none → (w1_no (fun r4 S5 => (post r4 S5)) S2 1)) ∧ ((∃ τ, tw = some τ) → (w1_askOf (fun r6 S7 => (post r6 S7)) tw S2)))) S)
set_option maxHeartbeats 4000000 in
theorem m1_ask (l : Launch) {post : Int32 → CS → Prop} {S : CS} (hw : w1_ask post tw S) : Met l yX1_ask (ws_ yX1_ask cX1_ask 1 (some .int)) ({ frames := 125, cells := 0, slots := 0, locals := 6114 } : Room) (va_Pc [.ref (ad 0)] (PcG D gCl nwG Z Hb A (wC D ad sc tw S))) (va_Qi post (BW D gCl A (fun u => (wC D ad sc tw u))) A) 0 0 A := by
  refine Met.ofG (by decide) (Nat.le_of_ble_eq_true rfl) ?_
  intro p e s m below meth c ls hC _ hP hD hS hl
  have hC : CX RX1 cX1_ask 1 (some .int) D gCl nwG Z Hb A p s m _ meth c := hC
  have hl : lv_has ls 1 [(0, .ref (ad 0))] := hl
  unfold w1_ask at hw
  refine lv_aload_n hC.x hC.b dX1_ask_0 rfl (lv_at hl 0 rfl) ?_
  refine go_v (run_V (rest := []) hC (m1_anew l hw) v1_1_anew h1_anew 0 0 gCl_X1 rfl rfl ⟨rfl, rfl, Nat.le_of_ble_eq_true rfl, Nat.le_of_ble_eq_true rfl⟩ ⟨Nat.le_refl _, Nat.le_refl _⟩ hP hD hS hl.1 (Nat.le_of_ble_eq_true rfl) dX1_ask_1 rfl) hS (fun S2 H locs hw768 hP hD hS => ?_)
  refine lv_aload_n hC.x hC.b dX1_ask_4 rfl (lv_at hl 0 rfl) ?_
  refine gO_3 hC hP dX1_ask_5 ?_
  rcases va_o2 tw with c3 | ⟨τ, c3⟩
  · have hw769 := hw768.1 c3
    subst c3
    refine lv_ifnonnullN hC.x hC.b dX1_ask_8 ?_
    refine lv_aload_n hC.x hC.b dX1_ask_11 rfl (lv_at hl 0 rfl) ?_
    refine lv_iconst (v := 1) hC.x hC.b dX1_ask_12 (by decide) ?_
    refine go_i (run_V (rest := []) hC (m1_no l hw769) v1_1_no h1_no 0 0 gCl_X1 rfl rfl ⟨rfl, rfl, Nat.le_of_ble_eq_true rfl, Nat.le_of_ble_eq_true rfl⟩ ⟨Nat.le_refl _, Nat.le_refl _⟩ hP hD hS hl.1 (Nat.le_of_ble_eq_true rfl) dX1_ask_13 rfl) hS (fun r4 S5 H locs hw770 hP hD hS => ?_)
    refine lv_goto (tgt := 23) hC.x hC.b dX1_ask_16 (by decide) ?_
    exact rt_i hC hw770 hP hD hS dX1_ask_23
  · have hw771 := hw768.2 ⟨τ, c3⟩
    subst c3
    refine lv_ifnonnull (tgt := 19) hC.x hC.b dX1_ask_8 (by decide) ?_
    refine lv_aload_n hC.x hC.b dX1_ask_19 rfl (lv_at hl 0 rfl) ?_
    refine go_i (run_V (rest := []) hC (m1_askOf l hw771) v1_1_askOf h1_askOf 0 0 gCl_X1 rfl rfl ⟨rfl, rfl, Nat.le_of_ble_eq_true rfl, Nat.le_of_ble_eq_true rfl⟩ ⟨Nat.le_refl _, Nat.le_refl _⟩ hP hD hS hl.1 (Nat.le_of_ble_eq_true rfl) dX1_ask_20 rfl) hS (fun r6 S7 H locs hw772 hP hD hS => ?_)
    exact rt_i hC hw772 hP hD hS dX1_ask_23
theorem h1_askLeaves : yX1_askLeaves.cls = RX1 ∧ yX1_askLeaves.cls ≠ "java/lang/invoke/MethodHandle" ∧ yX1_askLeaves.cls ≠ "java/lang/invoke/VarHandle" ∧ (parseMethodDescriptor yX1_askLeaves.desc).map (fun d => d.parameters.length) = some 0 := by decide +kernel
def w1_askLeaves (post : Int32 → CS → Prop) (tw : Option TD) (S : CS) : Prop :=
  (w1_anew (fun S2 => ((tw = none → (w1_no (fun r4 S5 => (post r4 S5)) S2 1)) ∧ ((∃ τ, tw = some τ) → (w1_askOf (fun r6 S7 => ((¬ r6 = (-2) → (w1_leaves (fun r9 => (post r9 S7)) S7 r6)) ∧ (r6 = (-2) → (post (-2) S7)))) tw S2)))) S)
set_option maxHeartbeats 4000000 in
theorem m1_askLeaves (l : Launch) {post : Int32 → CS → Prop} {S : CS} (hw : w1_askLeaves post tw S) : Met l yX1_askLeaves (ws_ yX1_askLeaves cX1_askLeaves 2 (some .int)) ({ frames := 125, cells := 0, slots := 0, locals := 6114 } : Room) (va_Pc [.ref (ad 0)] (PcG D gCl nwG Z Hb A (wC D ad sc tw S))) (va_Qi post (BW D gCl A (fun u => (wC D ad sc tw u))) A) 0 0 A := by
  refine Met.ofG (by decide) (Nat.le_of_ble_eq_true rfl) ?_
  intro p e s m below meth c ls hC _ hP hD hS hl
  have hC : CX RX1 cX1_askLeaves 2 (some .int) D gCl nwG Z Hb A p s m _ meth c := hC
  have hl : lv_has ls 2 [(0, .ref (ad 0))] := hl
  unfold w1_askLeaves at hw
  refine lv_aload_n hC.x hC.b dX1_askLeaves_0 rfl (lv_at hl 0 rfl) ?_
  refine go_v (run_V (rest := []) hC (m1_anew l hw) v1_1_anew h1_anew 0 0 gCl_X1 rfl rfl ⟨rfl, rfl, Nat.le_of_ble_eq_true rfl, Nat.le_of_ble_eq_true rfl⟩ ⟨Nat.le_refl _, Nat.le_refl _⟩ hP hD hS hl.1 (Nat.le_of_ble_eq_true rfl) dX1_askLeaves_1 rfl) hS (fun S2 H locs hw773 hP hD hS => ?_)
  refine lv_aload_n hC.x hC.b dX1_askLeaves_4 rfl (lv_at hl 0 rfl) ?_
  refine gO_3 hC hP dX1_askLeaves_5 ?_
  rcases va_o2 tw with c3 | ⟨τ, c3⟩
  · have hw774 := hw773.1 c3
    subst c3
    refine lv_ifnonnullN hC.x hC.b dX1_askLeaves_8 ?_
    refine lv_aload_n hC.x hC.b dX1_askLeaves_11 rfl (lv_at hl 0 rfl) ?_
    refine lv_iconst (v := 1) hC.x hC.b dX1_askLeaves_12 (by decide) ?_
    refine go_i (run_V (rest := []) hC (m1_no l hw774) v1_1_no h1_no 0 0 gCl_X1 rfl rfl ⟨rfl, rfl, Nat.le_of_ble_eq_true rfl, Nat.le_of_ble_eq_true rfl⟩ ⟨Nat.le_refl _, Nat.le_refl _⟩ hP hD hS hl.1 (Nat.le_of_ble_eq_true rfl) dX1_askLeaves_13 rfl) hS (fun r4 S5 H locs hw775 hP hD hS => ?_)
    exact rt_i hC hw775 hP hD hS dX1_askLeaves_16
  · have hw776 := hw773.2 ⟨τ, c3⟩
    subst c3
    refine lv_ifnonnull (tgt := 17) hC.x hC.b dX1_askLeaves_8 (by decide) ?_
    refine lv_aload_n hC.x hC.b dX1_askLeaves_17 rfl (lv_at hl 0 rfl) ?_
    refine go_i (run_V (rest := []) hC (m1_askOf l hw776) v1_1_askOf h1_askOf 0 0 gCl_X1 rfl rfl ⟨rfl, rfl, Nat.le_of_ble_eq_true rfl, Nat.le_of_ble_eq_true rfl⟩ ⟨Nat.le_refl _, Nat.le_refl _⟩ hP hD hS hl.1 (Nat.le_of_ble_eq_true rfl) dX1_askLeaves_18 rfl) hS (fun r6 S7 H locs hw777 hP hD hS => ?_)
    refine lv_istore_n (lv' := [(1, .int r6), (0, .ref (ad 0))]) hC.x hC.b dX1_askLeaves_21 rfl hl (by decide) rfl (fun ls hl => ?_)
    refine lv_iload_n hC.x hC.b dX1_askLeaves_22 rfl (lv_at hl 0 rfl) ?_
    refine lv_bipush (v := (-2)) hC.x hC.b dX1_askLeaves_23 (by decide) ?_
    refine lv_icmp_ne (tgt := 33) hC.x hC.b dX1_askLeaves_25 (by decide) (fun c8 => ?_) (fun c8 => ?_)
    · have hw778 := hw777.1 c8
      refine lv_aload_n hC.x hC.b dX1_askLeaves_33 rfl (lv_at hl 1 rfl) ?_
      refine lv_iload_n hC.x hC.b dX1_askLeaves_34 rfl (lv_at hl 0 rfl) ?_
      refine go_i (run_V (rest := []) hC (m1_leaves l hw778) v1_1_leaves h1_leaves 0 0 gCl_X1 rfl rfl ⟨rfl, rfl, Nat.le_of_ble_eq_true rfl, Nat.le_of_ble_eq_true rfl⟩ ⟨Nat.le_refl _, Nat.le_refl _⟩ hP hD hS hl.1 (Nat.le_of_ble_eq_true rfl) dX1_askLeaves_35 rfl) hS (fun r9 u H locs hw779 hP hD hS => ?_)
      exact rt_i hC hw779 hP hD hS dX1_askLeaves_38
    · have hw780 := hw777.2 c8
      refine lv_bipush (v := (-2)) hC.x hC.b dX1_askLeaves_28 (by decide) ?_
      refine lv_goto (tgt := 38) hC.x hC.b dX1_askLeaves_30 (by decide) ?_
      exact rt_i hC hw780 hP hD hS dX1_askLeaves_38
theorem h1_judge : yX1_judge.cls = RX1 ∧ yX1_judge.cls ≠ "java/lang/invoke/MethodHandle" ∧ yX1_judge.cls ≠ "java/lang/invoke/VarHandle" ∧ (parseMethodDescriptor yX1_judge.desc).map (fun d => d.parameters.length) = some 0 := by decide +kernel
def w1_judge (post : Int32 → CS → Prop) (tw : Option TD) (S : CS) : Prop :=
  (w1_anew (fun S2 => ((tw = none → (w1_no (fun r4 S5 => (post r4 S5)) S2 1)) ∧ ((∃ τ, tw = some τ) → (w1_wrong (fun r6 S7 => (post r6 S7)) tw S2 0)))) S)
set_option maxHeartbeats 4000000 in
theorem m1_judge (l : Launch) {post : Int32 → CS → Prop} {S : CS} (hw : w1_judge post tw S) : Met l yX1_judge (ws_ yX1_judge cX1_judge 1 (some .int)) ({ frames := 123, cells := 0, slots := 0, locals := 6069 } : Room) (va_Pc [.ref (ad 0)] (PcG D gCl nwG Z Hb A (wC D ad sc tw S))) (va_Qi post (BW D gCl A (fun u => (wC D ad sc tw u))) A) 0 0 A := by
  refine Met.ofG (by decide) (Nat.le_of_ble_eq_true rfl) ?_
  intro p e s m below meth c ls hC _ hP hD hS hl
  have hC : CX RX1 cX1_judge 1 (some .int) D gCl nwG Z Hb A p s m _ meth c := hC
  have hl : lv_has ls 1 [(0, .ref (ad 0))] := hl
  unfold w1_judge at hw
  refine lv_aload_n hC.x hC.b dX1_judge_0 rfl (lv_at hl 0 rfl) ?_
  refine go_v (run_V (rest := []) hC (m1_anew l hw) v1_1_anew h1_anew 0 0 gCl_X1 rfl rfl ⟨rfl, rfl, Nat.le_of_ble_eq_true rfl, Nat.le_of_ble_eq_true rfl⟩ ⟨Nat.le_refl _, Nat.le_refl _⟩ hP hD hS hl.1 (Nat.le_of_ble_eq_true rfl) dX1_judge_1 rfl) hS (fun S2 H locs hw781 hP hD hS => ?_)
  refine lv_aload_n hC.x hC.b dX1_judge_4 rfl (lv_at hl 0 rfl) ?_
  refine gO_3 hC hP dX1_judge_5 ?_
  rcases va_o2 tw with c3 | ⟨τ, c3⟩
  · have hw782 := hw781.1 c3
    subst c3
    refine lv_ifnonnullN hC.x hC.b dX1_judge_8 ?_
    refine lv_aload_n hC.x hC.b dX1_judge_11 rfl (lv_at hl 0 rfl) ?_
    refine lv_iconst (v := 1) hC.x hC.b dX1_judge_12 (by decide) ?_
    refine go_i (run_V (rest := []) hC (m1_no l hw782) v1_1_no h1_no 0 0 gCl_X1 rfl rfl ⟨rfl, rfl, Nat.le_of_ble_eq_true rfl, Nat.le_of_ble_eq_true rfl⟩ ⟨Nat.le_refl _, Nat.le_refl _⟩ hP hD hS hl.1 (Nat.le_of_ble_eq_true rfl) dX1_judge_13 rfl) hS (fun r4 S5 H locs hw783 hP hD hS => ?_)
    refine lv_goto (tgt := 24) hC.x hC.b dX1_judge_16 (by decide) ?_
    exact rt_i hC hw783 hP hD hS dX1_judge_24
  · have hw784 := hw781.2 ⟨τ, c3⟩
    subst c3
    refine lv_ifnonnull (tgt := 19) hC.x hC.b dX1_judge_8 (by decide) ?_
    refine lv_aload_n hC.x hC.b dX1_judge_19 rfl (lv_at hl 0 rfl) ?_
    refine lv_iconst (v := 0) hC.x hC.b dX1_judge_20 (by decide) ?_
    refine go_i (run_V (rest := []) hC (m1_wrong l hw784) v1_1_wrong h1_wrong 0 0 gCl_X1 rfl rfl ⟨rfl, rfl, Nat.le_of_ble_eq_true rfl, Nat.le_of_ble_eq_true rfl⟩ ⟨Nat.le_refl _, Nat.le_refl _⟩ hP hD hS hl.1 (Nat.le_of_ble_eq_true rfl) dX1_judge_21 rfl) hS (fun r6 S7 H locs hw785 hP hD hS => ?_)
    exact rt_i hC hw785 hP hD hS dX1_judge_24
theorem h1_chatted : yX1_chatted.cls ≠ "java/lang/invoke/MethodHandle" ∧ yX1_chatted.cls ≠ "java/lang/invoke/VarHandle" ∧ (parseMethodDescriptor yX1_chatted.desc).map (fun d => d.parameters.length) = some 3 := by decide +kernel
def w1_chatted (post : Int32 → Prop) (x0 : Int32) (x1 : Int32) (x2 : Int32) : Prop :=
  ((x1 = 0 → ((x2 = 0 → (post 1)) ∧ (¬ x2 = 0 → (post (2 - x0))))) ∧ (¬ x1 = 0 → ((x2 = 0 → (post 3)) ∧ (¬ x2 = 0 → (post 0)))))
set_option maxHeartbeats 4000000 in
theorem m1_chatted (l : Launch) {post : Int32 → Prop} {x0 : Int32} {x1 : Int32} {x2 : Int32} (hw : w1_chatted post x0 x1 x2) : Met l yX1_chatted (ws_ yX1_chatted cX1_chatted 3 (some .int)) ({ frames := 0, cells := 0, slots := 0, locals := 0 } : Room) (va_Pc [.int x0, .int x1, .int x2] (PcG D gCl nwG Z Hb A w0)) (va_Qi (fun r (_ : Unit) => post r) (BW D gCl A (fun _ => w0)) A) 0 0 A := by
  refine Met.ofG (by decide) (Nat.le_of_ble_eq_true rfl) ?_
  intro p e s m below meth c ls hC _ hP hD hS hl
  have hC : CX RX1 cX1_chatted 3 (some .int) D gCl nwG Z Hb A p s m _ meth c := hC
  have hl : lv_has ls 3 [(0, .int x0), (1, .int x1), (2, .int x2)] := hl
  unfold w1_chatted at hw
  refine lv_iload_n hC.x hC.b dX1_chatted_0 rfl (lv_at hl 1 rfl) ?_
  refine lv_if_eq (tgt := 16) hC.x hC.b dX1_chatted_1 (by decide) (fun c1 => ?_) (fun c1 => ?_)
  · have hw786 := hw.1 c1
    refine lv_iload_n hC.x hC.b dX1_chatted_16 rfl (lv_at hl 2 rfl) ?_
    refine lv_if_eq (tgt := 26) hC.x hC.b dX1_chatted_17 (by decide) (fun c2 => ?_) (fun c2 => ?_)
    · have hw787 := hw786.1 c2
      refine lv_iconst (v := 1) hC.x hC.b dX1_chatted_26 (by decide) ?_
      exact rt_i (u := ()) hC hw787 hP hD hS dX1_chatted_27
    · have hw788 := hw786.2 c2
      refine lv_iconst (v := 2) hC.x hC.b dX1_chatted_20 (by decide) ?_
      refine lv_iload_n hC.x hC.b dX1_chatted_21 rfl (lv_at hl 0 rfl) ?_
      refine lv_isub hC.x hC.b dX1_chatted_22 ?_
      refine lv_goto (tgt := 27) hC.x hC.b dX1_chatted_23 (by decide) ?_
      exact rt_i (u := ()) hC hw788 hP hD hS dX1_chatted_27
  · have hw789 := hw.2 c1
    refine lv_iload_n hC.x hC.b dX1_chatted_4 rfl (lv_at hl 2 rfl) ?_
    refine lv_if_eq (tgt := 12) hC.x hC.b dX1_chatted_5 (by decide) (fun c3 => ?_) (fun c3 => ?_)
    · have hw790 := hw789.1 c3
      refine lv_iconst (v := 3) hC.x hC.b dX1_chatted_12 (by decide) ?_
      refine lv_goto (tgt := 27) hC.x hC.b dX1_chatted_13 (by decide) ?_
      exact rt_i (u := ()) hC hw790 hP hD hS dX1_chatted_27
    · have hw791 := hw789.2 c3
      refine lv_iconst (v := 0) hC.x hC.b dX1_chatted_8 (by decide) ?_
      refine lv_goto (tgt := 27) hC.x hC.b dX1_chatted_9 (by decide) ?_
      exact rt_i (u := ()) hC hw791 hP hD hS dX1_chatted_27
theorem v1_1_chatted : GoodIn lw_all (va_wsS RX1 314 yX1_chatted (ws_ yX1_chatted cX1_chatted 3 (some .int))) := lw_S q1249 q1250 q118 q1251
theorem h1_chat : yX1_chat.cls = RX1 ∧ yX1_chat.cls ≠ "java/lang/invoke/MethodHandle" ∧ yX1_chat.cls ≠ "java/lang/invoke/VarHandle" ∧ (parseMethodDescriptor yX1_chat.desc).map (fun d => d.parameters.length) = some 4 := by decide +kernel
def j1_chat_18 (post : Int32 → CS → Prop) (S : CS) (x1 : Int32) (x2 : Int32) (x3 : Int32) (x4 : Int32) (y2 : Int32) : Prop :=
  (w1_in (fun r4 => (w1_numberWhy (fun r5 => (∀ S6, S6 = sI S 0 4 r5 → (((S6.1.1 0 4) = 0 → ((x4 = 0 → (w1_chatted (fun r9 => (post r9 S6)) x1 x2 x3)) ∧ (¬ x4 = 0 → (w1_chatted (fun r10 => (post r10 S6)) x1 x3 x2)))) ∧ (¬ (S6.1.1 0 4) = 0 → (post (-100) S6))))) S y2 r4)) x1 0 9)
set_option maxHeartbeats 4000000 in
theorem k1_chat_18 {post : Int32 → CS → Prop} {S : CS} {x1 : Int32} {x2 : Int32} {x3 : Int32} {x4 : Int32} {y2 : Int32} (hC : CX RX1 cX1_chat 5 (some .int) D gCl nwG Z Hb A p s m args meth c) (hw : j1_chat_18 post S x1 x2 x3 x4 y2) : ∀ (H : Heap) (locs : List Loc) (ls : Array Slot), va_P D gCl (wC D ad sc tw S) H → va_D A (wC D ad sc tw S) → va_S A s.heap H locs → lv_has ls 5 [(0, .ref (ad 0)), (1, .int x1), (2, .int x2), (3, .int x3), (4, .int x4)] → W p l e ({ frames := 1, cells := 0, slots := 0, locals := 22 } : Room) s m args below meth c H locs 0 0 (MQ below (va_Qi post (BW D gCl A (fun u => (wC D ad sc tw u))) A) args s 0 0 A) (F0 m 18 ls [.int y2, .ref (ad 0), .ref (ad 0)]) := by
  intro H locs ls hP hD hS hl
  unfold j1_chat_18 at hw
  refine lv_iload_n hC.x hC.b dX1_chat_18 rfl (lv_at hl 1 rfl) ?_
  refine lv_iconst (v := 0) hC.x hC.b dX1_chat_19 (by decide) ?_
  refine lv_bipush (v := 9) hC.x hC.b dX1_chat_20 (by decide) ?_
  refine go_i (run_S (rest := [.int y2, .ref (ad 0), .ref (ad 0)]) hC (m1_in l hw) v1_1_in h1_in ⟨rfl, rfl, Nat.le_of_ble_eq_true rfl, Nat.le_of_ble_eq_true rfl⟩ ⟨Nat.le_refl _, Nat.le_refl _⟩ hP hD hS hl.1 (Nat.le_of_ble_eq_true rfl) dX1_chat_22 rfl) hS (fun r4 u H locs hw794 hP hD hS => ?_)
  refine go_i (run_V (rest := [.ref (ad 0)]) hC (m1_numberWhy l hw794) v1_1_numberWhy h1_numberWhy 0 0 gCl_X1 rfl rfl ⟨rfl, rfl, Nat.le_of_ble_eq_true rfl, Nat.le_of_ble_eq_true rfl⟩ ⟨Nat.le_refl _, Nat.le_refl _⟩ hP hD hS hl.1 (Nat.le_of_ble_eq_true rfl) dX1_chat_25 rfl) hS (fun r5 u H locs hw795 hP hD hS => ?_)
  refine pO_4 hC hP hD hS (v := r5) dX1_chat_28 (fun S6 eS6 H locs hP hD hS => ?_)
  have hw796 := hw795 S6 eS6
  refine lv_aload_n hC.x hC.b dX1_chat_31 rfl (lv_at hl 0 rfl) ?_
  refine gO_4 hC hP dX1_chat_32 ?_
  refine lv_if_eq (tgt := 43) hC.x hC.b dX1_chat_35 (by decide) (fun c7 => ?_) (fun c7 => ?_)
  · have hw797 := hw796.1 c7
    refine lv_iload hC.x hC.b dX1_chat_43 (lv_at hl 4 rfl) ?_
    refine lv_if_eq (tgt := 57) hC.x hC.b dX1_chat_45 (by decide) (fun c8 => ?_) (fun c8 => ?_)
    · have hw798 := hw797.1 c8
      refine lv_iload_n hC.x hC.b dX1_chat_57 rfl (lv_at hl 1 rfl) ?_
      refine lv_iload_n hC.x hC.b dX1_chat_58 rfl (lv_at hl 2 rfl) ?_
      refine lv_iload_n hC.x hC.b dX1_chat_59 rfl (lv_at hl 3 rfl) ?_
      refine go_i (run_S (rest := []) hC (m1_chatted l hw798) v1_1_chatted h1_chatted ⟨rfl, rfl, Nat.le_of_ble_eq_true rfl, Nat.le_of_ble_eq_true rfl⟩ ⟨Nat.le_refl _, Nat.le_refl _⟩ hP hD hS hl.1 (Nat.le_of_ble_eq_true rfl) dX1_chat_60 rfl) hS (fun r9 u H locs hw799 hP hD hS => ?_)
      exact rt_i hC hw799 hP hD hS dX1_chat_63
    · have hw800 := hw797.2 c8
      refine lv_iload_n hC.x hC.b dX1_chat_48 rfl (lv_at hl 1 rfl) ?_
      refine lv_iload_n hC.x hC.b dX1_chat_49 rfl (lv_at hl 3 rfl) ?_
      refine lv_iload_n hC.x hC.b dX1_chat_50 rfl (lv_at hl 2 rfl) ?_
      refine go_i (run_S (rest := []) hC (m1_chatted l hw800) v1_1_chatted h1_chatted ⟨rfl, rfl, Nat.le_of_ble_eq_true rfl, Nat.le_of_ble_eq_true rfl⟩ ⟨Nat.le_refl _, Nat.le_refl _⟩ hP hD hS hl.1 (Nat.le_of_ble_eq_true rfl) dX1_chat_51 rfl) hS (fun r10 u H locs hw801 hP hD hS => ?_)
      refine lv_goto (tgt := 63) hC.x hC.b dX1_chat_54 (by decide) ?_
      exact rt_i hC hw801 hP hD hS dX1_chat_63
  · have hw802 := hw796.2 c7
    refine lv_bipush (v := (-100)) hC.x hC.b dX1_chat_38 (by decide) ?_
    refine lv_goto (tgt := 63) hC.x hC.b dX1_chat_40 (by decide) ?_
    exact rt_i hC hw802 hP hD hS dX1_chat_63
def w1_chat (post : Int32 → CS → Prop) (tw : Option TD) (S : CS) (x1 : Int32) (x2 : Int32) (x3 : Int32) (x4 : Int32) : Prop :=
  (w1_anew (fun S2 => ((tw = none → (j1_chat_18 post S2 x1 x2 x3 x4 0)) ∧ ((∃ τ, tw = some τ) → (j1_chat_18 post S2 x1 x2 x3 x4 1)))) S)
set_option maxHeartbeats 4000000 in
theorem m1_chat (l : Launch) {post : Int32 → CS → Prop} {S : CS} {x1 : Int32} {x2 : Int32} {x3 : Int32} {x4 : Int32} (hw : w1_chat post tw S x1 x2 x3 x4) : Met l yX1_chat (ws_ yX1_chat cX1_chat 5 (some .int)) ({ frames := 1, cells := 0, slots := 0, locals := 22 } : Room) (va_Pc [.ref (ad 0), .int x1, .int x2, .int x3, .int x4] (PcG D gCl nwG Z Hb A (wC D ad sc tw S))) (va_Qi post (BW D gCl A (fun u => (wC D ad sc tw u))) A) 0 0 A := by
  refine Met.ofG (by decide) (Nat.le_of_ble_eq_true rfl) ?_
  intro p e s m below meth c ls hC _ hP hD hS hl
  have hC : CX RX1 cX1_chat 5 (some .int) D gCl nwG Z Hb A p s m _ meth c := hC
  have hl : lv_has ls 5 [(0, .ref (ad 0)), (1, .int x1), (2, .int x2), (3, .int x3), (4, .int x4)] := hl
  unfold w1_chat at hw
  refine lv_aload_n hC.x hC.b dX1_chat_0 rfl (lv_at hl 0 rfl) ?_
  refine go_v (run_V (rest := []) hC (m1_anew l hw) v1_1_anew h1_anew 0 0 gCl_X1 rfl rfl ⟨rfl, rfl, Nat.le_of_ble_eq_true rfl, Nat.le_of_ble_eq_true rfl⟩ ⟨Nat.le_refl _, Nat.le_refl _⟩ hP hD hS hl.1 (Nat.le_of_ble_eq_true rfl) dX1_chat_1 rfl) hS (fun S2 H locs hw792 hP hD hS => ?_)
  refine lv_aload_n hC.x hC.b dX1_chat_4 rfl (lv_at hl 0 rfl) ?_
  refine lv_aload_n hC.x hC.b dX1_chat_5 rfl (lv_at hl 0 rfl) ?_
  refine lv_aload_n hC.x hC.b dX1_chat_6 rfl (lv_at hl 0 rfl) ?_
  refine gO_3 hC hP dX1_chat_7 ?_
  rcases va_o2 tw with c3 | ⟨τ, c3⟩
  · have hw793 := hw792.1 c3
    subst c3
    refine lv_ifnullN (tgt := 17) hC.x hC.b dX1_chat_10 (by decide) ?_
    refine lv_iconst (v := 0) hC.x hC.b dX1_chat_17 (by decide) ?_
    exact k1_chat_18 hC hw793 H locs ls hP hD hS (lv_sub hl [0, 1, 2, 3, 4] rfl)
  · have hw803 := hw792.2 ⟨τ, c3⟩
    subst c3
    refine lv_ifnull hC.x hC.b dX1_chat_10 ?_
    refine lv_iconst (v := 1) hC.x hC.b dX1_chat_13 (by decide) ?_
    refine lv_goto (tgt := 18) hC.x hC.b dX1_chat_14 (by decide) ?_
    exact k1_chat_18 hC hw803 H locs ls hP hD hS (lv_sub hl [0, 1, 2, 3, 4] rfl)
theorem h1_isRest : yX1_isRest.cls ≠ "java/lang/invoke/MethodHandle" ∧ yX1_isRest.cls ≠ "java/lang/invoke/VarHandle" ∧ (parseMethodDescriptor yX1_isRest.desc).map (fun d => d.parameters.length) = some 3 := by decide +kernel
def j1_isRest_33 (post : Int32 → Prop) (x0 : Int32) (x1 : Int32) (x2 : Int32) (y0 : Int32) (y1 : Int32) : Prop :=
  (w1_chatted (fun r6 => (w1_chatted (fun r7 => ((r7 < r6 → (post 0)) ∧ (¬ r7 < r6 → (post 1)))) x0 x2 x1)) y0 y1 x1)
set_option maxHeartbeats 4000000 in
theorem k1_isRest_33 {post : Int32 → Prop} {x0 : Int32} {x1 : Int32} {x2 : Int32} {y0 : Int32} {y1 : Int32} (hC : CX RX1 cX1_isRest 3 (some .boolean) D gCl nwG Z Hb A p s m args meth c) (hw : j1_isRest_33 post x0 x1 x2 y0 y1) : ∀ (H : Heap) (locs : List Loc) (ls : Array Slot), va_P D gCl w0 H → va_D A w0 → va_S A s.heap H locs → lv_has ls 3 [(0, .int x0), (1, .int x1), (2, .int x2)] → W p l e ({ frames := 1, cells := 0, slots := 0, locals := 22 } : Room) s m args below meth c H locs 0 0 (MQ below (va_Qi (fun r (_ : Unit) => post r) (BW D gCl A (fun _ => w0)) A) args s 0 0 A) (F0 m 33 ls [.int y1, .int y0]) := by
  intro H locs ls hP hD hS hl
  unfold j1_isRest_33 at hw
  refine lv_iload_n hC.x hC.b dX1_isRest_33 rfl (lv_at hl 1 rfl) ?_
  refine go_i (run_S (rest := []) hC (m1_chatted l hw) v1_1_chatted h1_chatted ⟨rfl, rfl, Nat.le_of_ble_eq_true rfl, Nat.le_of_ble_eq_true rfl⟩ ⟨Nat.le_refl _, Nat.le_refl _⟩ hP hD hS hl.1 (Nat.le_of_ble_eq_true rfl) dX1_isRest_34 rfl) hS (fun r6 u H locs hw810 hP hD hS => ?_)
  refine lv_iload_n hC.x hC.b dX1_isRest_37 rfl (lv_at hl 0 rfl) ?_
  refine lv_iload_n hC.x hC.b dX1_isRest_38 rfl (lv_at hl 2 rfl) ?_
  refine lv_iload_n hC.x hC.b dX1_isRest_39 rfl (lv_at hl 1 rfl) ?_
  refine go_i (run_S (rest := [.int r6]) hC (m1_chatted l hw810) v1_1_chatted h1_chatted ⟨rfl, rfl, Nat.le_of_ble_eq_true rfl, Nat.le_of_ble_eq_true rfl⟩ ⟨Nat.le_refl _, Nat.le_refl _⟩ hP hD hS hl.1 (Nat.le_of_ble_eq_true rfl) dX1_isRest_40 rfl) hS (fun r7 u H locs hw811 hP hD hS => ?_)
  refine lv_icmp_gt (tgt := 50) hC.x hC.b dX1_isRest_43 (by decide) (fun c8 => ?_) (fun c8 => ?_)
  · have hw812 := hw811.1 c8
    refine lv_iconst (v := 0) hC.x hC.b dX1_isRest_50 (by decide) ?_
    exact rt_z (u := ()) hC (Or.inl rfl) hw812 hP hD hS dX1_isRest_51
  · have hw813 := hw811.2 c8
    refine lv_iconst (v := 1) hC.x hC.b dX1_isRest_46 (by decide) ?_
    refine lv_goto (tgt := 51) hC.x hC.b dX1_isRest_47 (by decide) ?_
    exact rt_z (u := ()) hC (Or.inr rfl) hw813 hP hD hS dX1_isRest_51
def j1_isRest_10 (post : Int32 → Prop) (x0 : Int32) (x1 : Int32) (x2 : Int32) (y0 : Int32) (y1 : Int32) : Prop :=
  (w1_chatted (fun r2 => (w1_chatted (fun r3 => ((r3 < r2 → (post 0)) ∧ (¬ r3 < r2 → ((¬ x2 = 0 → (j1_isRest_33 post x0 x1 x2 x0 0)) ∧ (x2 = 0 → (j1_isRest_33 post x0 x1 x2 x0 1)))))) x0 x1 x2)) y0 y1 x2)
set_option maxHeartbeats 4000000 in
theorem k1_isRest_10 {post : Int32 → Prop} {x0 : Int32} {x1 : Int32} {x2 : Int32} {y0 : Int32} {y1 : Int32} (hC : CX RX1 cX1_isRest 3 (some .boolean) D gCl nwG Z Hb A p s m args meth c) (hw : j1_isRest_10 post x0 x1 x2 y0 y1) : ∀ (H : Heap) (locs : List Loc) (ls : Array Slot), va_P D gCl w0 H → va_D A w0 → va_S A s.heap H locs → lv_has ls 3 [(0, .int x0), (1, .int x1), (2, .int x2)] → W p l e ({ frames := 1, cells := 0, slots := 0, locals := 22 } : Room) s m args below meth c H locs 0 0 (MQ below (va_Qi (fun r (_ : Unit) => post r) (BW D gCl A (fun _ => w0)) A) args s 0 0 A) (F0 m 10 ls [.int y1, .int y0]) := by
  intro H locs ls hP hD hS hl
  unfold j1_isRest_10 at hw
  refine lv_iload_n hC.x hC.b dX1_isRest_10 rfl (lv_at hl 2 rfl) ?_
  refine go_i (run_S (rest := []) hC (m1_chatted l hw) v1_1_chatted h1_chatted ⟨rfl, rfl, Nat.le_of_ble_eq_true rfl, Nat.le_of_ble_eq_true rfl⟩ ⟨Nat.le_refl _, Nat.le_refl _⟩ hP hD hS hl.1 (Nat.le_of_ble_eq_true rfl) dX1_isRest_11 rfl) hS (fun r2 u H locs hw805 hP hD hS => ?_)
  refine lv_iload_n hC.x hC.b dX1_isRest_14 rfl (lv_at hl 0 rfl) ?_
  refine lv_iload_n hC.x hC.b dX1_isRest_15 rfl (lv_at hl 1 rfl) ?_
  refine lv_iload_n hC.x hC.b dX1_isRest_16 rfl (lv_at hl 2 rfl) ?_
  refine go_i (run_S (rest := [.int r2]) hC (m1_chatted l hw805) v1_1_chatted h1_chatted ⟨rfl, rfl, Nat.le_of_ble_eq_true rfl, Nat.le_of_ble_eq_true rfl⟩ ⟨Nat.le_refl _, Nat.le_refl _⟩ hP hD hS hl.1 (Nat.le_of_ble_eq_true rfl) dX1_isRest_17 rfl) hS (fun r3 u H locs hw806 hP hD hS => ?_)
  refine lv_icmp_gt (tgt := 50) hC.x hC.b dX1_isRest_20 (by decide) (fun c4 => ?_) (fun c4 => ?_)
  · have hw807 := hw806.1 c4
    refine lv_iconst (v := 0) hC.x hC.b dX1_isRest_50 (by decide) ?_
    exact rt_z (u := ()) hC (Or.inl rfl) hw807 hP hD hS dX1_isRest_51
  · have hw808 := hw806.2 c4
    refine lv_iload_n hC.x hC.b dX1_isRest_23 rfl (lv_at hl 0 rfl) ?_
    refine lv_iload_n hC.x hC.b dX1_isRest_24 rfl (lv_at hl 2 rfl) ?_
    refine lv_if_ne (tgt := 32) hC.x hC.b dX1_isRest_25 (by decide) (fun c5 => ?_) (fun c5 => ?_)
    · have hw809 := hw808.1 c5
      refine lv_iconst (v := 0) hC.x hC.b dX1_isRest_32 (by decide) ?_
      exact k1_isRest_33 hC hw809 H locs ls hP hD hS (lv_sub hl [0, 1, 2] rfl)
    · have hw814 := hw808.2 c5
      refine lv_iconst (v := 1) hC.x hC.b dX1_isRest_28 (by decide) ?_
      refine lv_goto (tgt := 33) hC.x hC.b dX1_isRest_29 (by decide) ?_
      exact k1_isRest_33 hC hw814 H locs ls hP hD hS (lv_sub hl [0, 1, 2] rfl)
def w1_isRest (post : Int32 → Prop) (x0 : Int32) (x1 : Int32) (x2 : Int32) : Prop :=
  ((¬ x1 = 0 → (j1_isRest_10 post x0 x1 x2 x0 0)) ∧ (x1 = 0 → (j1_isRest_10 post x0 x1 x2 x0 1)))
set_option maxHeartbeats 4000000 in
theorem m1_isRest (l : Launch) {post : Int32 → Prop} {x0 : Int32} {x1 : Int32} {x2 : Int32} (hw : w1_isRest post x0 x1 x2) : Met l yX1_isRest (ws_ yX1_isRest cX1_isRest 3 (some .boolean)) ({ frames := 1, cells := 0, slots := 0, locals := 22 } : Room) (va_Pc [.int x0, .int x1, .int x2] (PcG D gCl nwG Z Hb A w0)) (va_Qi (fun r (_ : Unit) => post r) (BW D gCl A (fun _ => w0)) A) 0 0 A := by
  refine Met.ofG (by decide) (Nat.le_of_ble_eq_true rfl) ?_
  intro p e s m below meth c ls hC _ hP hD hS hl
  have hC : CX RX1 cX1_isRest 3 (some .boolean) D gCl nwG Z Hb A p s m _ meth c := hC
  have hl : lv_has ls 3 [(0, .int x0), (1, .int x1), (2, .int x2)] := hl
  unfold w1_isRest at hw
  refine lv_iload_n hC.x hC.b dX1_isRest_0 rfl (lv_at hl 0 rfl) ?_
  refine lv_iload_n hC.x hC.b dX1_isRest_1 rfl (lv_at hl 1 rfl) ?_
  refine lv_if_ne (tgt := 9) hC.x hC.b dX1_isRest_2 (by decide) (fun c1 => ?_) (fun c1 => ?_)
  · have hw804 := hw.1 c1
    refine lv_iconst (v := 0) hC.x hC.b dX1_isRest_9 (by decide) ?_
    exact k1_isRest_10 hC hw804 s.heap [] ls hP hD hS (lv_sub hl [0, 1, 2] rfl)
  · have hw815 := hw.2 c1
    refine lv_iconst (v := 1) hC.x hC.b dX1_isRest_5 (by decide) ?_
    refine lv_goto (tgt := 10) hC.x hC.b dX1_isRest_6 (by decide) ?_
    exact k1_isRest_10 hC hw815 s.heap [] ls hP hD hS (lv_sub hl [0, 1, 2] rfl)
theorem v1_1_isRest : GoodIn lw_all (va_wsS RX1 321 yX1_isRest (ws_ yX1_isRest cX1_isRest 3 (some .boolean))) := lw_S q1260 q1261 q118 q1262
theorem h1_seekRests : yX1_seekRests.cls = RX1 ∧ yX1_seekRests.cls ≠ "java/lang/invoke/MethodHandle" ∧ yX1_seekRests.cls ≠ "java/lang/invoke/VarHandle" ∧ (parseMethodDescriptor yX1_seekRests.desc).map (fun d => d.parameters.length) = some 1 := by decide +kernel
def j1_seekRests_38 (K10 : (CS × Int32 × Int32) → Prop) (S : CS) (x2 : Int32) (x3 : Int32) (y0 : Int32) (y1 : Int32) (y2 : Int32) : Prop :=
  (w1_isRest (fun r5 => ((¬ r5 = 0 → ((¬ x2 = 0 → (K10 (S, (x2 + 1), (x3 + 1)))) ∧ (x2 = 0 → (∀ S8, S8 = sI S 0 24 ((10 * (x3 / 2)) + (x3 - x3 / 2 * 2)) → (K10 (S8, (x2 + 1), (x3 + 1))))))) ∧ (r5 = 0 → (K10 (S, x2, (x3 + 1)))))) y0 y1 y2)
set_option maxHeartbeats 4000000 in
theorem k1_seekRests_38 {post : Int32 → CS → Prop} {S : CS} {x1 : Int32} {x2 : Int32} {x3 : Int32} {y0 : Int32} {y1 : Int32} {y2 : Int32} {K10 : (CS × Int32 × Int32) → Prop} (hC : CX RX1 cX1_seekRests 4 (some .int) D gCl nwG Z Hb A p s m args meth c) (hK10 : ∀ z : (CS × Int32 × Int32), K10 z → ∀ (H : Heap) (locs : List Loc) (ls : Array Slot), va_P D gCl (wC D ad sc tw z.1) H → va_D A (wC D ad sc tw z.1) → va_S A s.heap H locs → lv_has ls 4 [(0, .ref (ad 0)), (1, .int x1), (2, .int z.2.1), (3, .int z.2.2)] → W p l e ({ frames := 2, cells := 0, slots := 0, locals := 44 } : Room) s m args below meth c H locs 0 0 (MQ below (va_Qi post (BW D gCl A (fun u => (wC D ad sc tw u))) A) args s 0 0 A) (F0 m 10 ls [])) (hw : j1_seekRests_38 K10 S x2 x3 y0 y1 y2) : ∀ (H : Heap) (locs : List Loc) (ls : Array Slot), va_P D gCl (wC D ad sc tw S) H → va_D A (wC D ad sc tw S) → va_S A s.heap H locs → lv_has ls 4 [(0, .ref (ad 0)), (1, .int x1), (2, .int x2), (3, .int x3)] → W p l e ({ frames := 2, cells := 0, slots := 0, locals := 44 } : Room) s m args below meth c H locs 0 0 (MQ below (va_Qi post (BW D gCl A (fun u => (wC D ad sc tw u))) A) args s 0 0 A) (F0 m 38 ls [.int y2, .int y1, .int y0]) := by
  intro H locs ls hP hD hS hl
  unfold j1_seekRests_38 at hw
  refine go_i (run_S (rest := []) hC (m1_isRest l hw) v1_1_isRest h1_isRest ⟨rfl, rfl, Nat.le_of_ble_eq_true rfl, Nat.le_of_ble_eq_true rfl⟩ ⟨Nat.le_refl _, Nat.le_refl _⟩ hP hD hS hl.1 (Nat.le_of_ble_eq_true rfl) dX1_seekRests_38 rfl) hS (fun r5 u H locs hw821 hP hD hS => ?_)
  refine lv_if_ne (tgt := 47) hC.x hC.b dX1_seekRests_41 (by decide) (fun c6 => ?_) (fun c6 => ?_)
  · have hw822 := hw821.1 c6
    refine lv_iload_n hC.x hC.b dX1_seekRests_47 rfl (lv_at hl 2 rfl) ?_
    refine lv_if_ne (tgt := 65) hC.x hC.b dX1_seekRests_48 (by decide) (fun c7 => ?_) (fun c7 => ?_)
    · have hw823 := hw822.1 c7
      refine lv_iinc (v := (x2 + 1)) (lv' := [(2, .int (x2 + 1)), (0, .ref (ad 0)), (1, .int x1), (3, .int x3)]) hC.x hC.b dX1_seekRests_65 hl (k := 2) rfl rfl (by decide) rfl (fun ls hl => ?_)
      refine lv_iinc (v := (x3 + 1)) (lv' := [(3, .int (x3 + 1)), (2, .int (x2 + 1)), (0, .ref (ad 0)), (1, .int x1)]) hC.x hC.b dX1_seekRests_68 hl (k := 3) rfl rfl (by decide) rfl (fun ls hl => ?_)
      refine lv_goto (tgt := 10) hC.x hC.b dX1_seekRests_71 (by decide) ?_
      exact hK10 (S, (x2 + 1), (x3 + 1)) hw823 H locs ls hP hD hS (lv_sub hl [2, 3, 1, 0] rfl)
    · have hw824 := hw822.2 c7
      refine lv_aload_n hC.x hC.b dX1_seekRests_51 rfl (lv_at hl 0 rfl) ?_
      refine lv_bipush (v := 10) hC.x hC.b dX1_seekRests_52 (by decide) ?_
      refine lv_iload_n hC.x hC.b dX1_seekRests_54 rfl (lv_at hl 3 rfl) ?_
      refine lv_iconst (v := 2) hC.x hC.b dX1_seekRests_55 (by decide) ?_
      refine lv_idiv hC.x hC.b dX1_seekRests_56 (by decide) ?_
      refine lv_imul hC.x hC.b dX1_seekRests_57 ?_
      refine lv_iload_n hC.x hC.b dX1_seekRests_58 rfl (lv_at hl 3 rfl) ?_
      refine lv_iconst (v := 2) hC.x hC.b dX1_seekRests_59 (by decide) ?_
      refine lv_irem hC.x hC.b dX1_seekRests_60 (by decide) ?_
      refine lv_iadd hC.x hC.b dX1_seekRests_61 ?_
      refine pO_24 hC hP hD hS (v := ((10 * (x3 / 2)) + (x3 - x3 / 2 * 2))) dX1_seekRests_62 (fun S8 eS8 H locs hP hD hS => ?_)
      have hw825 := hw824 S8 eS8
      refine lv_iinc (v := (x2 + 1)) (lv' := [(2, .int (x2 + 1)), (0, .ref (ad 0)), (1, .int x1), (3, .int x3)]) hC.x hC.b dX1_seekRests_65 hl (k := 2) rfl rfl (by decide) rfl (fun ls hl => ?_)
      refine lv_iinc (v := (x3 + 1)) (lv' := [(3, .int (x3 + 1)), (2, .int (x2 + 1)), (0, .ref (ad 0)), (1, .int x1)]) hC.x hC.b dX1_seekRests_68 hl (k := 3) rfl rfl (by decide) rfl (fun ls hl => ?_)
      refine lv_goto (tgt := 10) hC.x hC.b dX1_seekRests_71 (by decide) ?_
      exact hK10 (S8, (x2 + 1), (x3 + 1)) hw825 H locs ls hP hD hS (lv_sub hl [2, 3, 1, 0] rfl)
  · have hw826 := hw821.2 c6
    refine lv_goto (tgt := 68) hC.x hC.b dX1_seekRests_44 (by decide) ?_
    refine lv_iinc (v := (x3 + 1)) (lv' := [(3, .int (x3 + 1)), (0, .ref (ad 0)), (1, .int x1), (2, .int x2)]) hC.x hC.b dX1_seekRests_68 hl (k := 3) rfl rfl (by decide) rfl (fun ls hl => ?_)
    refine lv_goto (tgt := 10) hC.x hC.b dX1_seekRests_71 (by decide) ?_
    exact hK10 (S, x2, (x3 + 1)) hw826 H locs ls hP hD hS (lv_sub hl [1, 2, 3, 0] rfl)
def j1_seekRests_26 (K10 : (CS × Int32 × Int32) → Prop) (S : CS) (x2 : Int32) (x3 : Int32) (y0 : Int32) (y1 : Int32) : Prop :=
  ((¬ (x3 - x3 / 2 * 2) = 1 → (j1_seekRests_38 K10 S x2 x3 y0 y1 0)) ∧ ((x3 - x3 / 2 * 2) = 1 → (j1_seekRests_38 K10 S x2 x3 y0 y1 1)))
set_option maxHeartbeats 4000000 in
theorem k1_seekRests_26 {post : Int32 → CS → Prop} {S : CS} {x1 : Int32} {x2 : Int32} {x3 : Int32} {y0 : Int32} {y1 : Int32} {K10 : (CS × Int32 × Int32) → Prop} (hC : CX RX1 cX1_seekRests 4 (some .int) D gCl nwG Z Hb A p s m args meth c) (hK10 : ∀ z : (CS × Int32 × Int32), K10 z → ∀ (H : Heap) (locs : List Loc) (ls : Array Slot), va_P D gCl (wC D ad sc tw z.1) H → va_D A (wC D ad sc tw z.1) → va_S A s.heap H locs → lv_has ls 4 [(0, .ref (ad 0)), (1, .int x1), (2, .int z.2.1), (3, .int z.2.2)] → W p l e ({ frames := 2, cells := 0, slots := 0, locals := 44 } : Room) s m args below meth c H locs 0 0 (MQ below (va_Qi post (BW D gCl A (fun u => (wC D ad sc tw u))) A) args s 0 0 A) (F0 m 10 ls [])) (hw : j1_seekRests_26 K10 S x2 x3 y0 y1) : ∀ (H : Heap) (locs : List Loc) (ls : Array Slot), va_P D gCl (wC D ad sc tw S) H → va_D A (wC D ad sc tw S) → va_S A s.heap H locs → lv_has ls 4 [(0, .ref (ad 0)), (1, .int x1), (2, .int x2), (3, .int x3)] → W p l e ({ frames := 2, cells := 0, slots := 0, locals := 44 } : Room) s m args below meth c H locs 0 0 (MQ below (va_Qi post (BW D gCl A (fun u => (wC D ad sc tw u))) A) args s 0 0 A) (F0 m 26 ls [.int y1, .int y0]) := by
  intro H locs ls hP hD hS hl
  unfold j1_seekRests_26 at hw
  refine lv_iload_n hC.x hC.b dX1_seekRests_26 rfl (lv_at hl 3 rfl) ?_
  refine lv_iconst (v := 2) hC.x hC.b dX1_seekRests_27 (by decide) ?_
  refine lv_irem hC.x hC.b dX1_seekRests_28 (by decide) ?_
  refine lv_iconst (v := 1) hC.x hC.b dX1_seekRests_29 (by decide) ?_
  refine lv_icmp_ne (tgt := 37) hC.x hC.b dX1_seekRests_30 (by decide) (fun c4 => ?_) (fun c4 => ?_)
  · have hw820 := hw.1 c4
    refine lv_iconst (v := 0) hC.x hC.b dX1_seekRests_37 (by decide) ?_
    exact k1_seekRests_38 hC hK10 hw820 H locs ls hP hD hS (lv_sub hl [0, 1, 2, 3] rfl)
  · have hw827 := hw.2 c4
    refine lv_iconst (v := 1) hC.x hC.b dX1_seekRests_33 (by decide) ?_
    refine lv_goto (tgt := 38) hC.x hC.b dX1_seekRests_34 (by decide) ?_
    exact k1_seekRests_38 hC hK10 hw827 H locs ls hP hD hS (lv_sub hl [0, 1, 2, 3] rfl)
def f1_seekRests_10 (post : Int32 → CS → Prop) (x1 : Int32) (K10 : (CS × Int32 × Int32) → Prop) (S : CS) (x2 : Int32) (x3 : Int32) : Prop :=
  ((4 ≤ x3 → (post x2 S)) ∧ (¬ 4 ≤ x3 → ((x3 ≤ 1 → (j1_seekRests_26 K10 S x2 x3 x1 0)) ∧ (¬ x3 ≤ 1 → (j1_seekRests_26 K10 S x2 x3 x1 1)))))
set_option maxHeartbeats 4000000 in
theorem k1_seekRests_10 {post : Int32 → CS → Prop} {x1 : Int32} (hC : CX RX1 cX1_seekRests 4 (some .int) D gCl nwG Z Hb A p s m args meth c) : ∀ z : (CS × Int32 × Int32), lp (fun (K : (CS × Int32 × Int32) → Prop) (z : (CS × Int32 × Int32)) => f1_seekRests_10 post x1 K z.1 z.2.1 z.2.2) z → ∀ (H : Heap) (locs : List Loc) (ls : Array Slot), va_P D gCl (wC D ad sc tw z.1) H → va_D A (wC D ad sc tw z.1) → va_S A s.heap H locs → lv_has ls 4 [(0, .ref (ad 0)), (1, .int x1), (2, .int z.2.1), (3, .int z.2.2)] → W p l e ({ frames := 2, cells := 0, slots := 0, locals := 44 } : Room) s m args below meth c H locs 0 0 (MQ below (va_Qi post (BW D gCl A (fun u => (wC D ad sc tw u))) A) args s 0 0 A) (F0 m 10 ls []) := by
  refine lp_ind ?_
  rintro K10 ⟨S, x2, x3⟩ hK10 hw H locs ls hP hD hS hl
  have hw : f1_seekRests_10 post x1 K10 S x2 x3 := hw
  unfold f1_seekRests_10 at hw
  have hP : va_P D gCl (wC D ad sc tw S) H := hP
  have hD : va_D A (wC D ad sc tw S) := hD
  have hl : lv_has ls 4 [(0, .ref (ad 0)), (1, .int x1), (2, .int x2), (3, .int x3)] := hl
  refine lv_iload_n hC.x hC.b dX1_seekRests_10 rfl (lv_at hl 3 rfl) ?_
  refine lv_iconst (v := 4) hC.x hC.b dX1_seekRests_11 (by decide) ?_
  refine lv_icmp_ge (tgt := 74) hC.x hC.b dX1_seekRests_12 (by decide) (fun c2 => ?_) (fun c2 => ?_)
  · have hw817 := hw.1 c2
    refine lv_iload_n hC.x hC.b dX1_seekRests_74 rfl (lv_at hl 2 rfl) ?_
    exact rt_i hC hw817 hP hD hS dX1_seekRests_75
  · have hw818 := hw.2 c2
    refine lv_iload_n hC.x hC.b dX1_seekRests_15 rfl (lv_at hl 1 rfl) ?_
    refine lv_iload_n hC.x hC.b dX1_seekRests_16 rfl (lv_at hl 3 rfl) ?_
    refine lv_iconst (v := 1) hC.x hC.b dX1_seekRests_17 (by decide) ?_
    refine lv_icmp_le (tgt := 25) hC.x hC.b dX1_seekRests_18 (by decide) (fun c3 => ?_) (fun c3 => ?_)
    · have hw819 := hw818.1 c3
      refine lv_iconst (v := 0) hC.x hC.b dX1_seekRests_25 (by decide) ?_
      exact k1_seekRests_26 hC hK10 hw819 H locs ls hP hD hS (lv_sub hl [0, 1, 2, 3] rfl)
    · have hw828 := hw818.2 c3
      refine lv_iconst (v := 1) hC.x hC.b dX1_seekRests_21 (by decide) ?_
      refine lv_goto (tgt := 26) hC.x hC.b dX1_seekRests_22 (by decide) ?_
      exact k1_seekRests_26 hC hK10 hw828 H locs ls hP hD hS (lv_sub hl [0, 1, 2, 3] rfl)
def w1_seekRests (post : Int32 → CS → Prop) (S : CS) (x1 : Int32) : Prop :=
  (∀ S1, S1 = sI S 0 24 (-2) → (lp (fun (K : (CS × Int32 × Int32) → Prop) (z : (CS × Int32 × Int32)) => f1_seekRests_10 post x1 K z.1 z.2.1 z.2.2) (S1, 0, 0)))
set_option maxHeartbeats 4000000 in
theorem m1_seekRests (l : Launch) {post : Int32 → CS → Prop} {S : CS} {x1 : Int32} (hw : w1_seekRests post S x1) : Met l yX1_seekRests (ws_ yX1_seekRests cX1_seekRests 4 (some .int)) ({ frames := 2, cells := 0, slots := 0, locals := 44 } : Room) (va_Pc [.ref (ad 0), .int x1] (PcG D gCl nwG Z Hb A (wC D ad sc tw S))) (va_Qi post (BW D gCl A (fun u => (wC D ad sc tw u))) A) 0 0 A := by
  refine Met.ofG (by decide) (Nat.le_of_ble_eq_true rfl) ?_
  intro p e s m below meth c ls hC _ hP hD hS hl
  have hC : CX RX1 cX1_seekRests 4 (some .int) D gCl nwG Z Hb A p s m _ meth c := hC
  have hl : lv_has ls 4 [(0, .ref (ad 0)), (1, .int x1)] := hl
  unfold w1_seekRests at hw
  refine lv_iconst (v := 0) hC.x hC.b dX1_seekRests_0 (by decide) ?_
  refine lv_istore_n (lv' := [(2, .int 0), (0, .ref (ad 0)), (1, .int x1)]) hC.x hC.b dX1_seekRests_1 rfl hl (by decide) rfl (fun ls hl => ?_)
  refine lv_aload_n hC.x hC.b dX1_seekRests_2 rfl (lv_at hl 1 rfl) ?_
  refine lv_bipush (v := (-2)) hC.x hC.b dX1_seekRests_3 (by decide) ?_
  refine pO_24 hC hP hD hS (v := (-2)) dX1_seekRests_5 (fun S1 eS1 H locs hP hD hS => ?_)
  have hw816 := hw S1 eS1
  refine lv_iconst (v := 0) hC.x hC.b dX1_seekRests_8 (by decide) ?_
  refine lv_istore_n (lv' := [(3, .int 0), (2, .int 0), (0, .ref (ad 0)), (1, .int x1)]) hC.x hC.b dX1_seekRests_9 rfl hl (by decide) rfl (fun ls hl => ?_)
  exact k1_seekRests_10 hC (S1, 0, 0) hw816 H locs ls hP hD hS (lv_sub hl [2, 3, 1, 0] rfl)
theorem v1_1_seekRests : GoodIn lw_all (wsV RX1 325 RX1 yX1_seekRests (ws_ yX1_seekRests cX1_seekRests 4 (some .int))) := lw_V q1256 q1258 qs42 q118 q1259
theorem h1_rests : yX1_rests.cls = RX1 ∧ yX1_rests.cls ≠ "java/lang/invoke/MethodHandle" ∧ yX1_rests.cls ≠ "java/lang/invoke/VarHandle" ∧ (parseMethodDescriptor yX1_rests.desc).map (fun d => d.parameters.length) = some 1 := by decide +kernel
def j1_rests_17 (post : Int32 → CS → Prop) (S : CS) (x1 : Int32) (y1 : Int32) : Prop :=
  (w1_in (fun r4 => (w1_numberWhy (fun r5 => ((r5 = 0 → (w1_seekRests (fun r7 S8 => (post r7 S8)) S x1)) ∧ (¬ r5 = 0 → (w1_no (fun r9 S10 => (post r9 S10)) S r5)))) S y1 r4)) x1 0 9)
set_option maxHeartbeats 4000000 in
theorem k1_rests_17 {post : Int32 → CS → Prop} {S : CS} {x1 : Int32} {y1 : Int32} (hC : CX RX1 cX1_rests 3 (some .int) D gCl nwG Z Hb A p s m args meth c) (hw : j1_rests_17 post S x1 y1) : ∀ (H : Heap) (locs : List Loc) (ls : Array Slot), va_P D gCl (wC D ad sc tw S) H → va_D A (wC D ad sc tw S) → va_S A s.heap H locs → lv_has ls 3 [(0, .ref (ad 0)), (1, .int x1)] → W p l e ({ frames := 3, cells := 0, slots := 0, locals := 67 } : Room) s m args below meth c H locs 0 0 (MQ below (va_Qi post (BW D gCl A (fun u => (wC D ad sc tw u))) A) args s 0 0 A) (F0 m 17 ls [.int y1, .ref (ad 0)]) := by
  intro H locs ls hP hD hS hl
  unfold j1_rests_17 at hw
  refine lv_iload_n hC.x hC.b dX1_rests_17 rfl (lv_at hl 1 rfl) ?_
  refine lv_iconst (v := 0) hC.x hC.b dX1_rests_18 (by decide) ?_
  refine lv_bipush (v := 9) hC.x hC.b dX1_rests_19 (by decide) ?_
  refine go_i (run_S (rest := [.int y1, .ref (ad 0)]) hC (m1_in l hw) v1_1_in h1_in ⟨rfl, rfl, Nat.le_of_ble_eq_true rfl, Nat.le_of_ble_eq_true rfl⟩ ⟨Nat.le_refl _, Nat.le_refl _⟩ hP hD hS hl.1 (Nat.le_of_ble_eq_true rfl) dX1_rests_21 rfl) hS (fun r4 u H locs hw831 hP hD hS => ?_)
  refine go_i (run_V (rest := []) hC (m1_numberWhy l hw831) v1_1_numberWhy h1_numberWhy 0 0 gCl_X1 rfl rfl ⟨rfl, rfl, Nat.le_of_ble_eq_true rfl, Nat.le_of_ble_eq_true rfl⟩ ⟨Nat.le_refl _, Nat.le_refl _⟩ hP hD hS hl.1 (Nat.le_of_ble_eq_true rfl) dX1_rests_24 rfl) hS (fun r5 u H locs hw832 hP hD hS => ?_)
  refine lv_istore_n (lv' := [(2, .int r5), (0, .ref (ad 0)), (1, .int x1)]) hC.x hC.b dX1_rests_27 rfl hl (by decide) rfl (fun ls hl => ?_)
  refine lv_iload_n hC.x hC.b dX1_rests_28 rfl (lv_at hl 0 rfl) ?_
  refine lv_if_eq (tgt := 40) hC.x hC.b dX1_rests_29 (by decide) (fun c6 => ?_) (fun c6 => ?_)
  · have hw833 := hw832.1 c6
    refine lv_aload_n hC.x hC.b dX1_rests_40 rfl (lv_at hl 1 rfl) ?_
    refine lv_iload_n hC.x hC.b dX1_rests_41 rfl (lv_at hl 2 rfl) ?_
    refine go_i (run_V (rest := []) hC (m1_seekRests l hw833) v1_1_seekRests h1_seekRests 0 0 gCl_X1 rfl rfl ⟨rfl, rfl, Nat.le_of_ble_eq_true rfl, Nat.le_of_ble_eq_true rfl⟩ ⟨Nat.le_refl _, Nat.le_refl _⟩ hP hD hS hl.1 (Nat.le_of_ble_eq_true rfl) dX1_rests_42 rfl) hS (fun r7 S8 H locs hw834 hP hD hS => ?_)
    exact rt_i hC hw834 hP hD hS dX1_rests_45
  · have hw835 := hw832.2 c6
    refine lv_aload_n hC.x hC.b dX1_rests_32 rfl (lv_at hl 1 rfl) ?_
    refine lv_iload_n hC.x hC.b dX1_rests_33 rfl (lv_at hl 0 rfl) ?_
    refine go_i (run_V (rest := []) hC (m1_no l hw835) v1_1_no h1_no 0 0 gCl_X1 rfl rfl ⟨rfl, rfl, Nat.le_of_ble_eq_true rfl, Nat.le_of_ble_eq_true rfl⟩ ⟨Nat.le_refl _, Nat.le_refl _⟩ hP hD hS hl.1 (Nat.le_of_ble_eq_true rfl) dX1_rests_34 rfl) hS (fun r9 S10 H locs hw836 hP hD hS => ?_)
    refine lv_goto (tgt := 45) hC.x hC.b dX1_rests_37 (by decide) ?_
    exact rt_i hC hw836 hP hD hS dX1_rests_45
def w1_rests (post : Int32 → CS → Prop) (tw : Option TD) (S : CS) (x1 : Int32) : Prop :=
  (w1_anew (fun S2 => ((tw = none → (j1_rests_17 post S2 x1 0)) ∧ ((∃ τ, tw = some τ) → (j1_rests_17 post S2 x1 1)))) S)
set_option maxHeartbeats 4000000 in
theorem m1_rests (l : Launch) {post : Int32 → CS → Prop} {S : CS} {x1 : Int32} (hw : w1_rests post tw S x1) : Met l yX1_rests (ws_ yX1_rests cX1_rests 3 (some .int)) ({ frames := 3, cells := 0, slots := 0, locals := 67 } : Room) (va_Pc [.ref (ad 0), .int x1] (PcG D gCl nwG Z Hb A (wC D ad sc tw S))) (va_Qi post (BW D gCl A (fun u => (wC D ad sc tw u))) A) 0 0 A := by
  refine Met.ofG (by decide) (Nat.le_of_ble_eq_true rfl) ?_
  intro p e s m below meth c ls hC _ hP hD hS hl
  have hC : CX RX1 cX1_rests 3 (some .int) D gCl nwG Z Hb A p s m _ meth c := hC
  have hl : lv_has ls 3 [(0, .ref (ad 0)), (1, .int x1)] := hl
  unfold w1_rests at hw
  refine lv_aload_n hC.x hC.b dX1_rests_0 rfl (lv_at hl 0 rfl) ?_
  refine go_v (run_V (rest := []) hC (m1_anew l hw) v1_1_anew h1_anew 0 0 gCl_X1 rfl rfl ⟨rfl, rfl, Nat.le_of_ble_eq_true rfl, Nat.le_of_ble_eq_true rfl⟩ ⟨Nat.le_refl _, Nat.le_refl _⟩ hP hD hS hl.1 (Nat.le_of_ble_eq_true rfl) dX1_rests_1 rfl) hS (fun S2 H locs hw829 hP hD hS => ?_)
  refine lv_aload_n hC.x hC.b dX1_rests_4 rfl (lv_at hl 0 rfl) ?_
  refine lv_aload_n hC.x hC.b dX1_rests_5 rfl (lv_at hl 0 rfl) ?_
  refine gO_3 hC hP dX1_rests_6 ?_
  rcases va_o2 tw with c3 | ⟨τ, c3⟩
  · have hw830 := hw829.1 c3
    subst c3
    refine lv_ifnullN (tgt := 16) hC.x hC.b dX1_rests_9 (by decide) ?_
    refine lv_iconst (v := 0) hC.x hC.b dX1_rests_16 (by decide) ?_
    exact k1_rests_17 hC hw830 H locs ls hP hD hS (lv_sub hl [0, 1] rfl)
  · have hw837 := hw829.2 ⟨τ, c3⟩
    subst c3
    refine lv_ifnull hC.x hC.b dX1_rests_9 ?_
    refine lv_iconst (v := 1) hC.x hC.b dX1_rests_12 (by decide) ?_
    refine lv_goto (tgt := 17) hC.x hC.b dX1_rests_13 (by decide) ?_
    exact k1_rests_17 hC hw837 H locs ls hP hD hS (lv_sub hl [0, 1] rfl)
theorem h1_rest : yX1_rest.cls = RX1 ∧ yX1_rest.cls ≠ "java/lang/invoke/MethodHandle" ∧ yX1_rest.cls ≠ "java/lang/invoke/VarHandle" ∧ (parseMethodDescriptor yX1_rest.desc).map (fun d => d.parameters.length) = some 1 := by decide +kernel
def j1_rest_17 (post : Int32 → CS → Prop) (S : CS) (x1 : Int32) (y1 : Int32) : Prop :=
  (w1_in (fun r4 => (w1_numberWhy (fun r5 => ((r5 = 0 → (w1_seekRests (fun r7 S8 => (post (S8.1.1 0 24) S8)) S x1)) ∧ (¬ r5 = 0 → (w1_no (fun r9 S10 => (post r9 S10)) S r5)))) S y1 r4)) x1 0 9)
set_option maxHeartbeats 4000000 in
theorem k1_rest_17 {post : Int32 → CS → Prop} {S : CS} {x1 : Int32} {y1 : Int32} (hC : CX RX1 cX1_rest 3 (some .int) D gCl nwG Z Hb A p s m args meth c) (hw : j1_rest_17 post S x1 y1) : ∀ (H : Heap) (locs : List Loc) (ls : Array Slot), va_P D gCl (wC D ad sc tw S) H → va_D A (wC D ad sc tw S) → va_S A s.heap H locs → lv_has ls 3 [(0, .ref (ad 0)), (1, .int x1)] → W p l e ({ frames := 3, cells := 0, slots := 0, locals := 67 } : Room) s m args below meth c H locs 0 0 (MQ below (va_Qi post (BW D gCl A (fun u => (wC D ad sc tw u))) A) args s 0 0 A) (F0 m 17 ls [.int y1, .ref (ad 0)]) := by
  intro H locs ls hP hD hS hl
  unfold j1_rest_17 at hw
  refine lv_iload_n hC.x hC.b dX1_rest_17 rfl (lv_at hl 1 rfl) ?_
  refine lv_iconst (v := 0) hC.x hC.b dX1_rest_18 (by decide) ?_
  refine lv_bipush (v := 9) hC.x hC.b dX1_rest_19 (by decide) ?_
  refine go_i (run_S (rest := [.int y1, .ref (ad 0)]) hC (m1_in l hw) v1_1_in h1_in ⟨rfl, rfl, Nat.le_of_ble_eq_true rfl, Nat.le_of_ble_eq_true rfl⟩ ⟨Nat.le_refl _, Nat.le_refl _⟩ hP hD hS hl.1 (Nat.le_of_ble_eq_true rfl) dX1_rest_21 rfl) hS (fun r4 u H locs hw840 hP hD hS => ?_)
  refine go_i (run_V (rest := []) hC (m1_numberWhy l hw840) v1_1_numberWhy h1_numberWhy 0 0 gCl_X1 rfl rfl ⟨rfl, rfl, Nat.le_of_ble_eq_true rfl, Nat.le_of_ble_eq_true rfl⟩ ⟨Nat.le_refl _, Nat.le_refl _⟩ hP hD hS hl.1 (Nat.le_of_ble_eq_true rfl) dX1_rest_24 rfl) hS (fun r5 u H locs hw841 hP hD hS => ?_)
  refine lv_istore_n (lv' := [(2, .int r5), (0, .ref (ad 0)), (1, .int x1)]) hC.x hC.b dX1_rest_27 rfl hl (by decide) rfl (fun ls hl => ?_)
  refine lv_iload_n hC.x hC.b dX1_rest_28 rfl (lv_at hl 0 rfl) ?_
  refine lv_if_eq (tgt := 38) hC.x hC.b dX1_rest_29 (by decide) (fun c6 => ?_) (fun c6 => ?_)
  · have hw842 := hw841.1 c6
    refine lv_aload_n hC.x hC.b dX1_rest_38 rfl (lv_at hl 1 rfl) ?_
    refine lv_iload_n hC.x hC.b dX1_rest_39 rfl (lv_at hl 2 rfl) ?_
    refine go_i (run_V (rest := []) hC (m1_seekRests l hw842) v1_1_seekRests h1_seekRests 0 0 gCl_X1 rfl rfl ⟨rfl, rfl, Nat.le_of_ble_eq_true rfl, Nat.le_of_ble_eq_true rfl⟩ ⟨Nat.le_refl _, Nat.le_refl _⟩ hP hD hS hl.1 (Nat.le_of_ble_eq_true rfl) dX1_rest_40 rfl) hS (fun r7 S8 H locs hw843 hP hD hS => ?_)
    refine lv_pop hC.x hC.b dX1_rest_43 rfl ?_
    refine lv_aload_n hC.x hC.b dX1_rest_44 rfl (lv_at hl 1 rfl) ?_
    refine gO_24 hC hP dX1_rest_45 ?_
    exact rt_i hC hw843 hP hD hS dX1_rest_48
  · have hw844 := hw841.2 c6
    refine lv_aload_n hC.x hC.b dX1_rest_32 rfl (lv_at hl 1 rfl) ?_
    refine lv_iload_n hC.x hC.b dX1_rest_33 rfl (lv_at hl 0 rfl) ?_
    refine go_i (run_V (rest := []) hC (m1_no l hw844) v1_1_no h1_no 0 0 gCl_X1 rfl rfl ⟨rfl, rfl, Nat.le_of_ble_eq_true rfl, Nat.le_of_ble_eq_true rfl⟩ ⟨Nat.le_refl _, Nat.le_refl _⟩ hP hD hS hl.1 (Nat.le_of_ble_eq_true rfl) dX1_rest_34 rfl) hS (fun r9 S10 H locs hw845 hP hD hS => ?_)
    exact rt_i hC hw845 hP hD hS dX1_rest_37
def w1_rest (post : Int32 → CS → Prop) (tw : Option TD) (S : CS) (x1 : Int32) : Prop :=
  (w1_anew (fun S2 => ((tw = none → (j1_rest_17 post S2 x1 0)) ∧ ((∃ τ, tw = some τ) → (j1_rest_17 post S2 x1 1)))) S)
set_option maxHeartbeats 4000000 in
theorem m1_rest (l : Launch) {post : Int32 → CS → Prop} {S : CS} {x1 : Int32} (hw : w1_rest post tw S x1) : Met l yX1_rest (ws_ yX1_rest cX1_rest 3 (some .int)) ({ frames := 3, cells := 0, slots := 0, locals := 67 } : Room) (va_Pc [.ref (ad 0), .int x1] (PcG D gCl nwG Z Hb A (wC D ad sc tw S))) (va_Qi post (BW D gCl A (fun u => (wC D ad sc tw u))) A) 0 0 A := by
  refine Met.ofG (by decide) (Nat.le_of_ble_eq_true rfl) ?_
  intro p e s m below meth c ls hC _ hP hD hS hl
  have hC : CX RX1 cX1_rest 3 (some .int) D gCl nwG Z Hb A p s m _ meth c := hC
  have hl : lv_has ls 3 [(0, .ref (ad 0)), (1, .int x1)] := hl
  unfold w1_rest at hw
  refine lv_aload_n hC.x hC.b dX1_rest_0 rfl (lv_at hl 0 rfl) ?_
  refine go_v (run_V (rest := []) hC (m1_anew l hw) v1_1_anew h1_anew 0 0 gCl_X1 rfl rfl ⟨rfl, rfl, Nat.le_of_ble_eq_true rfl, Nat.le_of_ble_eq_true rfl⟩ ⟨Nat.le_refl _, Nat.le_refl _⟩ hP hD hS hl.1 (Nat.le_of_ble_eq_true rfl) dX1_rest_1 rfl) hS (fun S2 H locs hw838 hP hD hS => ?_)
  refine lv_aload_n hC.x hC.b dX1_rest_4 rfl (lv_at hl 0 rfl) ?_
  refine lv_aload_n hC.x hC.b dX1_rest_5 rfl (lv_at hl 0 rfl) ?_
  refine gO_3 hC hP dX1_rest_6 ?_
  rcases va_o2 tw with c3 | ⟨τ, c3⟩
  · have hw839 := hw838.1 c3
    subst c3
    refine lv_ifnullN (tgt := 16) hC.x hC.b dX1_rest_9 (by decide) ?_
    refine lv_iconst (v := 0) hC.x hC.b dX1_rest_16 (by decide) ?_
    exact k1_rest_17 hC hw839 H locs ls hP hD hS (lv_sub hl [0, 1] rfl)
  · have hw846 := hw838.2 ⟨τ, c3⟩
    subst c3
    refine lv_ifnull hC.x hC.b dX1_rest_9 ?_
    refine lv_iconst (v := 1) hC.x hC.b dX1_rest_12 (by decide) ?_
    refine lv_goto (tgt := 17) hC.x hC.b dX1_rest_13 (by decide) ?_
    exact k1_rest_17 hC hw846 H locs ls hP hD hS (lv_sub hl [0, 1] rfl)
end CWc3
