set_option maxRecDepth 100000
section MWm6
variable {p : Program} {l : Launch} {w0 : va_W} {e : Env} {s : State} {m : MethodId} {args : Array Value} {below : List Frame} {meth : Method} {c : Code} {D : va_G} {Z : State → Prop} {Hb : Heap} {A : Nat → Prop} {ad : Nat → Nat} {rd tw : Option (Nat → Nat)} {rdv : Option Nat} {t rt : Nat → Nat}
def rsM (S : MS) : MS := (fun r => if 40 ≤ r then fun _ => 0 else S.1 r, fun r => if 40 ≤ r then fun _ => 0 else S.2 r)
def swM (S : MS) : MS := (fun r => if 20 ≤ r then S.1 (r + 20) else S.1 r, fun r => if 20 ≤ r then S.2 (r + 20) else S.2 r)
theorem wsw_at {X Y Z : va_W} (k : Nat) (q : Nat × va_E) (h : (X ++ (Z ++ Y))[k]? = some q) : (X ++ (Y ++ Z))[if k < X.length then k else if k < X.length + Z.length then k + Y.length else k - Z.length]? = some q := by
  by_cases h1 : k < X.length
  · rw [if_pos h1, List.getElem?_append_left h1]
    rw [List.getElem?_append_left h1] at h
    exact h
  · rw [List.getElem?_append_right (by omega)] at h
    rw [if_neg h1]
    by_cases h2 : k < X.length + Z.length
    · rw [if_pos h2, List.getElem?_append_right (by omega), List.getElem?_append_right (by omega)]
      rw [List.getElem?_append_left (by omega)] at h
      rw [show k + Y.length - X.length - Y.length = k - X.length by omega]
      exact h
    · rw [if_neg h2]
      rw [List.getElem?_append_right (by omega)] at h
      obtain ⟨hl, -⟩ := List.getElem?_eq_some_iff.mp h
      rw [List.getElem?_append_right (by omega), List.getElem?_append_left (by omega), show k - Z.length - X.length = k - X.length - Z.length by omega]
      exact h
theorem wsw_P {D : va_G} {X Y Z : va_W} {H : Heap} (hP : va_P D gCl (X ++ (Y ++ Z)) H) : va_P D gCl (X ++ (Z ++ Y)) H := idx_P _ wsw_at hP
theorem wsw_D {A : Nat → Prop} {X Y Z : va_W} (hD : va_D A (X ++ (Y ++ Z))) : va_D A (X ++ (Z ++ Y)) := by
  refine idx_D _ wsw_at (fun i j hi hj e => ?_) hD
  by_cases h1 : i < X.length <;> by_cases h2 : j < X.length <;> by_cases h3 : i < X.length + Z.length <;> by_cases h4 : j < X.length + Z.length <;> simp only [h1, h2, h3, h4, if_true, if_false] at e <;> simp only [List.length_append] at hi hj <;> omega
theorem wpre_P {D : va_G} {X Y : va_W} {H : Heap} (hP : va_P D gCl (X ++ Y) H) : va_P D gCl X H := idx_P (fun k => k) (fun k q h => by rw [List.getElem?_append_left (List.getElem?_eq_some_iff.mp h).1]; exact h) hP
theorem wpre_D {A : Nat → Prop} {X Y : va_W} (hD : va_D A (X ++ Y)) : va_D A X := idx_D (fun k => k) (fun k q h => by rw [List.getElem?_append_left (List.getElem?_eq_some_iff.mp h).1]; exact h) (fun i j _ _ e => e) hD
section TWIN
variable {D : va_G} {A : Nat → Prop} {ad : Nat → Nat} {tw : Option (Nat → Nat)} {rdv : Option Nat} {rt : Nat → Nat} {S : MS} {H : Heap} {u : Nat → Nat} {q : Nat}
def owM (D : va_G) (ad : Nat → Nat) (rdv : Option Nat) (tw : Option (Nat → Nat)) (S : MS) : va_W := stM D ad rdv tw S []
theorem wm_in : (wM D ad none rdv tw S ++ ([(q, .inr (12, [.int 0, .int 0, .int 0, .int 0, .int 0, .int 0, .int 0, .int 0, .ref (u 1), .ref (u 2), .ref (u 3), .ref (u 4), .ref (u 5), .ref (u 6), .ref (u 7), .ref (u 8), .ref (u 9), .ref (u 10), .ref (u 11), .ref (u 12), .ref (u 13)])), ((u 1), .inl (D.1 100, 6, .inl (fun _ => 0))), ((u 2), .inl (D.1 100, 6, .inl (fun _ => 0))), ((u 3), .inl (D.1 100, 6, .inl (fun _ => 0))), ((u 4), .inl (D.1 100, 6, .inl (fun _ => 0))), ((u 5), .inl (D.1 100, 6, .inl (fun _ => 0))), ((u 6), .inl (D.1 100, 4, .inl (fun _ => 0))), ((u 7), .inl (D.1 100, 4, .inl (fun _ => 0))), ((u 8), .inl (D.1 100, 8, .inl (fun _ => 0))), ((u 9), .inl (D.1 100, 8, .inl (fun _ => 0))), ((u 10), .inl (D.1 100, 8, .inl (fun _ => 0))), ((u 11), .inl (D.1 101, 12, .inr (.inl (fun _ => 0)))), ((u 12), .inl (D.1 100, 12, .inl (fun _ => 0))), ((u 13), .inl (D.1 100, 12, .inl (fun _ => 0)))] : List (Nat × va_E))).set 0 (ad 0, .inr (5, (obM ad rdv tw S).set 4 (.ref q))) = owM D ad (some ((fun k => if k = 0 then q else u k) 0)) tw (rsM S) ++ (otnA D tw (rsM S) ++ tnB D (fun k => if k = 0 then q else u k) (rsM S)) := by cases tw <;> rfl
theorem wm_onP (hP : va_P D gCl (owM D ad (some (rt 0)) tw S ++ (otnA D tw S ++ tnB D rt S)) H) : va_P D gCl (wM D ad (some rt) (some (rt 0)) tw S) H := wsw_P hP
theorem wm_onD (hD : va_D A (owM D ad (some (rt 0)) tw S ++ (otnA D tw S ++ tnB D rt S))) : va_D A (wM D ad (some rt) (some (rt 0)) tw S) := wsw_D hD
theorem wm_offP (hP : va_P D gCl (wM D ad (some rt) (some (rt 0)) tw S) H) : va_P D gCl (wM D ad none (some (rt 0)) tw S) H := by
  have h : va_P D gCl (owM D ad (some (rt 0)) tw S ++ (tnB D rt S ++ otnA D tw S)) H := hP
  have h := wsw_P h
  rw [← List.append_assoc] at h
  exact wpre_P h
theorem wm_offD (hD : va_D A (wM D ad (some rt) (some (rt 0)) tw S)) : va_D A (wM D ad none (some (rt 0)) tw S) := by
  have h : va_D A (owM D ad (some (rt 0)) tw S ++ (tnB D rt S ++ otnA D tw S)) := hD
  have h := wsw_D h
  rw [← List.append_assoc] at h
  exact wpre_D h
theorem wm_sw : (wM D ad (some rt) (some (rt 0)) tw S).set 0 (ad 0, .inr (5, (obM ad (some (rt 0)) tw S).set 3 (.ref (rt 0)))) = wM D ad none (some (rt 0)) (some rt) (swM S) ++ otnA D tw S := by cases tw <;> rfl
theorem wm_swP (hP : va_P D gCl ((wM D ad (some rt) (some (rt 0)) tw S).set 0 (ad 0, .inr (5, (obM ad (some (rt 0)) tw S).set 3 (.ref (rt 0))))) H) : va_P D gCl (wM D ad none (some (rt 0)) (some rt) (swM S)) H := by
  rw [wm_sw] at hP
  exact wpre_P hP
theorem wm_swD (hD : va_D A ((wM D ad (some rt) (some (rt 0)) tw S).set 0 (ad 0, .inr (5, (obM ad (some (rt 0)) tw S).set 3 (.ref (rt 0)))))) : va_D A (wM D ad none (some (rt 0)) (some rt) (swM S)) := by
  rw [wm_sw] at hD
  exact wpre_D hD
end TWIN
theorem v6_6_readAll : GoodIn lw_all (wsV RX6 300 RX6 yX6_readAll (ws_ yX6_readAll cX6_readAll 2 none)) := lw_V q1614 q1616 qs52 q126 q1617
theorem h6_town : yX6_town.cls = RX6 ∧ yX6_town.cls ≠ "java/lang/invoke/MethodHandle" ∧ yX6_town.cls ≠ "java/lang/invoke/VarHandle" ∧ (parseMethodDescriptor yX6_town.desc).map (fun d => d.parameters.length) = some 1 := by decide +kernel
def f6_town_104 (post : Int32 → Option (Nat → Nat) → MS → Prop) (rt : Nat → Nat) (K104 : (MS × Int32) → Prop) (S : MS) (x2 : Int32) : Prop :=
  ((19 ≤ x2 → (∀ S21, S21 = uI S 0 19 0 → (∀ S22, S22 = uI S21 0 20 0 → (w6_good (fun r23 S24 => (post r23 (some rt) S24)) S22 (S22.1 20 2))))) ∧ (¬ 19 ≤ x2 → (vp_in x2 19 ∧ (vp_in x2 19 ∧ (∀ S25, S25 = uI S 2 x2.toNatClampNeg (S.1 3 x2.toNatClampNeg) → (K104 (S25, (x2 + 1))))))))
set_option maxHeartbeats 4000000 in
theorem k6_town_104 {post : Int32 → Option (Nat → Nat) → MS → Prop} {rt : Nat → Nat} (hC : CX RX6 cX6_town 3 (some .int) D gCl nwG Z Hb A p s m args meth c) {adK adV : Nat → Nat} (hZ : ∀ U, Z U → zS adK adV A Hb U) : ∀ z : (MS × Int32), lp (fun (K : (MS × Int32) → Prop) (z : (MS × Int32)) => f6_town_104 post rt K z.1 z.2) z → ∀ (H : Heap) (locs : List Loc) (ls : Array Slot), va_P D gCl (wM D ad none (some (rt 0)) (some rt) z.1) H → va_D A (wM D ad none (some (rt 0)) (some rt) z.1) → va_S A s.heap H locs → lv_has ls 3 [(0, .ref (ad 0)), (2, .int z.2)] → W p l e ({ frames := 12, cells := 14, slots := 119, locals := 259 } : Room) s m args below meth c H locs 14 119 (MQ below (va_Qi (fun r (u : Option (Nat → Nat) × Option Nat × MS) => post r u.1 u.2.2) (BW D gCl A (fun u => wM D ad none u.2.1 u.1 u.2.2)) A) args s 14 119 A) (F0 m 104 ls []) := by
  refine lp_ind ?_
  rintro K104 ⟨S, x2⟩ hK104 hw H locs ls hP hD hS hl
  have hw : f6_town_104 post rt K104 S x2 := hw
  unfold f6_town_104 at hw
  have hP : va_P D gCl (wM D ad none (some (rt 0)) (some rt) S) H := hP
  have hD : va_D A (wM D ad none (some (rt 0)) (some rt) S) := hD
  have hl : lv_has ls 3 [(0, .ref (ad 0)), (2, .int x2)] := hl
  refine lv_iload_n hC.x hC.b dX6_town_104 rfl (lv_at hl 1 rfl) ?_
  refine lv_bipush (v := 19) hC.x hC.b dX6_town_105 (by decide) ?_
  refine lv_icmp_ge (tgt := 128) hC.x hC.b dX6_town_107 (by decide) (fun c20 => ?_) (fun c20 => ?_)
  · have hw1657 := hw.1 c20
    refine lv_aload_n hC.x hC.b dX6_town_128 rfl (lv_at hl 0 rfl) ?_
    refine lv_iconst (v := 0) hC.x hC.b dX6_town_129 (by decide) ?_
    refine pM_19 hC hP hD hS (v := 0) dX6_town_130 (fun S21 eS21 H locs hP hD hS => ?_)
    have hw1658 := hw1657 S21 eS21
    refine lv_aload_n hC.x hC.b dX6_town_133 rfl (lv_at hl 0 rfl) ?_
    refine lv_iconst (v := 0) hC.x hC.b dX6_town_134 (by decide) ?_
    refine pM_20 hC hP hD hS (v := 0) dX6_town_135 (fun S22 eS22 H locs hP hD hS => ?_)
    have hw1659 := hw1658 S22 eS22
    refine lv_aload_n hC.x hC.b dX6_town_138 rfl (lv_at hl 0 rfl) ?_
    refine lv_aload_n hC.x hC.b dX6_town_139 rfl (lv_at hl 0 rfl) ?_
    refine gM_3 hC hP dX6_town_140 ?_
    refine gT_2 hC hP dX6_town_143 ?_
    refine go_i (run_V (rest := []) hC (m6_good l hw1659) v6_6_good h6_good 0 5 gCl_X6 rfl rfl ⟨rfl, rfl, Nat.le_of_ble_eq_true rfl, Nat.le_of_ble_eq_true rfl⟩ ⟨Nat.le_of_ble_eq_true rfl, Nat.le_of_ble_eq_true rfl⟩ hP hD hS hl.1 (Nat.le_of_ble_eq_true rfl) dX6_town_146 rfl) hS (fun r23 S24 H locs hw1660 hP hD hS => ?_)
    exact rt_i (u := (some rt, some (rt 0), S24)) hC hw1660 hP hD hS dX6_town_149
  · have hw1661 := hw.2 c20
    refine lv_aload_n hC.x hC.b dX6_town_110 rfl (lv_at hl 0 rfl) ?_
    refine gM_15 hC hP dX6_town_111 ?_
    refine lv_iload_n hC.x hC.b dX6_town_114 rfl (lv_at hl 1 rfl) ?_
    refine lv_aload_n hC.x hC.b dX6_town_115 rfl (lv_at hl 0 rfl) ?_
    refine gM_16 hC hP dX6_town_116 ?_
    refine lv_iload_n hC.x hC.b dX6_town_119 rfl (lv_at hl 1 rfl) ?_
    obtain ⟨hin, hw1662⟩ := hw1661
    refine lM_3 hC hP hin rfl dX6_town_120 ?_
    obtain ⟨hin, hw1663⟩ := hw1662
    refine sM_2 hC hP hD hS (v := (S.1 3 x2.toNatClampNeg)) hin rfl dX6_town_121 (fun S25 eS25 H locs hP hD hS => ?_)
    have hw1664 := hw1663 S25 eS25
    refine lv_iinc (v := (x2 + 1)) (lv' := [(2, .int (x2 + 1)), (0, .ref (ad 0))]) hC.x hC.b dX6_town_122 hl (k := 1) rfl rfl (by decide) rfl (fun ls hl => ?_)
    refine lv_goto (tgt := 104) hC.x hC.b dX6_town_125 (by decide) ?_
    exact hK104 (S25, (x2 + 1)) hw1664 H locs ls hP hD hS (lv_sub hl [1, 0] rfl)
def w6_town (post : Int32 → Option (Nat → Nat) → MS → Prop) (tw : Option (Nat → Nat)) (S : MS) (x1 : Int32) : Prop :=
  (∀ S1, S1 = uI S 0 0 0 → ((x1 < 0 → (w6_refused (fun r3 S4 => (post r3 tw S4)) S1 2)) ∧ (¬ x1 < 0 → ((x1 ≤ (S1.1 0 6) → (∀ S6, S6 = uI S1 0 7 x1 → (∀ S7, S7 = uI S6 0 6 0 → (∀ S8, S8 = uI S7 0 8 0 → (∀ S9, S9 = uI S8 0 12 0 → (∀ rt : Nat → Nat, ∀ S10, S10 = rsM S9 → (∀ S11, S11 = uI S10 0 9 0 → (w6_goesOn (fun S13 => (w6_readAll (fun S15 => (((S15.1 0 12) ≤ 0 → (∀ S17, S17 = swM S15 → (w6_asTold (fun S19 => (lp (fun (K : (MS × Int32) → Prop) (z : (MS × Int32)) => f6_town_104 post rt K z.1 z.2) (S19, 0))) (some rt) S17 0))) ∧ (¬ (S15.1 0 12) ≤ 0 → (∀ S26, S26 = uI S15 0 1 4 → (∀ S27, S27 = uI S26 0 2 (S26.1 0 13) → (post (-1) tw S27)))))) S13)) S11)))))))) ∧ (¬ x1 ≤ (S1.1 0 6) → (w6_refused (fun r28 S29 => (post r28 tw S29)) S1 2))))))
set_option maxHeartbeats 8000000 in
theorem m6_town (l : Launch) {post : Int32 → Option (Nat → Nat) → MS → Prop} {S : MS} {x1 : Int32} {adK adV : Nat → Nat} (hZ : ∀ U, Z U → zS adK adV A Hb U) (hw : w6_town post tw S x1) : Met l yX6_town (ws_ yX6_town cX6_town 3 (some .int)) ({ frames := 12, cells := 14, slots := 119, locals := 259 } : Room) (va_Pc [.ref (ad 0), .int x1] (PcG D gCl nwG Z Hb A (wM D ad none rdv tw S))) (va_Qi (fun r (u : Option (Nat → Nat) × Option Nat × MS) => post r u.1 u.2.2) (BW D gCl A (fun u => wM D ad none u.2.1 u.1 u.2.2)) A) 14 119 A := by
  refine Met.ofG (by decide) (Nat.le_of_ble_eq_true rfl) ?_
  intro p e s m below meth c ls hC _ hP hD hS hl
  have hC : CX RX6 cX6_town 3 (some .int) D gCl nwG Z Hb A p s m _ meth c := hC
  have hl : lv_has ls 3 [(0, .ref (ad 0)), (1, .int x1)] := hl
  unfold w6_town at hw
  refine lv_aload_n hC.x hC.b dX6_town_0 rfl (lv_at hl 0 rfl) ?_
  refine lv_iconst (v := 0) hC.x hC.b dX6_town_1 (by decide) ?_
  refine pM_0 hC hP hD hS (v := 0) dX6_town_2 (fun S1 eS1 H locs hP hD hS => ?_)
  have hw1641 := hw S1 eS1
  refine lv_iload_n hC.x hC.b dX6_town_5 rfl (lv_at hl 1 rfl) ?_
  refine lv_if_lt (tgt := 17) hC.x hC.b dX6_town_6 (by decide) (fun c2 => ?_) (fun c2 => ?_)
  · have hw1642 := hw1641.1 c2
    refine lv_aload_n hC.x hC.b dX6_town_17 rfl (lv_at hl 0 rfl) ?_
    refine lv_iconst (v := 2) hC.x hC.b dX6_town_18 (by decide) ?_
    refine go_i (run_V (rest := []) hC (m6_refused l hw1642) v6_6_refused h6_refused 0 5 gCl_X6 rfl rfl ⟨rfl, rfl, Nat.le_of_ble_eq_true rfl, Nat.le_of_ble_eq_true rfl⟩ ⟨Nat.le_of_ble_eq_true rfl, Nat.le_of_ble_eq_true rfl⟩ hP hD hS hl.1 (Nat.le_of_ble_eq_true rfl) dX6_town_19 rfl) hS (fun r3 S4 H locs hw1643 hP hD hS => ?_)
    refine W.widen (k := 14) (n := 119) (Nat.le_of_ble_eq_true rfl) (Nat.le_of_ble_eq_true rfl) ?_
    exact rt_i (u := (tw, rdv, S4)) hC hw1643 hP hD hS dX6_town_22
  · have hw1644 := hw1641.2 c2
    refine lv_iload_n hC.x hC.b dX6_town_9 rfl (lv_at hl 1 rfl) ?_
    refine lv_aload_n hC.x hC.b dX6_town_10 rfl (lv_at hl 0 rfl) ?_
    refine gM_6 hC hP dX6_town_11 ?_
    refine lv_icmp_le (tgt := 23) hC.x hC.b dX6_town_14 (by decide) (fun c5 => ?_) (fun c5 => ?_)
    · have hw1645 := hw1644.1 c5
      refine lv_aload_n hC.x hC.b dX6_town_23 rfl (lv_at hl 0 rfl) ?_
      refine lv_iload_n hC.x hC.b dX6_town_24 rfl (lv_at hl 1 rfl) ?_
      refine pM_7 hC hP hD hS (v := x1) dX6_town_25 (fun S6 eS6 H locs hP hD hS => ?_)
      have hw1646 := hw1645 S6 eS6
      refine lv_aload_n hC.x hC.b dX6_town_28 rfl (lv_at hl 0 rfl) ?_
      refine lv_iconst (v := 0) hC.x hC.b dX6_town_29 (by decide) ?_
      refine pM_6 hC hP hD hS (v := 0) dX6_town_30 (fun S7 eS7 H locs hP hD hS => ?_)
      have hw1647 := hw1646 S7 eS7
      refine lv_aload_n hC.x hC.b dX6_town_33 rfl (lv_at hl 0 rfl) ?_
      refine lv_iconst (v := 0) hC.x hC.b dX6_town_34 (by decide) ?_
      refine pM_8 hC hP hD hS (v := 0) dX6_town_35 (fun S8 eS8 H locs hP hD hS => ?_)
      have hw1648 := hw1647 S8 eS8
      refine lv_aload_n hC.x hC.b dX6_town_38 rfl (lv_at hl 0 rfl) ?_
      refine lv_iconst (v := 0) hC.x hC.b dX6_town_39 (by decide) ?_
      refine pM_12 hC hP hD hS (v := 0) dX6_town_40 (fun S9 eS9 H locs hP hD hS => ?_)
      have hw1649 := hw1648 S9 eS9
      refine lv_aload_n hC.x hC.b dX6_town_43 rfl (lv_at hl 0 rfl) ?_
      refine va_new (ci := 12) (fs := [.int 0, .int 0, .int 0, .int 0, .int 0, .int 0, .int 0, .int 0, .null, .null, .null, .null, .null, .null, .null, .null, .null, .null, .null, .null, .null]) (C := RX15) (T := TX15) (N := 21) hC.x hC.b hC.ts in_X15 tyX15 tyX15_ok hC.ow (hC.ts _ q1513) (hC.ts _ q1514) (hC.ts _ q140) hC.K.1 hP hD hS hC.aA gCl_X15 (fun j hj => by rcases nle21 j hj with rfl | rfl | rfl | rfl | rfl | rfl | rfl | rfl | rfl | rfl | rfl | rfl | rfl | rfl | rfl | rfl | rfl | rfl | rfl | rfl | rfl <;> rfl) (Nat.le_of_ble_eq_true rfl) (Nat.le_of_ble_eq_true rfl) dX6_town_44 (fun q H hP hD hS => ?_)
      refine lv_dup hC.x hC.b dX6_town_47 rfl ?_
      refine go_v (run_IN (rest := [.ref q, .ref (ad 0)]) hC (n15_init l) (hC.K.use 11 rfl) ⟨q1517, q140, q1516⟩ ⟨by decide +kernel, by decide +kernel, by show _ = some 0; decide +kernel⟩ rfl ⟨rfl, rfl, Nat.le_of_ble_eq_true rfl, Nat.le_of_ble_eq_true rfl⟩ ⟨Nat.le_of_ble_eq_true rfl, Nat.le_of_ble_eq_true rfl⟩ hP hD hS hl.1 (Nat.le_of_ble_eq_true rfl) dX6_town_48 rfl) hS (fun u H locs _ hP hD hS => ?_)
      refine va_put (D := D) (ci := 5) (fs := obM ad rdv tw S9) (v := .ref q) (ty := .object "SeanceStreetModel$Town") (C := RX6) (T := TX6) (N := 33) hC.x hC.b hC.ts in_X6 tyX6 tyX6_ok nmX6 hC.ow hC.K.1 hP hD hS 0 rfl gCl_X6 4 (by decide) (hC.ts _ q1400) (fun _ h9 => h9) rfl (by decide +kernel) rfl rfl (Nat.le_of_ble_eq_true rfl) dX6_town_51 (fun H locs hP hD hS => ?_)
      obtain ⟨rt, ert⟩ : ∃ z : Nat → Nat, z = fun k => if k = 0 then q else u k := ⟨_, rfl⟩
      obtain ⟨S10, eS10⟩ : ∃ z : MS, z = rsM S9 := ⟨_, rfl⟩
      have ew := wm_in (D := D) (ad := ad) (rdv := rdv) (tw := tw) (S := S9) (u := u) (q := q)
      rw [← ert, ← eS10] at ew
      rw [ew] at hP hD
      have hP := wm_onP hP
      have hD := wm_onD hD
      have hw1650 := hw1649 rt S10 eS10
      refine lv_aload_n hC.x hC.b dX6_town_54 rfl (lv_at hl 0 rfl) ?_
      refine lv_iconst (v := 0) hC.x hC.b dX6_town_55 (by decide) ?_
      refine pM_9 hC hP hD hS (v := 0) dX6_town_56 (fun S11 eS11 H locs hP hD hS => ?_)
      have hw1651 := hw1650 S11 eS11
      refine lv_aload_n hC.x hC.b dX6_town_59 rfl (lv_at hl 0 rfl) ?_
      refine go_v (run_V (rest := []) hC (m6_goesOn l hw1651) v6_6_goesOn h6_goesOn 0 5 gCl_X6 rfl rfl ⟨rfl, rfl, Nat.le_of_ble_eq_true rfl, Nat.le_of_ble_eq_true rfl⟩ ⟨Nat.le_of_ble_eq_true rfl, Nat.le_of_ble_eq_true rfl⟩ hP hD hS hl.1 (Nat.le_of_ble_eq_true rfl) dX6_town_60 rfl) hS (fun S13 H locs hw1652 hP hD hS => ?_)
      refine lv_aload_n hC.x hC.b dX6_town_63 rfl (lv_at hl 0 rfl) ?_
      refine go_v (run_V (rest := []) hC (m6_readAll l hZ hw1652) v6_6_readAll h6_readAll 0 5 gCl_X6 rfl rfl ⟨rfl, rfl, Nat.le_of_ble_eq_true rfl, Nat.le_of_ble_eq_true rfl⟩ ⟨Nat.le_of_ble_eq_true rfl, Nat.le_of_ble_eq_true rfl⟩ hP hD hS hl.1 (Nat.le_of_ble_eq_true rfl) dX6_town_64 rfl) hS (fun S15 H locs hw1653 hP hD hS => ?_)
      refine lv_aload_n hC.x hC.b dX6_town_67 rfl (lv_at hl 0 rfl) ?_
      refine gM_12 hC hP dX6_town_68 ?_
      refine lv_if_le (tgt := 89) hC.x hC.b dX6_town_71 (by decide) (fun c16 => ?_) (fun c16 => ?_)
      · have hw1654 := hw1653.1 c16
        refine lv_aload_n hC.x hC.b dX6_town_89 rfl (lv_at hl 0 rfl) ?_
        refine lv_aload_n hC.x hC.b dX6_town_90 rfl (lv_at hl 0 rfl) ?_
        refine gM_4 hC hP dX6_town_91 ?_
        refine va_put (D := D) (ci := 5) (fs := obM ad (some (rt 0)) tw S15) (v := .ref (rt 0)) (ty := .object "SeanceStreetModel$Town") (C := RX6) (T := TX6) (N := 33) hC.x hC.b hC.ts in_X6 tyX6 tyX6_ok nmX6 hC.ow hC.K.1 hP hD hS 0 rfl gCl_X6 3 (by decide) (hC.ts _ q1399) (fun _ h9 => h9) rfl (by decide +kernel) rfl rfl (Nat.le_of_ble_eq_true rfl) dX6_town_94 (fun H locs hP hD hS => ?_)
        obtain ⟨S17, eS17⟩ : ∃ z : MS, z = swM S15 := ⟨_, rfl⟩
        have hP := wm_swP hP
        have hD := wm_swD hD
        rw [← eS17] at hP hD
        have hw1655 := hw1654 S17 eS17
        refine lv_aload_n hC.x hC.b dX6_town_97 rfl (lv_at hl 0 rfl) ?_
        refine lv_iconst (v := 0) hC.x hC.b dX6_town_98 (by decide) ?_
        refine go_v (run_V (rest := []) hC (m6_asTold l hw1655) v6_6_asTold h6_asTold 0 5 gCl_X6 rfl rfl ⟨rfl, rfl, Nat.le_of_ble_eq_true rfl, Nat.le_of_ble_eq_true rfl⟩ ⟨Nat.le_of_ble_eq_true rfl, Nat.le_of_ble_eq_true rfl⟩ hP hD hS hl.1 (Nat.le_of_ble_eq_true rfl) dX6_town_99 rfl) hS (fun S19 H locs hw1656 hP hD hS => ?_)
        refine lv_iconst (v := 0) hC.x hC.b dX6_town_102 (by decide) ?_
        refine lv_istore_n (lv' := [(2, .int 0), (0, .ref (ad 0)), (1, .int x1)]) hC.x hC.b dX6_town_103 rfl hl (by decide) rfl (fun ls hl => ?_)
        exact k6_town_104 hC hZ (S19, 0) hw1656 H locs ls hP hD hS (lv_sub hl [1, 0] rfl)
      · have hw1665 := hw1653.2 c16
        refine lv_aload_n hC.x hC.b dX6_town_74 rfl (lv_at hl 0 rfl) ?_
        refine lv_iconst (v := 4) hC.x hC.b dX6_town_75 (by decide) ?_
        refine pM_1 hC hP hD hS (v := 4) dX6_town_76 (fun S26 eS26 H locs hP hD hS => ?_)
        have hw1666 := hw1665 S26 eS26
        refine lv_aload_n hC.x hC.b dX6_town_79 rfl (lv_at hl 0 rfl) ?_
        refine lv_aload_n hC.x hC.b dX6_town_80 rfl (lv_at hl 0 rfl) ?_
        refine gM_13 hC hP dX6_town_81 ?_
        refine pM_2 hC hP hD hS (v := (S26.1 0 13)) dX6_town_84 (fun S27 eS27 H locs hP hD hS => ?_)
        have hw1667 := hw1666 S27 eS27
        refine lv_iconst (v := (-1)) hC.x hC.b dX6_town_87 (by decide) ?_
        exact rt_i (u := (tw, some (rt 0), S27)) hC hw1667 (wm_offP hP) (wm_offD hD) hS dX6_town_88
    · have hw1668 := hw1644.2 c5
      refine lv_aload_n hC.x hC.b dX6_town_17 rfl (lv_at hl 0 rfl) ?_
      refine lv_iconst (v := 2) hC.x hC.b dX6_town_18 (by decide) ?_
      refine go_i (run_V (rest := []) hC (m6_refused l hw1668) v6_6_refused h6_refused 0 5 gCl_X6 rfl rfl ⟨rfl, rfl, Nat.le_of_ble_eq_true rfl, Nat.le_of_ble_eq_true rfl⟩ ⟨Nat.le_of_ble_eq_true rfl, Nat.le_of_ble_eq_true rfl⟩ hP hD hS hl.1 (Nat.le_of_ble_eq_true rfl) dX6_town_19 rfl) hS (fun r28 S29 H locs hw1669 hP hD hS => ?_)
      refine W.widen (k := 14) (n := 119) (Nat.le_of_ble_eq_true rfl) (Nat.le_of_ble_eq_true rfl) ?_
      exact rt_i (u := (tw, rdv, S29)) hC hw1669 hP hD hS dX6_town_22
end MWm6
