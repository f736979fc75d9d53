/-! PURE 32: back -/
set_option maxRecDepth 100000
theorem rowG_sw (S : MS) (src : Nat → Int32) (i : Nat) (v : Int32) : uI (rowG S 2 0 src i) 0 19 v = rowG (uI S 0 19 v) 2 0 src i := by
  refine Prod.ext (funext fun q => funext fun k => ?_) rfl
  rw [uI_at, rowG_at, rowG_at, uI_at]
  by_cases h : q = 0 ∧ k = 19
  · rw [if_pos h, if_neg (by omega), if_pos h]
  · rw [if_neg h]
    by_cases h2 : q = 2 ∧ 0 ≤ k ∧ k < 0 + i
    · rw [if_pos h2, if_pos h2]
    · rw [if_neg h2, if_neg h2, if_neg h]
theorem bec_sw {A B : CS} {X : Nat} {v : Int32} (h : bec A 0 X B) : bec (sI A 0 8 v) 0 X (sI B 0 8 v) := by
  obtain ⟨h1, h2, h3, h4, h5, h6⟩ := h
  refine ⟨fun r k c => ?_, h2, h3, h4, fun z k q1 q2 q3 => ?_, fun k => ?_⟩
  · rw [sI_at, sI_at, h1 r k c]
  · rw [sI_at, if_neg (by omega), sI_at, if_neg (by omega)]; exact h5 z k q1 q2 q3
  · have e : ∀ (Z : CS) r k, r ≠ 0 → (sI Z 0 8 v).1.1 r k = Z.1.1 r k := fun Z r k q => by rw [sI_at, if_neg (fun z => q z.1)]
    rw [e _ _ _ (by omega), e _ _ _ (by omega), e _ _ _ (by omega)]; exact h6 k
theorem o_back (a0 : Int32) : Ob_back Inv0 a0 := by
  intro tw1 S1 tw6 S6 hI
  obtain ⟨oT, s, a, i, hs, hC, hT⟩ := id hI
  obtain ⟨-, -, -, -, -, ha, ha6, ha1, hi, hi6, hi1, hp, -, n, hn, hn6, hn1⟩ := id hC
  have c1 : S1.1.1 0 7 - 1 = iI ((i : Int) - 1) := by rw [hi1, show (1 : Int32) = iI 1 from rfl, iI_sub]
  have n6 : (uI S6 0 0 0).1 0 20 = iI i := by rw [uI_at, if_neg (by omega)]; exact hi6
  have lo : a0 < 0 ↔ a0.toInt < 0 := by rw [Int32.lt_iff_toInt_lt]; rfl
  have hi' : a0 < iI (i : Nat) ↔ a0.toInt < i := by rw [Int32.lt_iff_toInt_lt, iI_toInt (by omega) (by omega)]
  have hc : iI ((i : Int) - 1) < a0 ↔ (i : Int) - 1 < a0.toInt := by rw [Int32.lt_iff_toInt_lt, iI_toInt (by omega) (by omega)]
  have r1 : ¬ (0 ≤ a0.toInt ∧ a0.toInt < i) → ∀ post : Int32 → CS → Prop, (∀ S', K1 S1 S' → S'.1.1 0 4 = 1 → S'.1.1 0 6 = -1 → post 0 S') → w1_back post S1 a0 := fun e post h => by
    have hj : j1_back_20 post S1 a0 1 := by
      unfold j1_back_20
      refine s1_yes fun A k x y => ?_
      exact ⟨fun z => absurd rfl z, fun _ => h A k x y⟩
    unfold w1_back w1_in
    rw [c1, lo, hc]
    refine ⟨fun _ => ⟨fun _ => hj, fun z => absurd rfl z⟩, fun q => ⟨fun _ => ⟨fun _ => hj, fun z => absurd rfl z⟩, fun q2 => absurd ⟨by omega, by omega⟩ e⟩⟩
  by_cases c : 0 ≤ a0.toInt ∧ a0.toInt < i
  · obtain ⟨T, rfl⟩ : ∃ T, oT = some T := by
      cases oT with
      | none => have := hT.2; omega
      | some T => exact ⟨T, rfl⟩
    obtain ⟨b, hb, rfl⟩ : ∃ b : Nat, b < i ∧ a0 = iI (b : Nat) := ⟨a0.toInt.toNat, by omega, by rw [show ((a0.toInt.toNat : Nat) : Int) = a0.toInt by omega]; exact (iI_self a0).symm⟩
    obtain ⟨t6, ht6⟩ := hs.2.1.1
    obtain ⟨-, -, vs, vn, g6⟩ := id hT
    obtain ⟨y1, y2, y3, y4⟩ := g6 b hb
    refine ⟨1, fun u => ∃ A, K1 S1 A ∧ A.1.1 0 4 = 0 ∧ A.1.1 0 6 = -1 ∧ bec (sI A 0 8 (iI (0 : Nat))) 0 (19 + b) u, fun u => K6 (rowG (uI (uI S6 0 0 0) 0 19 (iI (0 : Nat))) 2 0 (fun k => S6.1 5 (19 * b + k)) 19) u ∧ u.1 0 1 = 0 ∧ u.1 0 2 = -1, ?_, ?_, ?_⟩
    · show w1_back _ S1 _
      unfold w1_back w1_in
      rw [c1, lo, hc]
      refine ⟨fun q => absurd q (by omega), fun _ => ⟨fun q => absurd q (by omega), fun _ => ⟨fun z => absurd z (by decide), fun _ => ?_⟩⟩⟩
      unfold j1_back_20
      refine s1_yes fun A k x y => ?_
      refine ⟨fun _ => ?_, fun z => absurd z (by decide)⟩
      rw [iI_clampN (by omega)]
      refine ⟨iI_inN (by omega) (by omega), by omega, s4_bec (by omega) (fun B hB => ?_)⟩
      rintro S10 rfl
      exact ⟨rfl, A, k, x, y, bec_sw hB⟩
    · show w6_back _ tw6 S6 _
      unfold w6_back
      rintro S rfl
      rw [n6, lo, hi']
      refine ⟨fun z => (by rw [ht6] at z; cases z), fun _ => ⟨fun q => absurd q (by omega), fun _ => ⟨fun _ => ?_, fun q => absurd c.2 q⟩⟩⟩
      refine lp_up 19 (fun j => (rowG (uI S6 0 0 0) 2 0 (fun k => S6.1 5 (19 * b + k)) j, iI j)) ?_ (fun j hj K hK => ?_) (fun K => ?_)
      · show (uI S6 0 0 0, (0 : Int32)) = (rowG _ 2 0 _ 0, iI (0 : Nat))
        rw [rowG_0]; rfl
      · show f6_back_32 _ (iI (b : Nat)) K (rowG (uI S6 0 0 0) 2 0 (fun k => S6.1 5 (19 * b + k)) j) (iI j)
        unfold f6_back_32
        rw [show (19 : Int32) = iI (19 : Nat) from rfl, iI_leN (by omega) (by omega), iI_mul, iI_add, show ((19 : Nat) : Int) * (b : Int) + (j : Int) = ((19 * b + j : Nat) : Int) by omega, iI_clampN (by omega), iI_clampN (by omega), iI_succ j]
        refine ⟨fun c => absurd c (by omega), fun _ => ⟨iI_inN (by omega) (by omega), iI_inN (by omega) (by omega), fun S4 e => ?_⟩⟩
        have hu := rowG_up (uI S6 0 0 0) 2 0 (fun k => S6.1 5 (19 * b + k)) j
        rw [Nat.zero_add] at hu
        rw [e, rowG_at, if_neg (by omega), uI_at, if_neg (by omega), hu]
        exact hK
      · show f6_back_32 _ (iI (b : Nat)) K (rowG (uI S6 0 0 0) 2 0 (fun k => S6.1 5 (19 * b + k)) 19) (iI (19 : Nat))
        unfold f6_back_32
        refine ⟨fun _ => ?_, fun c => absurd (Int32.le_refl _) c⟩
        rintro S10 rfl
        rw [rowG_sw]
        unfold w6_granted
        exact s6_good fun u k3 _ e5 e6 => ⟨Or.inr rfl, rfl, k3, e5, e6⟩
    · rintro u1 u6 ⟨A, k1, x0, y0, hB⟩ ⟨k6, e5, e6⟩
      exact Inv0.got (z := vs b) (zn := vn b) hs hC hT (Nat.zero_le a) (Or.inr rfl) k6 e5 e6 k1 x0 y0 hB (by omega) y1 y2 y3 y4
  · refine pt_q hI (w1 := fun p => w1_back p S1 a0) (w6 := fun p => w6_back p tw6 S6 a0) 0 1 (fun post h => ?_) (fun post h => r1 c post h)
    unfold w6_back
    rintro S rfl
    rw [n6, lo, hi']
    refine ⟨fun _ => s6_den fun S' k a0 b0 c0 => h S' (th_K.trans k) a0 b0 c0, fun _ => ⟨fun _ => s6_den fun S' k a0 b0 c0 => h S' (th_K.trans k) a0 b0 c0, fun q => ⟨fun q2 => absurd ⟨by omega, q2⟩ c, fun _ => s6_den fun S' k a0 b0 c0 => h S' (th_K.trans k) a0 b0 c0⟩⟩⟩
