/-! PURE 14: more that is asked -/
set_option maxRecDepth 100000
section P14
variable {tw : Option (Nat → Nat)} {S : MS} {tw' : Option TD} {S' : CS} {T : GT} {s : GS} {oT : Option GT}
theorem emod_back {H a b h : Int} (h0 : 0 ≤ h) (h1 : h < H) (e : (a + b) = h) : (a % H + b) % H = h := by
  rw [Int.emod_add_emod, e]
  exact Int.emod_eq_of_lt h0 h1
/-- every house is come out of -/
theorem outN_onto (hok : gok T s) (d n : Nat) {h : Nat} (hh : h < gH T) : ∃ a, a < gH T ∧ outN T s d a n = h := by
  have hH : 2 ≤ gH T := hok.1.2.2.2.1
  have base : ∀ z : Int, 0 ≤ z → z < gH T → ∃ a : Nat, a < gH T ∧ ((a : Int) + slN T s d n) % gH T = z := by
    intro z z0 z1
    have b1 := Int.emod_lt_of_pos (z - slN T s d n) (show (0 : Int) < gH T by omega)
    have b2 := Int.emod_nonneg (z - slN T s d n) (show (gH T : Int) ≠ 0 by omega)
    refine ⟨((z - slN T s d n) % gH T).toNat, by omega, ?_⟩
    rw [show ((((z - slN T s d n) % (gH T : Int)).toNat : Nat) : Int) = (z - slN T s d n) % gH T by omega]
    exact emod_back z0 z1 (by omega)
  by_cases m : s.2.2 d = -2
  · obtain ⟨a, ha, e⟩ := base h (by omega) (by omega)
    refine ⟨a, ha, ?_⟩
    unfold outN
    dsimp only
    rw [if_pos m, e]
    omega
  · have b1 := Int.emod_lt_of_pos (2 * s.2.2 d - h) (show (0 : Int) < gH T by omega)
    have b2 := Int.emod_nonneg (2 * s.2.2 d - h) (show (gH T : Int) ≠ 0 by omega)
    obtain ⟨a, ha, e⟩ := base _ b2 b1
    refine ⟨a, ha, ?_⟩
    unfold outN
    dsimp only
    rw [if_neg m, e, show ((((2 * s.2.2 d - (h : Int)) % (gH T : Int)).toNat : Nat) : Int) = (2 * s.2.2 d - h) % gH T by omega, Int.sub_emod, Int.emod_emod, ← Int.sub_emod, show 2 * s.2.2 d - (2 * s.2.2 d - (h : Int)) = h by omega, Int.emod_eq_of_lt (by omega) (by omega)]
    omega
theorem whoN_home (hok : gok T s) {p : Nat} (hp : p < gP T) : whoN T s (s.1 p) = p := by
  rcases whoN_at (T := T) (s := s) (s.1 p) with ⟨_, hn⟩ | ⟨q, hq, hqh, e, _⟩
  · exact absurd rfl (hn p hp)
  · rw [e, hok.2.2.2.1 q p hq hp hqh]
theorem frN_home (hok : gok T s) {p : Nat} (hp : p < gP T) : frN T s (s.1 p) = p := by
  have hH : 2 ≤ gH T := hok.1.2.2.2.1
  unfold frN
  obtain ⟨k, hk⟩ : ∃ k, gH T = k + 1 := ⟨gH T - 1, by omega⟩
  rw [hk, frF, whoN_home hok hp, if_neg (by omega)]
theorem e_aimFor (h : same tw S tw' S' oT s) (x1 x2 y : Int32) : ∃ r t, Q6 S (fun p => w6_aimFor p tw S x1 x2 y) r t ∧ Q1 S' (fun p => w1_aimFor p tw' S' x1 x2 y) r t := by
  unfold w6_aimFor w1_aimFor j6_aimFor_26 j6_aimFor_27 j1_aimFor_25 j1_aimFor_26
  refine e_dpn h fun T _ hok d p n hd hpp hn e1 e2 e3 => ?_
  subst e1 e2 e3
  have hH := hok.1.2.2.2.2
  have hPP := hok.1.2.1
  obtain ⟨a0, ha0, ea0⟩ := outN_onto hok d n (hok.2.2.1 p hpp)
  let step : Nat → Nat ⊕ Int32 := fun i => if frN T s (outN T s d i n) = p then .inr (iI (i : Nat)) else .inl (i + 1)
  have hI : ∀ z z' : Nat, z ≤ a0 → step z = .inl z' → z' ≤ a0 ∧ a0 - z' < a0 - z := by
    intro z z' hi e
    dsimp only [step] at e
    by_cases c : frN T s (outN T s d z n) = p
    · rw [if_pos c] at e; cases e
    · rw [if_neg c] at e
      cases e
      have : z ≠ a0 := fun e => c (by rw [e, ea0]; exact frN_home hok hpp)
      omega
  obtain ⟨r, hr⟩ := lp_two (fun z => z ≤ a0) (fun z => a0 - z) step hI 0 (Nat.zero_le _)
  refine ⟨r, fun post S1 k e0 hT hS hp => ?_, fun post S1 k e0 e1 hT hS hp => ?_⟩
  · refine s6_works fun S2 k2 e3 hw => ?_
    have hT2 := k2.T hT
    have hS2 := works_S hok hw hS
    refine lp_res (P := fun z : Nat => z ≤ a0) (fun z : Nat => iI z) hr (Nat.zero_le _) (fun z z' a b => (hI z z' a b).1) (good := fun r => ∀ S3, K6 S S3 → S3.1 0 0 = 0 → S3.1 0 1 = 0 → S3.1 0 2 = -1 → post r S3) hp ?_
    intro i K hi hK hg
    show f6_aimFor_52 post tw S2 (iI d) (iI p) (iI n) K (iI i)
    unfold f6_aimFor_52
    dsimp only [step] at hK hg
    rw [iI_succ]
    refine s6_outOf hok hT2 hS2 hd (show i < 1000 by omega) (by omega) (s6_heardFrom hok hT2 hS2 (outN_lt hok d i n) ?_)
    obtain ⟨q, hq, e⟩ := frN_lt hok (outN_lt hok d i n)
    rw [e] at hK hg ⊢
    rw [iI_eqN (by omega) (by omega)]
    exact ⟨fun c2 => s6_good fun S3 k3 e4 e5 e6 => hg _ (if_pos (by omega)) S3 (k.trans (k2.trans k3)) (e4.trans (e3.trans e0)) e5 e6, fun c2 => hK _ (if_neg (by omega))⟩
  · refine lp_res (P := fun z : Nat => z ≤ a0) (fun z : Nat => iI z) hr (Nat.zero_le _) (fun z z' a b => (hI z z' a b).1) (good := fun r => post r S1) (hp S1 k e0 e1) ?_
    intro i K hi hK hg
    show f1_aimFor_47 post tw' S1 (iI d) (iI p) (iI n) K (iI i)
    unfold f1_aimFor_47 w1_isAim
    dsimp only [step] at hK hg
    rw [iI_succ]
    refine s4_out hok hT hS hd (show i < 1000 by omega) (by omega) (s4_from hok hT hS (outN_lt hok d i n) ?_)
    obtain ⟨q, hq, e⟩ := frN_lt hok (outN_lt hok d i n)
    rw [e] at hK hg ⊢
    rw [iI_eqN (by omega) (by omega)]
    exact ⟨fun c2 => ⟨fun c3 => absurd rfl c3, fun _ => hK _ (if_neg (by omega))⟩, fun c2 => ⟨fun _ => hg _ (if_pos (by omega)), fun c3 => ne_0 c3⟩⟩
end P14
