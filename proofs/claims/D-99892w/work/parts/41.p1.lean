/-! PURE 1: the street as numbers; what is asked of it -/
set_option maxRecDepth 100000
/-- town: people, dead, houses; of each dead: law, whose. street: homes, slips, mirrors (-2: none) -/
abbrev GT : Type := (Nat × Nat × Nat) × (Nat → Nat) × (Nat → Nat)
abbrev GS : Type := (Nat → Nat) × (Nat → Nat) × (Nat → Int)
def gP (T : GT) : Nat := T.1.1
def gN (T : GT) : Nat := T.1.2.1
def gH (T : GT) : Nat := T.1.2.2
def gL (T : GT) (d : Nat) : Nat := T.2.1 d
def gO (T : GT) (d : Nat) : Nat := T.2.2 d
/-- a town and a street that can be -/
def gok (T : GT) (s : GS) : Prop :=
  (1 ≤ gP T ∧ gP T ≤ 6 ∧ gN T ≤ 6 ∧ 2 ≤ gH T ∧ gH T ≤ 40) ∧ (∀ d, d < gN T → gL T d < 4 ∧ gO T d < gP T) ∧
  (∀ p, p < gP T → s.1 p < gH T) ∧ (∀ p q, p < gP T → q < gP T → s.1 p = s.1 q → p = q) ∧ (∀ d, d < gN T → s.2.1 d ≤ 39) ∧ ∀ d, d < gN T → s.2.2 d = -2 ∨ (0 ≤ s.2.2 d ∧ s.2.2 d < gH T)
/-- how many houses on a dead comes out on a night -/
def slN (T : GT) (s : GS) (d n : Nat) : Int :=
  if gL T d = 0 then s.2.1 d else if gL T d = 1 then -(s.2.1 d : Int) else if gL T d = 2 then s.2.1 d * n else if n % 2 = 0 then s.2.1 d else -(s.2.1 d : Int)
def outN (T : GT) (s : GS) (d aim n : Nat) : Nat :=
  let h := (((aim : Int) + slN T s d n) % gH T).toNat
  if s.2.2 d = -2 then h else ((2 * s.2.2 d - h) % gH T).toNat
/-- who has a house: the first; -2 -/
def whoF (hm : Nat → Nat) (h : Nat) : Nat → Nat → Int
  | 0, _ => -2
  | k + 1, p => if hm p = h then (p : Int) else whoF hm h k (p + 1)
def whoN (T : GT) (s : GS) (h : Nat) : Int := whoF s.1 h (gP T) 0
/-- who is found going round from a house -/
def frF (T : GT) (s : GS) : Nat → Nat → Int
  | 0, h => whoN T s h
  | k + 1, h => if whoN T s h = -2 then frF T s k ((h + 1) % gH T) else whoN T s h
def frN (T : GT) (s : GS) (h : Nat) : Int := frF T s (gH T) h
/-- who hears a dead, so many houses further on -/
def earN (T : GT) (s : GS) (d n f : Nat) : Int := frN T s ((outN T s d (s.1 (gO T d)) n + f) % gH T)
def riN (T : GT) (s : GS) (d n f : Nat) : Bool := earN T s d n f = gO T d
theorem outN_lt {T : GT} {s : GS} (h : gok T s) (d aim n : Nat) : outN T s d aim n < gH T := by
  have hH : 2 ≤ gH T := h.1.2.2.2.1
  unfold outN
  have h1 := Int.emod_lt_of_pos ((aim : Int) + slN T s d n) (show (0 : Int) < gH T by omega)
  have h2 := Int.emod_nonneg ((aim : Int) + slN T s d n) (show (gH T : Int) ≠ 0 by omega)
  dsimp only
  have hz : (((aim : Int) + slN T s d n) % gH T).toNat < gH T := by omega
  generalize (((aim : Int) + slN T s d n) % gH T).toNat = z at hz
  by_cases hm : s.2.2 d = -2
  · rw [if_pos hm]; exact hz
  · rw [if_neg hm]
    have h3 := Int.emod_lt_of_pos (2 * s.2.2 d - (z : Int)) (show (0 : Int) < gH T by omega)
    have h4 := Int.emod_nonneg (2 * s.2.2 d - (z : Int)) (show (gH T : Int) ≠ 0 by omega)
    omega
theorem whoF_at {hm : Nat → Nat} {h : Nat} : ∀ (k p : Nat), (whoF hm h k p = -2 ∧ ∀ q, p ≤ q → q < p + k → hm q ≠ h) ∨ ∃ q : Nat, p ≤ q ∧ q < p + k ∧ hm q = h ∧ whoF hm h k p = q ∧ ∀ r, p ≤ r → r < q → hm r ≠ h := by
  intro k
  induction k with
  | zero => intro p; exact Or.inl ⟨rfl, fun q h1 h2 => by omega⟩
  | succ k ih =>
    intro p
    unfold whoF
    by_cases hp : hm p = h
    · rw [if_pos hp]
      exact Or.inr ⟨p, Nat.le_refl _, by omega, hp, rfl, fun r h1 h2 => by omega⟩
    · rw [if_neg hp]
      rcases ih (p + 1) with ⟨h1, h2⟩ | ⟨q, h1, h2, h3, h4, h5⟩
      · exact Or.inl ⟨h1, fun q h3 h4 => by
          rcases Nat.eq_or_lt_of_le h3 with e | e
          · rw [← e]; exact hp
          · exact h2 q e (by omega)⟩
      · exact Or.inr ⟨q, by omega, by omega, h3, h4, fun r h6 h7 => by
          rcases Nat.eq_or_lt_of_le h6 with e | e
          · rw [← e]; exact hp
          · exact h5 r e h7⟩
theorem whoN_at {T : GT} {s : GS} (h : Nat) : (whoN T s h = -2 ∧ ∀ q, q < gP T → s.1 q ≠ h) ∨ ∃ q : Nat, q < gP T ∧ s.1 q = h ∧ whoN T s h = q ∧ ∀ r, r < q → s.1 r ≠ h := by
  rcases whoF_at (hm := s.1) (h := h) (gP T) 0 with ⟨h1, h2⟩ | ⟨q, -, h2, h3, h4, h5⟩
  · exact Or.inl ⟨h1, fun q hq => h2 q (Nat.zero_le _) (by omega)⟩
  · exact Or.inr ⟨q, by omega, h3, h4, fun r hr => h5 r (Nat.zero_le _) hr⟩
theorem whoN_of {T : GT} {s : GS} (hok : gok T s) {p : Nat} (hp : p < gP T) : whoN T s (s.1 p) = p := by
  rcases whoN_at (T := T) (s := s) (s.1 p) with ⟨-, h2⟩ | ⟨q, h1, h2, h3, -⟩
  · exact absurd rfl (h2 p hp)
  · rw [h3, hok.2.2.2.1 q p h1 hp h2]
theorem whoN_lt {T : GT} {s : GS} (h : Nat) : whoN T s h = -2 ∨ (0 ≤ whoN T s h ∧ whoN T s h < gP T) := by
  rcases whoN_at (T := T) (s := s) h with ⟨h1, -⟩ | ⟨q, h1, -, h3, -⟩
  · exact Or.inl h1
  · right; rw [h3]; omega
/-- going round, somebody is found within H houses -/
theorem frF_step {T : GT} {s : GS} (hok : gok T s) : ∀ (k h : Nat), h < gH T → (∃ j, j ≤ k ∧ whoN T s ((h + j) % gH T) ≠ -2) → ∃ j, j ≤ k ∧ frF T s k h = whoN T s ((h + j) % gH T) ∧ whoN T s ((h + j) % gH T) ≠ -2 ∧ ∀ i, i < j → whoN T s ((h + i) % gH T) = -2 := by
  intro k
  induction k with
  | zero =>
    intro h hh ⟨j, hj, hw⟩
    have e : j = 0 := by omega
    subst e
    refine ⟨0, Nat.le_refl _, ?_, hw, fun i hi => by omega⟩
    rw [Nat.add_zero, Nat.mod_eq_of_lt hh]
    rfl
  | succ k ih =>
    intro h hh ⟨j, hj, hw⟩
    by_cases h0 : whoN T s h = -2
    · have hH : 2 ≤ gH T := hok.1.2.2.2.1
      have hj0 : j ≠ 0 := by
        intro e; subst e
        rw [Nat.add_zero, Nat.mod_eq_of_lt hh] at hw
        exact hw h0
      obtain ⟨i, h1, h2, h3, h4⟩ := ih ((h + 1) % gH T) (Nat.mod_lt _ (by omega)) ⟨j - 1, by omega, by
        rw [Nat.mod_add_mod, show h + 1 + (j - 1) = h + j by omega]; exact hw⟩
      rw [Nat.mod_add_mod, show h + 1 + i = h + (i + 1) by omega] at h2 h3
      refine ⟨i + 1, by omega, ?_, h3, fun a ha => ?_⟩
      · rw [← h2]
        show (if whoN T s h = -2 then frF T s k ((h + 1) % gH T) else whoN T s h) = _
        rw [if_pos h0]
      · rcases Nat.eq_zero_or_pos a with e | e
        · subst e
          rw [Nat.add_zero, Nat.mod_eq_of_lt hh]; exact h0
        · have := h4 (a - 1) (by omega)
          rw [Nat.mod_add_mod, show h + 1 + (a - 1) = h + a by omega] at this
          exact this
    · refine ⟨0, by omega, ?_, ?_, fun i hi => by omega⟩
      · show (if whoN T s h = -2 then frF T s k ((h + 1) % gH T) else whoN T s h) = whoN T s (h % gH T)
        rw [if_neg h0, Nat.mod_eq_of_lt hh]
      · show whoN T s (h % gH T) ≠ -2
        rw [Nat.mod_eq_of_lt hh]; exact h0
theorem frN_at {T : GT} {s : GS} (hok : gok T s) {h : Nat} (hh : h < gH T) : ∃ j, j ≤ gH T ∧ frN T s h = whoN T s ((h + j) % gH T) ∧ whoN T s ((h + j) % gH T) ≠ -2 ∧ ∀ i, i < j → whoN T s ((h + i) % gH T) = -2 := by
  refine frF_step hok (gH T) h hh ?_
  have hp : 0 < gP T := hok.1.1
  have h0 := hok.2.2.1 0 hp
  have hw : whoN T s (s.1 0) ≠ -2 := by
    rw [whoN_of hok hp]; decide
  by_cases q : h ≤ s.1 0
  · refine ⟨s.1 0 - h, by omega, ?_⟩
    rw [show h + (s.1 0 - h) = s.1 0 by omega, Nat.mod_eq_of_lt h0]; exact hw
  · refine ⟨s.1 0 + gH T - h, by omega, ?_⟩
    rw [show h + (s.1 0 + gH T - h) = s.1 0 + gH T by omega, Nat.add_mod_right, Nat.mod_eq_of_lt h0]; exact hw
theorem frN_lt {T : GT} {s : GS} (hok : gok T s) {h : Nat} (hh : h < gH T) : ∃ p : Nat, p < gP T ∧ frN T s h = p := by
  obtain ⟨j, -, h2, h3, -⟩ := frN_at hok hh
  rw [h2]
  rcases whoN_at (T := T) (s := s) ((h + j) % gH T) with ⟨h4, -⟩ | ⟨q, h4, -, h6, -⟩
  · exact absurd h4 h3
  · exact ⟨q, h4, h6⟩
theorem earN_lt {T : GT} {s : GS} (hok : gok T s) (d n f : Nat) : ∃ p : Nat, p < gP T ∧ earN T s d n f = p :=
  frN_lt hok (Nat.mod_lt _ (by have := hok.1.2.2.2.1; omega))
