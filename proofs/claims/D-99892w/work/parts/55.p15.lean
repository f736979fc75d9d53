/-! PURE 15: more that is asked -/
set_option maxRecDepth 100000
theorem pop_pos (f : Nat → Bool) {N : Nat} (hN : N ≤ 6) : -1 < pop (setB f N) := by
  have key : ∀ b0 b1 b2 b3 b4 b5 : Bool, (-1 : Int32) < pop (setB (fun d => match d with | 0 => b0 | 1 => b1 | 2 => b2 | 3 => b3 | 4 => b4 | _ => b5) 6) := by decide +kernel
  have eq : ∀ (g : Nat → Bool) (M : Nat), (∀ d, d < M → f d = g d) → setB f M = setB g M := by
    intro g M
    induction M with
    | zero => intro _; rfl
    | succ M ih =>
      intro h
      unfold setB
      rw [ih (fun d hd => h d (by omega)), h M (by omega)]
  have ext : ∀ (g : Nat → Bool) (M k : Nat), (∀ d, M ≤ d → g d = false) → setB g (M + k) = setB g M := by
    intro g M k h
    induction k with
    | zero => rfl
    | succ k ih =>
      show setB g (M + k + 1) = _
      unfold setB
      rw [h (M + k) (by omega), if_neg (by decide), ih]
      cases M with
      | zero => exact Int32.or_zero
      | succ M => exact Int32.or_zero
  have e1 := eq (fun d => if d < N then f d else false) N (fun d hd => by rw [if_pos hd])
  have e2 := ext (fun d => if d < N then f d else false) N (6 - N) (fun d hd => if_neg (by omega))
  rw [e1, ← e2, show N + (6 - N) = 6 by omega]
  exact key (if 0 < N then f 0 else false) (if 1 < N then f 1 else false) (if 2 < N then f 2 else false) (if 3 < N then f 3 else false) (if 4 < N then f 4 else false) (if 5 < N then f 5 else false)
section P15
variable {tw : Option (Nat → Nat)} {S : MS} {tw' : Option TD} {S' : CS} {s : GS} {oT : Option GT}
def rpN (T : GT) (s : GS) (n : Nat) : Int32 := pop (setB (fun d => riN T s d n 0) (gN T))
theorem e_bestNight (h : same tw S tw' S' oT s) : ∃ r t, Q6 S (fun p => w6_bestNight p tw S) r t ∧ Q1 S' (fun p => w1_bestNight p tw' S') r t := by
  obtain ⟨r, t, q6, q1⟩ := e_q h (gt oT) (fun post S1 => w6_works (fun S6 => (lp (fun (K : (Int32 × Int32 × Int32) → Prop) (z : (Int32 × Int32 × Int32)) => f6_bestNight_28 post tw S6 K z.1 z.2.1 z.2.2) (0, (-1), 0))) S1) (fun post S2 => lp (fun (K : (Int32 × Int32) → Prop) (z : (Int32 × Int32)) => f1_bestNight_21 post tw' S2 K z.1 z.2) (0, 1)) (fun c => by
    obtain ⟨T, rfl⟩ := gt_true c
    have hok := h.1
    have hN := hok.1.2.2.1
    let step : Nat × Nat → (Nat × Nat) ⊕ Int32 := fun z => if 100 ≤ z.2 then .inr (iI (z.1 : Nat)) else if rpN T s z.2 ≤ rpN T s z.1 then .inl (z.1, z.2 + 1) else .inl (z.2, z.2 + 1)
    have hI : ∀ z z' : Nat × Nat, z.1 < 100 ∧ z.2 ≤ 100 ∧ (z.2 = 0 → z.1 = 0) → step z = .inl z' → (z'.1 < 100 ∧ z'.2 ≤ 100 ∧ (z'.2 = 0 → z'.1 = 0)) ∧ 100 - z'.2 < 100 - z.2 := by
      intro z z' hi e
      dsimp only [step] at e
      by_cases c : 100 ≤ z.2
      · rw [if_pos c] at e; cases e
      · rw [if_neg c] at e
        by_cases c2 : rpN T s z.2 ≤ rpN T s z.1
        · rw [if_pos c2] at e; cases e; dsimp only; omega
        · rw [if_neg c2] at e; cases e; dsimp only; omega
    obtain ⟨r, hr⟩ := lp_two (fun z => z.1 < 100 ∧ z.2 ≤ 100 ∧ (z.2 = 0 → z.1 = 0)) (fun z => 100 - z.2) step hI (0, 1) ⟨by omega, by omega, fun _ => rfl⟩
    have hr0 : Res step (0, 0) r := by
      obtain ⟨m, hm⟩ := hr
      refine ⟨m + 1, ?_⟩
      unfold rsn
      have e : step (0, 0) = .inl (0, 1) := by
        dsimp only [step]
        rw [if_neg (by omega), if_pos (Int32.le_refl _)]
      rw [e]
      exact hm
    refine ⟨T, rfl, r, fun post S1 k e0 hT hS hp => ?_, fun post S1 k e0 e1 hT hS hp => ?_⟩
    · refine s6_works fun S2 k2 e3 hw => ?_
      have hT2 := k2.T hT
      have hS2 := works_S hok hw hS
      refine lp_res (P := fun z : Nat × Nat => z.1 < 100 ∧ z.2 ≤ 100 ∧ (z.2 = 0 → z.1 = 0)) (fun z => (iI (z.1 : Nat), if z.2 = 0 then -1 else rpN T s z.1, iI (z.2 : Nat))) hr0 ⟨by omega, by omega, fun _ => rfl⟩ (fun z z' a b => (hI z z' a b).1) (good := fun r => ∀ S3, K6 S S3 → S3.1 0 0 = 0 → S3.1 0 1 = 0 → S3.1 0 2 = -1 → post r S3) hp ?_
      rintro ⟨b, i⟩ K hi hK hg
      obtain ⟨hb, hi, h0⟩ : b < 100 ∧ i ≤ 100 ∧ (i = 0 → b = 0) := hi
      show f6_bestNight_28 post tw S2 K (iI b) (if i = 0 then -1 else rpN T s b) (iI i)
      unfold f6_bestNight_28
      dsimp only [step] at hK hg
      rw [show (100 : Int32) = iI (100 : Nat) from rfl, iI_leN (by omega) (by omega), iI_succ]
      refine ⟨fun cc => ?_, fun cc => s6_rightOn hok hT2 hS2 (show i < 200 by omega) (s6_bits ?_)⟩
      · exact s6_good fun S3 k3 e4 e5 e6 => hg _ (if_pos cc) S3 (k.trans (k2.trans k3)) (e4.trans (e3.trans e0)) e5 e6
      · rw [if_neg cc] at hK
        show ((if i = 0 then -1 else rpN T s b) < rpN T s i → _) ∧ (¬ (if i = 0 then -1 else rpN T s b) < rpN T s i → _)
        by_cases z : i = 0
        · subst z
          have hb0 := h0 rfl
          subst hb0
          rw [if_pos rfl]
          exact ⟨fun _ => hK (0, 0 + 1) (if_pos (Int32.le_refl _)), fun c2 => absurd (pop_pos _ hN) c2⟩
        · rw [if_neg z]
          refine ⟨fun c2 => hK (i, i + 1) (if_neg (Int32.not_le.mpr c2)), fun c2 => ?_⟩
          have := hK (b, i + 1) (if_pos (Int32.not_lt.mp c2))
          rw [if_neg (show ¬ ((b, i + 1) : Nat × Nat).2 = 0 from Nat.succ_ne_zero i)] at this
          exact this
    · refine lp_res (P := fun z : Nat × Nat => z.1 < 100 ∧ z.2 ≤ 100 ∧ (z.2 = 0 → z.1 = 0)) (fun z => (iI (z.1 : Nat), iI (z.2 : Nat))) hr ⟨by omega, by omega, fun _ => rfl⟩ (fun z z' a b => (hI z z' a b).1) (good := fun r => post r S1) (hp S1 k e0 e1) ?_
      rintro ⟨b, i⟩ K hi hK hg
      obtain ⟨hb, hi, h0⟩ : b < 100 ∧ i ≤ 100 ∧ (i = 0 → b = 0) := hi
      show f1_bestNight_21 post tw' S1 K (iI b) (iI i)
      unfold f1_bestNight_21
      dsimp only [step] at hK hg
      rw [show (99 : Int32) = iI (99 : Nat) from rfl, iI_ltN (by omega) (by omega), iI_succ]
      refine ⟨fun cc => hg _ (if_pos (by omega)), fun cc => s4_rightOnes hok hT hS (show i < 200 by omega) (s1_ones (s4_rightOnes hok hT hS (show b < 200 by omega) (s1_ones ?_)))⟩
      rw [if_neg (show ¬ 100 ≤ i by omega)] at hK
      exact ⟨fun c2 => hK (b, i + 1) (if_pos c2), fun c2 => hK (i, i + 1) (if_neg c2)⟩)
  refine ⟨r, t, q6.mono fun post w => ?_, q1.mono fun post w => ?_⟩
  · have w := w (kU.m h.l)
    unfold w6_bestNight
    rintro S1 rfl
    cases oT with
    | none => exact ⟨fun _ => w.2 rfl, fun ⟨t, c⟩ => by rw [show tw = none from h.1] at c; cases c⟩
    | some T =>
      obtain ⟨t, ht⟩ := h.2.1.1
      exact ⟨fun c => (by rw [ht] at c; cases c), fun _ => w.1 rfl⟩
  · have w := w (kA.m h.r)
    unfold w1_bestNight w1_anew
    rintro S1 rfl S2 rfl
    cases oT with
    | none => exact ⟨fun _ => w.2 rfl, fun ⟨t, c⟩ => by rw [show tw' = none from h.2] at c; cases c⟩
    | some T =>
      obtain ⟨t, ht⟩ := h.2.2.2.1.1
      exact ⟨fun c => (by rw [ht] at c; cases c), fun _ => w.1 rfl⟩
end P15
