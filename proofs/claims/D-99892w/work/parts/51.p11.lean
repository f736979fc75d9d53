/-! PURE 11: more that is asked -/
set_option maxRecDepth 100000
section P11
variable {tw : Option (Nat → Nat)} {S : MS} {tw' : Option TD} {S' : CS} {s : GS} {oT : Option GT}
theorem e_nightsOf (h : same tw S tw' S' oT s) (x y : Int32) : ∃ r t, Q6 S (fun p => w6_nightsOf p tw S x y) r t ∧ Q1 S' (fun p => w1_nightsOf p tw' S' x y) r t := by
  obtain ⟨r, t, q6, q1⟩ := e_q h (gp oT x && gd oT y) (fun post S1 => w6_works (fun S6 => (lp (fun (K : (Int32 × Int32) → Prop) (z : (Int32 × Int32)) => f6_nightsOf_36 post tw S6 x y K z.1 z.2) (0, 0))) S1) (fun post S2 => lp (fun (K : (Int32 × Int32) → Prop) (z : (Int32 × Int32)) => f1_nightsOf_31 post tw' S2 x y K z.1 z.2) (0, 0)) (fun c => by
    have c2 := Bool.and_eq_true_iff.mp c
    cases oT with
    | none => exact absurd c2.1 (by simp [gp])
    | some T =>
    obtain ⟨p, hpp, rfl⟩ := inN_true c2.1
    obtain ⟨d, hd, rfl⟩ := inN_true c2.2
    have hok := h.1
    have hP := hok.1.2.1
    let step : Int32 × Nat → (Int32 × Nat) ⊕ Int32 := fun z => if 100 ≤ z.2 then .inr z.1 else if earN T s d z.2 0 = p then .inl (z.1 + 1, z.2 + 1) else .inl (z.1 + 0, z.2 + 1)
    have hI : ∀ z z' : Int32 × Nat, z.2 ≤ 100 → step z = .inl z' → z'.2 ≤ 100 ∧ 100 - z'.2 < 100 - z.2 := by
      intro z z' hi e
      dsimp only [step] at e
      by_cases c : 100 ≤ z.2
      · rw [if_pos c] at e; cases e
      · rw [if_neg c] at e
        by_cases c2 : earN T s d z.2 0 = p
        · rw [if_pos c2] at e; cases e; dsimp only; omega
        · rw [if_neg c2] at e; cases e; dsimp only; omega
    obtain ⟨r, hr⟩ := lp_two (fun z => z.2 ≤ 100) (fun z => 100 - z.2) step hI (0, 0) (Nat.zero_le _)
    refine ⟨T, rfl, r, fun post S1 k e0 hT hS hp => ?_, fun post S1 k e0 e1 hT hS hp => ?_⟩
    · refine s6_works fun S2 k2 e3 hw => ?_
      have hT2 := k2.T hT
      have hS2 := works_S hok hw hS
      refine lp_res (P := fun z : Int32 × Nat => z.2 ≤ 100) (fun z => (z.1, iI (z.2 : Nat))) hr (Nat.zero_le _) (fun z z' a b => (hI z z' a b).1) (good := fun r => ∀ S3, K6 S S3 → S3.1 0 0 = 0 → S3.1 0 1 = 0 → S3.1 0 2 = -1 → post r S3) hp ?_
      rintro ⟨c, i⟩ K hi hK hg
      have hi : i ≤ 100 := hi
      show f6_nightsOf_36 post tw S2 (iI p) (iI d) K c (iI i)
      unfold f6_nightsOf_36
      dsimp only [step] at hK hg
      rw [show (100 : Int32) = iI (100 : Nat) from rfl, iI_leN (by omega) (by omega), iI_succ]
      refine ⟨fun cc => ?_, fun cc => s6_whoHears hok hT2 hS2 hd (show i < 200 by omega) ?_⟩
      · exact s6_good fun S3 k3 e4 e5 e6 => hg _ (if_pos cc) S3 (k.trans (k2.trans k3)) (e4.trans (e3.trans e0)) e5 e6
      · rw [if_neg cc] at hK
        obtain ⟨q, hq, e⟩ := earN_lt hok d i 0
        rw [e] at hK ⊢
        rw [iI_eqN (by omega) (by omega)]
        exact ⟨fun c2 => hK (c + 0, i + 1) (if_neg (by omega)), fun c2 => hK (c + 1, i + 1) (if_pos (by omega))⟩
    · refine lp_res (P := fun z : Int32 × Nat => z.2 ≤ 100) (fun z => (z.1, iI (z.2 : Nat))) hr (Nat.zero_le _) (fun z z' a b => (hI z z' a b).1) (good := fun r => post r S1) (hp S1 k e0 e1) ?_
      rintro ⟨c, i⟩ K hi hK hg
      have hi : i ≤ 100 := hi
      show f1_nightsOf_31 post tw' S1 (iI p) (iI d) K c (iI i)
      unfold f1_nightsOf_31
      dsimp only [step] at hK hg
      rw [show (99 : Int32) = iI (99 : Nat) from rfl, iI_ltN (by omega) (by omega), iI_succ]
      refine ⟨fun cc => hg _ (if_pos (by omega)), fun cc => s4_ear (f := 0) hok hT hS hd (show i < 200 by omega) (by omega) ?_⟩
      rw [if_neg (show ¬ 100 ≤ i by omega)] at hK
      obtain ⟨q, hq, e⟩ := earN_lt hok d i 0
      rw [e] at hK ⊢
      rw [iI_eqN (by omega) (by omega)]
      exact ⟨fun c2 => hK (c + 0, i + 1) (if_neg (by omega)), fun c2 => hK (c + 1, i + 1) (if_pos (by omega))⟩)
  refine ⟨r, t, q6.mono fun post w => ?_, q1.mono fun post w => ?_⟩
  · have w := w (kU.m h.l)
    unfold w6_nightsOf
    rintro S1 rfl
    refine g6_person (kU.m h.l) ⟨fun c => w.2 (by rw [yb c]; rfl), fun c => g6_dead (kU.m h.l) ⟨fun c2 => w.1 (by rw [nb c, nb c2]; rfl), fun c2 => w.2 (by rw [yb c2, Bool.and_false])⟩⟩
  · have w := w (kA.m h.r)
    unfold w1_nightsOf w1_anew
    rintro S1 rfl S2 rfl
    refine g1_person (kA.m h.r) ⟨fun c => w.2 (by rw [yb c]; rfl), fun c => g1_dead (kA.m h.r) ⟨fun c2 => w.1 (by rw [nb c, nb c2]; rfl), fun c2 => w.2 (by rw [yb c2, Bool.and_false])⟩⟩
theorem e_together (h : same tw S tw' S' oT s) (x y : Int32) : ∃ r t, Q6 S (fun p => w6_together p tw S x y) r t ∧ Q1 S' (fun p => w1_together p tw' S' x y) r t := by
  obtain ⟨r, t, q6, q1⟩ := e_q h ((gd oT x && gd oT y) && decide (¬ x = y)) (fun post S1 => w6_works (fun S6 => (lp (fun (K : Int32 → Prop) (z : Int32) => f6_together_38 post tw S6 x y K z) 0)) S1) (fun post S2 => lp (fun (K : Int32 → Prop) (z : Int32) => f1_together_33 post tw' S2 x y K z) 0) (fun c => by
    have c2 := Bool.and_eq_true_iff.mp (Bool.and_eq_true_iff.mp c).1
    cases oT with
    | none => exact absurd c2.1 (by simp [gd])
    | some T =>
    obtain ⟨d, hd, rfl⟩ := inN_true c2.1
    obtain ⟨d', hd', rfl⟩ := inN_true c2.2
    have hok := h.1
    have hP := hok.1.2.1
    let step : Nat → Nat ⊕ Int32 := fun i => if 100 ≤ i then .inr (-2) else if earN T s d i 0 = earN T s d' i 0 then .inr (iI (i : Nat)) else .inl (i + 1)
    have hI : ∀ z z' : Nat, z ≤ 100 → step z = .inl z' → z' ≤ 100 ∧ 100 - z' < 100 - z := by
      intro z z' hi e
      dsimp only [step] at e
      by_cases c : 100 ≤ z
      · rw [if_pos c] at e; cases e
      · rw [if_neg c] at e
        by_cases c2 : earN T s d z 0 = earN T s d' z 0
        · rw [if_pos c2] at e; cases e
        · rw [if_neg c2] at e; cases e; omega
    obtain ⟨r, hr⟩ := lp_two (fun z => z ≤ 100) (fun z => 100 - z) step hI 0 (Nat.zero_le _)
    refine ⟨T, rfl, r, fun post S1 k e0 hT hS hp => ?_, fun post S1 k e0 e1 hT hS hp => ?_⟩
    · refine s6_works fun S2 k2 e3 hw => ?_
      have hT2 := k2.T hT
      have hS2 := works_S hok hw hS
      refine lp_res (P := fun z : Nat => z ≤ 100) (fun z : Nat => iI z) hr (Nat.zero_le _) (fun z z' a b => (hI z z' a b).1) (good := fun r => ∀ S3, K6 S S3 → S3.1 0 0 = 0 → S3.1 0 1 = 0 → S3.1 0 2 = -1 → post r S3) hp ?_
      intro i K hi hK hg
      show f6_together_38 post tw S2 (iI d) (iI d') K (iI i)
      unfold f6_together_38
      dsimp only [step] at hK hg
      rw [show (100 : Int32) = iI (100 : Nat) from rfl, iI_leN (by omega) (by omega), iI_succ]
      refine ⟨fun cc => ?_, fun cc => s6_whoHears hok hT2 hS2 hd (show i < 200 by omega) (s6_whoHears hok hT2 hS2 hd' (show i < 200 by omega) ?_)⟩
      · exact s6_good fun S3 k3 e4 e5 e6 => hg _ (if_pos cc) S3 (k.trans (k2.trans k3)) (e4.trans (e3.trans e0)) e5 e6
      · rw [if_neg cc] at hK hg
        obtain ⟨q, hq, e⟩ := earN_lt hok d i 0
        obtain ⟨q', hq', e'⟩ := earN_lt hok d' i 0
        rw [e, e'] at hK hg ⊢
        rw [iI_eqN (by omega) (by omega)]
        exact ⟨fun c2 => hK _ (if_neg (by omega)), fun c2 => s6_good fun S3 k3 e4 e5 e6 => hg _ (if_pos (by omega)) S3 (k.trans (k2.trans k3)) (e4.trans (e3.trans e0)) e5 e6⟩
    · refine lp_res (P := fun z : Nat => z ≤ 100) (fun z : Nat => iI z) hr (Nat.zero_le _) (fun z z' a b => (hI z z' a b).1) (good := fun r => post r S1) (hp S1 k e0 e1) ?_
      intro i K hi hK hg
      show f1_together_33 post tw' S1 (iI d) (iI d') K (iI i)
      unfold f1_together_33
      dsimp only [step] at hK hg
      rw [show (99 : Int32) = iI (99 : Nat) from rfl, iI_ltN (by omega) (by omega), iI_succ]
      refine ⟨fun cc => hg _ (if_pos (by omega)), fun cc => s4_ear (f := 0) hok hT hS hd (show i < 200 by omega) (by omega) (s4_ear (f := 0) hok hT hS hd' (show i < 200 by omega) (by omega) ?_)⟩
      rw [if_neg (show ¬ 100 ≤ i by omega)] at hK hg
      obtain ⟨q, hq, e⟩ := earN_lt hok d i 0
      obtain ⟨q', hq', e'⟩ := earN_lt hok d' i 0
      rw [e, e'] at hK hg ⊢
      rw [iI_eqN (by omega) (by omega)]
      exact ⟨fun c2 => hK _ (if_neg (by omega)), fun c2 => hg _ (if_pos (by omega))⟩)
  refine ⟨r, t, q6.mono fun post w => ?_, q1.mono fun post w => ?_⟩
  · have w := w (kU.m h.l)
    unfold w6_together
    rintro S1 rfl
    refine g6_dead (kU.m h.l) ⟨fun c => w.2 (by rw [yb c]; rfl), fun c => g6_dead (kU.m h.l) ⟨fun c2 => w.2 (by rw [yb c2, Bool.and_false]; rfl), fun c2 => ⟨fun c3 => w.1 (by rw [nb c, nb c2]; exact decide_eq_true c3), fun c3 => w.2 (by rw [decide_eq_false (fun c4 => c4 c3), Bool.and_false])⟩⟩⟩
  · have w := w (kA.m h.r)
    unfold w1_together w1_anew
    rintro S1 rfl S2 rfl
    refine g1_dead (kA.m h.r) ⟨fun c => w.2 (by rw [yb c]; rfl), fun c => g1_dead (kA.m h.r) ⟨fun c2 => w.2 (by rw [yb c2, Bool.and_false]; rfl), fun c2 => ⟨fun c3 => w.1 (by rw [nb c, nb c2]; exact decide_eq_true c3), fun c3 => w.2 (by rw [decide_eq_false (fun c4 => c4 c3), Bool.and_false])⟩⟩⟩
end P11
