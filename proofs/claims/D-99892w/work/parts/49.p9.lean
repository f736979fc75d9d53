/-! PURE 9: more that is asked -/
set_option maxRecDepth 100000
section P9
variable {tw : Option (Nat → Nat)} {S : MS} {tw' : Option TD} {S' : CS} {s : GS} {oT : Option GT}
/-- those of the dead whom one hears on a night -/
def heN (T : GT) (s : GS) (p n : Nat) : Int32 := setB (fun d => earN T s d n 0 = p) (gN T)
theorem e_medium (h : same tw S tw' S' oT s) (y : Int32) : ∃ r t, Q6 S (fun p => w6_medium p tw S y) r t ∧ Q1 S' (fun p => w1_medium p tw' S' y) r t := by
  unfold w6_medium w1_medium j6_medium_18 j1_medium_17
  refine e_n h fun T _ hok n hn e => ?_
  subst e
  have hP1 := hok.1.1
  have hP := hok.1.2.1
  let step : Nat × Nat → (Nat × Nat) ⊕ Int32 := fun z => if gP T ≤ z.2 then .inr (iI (z.1 : Nat)) else if pop (heN T s z.2 n) ≤ pop (heN T s z.1 n) then .inl (z.1, z.2 + 1) else .inl (z.2, z.2 + 1)
  have hI : ∀ z z' : Nat × Nat, z.1 < gP T ∧ z.2 ≤ gP T → step z = .inl z' → (z'.1 < gP T ∧ z'.2 ≤ gP T) ∧ gP T - z'.2 < gP T - z.2 := by
    intro z z' hi e
    dsimp only [step] at e
    by_cases c : gP T ≤ z.2
    · rw [if_pos c] at e; cases e
    · rw [if_neg c] at e
      by_cases c2 : pop (heN T s z.2 n) ≤ pop (heN T s z.1 n)
      · rw [if_pos c2] at e; cases e; dsimp only; omega
      · rw [if_neg c2] at e; cases e; dsimp only; omega
  obtain ⟨r, hr⟩ := lp_two (fun z => z.1 < gP T ∧ z.2 ≤ gP T) (fun z => gP T - z.2) step hI (0, 1) ⟨by omega, by omega⟩
  refine ⟨r, fun post S1 k e0 hT hS hp => ?_, fun post S1 k e0 e1 hT hS hp => ?_⟩
  · refine s6_works fun S2 k2 e3 hw => ?_
    have hT2 := k2.T hT
    have hS2 := works_S hok hw hS
    refine lp_res (P := fun z : Nat × Nat => z.1 < gP T ∧ z.2 ≤ gP T) (fun z => (iI (z.1 : Nat), iI (z.2 : Nat))) hr ⟨by omega, by omega⟩ (fun z z' a b => (hI z z' a b).1) (good := fun r => ∀ S3, K6 S S3 → S3.1 0 0 = 0 → S3.1 0 1 = 0 → S3.1 0 2 = -1 → post r S3) hp ?_
    rintro ⟨b, i⟩ K hi hK hg
    obtain ⟨hb, hi⟩ : b < gP T ∧ i ≤ gP T := hi
    show f6_medium_42 post tw S2 (iI n) K (iI b) (iI i)
    unfold f6_medium_42
    dsimp only [step] at hK hg
    rw [hT2.2.1, iI_leN (by omega) (by omega), iI_succ]
    refine ⟨hT2.1, fun cc => ?_, fun cc => s6_heardOf hok hT2 hS2 (by omega) (by omega) (s6_bits (s6_heardOf hok hT2 hS2 hb (by omega) (s6_bits ⟨fun c2 => ?_, fun c2 => ?_⟩)))⟩
    · exact s6_good fun S3 k3 e4 e5 e6 => hg _ (if_pos cc) S3 (k.trans (k2.trans k3)) (e4.trans (e3.trans e0)) e5 e6
    · rw [if_neg cc] at hK; exact hK (b, i + 1) (if_pos c2)
    · rw [if_neg cc] at hK; exact hK (i, i + 1) (if_neg c2)
  · refine lp_res (P := fun z : Nat × Nat => z.1 < gP T ∧ z.2 ≤ gP T) (fun z => (iI (z.1 : Nat), iI (z.2 : Nat))) hr ⟨by omega, by omega⟩ (fun z z' a b => (hI z z' a b).1) (good := fun r => post r S1) (hp S1 k e0 e1) ?_
    rintro ⟨b, i⟩ K hi hK hg
    obtain ⟨hb, hi⟩ : b < gP T ∧ i ≤ gP T := hi
    show f1_medium_37 post tw' S1 (iI n) K (iI b) (iI i)
    unfold f1_medium_37
    dsimp only [step] at hK hg
    rw [hT.2.2.2.2.1, iI_leN (by omega) (by omega), iI_succ]
    refine ⟨hT.1, fun cc => hg _ (if_pos cc), fun cc => s4_heard hok hT hS (by omega) (by omega) (s1_ones (s4_heard hok hT hS hb (by omega) (s1_ones ⟨fun c2 => ?_, fun c2 => ?_⟩)))⟩
    · rw [if_neg cc] at hK; exact hK (b, i + 1) (if_pos c2)
    · rw [if_neg cc] at hK; exact hK (i, i + 1) (if_neg c2)
theorem e_off (h : same tw S tw' S' oT s) (x y : Int32) : ∃ r t, Q6 S (fun p => w6_off p tw S x y) r t ∧ Q1 S' (fun p => w1_off p tw' S' x y) r t := by
  unfold w6_off w1_off
  refine e_dn h fun T _ hok d n hd hn e1 e2 => ?_
  subst e1 e2
  have hO := (hok.2.1 d hd).2
  have hb := hok.2.2.1 _ hO
  have hH1 := hok.1.2.2.2.1
  have hH2 := hok.1.2.2.2.2
  have hP := hok.1.2.1
  obtain ⟨q, hq, e⟩ := earN_lt hok d n 0
  have hb2 := hok.2.2.1 q hq
  have ho := outN_lt hok d (s.1 (gO T d)) n
  refine ⟨iI (((s.1 q : Int) - outN T s d (s.1 (gO T d)) n) % gH T), fun post S1 k e0 hT hS hp => ?_, fun post S1 k e0 e1 hT hS hp => ?_⟩
  · refine s6_works fun S2 k2 e3 hw => ?_
    have hT2 := k2.T hT
    have hS2 := works_S hok hw hS
    refine s6_whoHears hok hT2 hS2 hd (by omega) ?_
    rw [e, iI_clampN (by omega), hS2.1 q hq]
    refine ⟨iI_inN (by omega) (by omega), s6_aimOf hok hT2 hS2 hd (s6_outOf hok hT2 hS2 hd (by omega) (by omega) ?_)⟩
    rw [iI_sub, iI_l (by omega) (by omega)]
    exact s6_around hH1 hH2 hT2 (by omega) (by omega) (s6_good fun S3 k3 e4 e5 e6 => hp S3 (k.trans (k2.trans k3)) (e4.trans (e3.trans e0)) e5 e6)
  · refine s4_ear (f := 0) hok hT hS hd (by omega) (by omega) ?_
    rw [e, iI_clampN (by omega), hS.2.1 q hq, hT.2.2.2.2.2.2.1]
    refine ⟨iI_inN (by omega) (by omega), s4_aimed hok hT hS hd (s4_out hok hT hS hd (by omega) (by omega) ⟨hT.1, ?_⟩)⟩
    rw [iI_l (z := (s.1 q : Int)) (by omega) (by omega), iI_l (z := (outN T s d (s.1 (gO T d)) n : Int)) (by omega) (by omega), lI_sub]
    exact s1_wrap (by omega) (by omega) (by omega) (by omega) (hp S1 k e0 e1)
end P9
