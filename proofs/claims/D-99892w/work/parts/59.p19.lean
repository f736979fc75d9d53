/-! PURE 19: which mirror -/
set_option maxRecDepth 100000
section P19
variable {tw : Option (Nat → Nat)} {S : MS} {tw' : Option TD} {S' : CS} {T : GT} {s : GS} {oT : Option GT}
theorem e_mirrorFor (h : same tw S tw' S' oT s) (x y : Int32) : ∃ r t, Q6 S (fun p => w6_mirrorFor p tw S x y) r t ∧ Q1 S' (fun p => w1_mirrorFor p tw' S' x y) r t := by
  unfold w6_mirrorFor w1_mirrorFor
  refine e_dn h fun T _ hok d n hd hn e1 e2 => ?_
  subst e1 e2
  have hN := hok.1.2.2.1
  have hP := hok.1.2.1
  have hH := hok.1.2.2.2.2
  let step : Nat → Nat ⊕ Int32 := fun i => if gH T ≤ i then .inr (-2) else if riN T (miS s d i) d n 0 = true then .inr (iI (i : Nat)) else .inl (i + 1)
  have hI : ∀ z z' : Nat, z ≤ gH T → step z = .inl z' → z' ≤ gH T ∧ gH T - z' < gH T - z := by
    intro z z' hi e
    dsimp only [step] at e
    by_cases c : gH T ≤ z
    · rw [if_pos c] at e; cases e
    · rw [if_neg c] at e
      by_cases c2 : riN T (miS s d z) d n 0 = true
      · rw [if_pos c2] at e; cases e
      · rw [if_neg c2] at e; cases e; omega
  obtain ⟨r, hr⟩ := lp_two (fun z => z ≤ gH T) (fun z => gH T - z) step hI 0 (Nat.zero_le _)
  refine ⟨r, fun post S1 k e0 hT hS hp => ?_, fun post S1 k e0 e1 hT hS hp => ?_⟩
  · refine s6_works fun S2 k2 e3 hw => ?_
    refine lp_rel (P := fun z : Nat => z ≤ gH T) (fun (i : Nat) (x : MS × Int32) => x.2 = iI i ∧ K6 S x.1 ∧ x.1.1 0 0 = 0 ∧ mT tw x.1 T ∧ (∀ k, k < 19 → k ≠ 12 + d → x.1.1 3 k = S1.1 2 k)) hr (Nat.zero_le _) (fun z z' a b => (hI z z' a b).1) (good := fun r => ∀ S3, K6 S S3 → S3.1 0 0 = 0 → S3.1 0 1 = 0 → S3.1 0 2 = -1 → post r S3) hp ?_ ⟨rfl, k.trans k2, e3.trans e0, k2.T hT, fun k hk _ => hw k hk⟩
    rintro i ⟨S3, v⟩ K hi ⟨hv, k3, e4, hT3, hw3⟩ hK hg
    have hv : v = iI i := hv
    subst hv
    have hT3 : mT tw S3 T := hT3
    have hw3 : ∀ k, k < 19 → k ≠ 12 + d → S3.1 3 k = S1.1 2 k := hw3
    show f6_mirrorFor_33 post tw (iI d) (iI n) K S3 (iI i)
    unfold f6_mirrorFor_33
    dsimp only [step] at hK hg
    have e12 : (12 : Int32) + iI (d : Nat) = iI ((12 + d : Nat) : Int) := by rw [show (12 : Int32) = iI 12 from rfl, iI_add]; rfl
    rw [hT3.2.2.2.1, iI_leN (by omega) (by omega), e12, iI_clampN (by omega), iI_succ]
    refine ⟨hT3.1, fun c => s6_good fun S4 k4 e5 e6 e7 => hg _ (if_pos c) S4 (k3.trans k4) (e5.trans e4) e6 e7, fun c => ⟨iI_inN (by omega) (by omega), ?_⟩⟩
    rintro S10 rfl
    rw [if_neg c] at hK hg
    have k10 : K6 S3 (uI S3 3 (12 + d) (iI i)) := K6.uI (Or.inl rfl)
    have a10 : ∀ k, (uI S3 3 (12 + d) (iI i)).1 3 k = if k = 12 + d then iI i else S3.1 3 k := fun k => rfl
    have hS10 : mS 3 (uI S3 3 (12 + d) (iI i)) T (miS s d i) := by
      refine ⟨fun p hp => ?_, fun e he => ?_, fun e he => ?_⟩
      · rw [a10, if_neg (by omega), hw3 _ (by omega) (by omega)]; exact hS.1 p hp
      · rw [a10, if_neg (by omega), hw3 _ (by omega) (by omega)]; exact hS.2.1 e he
      · rw [a10]
        show _ = iI (if e = d then (i : Int) else s.2.2 e)
        by_cases c : e = d
        · rw [if_pos (by omega), if_pos c]
        · rw [if_neg (by omega), if_neg c, hw3 _ (by omega) (by omega)]; exact hS.2.2 e he
    refine s6_isRight (gok_mi hok (Or.inr ⟨by omega, by omega⟩)) (k10.T hT3) hS10 hd (by omega) ?_
    rw [b01_eq]
    refine ⟨fun c2 => hK _ (if_neg (by rw [c2]; decide)) _ ⟨rfl, k3.trans k10, e4, k10.T hT3, fun k hk hne => ?_⟩, fun c2 => ?_⟩
    · show (uI S3 3 (12 + d) (iI i)).1 3 k = _
      rw [a10, if_neg hne]; exact hw3 k hk hne
    · exact s6_good fun S4 k4 e5 e6 e7 => hg _ (if_pos ((Bool.not_eq_false _).mp c2)) S4 ((k3.trans k10).trans k4) (e5.trans e4) e6 e7
  · refine lp_rel (P := fun z : Nat => z ≤ gH T) (fun (i : Nat) (x : CS × Int32) => x.2 = iI i ∧ K1 S1 x.1 ∧ x.1.1.1 0 = S1.1.1 0) hr (Nat.zero_le _) (fun z z' a b => (hI z z' a b).1) (good := fun r => ∀ S2, K1 S' S2 → S2.1.1 0 4 = 0 → S2.1.1 0 6 = -1 → post r S2) hp ?_ ⟨rfl, K1.refl _, rfl⟩
    rintro i ⟨S3, v⟩ K hi ⟨hv, k3, e4⟩ hK hg
    have hv : v = iI i := hv
    subst hv
    have k3 : K1 S1 S3 := k3
    have e4 : S3.1.1 0 = S1.1.1 0 := e4
    show f1_mirrorFor_28 post tw' (iI d) (iI n) K S3 (iI i)
    unfold f1_mirrorFor_28
    dsimp only [step] at hK hg
    rw [(k3.T hT).2.2.2.2.2.2.1, iI_leN (by omega) (by omega), iI_succ]
    refine ⟨hT.1, fun c => hg _ (if_pos c) S3 (k.trans k3) (by rw [e4]; exact e0) (by rw [e4]; exact e1), fun c => s1_mirrored hok (k3.T hT) (k3.S hS) hd (show i < gH T by omega) (by omega) (by omega) fun S4 k4 e5 => ?_⟩
    rw [if_neg c] at hK hg
    rw [show n + 1 - n = 1 by omega]
    cases c2 : riN T (miS s d i) d n 0 with
    | false =>
      rw [show cntB (fun n => riN T (miS s d i) d n 0) n 1 = 0 by
        show (if riN T (miS s d i) d n 0 = true then _ else _) = _
        rw [c2]; rfl]
      exact ⟨fun _ => hK _ (if_neg (by rw [c2]; decide)) _ ⟨rfl, k3.trans k4, e5.trans e4⟩, fun c3 => absurd (by decide) c3⟩
    | true =>
      rw [show cntB (fun n => riN T (miS s d i) d n 0) n 1 = 1 by
        show (if riN T (miS s d i) d n 0 = true then _ else _) = _
        rw [c2]; rfl]
      exact ⟨fun c3 => absurd c3 (by decide), fun _ => hg _ (if_pos c2) S4 (k.trans (k3.trans k4)) (by rw [e5, e4]; exact e0) (by rw [e5, e4]; exact e1)⟩
end P19
