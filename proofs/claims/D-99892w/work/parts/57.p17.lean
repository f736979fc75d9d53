/-! PURE 17: what would be right with another slip -/
set_option maxRecDepth 100000
theorem lp_rel {σ α β : Type} {P : σ → Prop} {step : σ → σ ⊕ β} {F : (α → Prop) → α → Prop} {good : β → Prop} (R : σ → α → Prop) {z : σ} {r : β} (hr : Res step z r) (hz : P z) (hP : ∀ z z', P z → step z = .inl z' → P z') (hg : good r) (h : ∀ z x K, P z → R z x → (∀ z', step z = .inl z' → ∀ x', R z' x' → K x') → (∀ r, step z = .inr r → good r) → F K x) {x : α} (hx : R z x) : lp F x := by
  obtain ⟨n, hr⟩ := hr
  refine ⟨n, ?_⟩
  induction n generalizing z x with
  | zero => exact hr.elim
  | succ n ih =>
    unfold rsn at hr
    refine h _ _ _ hz hx (fun z' e x' hx' => ?_) fun r' e => ?_
    · rw [e] at hr; exact ih (hP _ _ hz e) hx' hr
    · rw [e] at hr
      have hr : r' = r := hr
      rw [hr]; exact hg
section P17
variable {tw : Option (Nat → Nat)} {S : MS} {tw' : Option TD} {S' : CS} {T : GT} {s : GS} {oT : Option GT}
def slS (s : GS) (d v : Nat) : GS := (s.1, fun e => if e = d then v else s.2.1 e, s.2.2)
theorem gok_sl (h : gok T s) {d v : Nat} (hv : v ≤ 39) : gok T (slS s d v) := by
  obtain ⟨h1, h2, h3, h4, h5, h6⟩ := h
  refine ⟨h1, h2, h3, h4, fun e he => ?_, h6⟩
  show (if e = d then v else s.2.1 e) ≤ 39
  by_cases c : e = d
  · rw [if_pos c]; exact hv
  · rw [if_neg c]; exact h5 e he
theorem e_slipFor (h : same tw S tw' S' oT s) (x y : Int32) : ∃ r t, Q6 S (fun p => w6_slipFor p tw S x y) r t ∧ Q1 S' (fun p => w1_slipFor p tw' S' x y) r t := by
  unfold w6_slipFor w1_slipFor
  refine e_dn h fun T _ hok d n hd hn e1 e2 => ?_
  subst e1 e2
  have hN := hok.1.2.2.1
  have hP := hok.1.2.1
  let step : Nat → Nat ⊕ Int32 := fun i => if 39 < i then .inr (-2) else if riN T (slS s d i) d n 0 = true then .inr (iI (i : Nat)) else .inl (i + 1)
  have hI : ∀ z z' : Nat, z ≤ 40 → step z = .inl z' → z' ≤ 40 ∧ 40 - z' < 40 - z := by
    intro z z' hi e
    dsimp only [step] at e
    by_cases c : 39 < z
    · rw [if_pos c] at e; cases e
    · rw [if_neg c] at e
      by_cases c2 : riN T (slS s d z) d n 0 = true
      · rw [if_pos c2] at e; cases e
      · rw [if_neg c2] at e; cases e; omega
  obtain ⟨r, hr⟩ := lp_two (fun z => z ≤ 40) (fun z => 40 - z) step hI 0 (Nat.zero_le _)
  refine ⟨r, fun post S1 k e0 hT hS hp => ?_, fun post S1 k e0 e1 hT hS hp => ?_⟩
  · refine s6_works fun S2 k2 e3 hw => ?_
    refine lp_rel (P := fun z : Nat => z ≤ 40) (fun (i : Nat) (x : MS × Int32) => x.2 = iI i ∧ K6 S x.1 ∧ x.1.1 0 0 = 0 ∧ mT tw x.1 T ∧ (∀ k, k < 19 → k ≠ 6 + d → x.1.1 3 k = S1.1 2 k)) hr (Nat.zero_le _) (fun z z' a b => (hI z z' a b).1) (good := fun r => ∀ S3, K6 S S3 → S3.1 0 0 = 0 → S3.1 0 1 = 0 → S3.1 0 2 = -1 → post r S3) hp ?_ ⟨rfl, k.trans k2, e3.trans e0, k2.T hT, fun k hk _ => hw k hk⟩
    rintro i ⟨S3, v⟩ K hi ⟨hv, k3, e4, hT3, hw3⟩ hK hg
    have hv : v = iI i := hv
    subst hv
    have hw3 : ∀ k, k < 19 → k ≠ 6 + d → S3.1 3 k = S1.1 2 k := hw3
    show f6_slipFor_33 post tw (iI d) (iI n) K S3 (iI i)
    unfold f6_slipFor_33
    dsimp only [step] at hK hg
    have e6 : (6 : Int32) + iI (d : Nat) = iI ((6 + d : Nat) : Int) := by rw [show (6 : Int32) = iI 6 from rfl, iI_add]; rfl
    rw [show (39 : Int32) = iI (39 : Nat) from rfl, iI_ltN (by omega) (by omega), e6, iI_clampN (by omega), iI_succ]
    refine ⟨fun c => s6_good fun S4 k4 e5 e6 e7 => hg _ (if_pos c) S4 (k3.trans k4) (e5.trans e4) e6 e7, fun c => ⟨iI_inN (by omega) (by omega), ?_⟩⟩
    rintro S10 rfl
    rw [if_neg c] at hK hg
    have k10 : K6 S3 (uI S3 3 (6 + d) (iI i)) := K6.uI (Or.inl rfl)
    have a10 : ∀ k, (uI S3 3 (6 + d) (iI i)).1 3 k = if k = 6 + d then iI i else S3.1 3 k := fun k => rfl
    have hS10 : mS 3 (uI S3 3 (6 + d) (iI i)) T (slS s d i) := by
      refine ⟨fun p hp => ?_, fun e he => ?_, fun e he => ?_⟩
      · rw [a10, if_neg (by omega), hw3 _ (by omega) (by omega)]; exact hS.1 p hp
      · rw [a10]
        show _ = iI ((if e = d then i else s.2.1 e : Nat) : Int)
        by_cases c : e = d
        · rw [if_pos (by omega), if_pos c]
        · rw [if_neg (by omega), if_neg c, hw3 _ (by omega) (by omega)]; exact hS.2.1 e he
      · rw [a10, if_neg (by omega), hw3 _ (by omega) (by omega)]; exact hS.2.2 e he
    refine s6_isRight (gok_sl hok (by omega)) (k10.T hT3) hS10 hd (by omega) ?_
    rw [b01_eq]
    refine ⟨fun c2 => hK _ (if_neg (by rw [c2]; decide)) _ ⟨rfl, k3.trans k10, e4, k10.T hT3, fun k hk hne => ?_⟩, fun c2 => ?_⟩
    · show (uI S3 3 (6 + d) (iI i)).1 3 k = _
      rw [a10, if_neg hne]; exact hw3 k hk hne
    · exact s6_good fun S4 k4 e5 e6 e7 => hg _ (if_pos ((Bool.not_eq_false _).mp c2)) S4 ((k3.trans k10).trans k4) (e5.trans e4) e6 e7
  · refine lp_rel (P := fun z : Nat => z ≤ 40) (fun (i : Nat) (x : CS × Int32) => x.2 = iI i ∧ K1 S1 x.1 ∧ x.1.1.1 0 = S1.1.1 0) hr (Nat.zero_le _) (fun z z' a b => (hI z z' a b).1) (good := fun r => ∀ S2, K1 S' S2 → S2.1.1 0 4 = 0 → S2.1.1 0 6 = -1 → post r S2) hp ?_ ⟨rfl, K1.refl _, rfl⟩
    rintro i ⟨S3, v⟩ K hi ⟨hv, k3, e4⟩ hK hg
    have hv : v = iI i := hv
    subst hv
    have k3 : K1 S1 S3 := k3
    have e4 : S3.1.1 0 = S1.1.1 0 := e4
    show f1_slipFor_28 post tw' (iI d) (iI n) K S3 (iI i)
    unfold f1_slipFor_28
    dsimp only [step] at hK hg
    rw [show (39 : Int32) = iI (39 : Nat) from rfl, iI_ltN (by omega) (by omega), iI_clampN (by omega), iI_succ]
    refine ⟨fun c => hg _ (if_pos c) S3 (k.trans k3) (by rw [e4]; exact e0) (by rw [e4]; exact e1), fun c => s4_try hok (k3.S hS) fun S4 k4 e5 hS4 _ => ⟨iI_inN (by omega) (by omega), ?_⟩⟩
    rintro S10 rfl
    rw [if_neg c] at hK hg
    have k10 : K1 S4 (sI S4 (300 + 4 * 2 + 3) d (iI i)) := K1.sI (by unfold sc1; omega)
    have kk : K1 S1 (sI S4 (300 + 4 * 2 + 3) d (iI i)) := (k3.trans k4).trans k10
    have o0 : (sI S4 (300 + 4 * 2 + 3) d (iI i)).1.1 0 = S1.1.1 0 := by
      show (sA S4 (300 + 4 * 2 + 3) (upd (S4.1.1 (300 + 4 * 2 + 3)) d (iI i))).1.1 0 = _
      rw [sA_ne (by omega), e5, e4]
    have hS10 : cS tw' 2 (sI S4 (300 + 4 * 2 + 3) d (iI i)) T (slS s d i) := by
      obtain ⟨⟨τ, t1, t2⟩, h1, h2, h3⟩ := hS4
      refine ⟨⟨τ, t1, t2⟩, fun p hp => ?_, fun e he => ?_, fun e he => ?_⟩
      · show (sA S4 (300 + 4 * 2 + 3) (upd (S4.1.1 (300 + 4 * 2 + 3)) d (iI i))).1.1 (300 + 4 * 2 + 1) p = _
        rw [sA_ne (by omega)]; exact h1 p hp
      · show (sA S4 (300 + 4 * 2 + 3) (upd (S4.1.1 (300 + 4 * 2 + 3)) d (iI i))).1.1 (300 + 4 * 2 + 3) e = iI ((if e = d then i else s.2.1 e : Nat) : Int)
        rw [sA_eq]
        show (if e = d then iI i else S4.1.1 (300 + 4 * 2 + 3) e) = _
        by_cases c : e = d
        · rw [if_pos c, if_pos c]
        · rw [if_neg c, if_neg c]; exact h2 e he
      · show (sA S4 (300 + 4 * 2 + 3) (upd (S4.1.1 (300 + 4 * 2 + 3)) d (iI i))).1.1 (300 + 4 * 2 + 2) e = _
        rw [sA_ne (by omega)]; exact h3 e he
    refine s4_isRight (f := 0) (gok_sl hok (by omega)) (kk.T hT) hS10 hd (by omega) (by omega) ?_
    rw [b01_eq]
    refine ⟨fun c2 => hK _ (if_neg (by rw [c2]; decide)) _ ⟨rfl, kk, o0⟩, fun c2 => ?_⟩
    exact hg _ (if_pos ((Bool.not_eq_false _).mp c2)) _ (k.trans kk) (by rw [o0]; exact e0) (by rw [o0]; exact e1)
end P17
