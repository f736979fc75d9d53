/-! PURE 20: the best mirror -/
set_option maxRecDepth 100000
theorem cntB_in (f : Nat → Bool) (a : Nat) : ∀ i, ∃ m, m ≤ i ∧ cntB f a i = iI (m : Nat) := by
  intro i
  induction i with
  | zero => exact ⟨0, Nat.le_refl _, rfl⟩
  | succ i ih =>
    obtain ⟨m, h1, h2⟩ := ih
    unfold cntB
    rw [h2]
    by_cases c : f (a + i) = true
    · rw [if_pos c, iI_succ]; exact ⟨m + 1, by omega, rfl⟩
    · rw [if_neg c, show (0 : Int32) = iI (0 : Int) from rfl, iI_add, Int.add_zero]; exact ⟨m, by omega, rfl⟩
section P20
variable {tw : Option (Nat → Nat)} {S : MS} {tw' : Option TD} {S' : CS} {T : GT} {s : GS} {oT : Option GT}
def rmN (T : GT) (s : GS) (d h : Nat) : Int32 := cntB (fun n => riN T (miS s d h) d n 0) 0 100
theorem rmN_pos (d h : Nat) : -1 < rmN T s d h := by
  obtain ⟨m, h1, h2⟩ := cntB_in (fun n => riN T (miS s d h) d n 0) 0 100
  unfold rmN
  rw [h2, show (-1 : Int32) = iI (-1) from rfl, iI_lt (by omega) (by omega) (by omega) (by omega)]
  omega
theorem e_mirrorBest (h : same tw S tw' S' oT s) (x : Int32) : ∃ r t, Q6 S (fun p => w6_mirrorBest p tw S x) r t ∧ Q1 S' (fun p => w1_mirrorBest p tw' S' x) r t := by
  obtain ⟨r, t, q6, q1⟩ := e_q h (gd oT x) (fun post S1 => w6_works (fun S5 => (lp (fun (K : (MS × Int32 × Int32 × Int32) → Prop) (z : (MS × Int32 × Int32 × Int32)) => f6_mirrorBest_30 post tw x K z.1 z.2.1 z.2.2.1 z.2.2.2) (S5, 0, (-1), 0))) S1) (fun post S2 => lp (fun (K : (CS × Int32 × Int32) → Prop) (z : (CS × Int32 × Int32)) => f1_mirrorBest_22 post tw' x K z.1 z.2.1 z.2.2) (S2, 0, 1)) (fun c => by
    cases oT with
    | none => cases c
    | some T =>
    obtain ⟨d, hd, rfl⟩ := inN_true (show inN (gN T) x = true from c)
    have hok := h.1
    have hN := hok.1.2.2.1
    have hP := hok.1.2.1
    have hH2 := hok.1.2.2.2.1
    have hH := hok.1.2.2.2.2
    let step : Nat × Nat → (Nat × Nat) ⊕ Int32 := fun z => if gH T ≤ z.2 then .inr (iI (z.1 : Nat)) else if rmN T s d z.2 ≤ rmN T s d z.1 then .inl (z.1, z.2 + 1) else .inl (z.2, z.2 + 1)
    have hI : ∀ z z' : Nat × Nat, z.1 < gH T ∧ z.2 ≤ gH T ∧ (z.2 = 0 → z.1 = 0) → step z = .inl z' → (z'.1 < gH T ∧ z'.2 ≤ gH T ∧ (z'.2 = 0 → z'.1 = 0)) ∧ gH T - z'.2 < gH T - z.2 := by
      intro z z' hi e
      dsimp only [step] at e
      by_cases c : gH T ≤ z.2
      · rw [if_pos c] at e; cases e
      · rw [if_neg c] at e
        by_cases c2 : rmN T s d z.2 ≤ rmN T s d z.1
        · rw [if_pos c2] at e; cases e; dsimp only; omega
        · rw [if_neg c2] at e; cases e; dsimp only; omega
    obtain ⟨r, hr⟩ := lp_two (fun z => z.1 < gH T ∧ z.2 ≤ gH T ∧ (z.2 = 0 → z.1 = 0)) (fun z => gH T - z.2) step hI (0, 1) ⟨by omega, by omega, fun _ => rfl⟩
    have hr0 : Res step (0, 0) r := by
      obtain ⟨m, hm⟩ := hr
      refine ⟨m + 1, ?_⟩
      unfold rsn
      have e : step (0, 0) = .inl (0, 1) := by
        dsimp only [step]
        rw [if_neg (by omega), if_pos (Int32.le_refl _)]
      rw [e]
      exact hm
    refine ⟨T, rfl, r, fun post S1 k e0 hT hS hp => ?_, fun post S1 k e0 e1 hT hS hp => ?_⟩
    · refine s6_works fun S2 k2 e3 hw => ?_
      refine lp_rel (P := fun z : Nat × Nat => z.1 < gH T ∧ z.2 ≤ gH T ∧ (z.2 = 0 → z.1 = 0)) (fun (z : Nat × Nat) (x : MS × Int32 × Int32 × Int32) => x.2 = (iI z.1, if z.2 = 0 then -1 else rmN T s d z.1, iI z.2) ∧ K6 S x.1 ∧ x.1.1 0 0 = 0 ∧ mT tw x.1 T ∧ (∀ k, k < 19 → k ≠ 12 + d → x.1.1 3 k = S1.1 2 k)) hr0 ⟨by omega, by omega, fun _ => rfl⟩ (fun z z' a b => (hI z z' a b).1) (good := fun r => ∀ S3, K6 S S3 → S3.1 0 0 = 0 → S3.1 0 1 = 0 → S3.1 0 2 = -1 → post r S3) hp ?_ ⟨rfl, k.trans k2, e3.trans e0, k2.T hT, fun k hk _ => hw k hk⟩
      rintro ⟨b, i⟩ ⟨S3, v⟩ K hi ⟨hv, k3, e4, hT3, hw3⟩ hK hg
      have hv : v = (iI b, if i = 0 then -1 else rmN T s d b, iI i) := hv
      subst hv
      obtain ⟨hb, hi, h0⟩ : b < gH T ∧ i ≤ gH T ∧ (i = 0 → b = 0) := hi
      have hT3 : mT tw S3 T := hT3
      have hw3 : ∀ k, k < 19 → k ≠ 12 + d → S3.1 3 k = S1.1 2 k := hw3
      show f6_mirrorBest_30 post tw (iI d) K S3 (iI b) (if i = 0 then -1 else rmN T s d b) (iI i)
      unfold f6_mirrorBest_30
      dsimp only [step] at hK hg
      have e12 : (12 : Int32) + iI (d : Nat) = iI ((12 + d : Nat) : Int) := by rw [show (12 : Int32) = iI 12 from rfl, iI_add]; rfl
      rw [hT3.2.2.2.1, iI_leN (by omega) (by omega), e12, iI_clampN (by omega)]
      refine ⟨hT3.1, fun c => s6_good fun S4 k4 e5 e6 e7 => hg _ (if_pos c) S4 (k3.trans k4) (e5.trans e4) e6 e7, fun c => ⟨iI_inN (by omega) (by omega), ?_⟩⟩
      rintro S10 rfl
      rw [if_neg c] at hK
      have k10 : K6 S3 (uI S3 3 (12 + d) (iI i)) := K6.uI (Or.inl rfl)
      have a10 : ∀ k, (uI S3 3 (12 + d) (iI i)).1 3 k = if k = 12 + d then iI i else S3.1 3 k := fun k => rfl
      have w10 : ∀ k, k < 19 → k ≠ 12 + d → (uI S3 3 (12 + d) (iI i)).1 3 k = S1.1 2 k := fun k hk hne => by rw [a10, if_neg hne]; exact hw3 k hk hne
      have hS10 : mS 3 (uI S3 3 (12 + d) (iI i)) T (miS s d i) := by
        refine ⟨fun p hp => ?_, fun e he => ?_, fun e he => ?_⟩
        · rw [w10 _ (by omega) (by omega)]; exact hS.1 p hp
        · rw [w10 _ (by omega) (by omega)]; exact hS.2.1 e he
        · show _ = iI (if e = d then (i : Int) else s.2.2 e)
          by_cases c : e = d
          · rw [a10, if_pos (by omega), if_pos c]
          · rw [w10 _ (by omega) (by omega), if_neg c]; exact hS.2.2 e he
      refine lp_up 100 (fun j => (cntB (fun n => riN T (miS s d i) d n 0) 0 j, iI (j : Nat))) rfl (fun j hj K' hK' => ?_) (fun K' => ?_)
      · show f6_mirrorBest_59 tw K _ (iI d) (iI b) _ (iI i) K' (cntB (fun n => riN T (miS s d i) d n 0) 0 j) (iI j)
        unfold f6_mirrorBest_59
        rw [show (100 : Int32) = iI (100 : Nat) from rfl, iI_leN (by omega) (by omega), iI_succ, iI_succ]
        refine ⟨fun c => absurd c (by omega), fun _ => s6_isRight (gok_mi hok (Or.inr ⟨by omega, by omega⟩)) (k10.T hT3) hS10 hd (by omega) ?_⟩
        rw [b01_eq]
        rw [cntB, Nat.zero_add] at hK'
        refine ⟨fun c => ?_, fun c => ?_⟩
        · rw [if_neg (by rw [c]; decide)] at hK'; exact hK'
        · rw [if_pos ((Bool.not_eq_false _).mp c)] at hK'; exact hK'
      · show f6_mirrorBest_59 tw K _ (iI d) (iI b) (if i = 0 then -1 else rmN T s d b) (iI i) K' (rmN T s d i) (iI (100 : Nat))
        unfold f6_mirrorBest_59
        rw [show (100 : Int32) = iI (100 : Nat) from rfl, iI_leN (by omega) (by omega), iI_succ]
        refine ⟨fun _ => ?_, fun c => absurd (Nat.le_refl _) c⟩
        by_cases z : i = 0
        · subst z
          have hb0 := h0 rfl
          subst hb0
          rw [if_pos rfl]
          exact ⟨fun _ => hK (0, 0 + 1) (if_pos (Int32.le_refl _)) _ ⟨rfl, k3.trans k10, e4, k10.T hT3, w10⟩, fun c2 => absurd (rmN_pos d 0) c2⟩
        · rw [if_neg z]
          exact ⟨fun c2 => hK (i, i + 1) (if_neg (Int32.not_le.mpr c2)) _ ⟨rfl, k3.trans k10, e4, k10.T hT3, w10⟩, fun c2 => hK (b, i + 1) (if_pos (Int32.not_lt.mp c2)) _ ⟨rfl, k3.trans k10, e4, k10.T hT3, w10⟩⟩
    · refine lp_rel (P := fun z : Nat × Nat => z.1 < gH T ∧ z.2 ≤ gH T ∧ (z.2 = 0 → z.1 = 0)) (fun (z : Nat × Nat) (x : CS × Int32 × Int32) => x.2 = (iI z.1, iI z.2) ∧ K1 S1 x.1 ∧ x.1.1.1 0 = S1.1.1 0) hr ⟨by omega, by omega, fun _ => rfl⟩ (fun z z' a b => (hI z z' a b).1) (good := fun r => ∀ S2, K1 S' S2 → S2.1.1 0 4 = 0 → S2.1.1 0 6 = -1 → post r S2) hp ?_ ⟨rfl, K1.refl _, rfl⟩
      rintro ⟨b, i⟩ ⟨S3, v⟩ K hi ⟨hv, k3, e4⟩ hK hg
      have hv : v = (iI b, iI i) := hv
      subst hv
      obtain ⟨hb, hi, h0⟩ : b < gH T ∧ i ≤ gH T ∧ (i = 0 → b = 0) := hi
      have k3 : K1 S1 S3 := k3
      have e4 : S3.1.1 0 = S1.1.1 0 := e4
      show f1_mirrorBest_22 post tw' (iI d) K S3 (iI b) (iI i)
      unfold f1_mirrorBest_22
      dsimp only [step] at hK hg
      rw [(k3.T hT).2.2.2.2.2.2.1, iI_leN (by omega) (by omega), iI_succ]
      refine ⟨hT.1, fun c => hg _ (if_pos c) S3 (k.trans k3) (by rw [e4]; exact e0) (by rw [e4]; exact e1), fun c => ?_⟩
      rw [if_neg c] at hK
      refine s1_mirrored (a := 0) (b := 99) hok (k3.T hT) (k3.S hS) hd (show i < gH T by omega) (by omega) (by omega) fun S4 k4 e5 => ?_
      refine s1_mirrored (a := 0) (b := 99) hok ((k3.trans k4).T hT) ((k3.trans k4).S hS) hd hb (by omega) (by omega) fun S5 k5 e6 => ?_
      exact ⟨fun c2 => hK (b, i + 1) (if_pos c2) _ ⟨rfl, (k3.trans k4).trans k5, e6.trans (e5.trans e4)⟩, fun c2 => hK (i, i + 1) (if_neg c2) _ ⟨rfl, (k3.trans k4).trans k5, e6.trans (e5.trans e4)⟩⟩)
  refine ⟨r, t, q6.mono fun post w => ?_, q1.mono fun post w => ?_⟩
  · have w := w (kU.m h.l)
    unfold w6_mirrorBest
    rintro S1 rfl
    exact g6_dead (kU.m h.l) ⟨fun c => w.1 (nb c), fun c => w.2 (yb c)⟩
  · have w := w (kA.m h.r)
    unfold w1_mirrorBest w1_anew
    rintro S1 rfl S2 rfl
    exact g1_dead (kA.m h.r) ⟨fun c => w.1 (nb c), fun c => w.2 (yb c)⟩
end P20
