/-! PURE 8: more that is asked -/
set_option maxRecDepth 100000
section P8
variable {tw : Option (Nat → Nat)} {S : MS} {tw' : Option TD} {S' : CS} {s : GS} {oT : Option GT}
/-- a dead, a house, a night -/
theorem e_dhn (h : same tw S tw' S' oT s) {x1 x2 y : Int32} {B6 : (Int32 → MS → Prop) → MS → Prop} {B1 : (Int32 → CS → Prop) → CS → Prop}
    (H : ∀ T, oT = some T → gok T s → ∀ d a n, d < gN T → a < gH T → n < 100 → x1 = iI (d : Nat) → x2 = iI (a : Nat) → y = iI (n : Nat) → Body tw S tw' S' T s B6 B1) :
    ∃ r t, Q6 S (fun post => ∀ S1, S1 = uI S 0 0 0 → w6_isDead (fun r2 => (r2 = 0 → w6_refusesNight (fun r3 => (r3 ≤ 0 → B6 post S1) ∧ (¬ r3 ≤ 0 → w6_refused (fun r10 S11 => post r10 S11) S1 r3)) S1 0 y) ∧ (¬ r2 = 0 → w6_isHouse (fun r13 => (r13 = 0 → w6_refusesNight (fun r3 => (r3 ≤ 0 → B6 post S1) ∧ (¬ r3 ≤ 0 → w6_refused (fun r10 S11 => post r10 S11) S1 r3)) S1 0 y) ∧ (¬ r13 = 0 → w6_refusesNight (fun r3 => (r3 ≤ 0 → B6 post S1) ∧ (¬ r3 ≤ 0 → w6_refused (fun r10 S11 => post r10 S11) S1 r3)) S1 1 y)) tw S1 x2)) tw S1 x1) r t ∧
      Q1 S' (fun post => w1_anew (fun S2 => w1_isDead (fun r3 => (r3 = 0 → w1_nightWhy (fun r4 => (r4 = 0 → B1 post S2) ∧ (¬ r4 = 0 → w1_no (fun r7 S8 => post r7 S8) S2 r4)) S2 0 y) ∧ (¬ r3 = 0 → w1_isHouse (fun r10 => (r10 = 0 → w1_nightWhy (fun r4 => (r4 = 0 → B1 post S2) ∧ (¬ r4 = 0 → w1_no (fun r7 S8 => post r7 S8) S2 r4)) S2 0 y) ∧ (¬ r10 = 0 → w1_nightWhy (fun r4 => (r4 = 0 → B1 post S2) ∧ (¬ r4 = 0 → w1_no (fun r7 S8 => post r7 S8) S2 r4)) S2 1 y)) tw' S2 x2)) tw' S2 x1) S') r t := by
  have hb : K6 S (uI S 0 0 0) := K6.uI (by unfold sc6; omega)
  have k : K1 S' (sI (sI S' 0 4 0) 0 6 (-1)) := (K1.sI (by unfold sc1; omega)).trans (K1.sI (by unfold sc1; omega))
  obtain ⟨r, t, q6, q1⟩ := e_why (B6 := B6) (B1 := B1) h (gw_in (gd oT x1 && gh oT x2) y) (fun c => by
    obtain ⟨c1, n, hn, rfl⟩ := gw_0 c
    have c2 := Bool.and_eq_true_iff.mp c1
    cases oT with
    | none => exact absurd c2.1 (by simp [gd])
    | some T =>
      obtain ⟨d, hd, rfl⟩ := inN_true c2.1
      obtain ⟨a, ha, rfl⟩ := inN_true c2.2
      exact ⟨T, rfl, H T rfl h.1 d a n hd ha hn rfl rfl rfl⟩)
  refine ⟨r, t, q6.mono fun post w => ?_, q1.mono fun post w => ?_⟩
  · rintro S1 rfl
    have w := w _ rfl
    refine g6_dead (hb.m h.l) ⟨fun c => ?_, fun c => g6_house (hb.m h.l) ⟨fun c2 => ?_, fun c2 => ?_⟩⟩
    · rw [(b01_eq _).mp c] at w; exact g6_night (b := false) w
    · rw [(b01_eq _).mp c2, Bool.and_false] at w; exact g6_night (b := false) w
    · rw [b01_eq] at c c2
      rw [(Bool.not_eq_false _).mp c, (Bool.not_eq_false _).mp c2] at w; exact g6_night (b := true) w
  · unfold w1_anew
    unfold w1_anew at w
    rintro S1 rfl S2 rfl
    have w := w _ rfl _ rfl
    refine g1_dead (k.m h.r) ⟨fun c => ?_, fun c => g1_house (k.m h.r) ⟨fun c2 => ?_, fun c2 => ?_⟩⟩
    · rw [(b01_eq _).mp c] at w; exact g1_night (b := false) w
    · rw [(b01_eq _).mp c2, Bool.and_false] at w; exact g1_night (b := false) w
    · rw [b01_eq] at c c2
      rw [(Bool.not_eq_false _).mp c, (Bool.not_eq_false _).mp c2] at w; exact g1_night (b := true) w
/-- a dead, a person, a night -/
theorem e_dpn (h : same tw S tw' S' oT s) {x1 x2 y : Int32} {B6 : (Int32 → MS → Prop) → MS → Prop} {B1 : (Int32 → CS → Prop) → CS → Prop}
    (H : ∀ T, oT = some T → gok T s → ∀ d a n, d < gN T → a < gP T → n < 100 → x1 = iI (d : Nat) → x2 = iI (a : Nat) → y = iI (n : Nat) → Body tw S tw' S' T s B6 B1) :
    ∃ r t, Q6 S (fun post => ∀ S1, S1 = uI S 0 0 0 → w6_isDead (fun r2 => (r2 = 0 → w6_refusesNight (fun r3 => (r3 ≤ 0 → B6 post S1) ∧ (¬ r3 ≤ 0 → w6_refused (fun r10 S11 => post r10 S11) S1 r3)) S1 0 y) ∧ (¬ r2 = 0 → w6_isPerson (fun r13 => (r13 = 0 → w6_refusesNight (fun r3 => (r3 ≤ 0 → B6 post S1) ∧ (¬ r3 ≤ 0 → w6_refused (fun r10 S11 => post r10 S11) S1 r3)) S1 0 y) ∧ (¬ r13 = 0 → w6_refusesNight (fun r3 => (r3 ≤ 0 → B6 post S1) ∧ (¬ r3 ≤ 0 → w6_refused (fun r10 S11 => post r10 S11) S1 r3)) S1 1 y)) tw S1 x2)) tw S1 x1) r t ∧
      Q1 S' (fun post => w1_anew (fun S2 => w1_isDead (fun r3 => (r3 = 0 → w1_nightWhy (fun r4 => (r4 = 0 → B1 post S2) ∧ (¬ r4 = 0 → w1_no (fun r7 S8 => post r7 S8) S2 r4)) S2 0 y) ∧ (¬ r3 = 0 → w1_isPerson (fun r10 => (r10 = 0 → w1_nightWhy (fun r4 => (r4 = 0 → B1 post S2) ∧ (¬ r4 = 0 → w1_no (fun r7 S8 => post r7 S8) S2 r4)) S2 0 y) ∧ (¬ r10 = 0 → w1_nightWhy (fun r4 => (r4 = 0 → B1 post S2) ∧ (¬ r4 = 0 → w1_no (fun r7 S8 => post r7 S8) S2 r4)) S2 1 y)) tw' S2 x2)) tw' S2 x1) S') r t := by
  have hb : K6 S (uI S 0 0 0) := K6.uI (by unfold sc6; omega)
  have k : K1 S' (sI (sI S' 0 4 0) 0 6 (-1)) := (K1.sI (by unfold sc1; omega)).trans (K1.sI (by unfold sc1; omega))
  obtain ⟨r, t, q6, q1⟩ := e_why (B6 := B6) (B1 := B1) h (gw_in (gd oT x1 && gp oT x2) y) (fun c => by
    obtain ⟨c1, n, hn, rfl⟩ := gw_0 c
    have c2 := Bool.and_eq_true_iff.mp c1
    cases oT with
    | none => exact absurd c2.1 (by simp [gd])
    | some T =>
      obtain ⟨d, hd, rfl⟩ := inN_true c2.1
      obtain ⟨a, ha, rfl⟩ := inN_true c2.2
      exact ⟨T, rfl, H T rfl h.1 d a n hd ha hn rfl rfl rfl⟩)
  refine ⟨r, t, q6.mono fun post w => ?_, q1.mono fun post w => ?_⟩
  · rintro S1 rfl
    have w := w _ rfl
    refine g6_dead (hb.m h.l) ⟨fun c => ?_, fun c => g6_person (hb.m h.l) ⟨fun c2 => ?_, fun c2 => ?_⟩⟩
    · rw [(b01_eq _).mp c] at w; exact g6_night (b := false) w
    · rw [(b01_eq _).mp c2, Bool.and_false] at w; exact g6_night (b := false) w
    · rw [b01_eq] at c c2
      rw [(Bool.not_eq_false _).mp c, (Bool.not_eq_false _).mp c2] at w; exact g6_night (b := true) w
  · unfold w1_anew
    unfold w1_anew at w
    rintro S1 rfl S2 rfl
    have w := w _ rfl _ rfl
    refine g1_dead (k.m h.r) ⟨fun c => ?_, fun c => g1_person (k.m h.r) ⟨fun c2 => ?_, fun c2 => ?_⟩⟩
    · rw [(b01_eq _).mp c] at w; exact g1_night (b := false) w
    · rw [(b01_eq _).mp c2, Bool.and_false] at w; exact g1_night (b := false) w
    · rw [b01_eq] at c c2
      rw [(Bool.not_eq_false _).mp c, (Bool.not_eq_false _).mp c2] at w; exact g1_night (b := true) w
theorem e_outIf (h : same tw S tw' S' oT s) (x1 x2 y : Int32) : ∃ r t, Q6 S (fun p => w6_outIf p tw S x1 x2 y) r t ∧ Q1 S' (fun p => w1_outIf p tw' S' x1 x2 y) r t := by
  unfold w6_outIf w1_outIf j6_outIf_26 j6_outIf_27 j1_outIf_25 j1_outIf_26
  refine e_dhn h fun T _ hok d a n hd ha hn e1 e2 e3 => ?_
  subst e1 e2 e3
  have hH := hok.1.2.2.2.2
  refine ⟨iI (outN T s d a n), fun post S1 k e0 hT hS hp => ?_, fun post S1 k e0 e1 hT hS hp => ?_⟩
  · refine s6_works fun S2 k2 e3 hw => ?_
    exact s6_outOf hok (k2.T hT) (works_S hok hw hS) hd (by omega) (by omega) (s6_good fun S3 k3 e4 e5 e6 => hp S3 (k.trans (k2.trans k3)) (e4.trans (e3.trans e0)) e5 e6)
  · exact s4_out hok hT hS hd (by omega) (by omega) (hp S1 k e0 e1)
theorem e_aims (h : same tw S tw' S' oT s) (x1 x2 y : Int32) : ∃ r t, Q6 S (fun p => w6_aims p tw S x1 x2 y) r t ∧ Q1 S' (fun p => w1_aims p tw' S' x1 x2 y) r t := by
  unfold w6_aims w1_aims j6_aims_26 j6_aims_27 j1_aims_25 j1_aims_26
  refine e_dpn h fun T _ hok d p n hd hpp hn e1 e2 e3 => ?_
  subst e1 e2 e3
  have hH := hok.1.2.2.2.2
  have hPP := hok.1.2.1
  let step : Int32 × Nat → (Int32 × Nat) ⊕ Int32 := fun z => if gH T ≤ z.2 then .inr z.1 else if frN T s (outN T s d z.2 n) = p then .inl (z.1 + 1, z.2 + 1) else .inl (z.1 + 0, z.2 + 1)
  have hP : ∀ z z' : Int32 × Nat, z.2 ≤ gH T → step z = .inl z' → z'.2 ≤ gH T ∧ gH T - z'.2 < gH T - z.2 := by
    intro z z' hi e
    dsimp only [step] at e
    by_cases c : gH T ≤ z.2
    · rw [if_pos c] at e; cases e
    · rw [if_neg c] at e
      by_cases c2 : frN T s (outN T s d z.2 n) = p
      · rw [if_pos c2] at e; cases e; dsimp only; omega
      · rw [if_neg c2] at e; cases e; dsimp only; omega
  obtain ⟨r, hr⟩ := lp_two (fun z => z.2 ≤ gH T) (fun z => gH T - z.2) step hP (0, 0) (Nat.zero_le _)
  refine ⟨r, fun post S1 k e0 hT hS hp => ?_, fun post S1 k e0 e1 hT hS hp => ?_⟩
  · refine s6_works fun S2 k2 e3 hw => ?_
    have hT2 := k2.T hT
    have hS2 := works_S hok hw hS
    refine lp_res (P := fun z : Int32 × Nat => z.2 ≤ gH T) (fun z => (z.1, iI (z.2 : Nat))) hr (Nat.zero_le _) (fun z z' a b => (hP z z' a b).1) (good := fun r => ∀ S3, K6 S S3 → S3.1 0 0 = 0 → S3.1 0 1 = 0 → S3.1 0 2 = -1 → post r S3) hp ?_
    rintro ⟨c, i⟩ K hi hK hg
    have hi : i ≤ gH T := hi
    show f6_aims_55 post tw S2 (iI d) (iI p) (iI n) K c (iI i)
    unfold f6_aims_55
    dsimp only [step] at hK hg
    rw [hT2.2.2.2.1, iI_leN (by omega) (by omega), iI_succ]
    refine ⟨hT2.1, fun cc => ?_, fun cc => s6_outOf hok hT2 hS2 hd (show i < 1000 by omega) (by omega) (s6_heardFrom hok hT2 hS2 (outN_lt hok d i n) ?_)⟩
    · exact s6_good fun S3 k3 e4 e5 e6 => hg _ (if_pos cc) S3 (k.trans (k2.trans k3)) (e4.trans (e3.trans e0)) e5 e6
    · rw [if_neg cc] at hK hg
      obtain ⟨q, hq, e⟩ := frN_lt hok (outN_lt hok d i n)
      rw [e] at hK ⊢
      rw [iI_eqN (by omega) (by omega)]
      exact ⟨fun c2 => hK (c + 0, i + 1) (if_neg (by omega)), fun c2 => hK (c + 1, i + 1) (if_pos (by omega))⟩
  · refine lp_res (P := fun z : Int32 × Nat => z.2 ≤ gH T) (fun z => (z.1, iI (z.2 : Nat))) hr (Nat.zero_le _) (fun z z' a b => (hP z z' a b).1) (good := fun r => post r S1) (hp S1 k e0 e1) ?_
    rintro ⟨c, i⟩ K hi hK hg
    have hi : i ≤ gH T := hi
    show f1_aims_50 post tw' S1 (iI d) (iI p) (iI n) K c (iI i)
    unfold f1_aims_50
    dsimp only [step] at hK hg
    rw [hT.2.2.2.2.2.2.1, iI_leN (by omega) (by omega), iI_succ]
    refine ⟨hT.1, fun c => hg _ (if_pos c), fun cc => ?_⟩
    unfold w1_isAim
    refine s4_out hok hT hS hd (show i < 1000 by omega) (by omega) (s4_from hok hT hS (outN_lt hok d i n) ?_)
    rw [if_neg cc] at hK hg
    obtain ⟨q, hq, e⟩ := frN_lt hok (outN_lt hok d i n)
    rw [e] at hK ⊢
    rw [iI_eqN (by omega) (by omega)]
    exact ⟨fun c2 => ⟨fun _ => hK (c + 0, i + 1) (if_neg (by omega)), fun c3 => absurd rfl c3⟩, fun c2 => ⟨fun c3 => ne_0 c3, fun _ => hK (c + 1, i + 1) (if_pos (by omega))⟩⟩
end P8
