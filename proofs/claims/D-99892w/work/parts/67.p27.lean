/-! PURE 27: hang, take, teach (their duties) -/
set_option maxRecDepth 100000
theorem pt_chg {tw1 : Option TD} {S1 : CS} {tw6 : Option (Nat → Nat)} {S6 : MS} {T : GT} {s s' : GS} {a i o z d : Nat} {x : Int32}
    (hs : same tw6 S6 tw1 S1 (some T) s) (hC : Com S6 S1 a i) (hT : Twn tw1 S1 S6 a i (some T)) (ho : o < 18) (hz : 1 ≤ z ∧ z < 4) (hd : d < 6) (hok : gok T s')
    (m6 : ∀ u6 : MS, (∀ k, k ≠ o → u6.1 2 k = S6.1 2 k) → u6.1 2 o = x → mS 2 u6 T s')
    (c1 : ∀ u1 : CS, (∀ y k, y < 4 → ¬ (y = z ∧ k = d) → u1.1.1 (300 + 4 * 0 + y) k = S1.1.1 (300 + 4 * 0 + y) k) → u1.1.1 (300 + 4 * 0 + z) d = x → stT tw1 u1 0 → cS tw1 0 u1 T s')
    {w1 : (Int32 → CS → Prop) → Prop} {w6 : (Int32 → MS → Prop) → Prop}
    (H6 : ∀ post : Int32 → MS → Prop, (∀ post2 : Int32 → MS → Prop, (∀ u, post 1 u → post2 1 u) → w6_remembers (fun S3 => (vp_in (iI (o : Nat)) 19 ∧ (∀ S4, S4 = uI S3 2 (iI (o : Nat)).toNatClampNeg x → (w6_granted (fun r5 S6 => ((r5 = 0 ∨ r5 = 1) ∧ post2 r5 S6)) S4)))) (uI S6 0 0 0)) → w6 post)
    (H1 : ∀ post : Int32 → CS → Prop, (∀ A, K1 S1 A → A.1.1 0 4 = 0 → A.1.1 0 6 = -1 → ∀ post2 : Int32 → CS → Prop, (∀ u, post 1 u → post2 1 u) → w1_note (fun S2 => (vp_in (iI (d : Nat)) 6 ∧ (∀ S4, S4 = sI S2 (300 + 4 * 0 + z) (iI (d : Nat)).toNatClampNeg x → (w1_done (fun r5 S6 => ((r5 = 0 ∨ r5 = 1) ∧ post2 r5 S6)) S4)))) A) → w1 post) :
    ∃ (r : Int32) (C2 : CS → Prop) (M2 : MS → Prop), w1 (fun p u => p = r ∧ C2 u) ∧ w6 (fun p u => p = r ∧ M2 u) ∧ ∀ u u', C2 u → M2 u' → Inv0 tw1 u tw6 u' := by
  obtain ⟨-, -, -, -, -, ha, ha6, ha1, -, -, -, hp, -⟩ := id hC
  refine ⟨1, fun u => ∃ A B v w, K1 S1 A ∧ A.1.1 0 4 = 0 ∧ A.1.1 0 6 = -1 ∧ bec A 1 0 B ∧ rot1 (sI B (300 + 4 * 0 + z) d x) a v ∧ bec v (v.2.2 (rb a)) 1 w ∧ u = sI w 0 8 (iI ((rb a + 1 : Nat) : Int)), fun u => ∃ B, rem6 (uI S6 0 0 0) a B ∧ K6 (uI B 2 o x) u ∧ u.1 0 1 = 0 ∧ u.1 0 2 = -1, H1 _ (fun A k a0 b0 post2 hp2 => ?_), H6 _ (fun post2 hp2 => ?_), ?_⟩
  · refine s1_chg ha ?_ (fun k2 hk => ?_) hd hz.2 (fun B v w hB hv hw => hp2 _ ⟨rfl, A, B, v, w, k, a0, b0, hB, hv, hw, rfl⟩)
    · rw [k.1 _ _ (by unfold sc1; omega)]; exact ha1
    · rw [k.2.2]; exact hp k2 hk
  · exact s6_chg ha ha6 ho (fun B u h1 h2 h3 h4 => hp2 _ ⟨rfl, B, h1, h2, h3, h4⟩)
  · rintro u1 u6 ⟨A, B, v, w, k1, a0, b0, hB, hv, hw, rfl⟩ ⟨B6, hB6, k6, e5, e6⟩
    exact Inv0.chg hs hC hT th_K hB6 k6 ho hz e5 e6 k1 a0 b0 hB hv hw hok (m6 u6) (c1 _)
theorem ya0 {S S' : CS} {post : Int32 → CS → Prop} {F : CS → Prop} (h : post 0 S') : ((0 : Int32) = 0 → post 0 S') ∧ (¬ (0 : Int32) = 0 → F S') := ⟨fun _ => h, fun c => absurd rfl c⟩
/-- 'hangs', on both sides: y is -2 or a house -/
theorem pt_hangs {tw1 : Option TD} {S1 : CS} {tw6 : Option (Nat → Nat)} {S6 : MS} (hI : Inv0 tw1 S1 tw6 S6) {T : GT} {s : GS} {a i d : Nat} {y : Int} (hs : same tw6 S6 tw1 S1 (some T) s) (hC : Com S6 S1 a i) (hT : Twn tw1 S1 S6 a i (some T)) (hd : d < gN T) (hy : y = -2 ∨ (0 ≤ y ∧ y < gH T))
    {w1 : (Int32 → CS → Prop) → Prop} {w6 : (Int32 → MS → Prop) → Prop}
    (H6 : ∀ post : Int32 → MS → Prop, w6_hangs (fun r6 S7 => ((r6 = 0 ∨ r6 = 1) ∧ post r6 S7)) (uI S6 0 0 0) (iI (d : Nat)) (iI y) → w6 post)
    (H1 : ∀ post : Int32 → CS → Prop, (¬ S1.1.1 (300 + 4 * 0 + 2) d = iI y → w1_yes (fun r5 S6 => ((r5 = 0 → (post 0 S6)) ∧ (¬ r5 = 0 → (w1_hangs (fun r8 S9 => ((r8 = 0 → (post 0 S9)) ∧ (¬ r8 = 0 → (post 1 S9)))) S6 (iI (d : Nat)) (iI y))))) S1 0) → (S1.1.1 (300 + 4 * 0 + 2) d = iI y → w1_yes (fun r5 S6 => ((r5 = 0 → (post 0 S6)) ∧ (¬ r5 = 0 → (w1_hangs (fun r8 S9 => ((r8 = 0 → (post 0 S9)) ∧ (¬ r8 = 0 → (post 1 S9)))) S6 (iI (d : Nat)) (iI y))))) S1 5) → w1 post) :
    ∃ (r : Int32) (C2 : CS → Prop) (M2 : MS → Prop), w1 (fun p u => p = r ∧ C2 u) ∧ w6 (fun p u => p = r ∧ M2 u) ∧ ∀ u u', C2 u → M2 u' → Inv0 tw1 u tw6 u' := by
  have hok := hs.1
  have hN := hok.1.2.2.1
  have hH := hok.1.2.2.2.2
  have hb : -2 ≤ s.2.2 d ∧ s.2.2 d < 40 := by
    rcases hok.2.2.2.2.2 d hd with e | e <;> omega
  have e1 : S1.1.1 (300 + 4 * 0 + 2) d = iI (s.2.2 d) := hs.2.2.2.2.2.2.2 d hd
  have e6 : (uI S6 0 0 0).1 2 (12 + d) = iI (s.2.2 d) := by rw [uI_at, if_neg (by omega)]; exact hs.2.2.1.2.2 d hd
  have e12 : (12 : Int32) + iI (d : Nat) = iI ((12 + d : Nat) : Int) := by
    rw [show (12 : Int32) = iI (12 : Nat) from rfl, iI_add]; rfl
  by_cases c : s.2.2 d = y
  · refine pt_q hI (-0) 5 (fun post h => H6 _ ?_) (fun post h => H1 _ (fun z => absurd (by rw [e1, c]) z) (fun _ => ?_))
    · unfold w6_hangs
      rw [e12, iI_clampN (by omega), e6, c]
      refine ⟨iI_inN (by omega) (by omega), fun z => absurd rfl z, fun _ => ?_⟩
      exact s6_den fun S' k a0 b0 c0 => ⟨Or.inl rfl, h S' (th_K.trans k) a0 b0 c0⟩
    · refine s1_yes fun A k a0 b0 => ?_
      exact ⟨fun _ => h A k a0 b0, fun z => absurd rfl z⟩
  · have ci : ¬ iI (s.2.2 d) = iI y := fun z => c ((iI_eq (by omega) (by omega) (by omega) (by omega)).mp z)
    refine pt_chg (s' := miG s d y) (o := 12 + d) (z := 2) (d := d) (x := iI y) hs hC hT (by omega) (by omega) (by omega) (gok_miG hok hy) (fun u6 q1 q2 => mS_mi hok hs.2.2.1 q1 q2 hd) (fun u1 q1 q2 q3 => cS_mi hs.2.2.2.2 q3 q1 q2) (fun post h => H6 _ ?_) (fun post h => H1 _ (fun _ => ?_) (fun z => absurd (e1.symm.trans z) ci))
    · unfold w6_hangs
      rw [e12, iI_clampN (by omega), e6]
      refine ⟨iI_inN (by omega) (by omega), fun _ => ?_, fun z => absurd z ci⟩
      have hh := h (fun r u => (r = 0 ∨ r = 1) ∧ post r u) (fun u hu => ⟨Or.inr rfl, hu⟩)
      rw [iI_clampN (by omega)] at hh
      exact hh
    · refine s1_yes fun A k a0 b0 => ?_
      refine ⟨fun z => absurd z (by decide), fun _ => ?_⟩
      unfold w1_hangs
      exact h A k a0 b0 _ (fun u hu => ⟨fun z => absurd z (by decide), fun _ => hu⟩)
theorem gd_nat {oT : Option GT} {x : Int32} (h : gd oT x = true) : ∃ T d, oT = some T ∧ d < gN T ∧ x = iI (d : Nat) := by
  cases oT with
  | none => cases h
  | some T =>
    obtain ⟨d, h1, h2⟩ := inN_true h
    exact ⟨T, d, rfl, h1, h2⟩
theorem o_take (a0 : Int32) : Ob_take Inv0 a0 := by
  intro tw1 S1 tw6 S6 hI
  obtain ⟨oT, s, a, i, hs, hC, hT⟩ := id hI
  have h6 : m6 tw6 (uI S6 0 0 0) oT s := th_K.m hs.l
  by_cases c : gd oT a0 = true
  · obtain ⟨T, d, rfl, hd, rfl⟩ := gd_nat c
    have hN := hs.1.1.2.2.1
    refine pt_hangs (w1 := fun p => w1_take p tw1 S1 (iI (d : Nat))) (w6 := fun p => w6_take p tw6 S6 (iI (d : Nat))) hI hs hC hT hd (Or.inl rfl) (fun post h => ?_) (fun post h0 h5 => ?_)
    · unfold w6_take
      rintro S rfl
      refine g6_dead h6 ?_
      rw [c]
      exact ⟨fun z => absurd z (by decide), fun _ => h⟩
    · unfold w1_take
      refine g1_dead hs.r ?_
      rw [c]
      refine ⟨fun _ => ⟨iI_inN (by omega) (by omega), ?_⟩, fun z => absurd z (by decide)⟩
      rw [iI_clampN (by omega)]
      exact ⟨h0, h5⟩
  · have c : gd oT a0 = false := by simpa using c
    refine pt_q hI (w1 := fun p => w1_take p tw1 S1 a0) (w6 := fun p => w6_take p tw6 S6 a0) 0 1 (fun post h => ?_) (fun post h => ?_)
    · unfold w6_take
      rintro S rfl
      refine g6_dead h6 ?_
      rw [c]
      exact ⟨fun _ => s6_den fun S' k a0 b0 c0 => h S' (th_K.trans k) a0 b0 c0, fun z => absurd rfl z⟩
    · unfold w1_take
      refine g1_dead hs.r ?_
      rw [c]
      refine ⟨fun z => absurd rfl z, fun _ => ?_⟩
      exact s1_yes fun A k a0 b0 => ⟨fun _ => h A k a0 b0, fun z => absurd rfl z⟩
theorem o_hang (a0 a1 : Int32) : Ob_hang Inv0 a0 a1 := by
  intro tw1 S1 tw6 S6 hI
  obtain ⟨oT, s, a, i, hs, hC, hT⟩ := id hI
  have h6 : m6 tw6 (uI S6 0 0 0) oT s := th_K.m hs.l
  by_cases c : gd oT a0 = true
  · by_cases c2 : gh oT a1 = true
    · obtain ⟨T, d, rfl, hd, rfl⟩ := gd_nat c
      obtain ⟨y, hy, rfl⟩ := inN_true c2
      have hN := hs.1.1.2.2.1
      refine pt_hangs (w1 := fun p => w1_hang p tw1 S1 (iI (d : Nat)) (iI (y : Nat))) (w6 := fun p => w6_hang p tw6 S6 (iI (d : Nat)) (iI (y : Nat))) (y := ((y : Nat) : Int)) hI hs hC hT hd (Or.inr ⟨by omega, by omega⟩) (fun post h => ?_) (fun post h0 h5 => ?_)
      · unfold w6_hang
        rintro S rfl
        refine g6_dead h6 ?_
        rw [c]
        refine ⟨fun z => absurd z (by decide), fun _ => g6_house h6 ?_⟩
        rw [c2]
        exact ⟨fun z => absurd z (by decide), fun _ => h⟩
      · unfold w1_hang
        refine g1_dead hs.r ?_
        rw [c]
        refine ⟨fun z => absurd z (by decide), fun _ => g1_house hs.r ?_⟩
        rw [c2]
        refine ⟨fun _ => ⟨iI_inN (by omega) (by omega), ?_⟩, fun z => absurd z (by decide)⟩
        rw [iI_clampN (by omega)]
        exact ⟨h0, h5⟩
    · have c2 : gh oT a1 = false := by simpa using c2
      refine pt_q hI (w1 := fun p => w1_hang p tw1 S1 a0 a1) (w6 := fun p => w6_hang p tw6 S6 a0 a1) 0 1 (fun post h => ?_) (fun post h => ?_)
      · unfold w6_hang
        rintro S rfl
        refine g6_dead h6 ?_
        rw [c]
        refine ⟨fun z => absurd z (by decide), fun _ => g6_house h6 ?_⟩
        rw [c2]
        exact ⟨fun _ => s6_den fun S' k a0 b0 c0 => h S' (th_K.trans k) a0 b0 c0, fun z => absurd rfl z⟩
      · unfold w1_hang
        refine g1_dead hs.r ?_
        rw [c]
        refine ⟨fun z => absurd z (by decide), fun _ => g1_house hs.r ?_⟩
        rw [c2]
        refine ⟨fun z => absurd rfl z, fun _ => ?_⟩
        unfold j1_hang_17 j1_hang_39
        exact s1_yes fun A k a0 b0 => ⟨fun _ => h A k a0 b0, fun z => absurd rfl z⟩
  · have c : gd oT a0 = false := by simpa using c
    refine pt_q hI (w1 := fun p => w1_hang p tw1 S1 a0 a1) (w6 := fun p => w6_hang p tw6 S6 a0 a1) 0 1 (fun post h => ?_) (fun post h => ?_)
    · unfold w6_hang
      rintro S rfl
      refine g6_dead h6 ?_
      rw [c]
      exact ⟨fun _ => s6_den fun S' k a0 b0 c0 => h S' (th_K.trans k) a0 b0 c0, fun z => absurd rfl z⟩
    · unfold w1_hang
      refine g1_dead hs.r ?_
      rw [c]
      refine ⟨fun _ => ?_, fun z => absurd rfl z⟩
      unfold j1_hang_17 j1_hang_39
      exact s1_yes fun A k a0 b0 => ⟨fun _ => h A k a0 b0, fun z => absurd rfl z⟩
