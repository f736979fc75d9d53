/-! PURE 25: the night goes on -/
set_option maxRecDepth 100000
/-- one call that is a question, or refused -/
theorem pt_q {tw1 : Option TD} {S1 : CS} {tw6 : Option (Nat → Nat)} {S6 : MS} (hI : Inv0 tw1 S1 tw6 S6) {w1 : (Int32 → CS → Prop) → Prop} {w6 : (Int32 → MS → Prop) → Prop} (r t : Int32) (h6 : Q6 S6 w6 r t) (h1 : Q1 S1 w1 r t) : ∃ (r : Int32) (C2 : CS → Prop) (M2 : MS → Prop), w1 (fun p u => p = r ∧ C2 u) ∧ w6 (fun p u => p = r ∧ M2 u) ∧ ∀ u u', C2 u → M2 u' → Inv0 tw1 u tw6 u' := by
  refine ⟨r, fun u => K1 S1 u ∧ u.1.1 0 4 = t ∧ u.1.1 0 6 = -1, fun u => K6 S6 u ∧ u.1 0 1 = t ∧ u.1 0 2 = -1, h1 _ (fun S' k a b => ⟨rfl, k, a, b⟩), h6 _ (fun S' k _ a b => ⟨rfl, k, a, b⟩), ?_⟩
  rintro u1 u6 ⟨k1, a1, b1⟩ ⟨k6, a6, b6⟩
  exact hI.keep k6 k1 (a6.trans a1.symm) ⟨b6.trans b1.symm, Or.inr b1⟩
theorem th_K {S : MS} : K6 S (uI S 0 0 0) := K6.uI (by unfold sc6; omega)
theorem o_night : Ob_night Inv0 := by
  intro tw1 S1 tw6 S6 hI
  obtain ⟨oT, s, a, i, hs, hC, hT⟩ := id hI
  cases oT with
  | none =>
    obtain ⟨e6, e1⟩ := hs
    subst e6
    subst e1
    refine pt_q hI (w1 := fun p => w1_night p none S1) (w6 := fun p => w6_night p none S6) (-1) 1 (fun post h => ?_) (fun post h => ?_)
    · unfold w6_night
      rintro S rfl
      exact ⟨fun _ => s6_refused fun S' k a0 b0 c0 => h S' (th_K.trans k) a0 b0 c0, fun z => (by obtain ⟨t, e⟩ := z; cases e)⟩
    · unfold w1_night
      exact s1_anew fun A k a0 b0 => ⟨fun _ => s1_no b0 fun S' k2 a2 b2 => h S' (k.trans k2) a2 b2, fun z => (by obtain ⟨t, e⟩ := z; cases e)⟩
  | some T =>
    obtain ⟨-, -, -, -, -, ha, ha6, ha1, -, -, -, hp, -, n, hn, hn6, hn1⟩ := id hC
    have hok := hs.1
    obtain ⟨t6, ht6⟩ := hs.2.1.1
    obtain ⟨t1, ht1⟩ := hs.2.2.2.1.1
    by_cases c : n = 99
    · subst c
      refine pt_q hI (w1 := fun p => w1_night p tw1 S1) (w6 := fun p => w6_night p tw6 S6) (-1) 3 (fun post h => ?_) (fun post h => ?_)
      · unfold w6_night
        rintro S rfl
        refine ⟨fun z => (by rw [ht6] at z; cases z), fun _ => ⟨fun z => absurd hn6 z, fun _ => s6_refused fun S' k a0 b0 c0 => h S' (th_K.trans k) a0 b0 c0⟩⟩
      · unfold w1_night
        refine s1_anew fun A k a0 b0 => ⟨fun z => (by rw [ht1] at z; cases z), fun _ => ⟨fun z => absurd ?_ z, fun _ => s1_no b0 fun S' k2 a2 b2 => h S' (k.trans k2) a2 b2⟩⟩
        rw [k.1 _ _ (by unfold sc1; omega)]
        exact hn1
    · have ne6 : ¬ (iI (n : Nat) : Int32) = 99 := by
        rw [show (99 : Int32) = iI (99 : Nat) from rfl, iI_eqN (by omega) (by omega)]; exact c
      refine ⟨setB (fun d => riN T s d (n + 1) 0) (gN T), fun u => ∃ A B v w, K1 S1 A ∧ A.1.1 0 4 = 0 ∧ A.1.1 0 6 = -1 ∧ bec A 1 0 B ∧ rot1 (sI B (300 + 4 * 0) 4 (iI ((n + 1 : Nat) : Int))) a v ∧ bec v (v.2.2 (rb a)) 1 w ∧ u = sI w 0 8 (iI ((rb a + 1 : Nat) : Int)), fun u => ∃ B, rem6 (uI S6 0 0 0) a B ∧ K6 (uI B 2 18 (iI ((n + 1 : Nat) : Int))) u ∧ u.1 0 1 = 0 ∧ u.1 0 2 = -1, ?_, ?_, ?_⟩
      · show w1_night _ tw1 S1
        unfold w1_night
        refine s1_anew fun A k a0 b0 => ⟨fun z => (by rw [ht1] at z; cases z), fun _ => ⟨fun _ => ?_, fun z => absurd ?_ ne6⟩⟩
        · unfold w1_note
          refine s4_bec (by omega) (fun B hB => ?_)
          rintro S9 rfl
          have eA : A.1.1 (300 + 4 * 0) 4 = iI n := by rw [k.1 _ _ (by unfold sc1; omega)]; exact hn1
          have eB : B.1.1 (300 + 4 * 0) 4 = iI n := by rw [hB.1 _ _ (by omega)]; exact eA
          rw [eB, iI_succ]
          have eU : B.2.2 = S1.2.2 := by rw [hB.2.2.2.1]; funext z; exact k.2.2 z
          refine s1_done ha ?_ (fun z hz => ?_) (fun v w hv hw => ?_)
          · rw [sI_at, if_neg (by omega), hB.1 _ _ (by omega), k.1 _ _ (by unfold sc1; omega)]; exact ha1
          · show 3 ≤ B.2.2 z ∧ B.2.2 z < 19
            rw [eU]; exact hp z hz
          have hX : 3 ≤ v.2.2 (rb a) ∧ v.2.2 (rb a) < 19 := by
            rw [hv.2.2.1 _ (rb_lt ha)]
            show 3 ≤ B.2.2 _ ∧ B.2.2 _ < 19
            rw [eU]; exact hp _ (rk_lt (rb_lt ha))
          have m : ∀ r k2, ¬ sc1 r k2 → ¬ (304 ≤ r ∧ r < 308) → ¬ (r = 300 ∧ k2 = 4) → ¬ (300 + 4 * v.2.2 (rb a) ≤ r ∧ r < 300 + 4 * v.2.2 (rb a) + 4) → ¬ (r = 0 ∧ k2 = 8) → (sI w 0 8 (iI ((rb a + 1 : Nat) : Int))).1.1 r k2 = S1.1.1 r k2 := fun r k2 q1 q2 q3 q4 q5 => by
            rw [sI_at, if_neg q5, hw.1 _ _ q4, hv.1 _ _ q5, sI_at, if_neg q3, hB.1 _ _ (by omega), k.1 _ _ q1]
          have hcT : cT tw1 (sI w 0 8 (iI ((rb a + 1 : Nat) : Int))) T := hs.2.2.2.1.mv fun r k2 q => m r k2 (by unfold sc1; omega) (by omega) (by omega) (by omega) (by omega)
          have hcS : cS tw1 0 (sI w 0 8 (iI ((rb a + 1 : Nat) : Int))) T s := by
            obtain ⟨⟨τ, z1, z2⟩, z3, z4, z5⟩ := hs.2.2.2.2
            have hP := hok.1.2.1
            have hN := hok.1.2.2.1
            refine ⟨⟨τ, z1, ?_⟩, fun p hp2 => ?_, fun d hd => ?_, fun d hd => ?_⟩
            · show w.2.1 0 = _
              rw [hw.2.1 0 (by omega), hv.2.1]
              show B.2.1 0 = _
              rw [hB.2.1 0 (by omega), k.2.1 0 (by omega)]
              exact z2
            · rw [m _ _ (by unfold sc1; omega) (by omega) (by omega) (by omega) (by omega)]; exact z3 p hp2
            · rw [m _ _ (by unfold sc1; omega) (by omega) (by omega) (by omega) (by omega)]; exact z4 d hd
            · rw [m _ _ (by unfold sc1; omega) (by omega) (by omega) (by omega) (by omega)]; exact z5 d hd
          have eN : (sI w 0 8 (iI ((rb a + 1 : Nat) : Int))).1.1 (300 + 4 * 0) 4 = iI ((n + 1 : Nat) : Int) := by
            rw [sI_at, if_neg (by omega), hw.1 _ _ (by omega), hv.1 _ _ (by omega), sI_at, if_pos ⟨rfl, rfl⟩]
          rw [eN]
          exact s4_rightOnes hok hcT hcS (by omega) ⟨rfl, A, B, v, w, k, a0, b0, hB, hv, hw, rfl⟩
        · have eA : A.1.1 (300 + 4 * 0) 4 = iI n := by rw [k.1 _ _ (by unfold sc1; omega)]; exact hn1
          rw [← eA]; exact z
      · show w6_night _ tw6 S6
        unfold w6_night
        rintro S rfl
        refine ⟨fun z => (by rw [ht6] at z; cases z), fun _ => ⟨fun _ => ?_, fun z => absurd (hn6.symm.trans z) ne6⟩⟩
        refine s6_remembers ha ha6 (fun B hB => ?_)
        rintro S8 rfl
        have eB : B.1 2 18 = iI n := (hB.1 2 18 (by omega) (by omega)).trans hn6
        rw [eB, iI_succ]
        have mm : ∀ r k2, r ≠ 4 → ¬ (r = 0 ∧ k2 = 19) → ¬ (r = 2 ∧ k2 = 18) → ¬ (r = 0 ∧ k2 = 0) → (uI B 2 18 (iI ((n + 1 : Nat) : Int))).1 r k2 = S6.1 r k2 := fun r k2 q1 q2 q3 q4 => by
          rw [uI_at, if_neg q3, hB.1 r k2 q1 q2, uI_at, if_neg q4]
        have hP := hok.1.2.1
        have hN := hok.1.2.2.1
        have hm : mT tw6 (uI B 2 18 (iI ((n + 1 : Nat) : Int))) T := hs.2.1.mv fun r k2 q => mm r k2 (by omega) (by omega) (by omega) (by omega)
        have h2 : mS 2 (uI B 2 18 (iI ((n + 1 : Nat) : Int))) T s := ⟨fun p hp2 => (mm _ _ (by omega) (by omega) (by omega) (by omega)).trans (hs.2.2.1.1 p hp2), fun d hd => (mm _ _ (by omega) (by omega) (by omega) (by omega)).trans (hs.2.2.1.2.1 d hd), fun d hd => (mm _ _ (by omega) (by omega) (by omega) (by omega)).trans (hs.2.2.1.2.2 d hd)⟩
        refine s6_works fun S10 k2 e3 hw => ?_
        have e18 : S10.1 2 18 = iI ((n + 1 : Nat) : Int) := by rw [k2 _ _ (by unfold sc6; omega), uI_at, if_pos ⟨rfl, rfl⟩]
        rw [e18]
        exact s6_rightOn hok (k2.T hm) (works_S hok hw h2) (by omega) (s6_good fun S3 k3 e4 e5 e6 => ⟨rfl, B, hB, k2.trans k3, e5, e6⟩)
      · rintro u1 u6 ⟨A, B, v, w, k1, a0, b0, hB, hv, hw, rfl⟩ ⟨B6, hB6, k6, e5, e6⟩
        have hP := hok.1.2.1
        have hN := hok.1.2.2.1
        have mm : ∀ k2, k2 ≠ 18 → u6.1 2 k2 = S6.1 2 k2 := fun k2 q => by
          rw [k6 _ _ (by unfold sc6; omega), uI_at, if_neg (by omega), hB6.1 _ _ (by omega) (by omega), uI_at, if_neg (by omega)]
        refine Inv0.act (C1 := sI B (300 + 4 * 0) 4 (iI ((n + 1 : Nat) : Int))) (s' := s) (n' := n + 1) hs hC hT hn6 hn1 hn th_K hB6 (fun r k2 q1 q2 => ?_) ⟨fun p hp2 => (mm _ (by omega)).trans (hs.2.2.1.1 p hp2), fun d hd => (mm _ (by omega)).trans (hs.2.2.1.2.1 d hd), fun d hd => (mm _ (by omega)).trans (hs.2.2.1.2.2 d hd)⟩ ?_ k1 hB (fun r k2 q => ?_) rfl hv hw ?_ ?_ hok (by omega) e5 e6 a0 b0
        · rw [k6 _ _ q2, uI_at, if_neg (by omega)]
        · rw [k6 _ _ (by unfold sc6; omega), uI_at, if_pos ⟨rfl, rfl⟩]
        · rw [sI_at, if_neg (by omega)]
        · obtain ⟨⟨τ, z1, z2⟩, z3, z4, z5⟩ := hs.2.2.2.2
          have m : ∀ r k2, ¬ sc1 r k2 → ¬ (304 ≤ r ∧ r < 308) → ¬ (r = 300 ∧ k2 = 4) → (sI B (300 + 4 * 0) 4 (iI ((n + 1 : Nat) : Int))).1.1 r k2 = S1.1.1 r k2 := fun r k2 q1 q2 q3 => by
            rw [sI_at, if_neg q3, hB.1 _ _ (by omega), k1.1 _ _ q1]
          refine ⟨⟨τ, z1, ?_⟩, fun p hp2 => ?_, fun d hd => ?_, fun d hd => ?_⟩
          · show B.2.1 0 = _
            rw [hB.2.1 0 (by omega), k1.2.1 0 (by omega)]
            exact z2
          · rw [m _ _ (by unfold sc1; omega) (by omega) (by omega)]; exact z3 p hp2
          · rw [m _ _ (by unfold sc1; omega) (by omega) (by omega)]; exact z4 d hd
          · rw [m _ _ (by unfold sc1; omega) (by omega) (by omega)]; exact z5 d hd
        · rw [sI_at, if_pos ⟨rfl, rfl⟩]
