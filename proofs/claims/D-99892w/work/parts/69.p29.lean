/-! PURE 29: move -/
set_option maxRecDepth 100000
def hoG (s : GS) (p y : Nat) : GS := (fun q => if q = p then y else s.1 q, s.2)
theorem gok_hoG {T : GT} {s : GS} (h : gok T s) {p y : Nat} (hy : y < gH T) (hn : ∀ q, q < gP T → s.1 q ≠ y) : gok T (hoG s p y) := by
  obtain ⟨h1, h2, h3, h4, h5⟩ := h
  refine ⟨h1, h2, fun q hq => ?_, fun q r hq hr e => ?_, h5⟩
  · show (if q = p then y else s.1 q) < _
    by_cases c : q = p
    · rw [if_pos c]; exact hy
    · rw [if_neg c]; exact h3 q hq
  · have e : (if q = p then y else s.1 q) = (if r = p then y else s.1 r) := e
    by_cases c : q = p
    · by_cases d : r = p
      · rw [c, d]
      · rw [if_pos c, if_neg d] at e; exact absurd e.symm (hn r hr)
    · by_cases d : r = p
      · rw [if_neg c, if_pos d] at e; exact absurd e (hn q hq)
      · rw [if_neg c, if_neg d] at e; exact h4 q r hq hr e
theorem mS_ho {S u : MS} {T : GT} {s : GS} {p y : Nat} (hok : gok T s) (h : mS 2 S T s) (e : ∀ k, k ≠ p → u.1 2 k = S.1 2 k) (eo : u.1 2 p = iI y) (hp : p < gP T) : mS 2 u T (hoG s p y) := by
  have hP := hok.1.2.1
  have hN := hok.1.2.2.1
  refine ⟨fun q hq => ?_, fun f hf => (e _ (by omega)).trans (h.2.1 f hf), fun f hf => (e _ (by omega)).trans (h.2.2 f hf)⟩
  show _ = iI ((if q = p then y else s.1 q : Nat) : Int)
  by_cases c : q = p
  · rw [if_pos c, c]; exact eo
  · rw [if_neg c]; exact (e _ c).trans (h.1 q hq)
theorem cS_ho {tw : Option TD} {S u : CS} {T : GT} {s : GS} {p y : Nat} (h : cS tw 0 S T s) (ht : stT tw u 0) (e : ∀ z k, z < 4 → ¬ (z = 1 ∧ k = p) → u.1.1 (300 + 4 * 0 + z) k = S.1.1 (300 + 4 * 0 + z) k) (eo : u.1.1 (300 + 4 * 0 + 1) p = iI y) : cS tw 0 u T (hoG s p y) := by
  refine ⟨ht, fun q hq => ?_, fun f hf => (e 3 f (by omega) (by omega)).trans (h.2.2.1 f hf), fun f hf => (e 2 f (by omega) (by omega)).trans (h.2.2.2 f hf)⟩
  show _ = iI ((if q = p then y else s.1 q : Nat) : Int)
  by_cases c : q = p
  · rw [if_pos c, c]; exact eo
  · rw [if_neg c]; exact (e 1 q (by omega) (by omega)).trans (h.2.1 q hq)
theorem gp_nat {oT : Option GT} {x : Int32} (h : gp oT x = true) : ∃ T p, oT = some T ∧ p < gP T ∧ x = iI (p : Nat) := by
  cases oT with
  | none => cases h
  | some T =>
    obtain ⟨p, h1, h2⟩ := inN_true h
    exact ⟨T, p, rfl, h1, h2⟩
theorem who_free {T : GT} {s : GS} {y : Nat} (h : whoN T s y = -2) : ∀ q, q < gP T → s.1 q ≠ y := by
  intro q hq
  rcases whoN_at (T := T) (s := s) y with ⟨-, hn⟩ | ⟨r, hr, -, e, -⟩
  · exact hn q hq
  · rw [h] at e; omega
theorem o_move (a0 a1 : Int32) : Ob_move Inv0 a0 a1 := by
  intro tw1 S1 tw6 S6 hI
  obtain ⟨oT, s, a, i, hs, hC, hT⟩ := id hI
  have h6 : m6 tw6 (uI S6 0 0 0) oT s := th_K.m hs.l
  by_cases c : gp oT a0 = true
  · by_cases c2 : gh oT a1 = true
    · obtain ⟨T, p, rfl, hp, rfl⟩ := gp_nat c
      obtain ⟨y, hy, rfl⟩ := inN_true c2
      have hok := hs.1
      have hP := hok.1.2.1
      have hN := hok.1.2.2.1
      have hH := hok.1.2.2.2.2
      have hm : mT tw6 (uI S6 0 0 0) T := h6.2.1
      have h2 : mS 2 (uI S6 0 0 0) T s := h6.2.2
      have lo : ∀ z : Int32, z = iI (whoN T s y) → (z = -2 ↔ whoN T s y = -2) := fun z hz => by
        rw [hz, show (-2 : Int32) = iI (-2) from rfl]
        rcases whoN_at (T := T) (s := s) y with ⟨e, -⟩ | ⟨r, hr, -, e, -⟩
        · rw [e]; exact ⟨fun _ => rfl, fun _ => rfl⟩
        · rw [e, iI_eq (by omega) (by omega) (by omega) (by omega)]
      by_cases cw : whoN T s y = -2
      · obtain ⟨-, -, -, -, -, ha, ha6, ha1, -, -, -, hpm, -⟩ := id hC
        refine ⟨iI (s.1 p), fun u => ∃ A B v w, K1 S1 A ∧ A.1.1 0 4 = 0 ∧ A.1.1 0 6 = -1 ∧ bec A 1 0 B ∧ rot1 (sI B (300 + 4 * 0 + 1) p (iI (y : Nat))) a v ∧ bec v (v.2.2 (rb a)) 1 w ∧ u = sI w 0 8 (iI ((rb a + 1 : Nat) : Int)), fun u => ∃ A B, K6 S6 A ∧ rem6 A a B ∧ K6 (uI B 2 p (iI (y : Nat))) u ∧ u.1 0 1 = 0 ∧ u.1 0 2 = -1, ?_, ?_, ?_⟩
        · show w1_move _ tw1 S1 _ _
          unfold w1_move
          refine s1_anew fun A k x0 y0 => ?_
          have hr := k.m hs.r
          refine g1_person hr ?_
          rw [c]
          refine ⟨fun z => absurd z (by decide), fun _ => g1_house hr ?_⟩
          rw [c2]
          refine ⟨fun _ => ?_, fun z => absurd z (by decide)⟩
          refine s4_who hok hr.2.1 hr.2.2 (by omega) ⟨fun _ => ?_, fun z => absurd ((lo _ rfl).mpr cw) z⟩
          unfold w1_note
          refine s4_bec (by omega) (fun B hB => ⟨iI_inN (by omega) (by omega), ?_⟩)
          rintro S14 rfl
          rw [iI_clampN (by omega)]
          refine s1_done ha ?_ (fun k2 hk => ?_) (fun v w hv hw => ⟨iI_inN (by omega) (by omega), ?_⟩)
          · rw [sI_at, if_neg (by omega), hB.1 _ _ (by omega), k.1 _ _ (by unfold sc1; omega)]; exact ha1
          · show 3 ≤ B.2.2 k2 ∧ B.2.2 k2 < 19
            rw [hB.2.2.2.1, k.2.2]; exact hpm k2 hk
          · have hX : 3 ≤ v.2.2 (rb a) ∧ v.2.2 (rb a) < 19 := by
              rw [hv.2.2.1 _ (rb_lt ha)]
              show 3 ≤ B.2.2 _ ∧ B.2.2 _ < 19
              rw [hB.2.2.2.1, k.2.2]; exact hpm _ (rk_lt (rb_lt ha))
            refine ⟨?_, A, B, v, w, k, x0, y0, hB, hv, hw, rfl⟩
            rw [sI_at, if_neg (by omega), hw.1 _ _ (by omega), hv.1 _ _ (by omega), sI_at, if_neg (by omega), hB.2.2.2.2.1 1 p (by omega) (by omega) (by omega), k.1 _ _ (by unfold sc1; omega)]
            exact hs.2.2.2.2.2.1 p hp
        · show w6_move _ tw6 S6 _ _
          unfold w6_move
          rintro S rfl
          refine g6_person h6 ?_
          rw [c]
          refine ⟨fun z => absurd z (by decide), fun _ => g6_house h6 ?_⟩
          rw [c2]
          refine ⟨fun _ => ?_, fun z => absurd z (by decide)⟩
          refine s6_works fun A k2 e3 hw => ?_
          refine s6_whoIn hok (k2.T hm) (works_S hok hw h2) (by omega) ⟨fun _ => ?_, fun z => absurd ((lo _ rfl).mpr cw) z⟩
          have kA : K6 S6 A := th_K.trans k2
          refine s6_remembers ha ?_ (fun B hB => ⟨iI_inN (by omega) (by omega), ?_⟩)
          · rw [kA _ _ (by unfold sc6; omega)]; exact ha6
          rintro S14 rfl
          refine ⟨iI_inN (by omega) (by omega), ?_⟩
          rw [iI_clampN (by omega)]
          refine s6_good fun u k3 _ e5 e6 => ⟨?_, A, B, kA, hB, k3, e5, e6⟩
          rw [uI_at, if_neg (by omega), hB.1 _ _ (by omega) (by omega), hw p (by omega)]
          exact h2.1 p hp
        · rintro u1 u6 ⟨A, B, v, w, k1, x0, y0, hB, hv, hw, rfl⟩ ⟨A6, B6, kA, hB6, k6, e5, e6⟩
          exact Inv0.chg (s' := hoG s p y) hs hC hT kA hB6 k6 (by omega) (by omega) e5 e6 k1 x0 y0 hB hv hw (gok_hoG hok hy (who_free cw)) (fun q1 q2 => mS_ho hok hs.2.2.1 q1 q2 hp) (fun q1 q2 q3 => cS_ho hs.2.2.2.2 q3 q1 q2)
      · refine pt_q hI (w1 := fun q => w1_move q tw1 S1 (iI (p : Nat)) (iI (y : Nat))) (w6 := fun q => w6_move q tw6 S6 (iI (p : Nat)) (iI (y : Nat))) (-1) 5 (fun post h => ?_) (fun post h => ?_)
        · unfold w6_move
          rintro S rfl
          refine g6_person h6 ?_
          rw [c]
          refine ⟨fun z => absurd z (by decide), fun _ => g6_house h6 ?_⟩
          rw [c2]
          refine ⟨fun _ => ?_, fun z => absurd z (by decide)⟩
          refine s6_works fun A k2 e3 hw => ?_
          refine s6_whoIn hok (k2.T hm) (works_S hok hw h2) (by omega) ⟨fun z => absurd ((lo _ rfl).mp z) cw, fun _ => ?_⟩
          exact s6_refused fun S' k a1 b1 c1 => h S' (th_K.trans (k2.trans k)) (a1.trans e3) b1 c1
        · unfold w1_move
          refine s1_anew fun A k x0 y0 => ?_
          have hr := k.m hs.r
          refine g1_person hr ?_
          rw [c]
          refine ⟨fun z => absurd z (by decide), fun _ => g1_house hr ?_⟩
          rw [c2]
          refine ⟨fun _ => ?_, fun z => absurd z (by decide)⟩
          refine s4_who hok hr.2.1 hr.2.2 (by omega) ⟨fun z => absurd ((lo _ rfl).mp z) cw, fun _ => ?_⟩
          exact s1_no y0 fun S' k2 a2 b2 => h S' (k.trans k2) a2 b2
    · have c2 : gh oT a1 = false := by simpa using c2
      refine pt_q hI (w1 := fun q => w1_move q tw1 S1 a0 a1) (w6 := fun q => w6_move q tw6 S6 a0 a1) (-1) 1 (fun post h => ?_) (fun post h => ?_)
      · unfold w6_move
        rintro S rfl
        refine g6_person h6 ?_
        rw [c]
        refine ⟨fun z => absurd z (by decide), fun _ => g6_house h6 ?_⟩
        rw [c2]
        exact ⟨fun z => absurd rfl z, fun _ => s6_refused fun S' k a1 b1 c1 => h S' (th_K.trans k) a1 b1 c1⟩
      · unfold w1_move
        refine s1_anew fun A k x0 y0 => ?_
        have hr := k.m hs.r
        refine g1_person hr ?_
        rw [c]
        refine ⟨fun z => absurd z (by decide), fun _ => g1_house hr ?_⟩
        rw [c2]
        exact ⟨fun z => absurd rfl z, fun _ => s1_no y0 fun S' k2 a2 b2 => h S' (k.trans k2) a2 b2⟩
  · have c : gp oT a0 = false := by simpa using c
    refine pt_q hI (w1 := fun q => w1_move q tw1 S1 a0 a1) (w6 := fun q => w6_move q tw6 S6 a0 a1) (-1) 1 (fun post h => ?_) (fun post h => ?_)
    · unfold w6_move
      rintro S rfl
      refine g6_person h6 ?_
      rw [c]
      exact ⟨fun _ => s6_refused fun S' k a1 b1 c1 => h S' (th_K.trans k) a1 b1 c1, fun z => absurd rfl z⟩
    · unfold w1_move
      refine s1_anew fun A k x0 y0 => ?_
      have hr := k.m hs.r
      refine g1_person hr ?_
      rw [c]
      exact ⟨fun _ => s1_no y0 fun S' k2 a2 b2 => h S' (k.trans k2) a2 b2, fun z => absurd rfl z⟩
