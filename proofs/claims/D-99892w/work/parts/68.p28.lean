/-! PURE 28: teach -/
set_option maxRecDepth 100000
theorem g1_in {post : Int32 → Prop} {x : Int32} {N : Nat} (hN : N < 1000) (h : post (b01 (inN (N + 1) x))) : w1_in post x 0 (iI (N : Nat)) := g6_in hN h
theorem o_teach (a0 a1 : Int32) : Ob_teach Inv0 a0 a1 := by
  intro tw1 S1 tw6 S6 hI
  obtain ⟨oT, s, a, i, hs, hC, hT⟩ := id hI
  have h6 : m6 tw6 (uI S6 0 0 0) oT s := th_K.m hs.l
  have den : ∀ t : Int32, t ≠ 0 → ∀ post : Int32 → CS → Prop, (∀ S', K1 S1 S' → S'.1.1 0 4 = t → S'.1.1 0 6 = -1 → post 0 S') → j1_teach_45 post S1 a0 a1 t := fun t ht post h => by
    unfold j1_teach_45
    refine s1_yes fun A k x y => ?_
    rw [if_neg ht]
    exact ⟨fun z => absurd rfl z, fun _ => h A k x y⟩
  by_cases c : gd oT a0 = true
  · by_cases c2 : inN 40 a1 = true
    · obtain ⟨T, d, rfl, hd, rfl⟩ := gd_nat c
      obtain ⟨y, hy, rfl⟩ := inN_true c2
      have hok := hs.1
      have hN := hok.1.2.2.1
      have hb := hok.2.2.2.2.1 d hd
      have e1 : S1.1.1 (300 + 4 * 0 + 3) d = iI (s.2.1 d) := hs.2.2.2.2.2.2.1 d hd
      have e6 : (uI S6 0 0 0).1 2 (6 + d) = iI (s.2.1 d) := by rw [uI_at, if_neg (by omega)]; exact hs.2.2.1.2.1 d hd
      have e12 : (6 : Int32) + iI (d : Nat) = iI ((6 + d : Nat) : Int) := by
        rw [show (6 : Int32) = iI (6 : Nat) from rfl, iI_add]; rfl
      by_cases cs : s.2.1 d = y
      · refine pt_q hI (w1 := fun p => w1_teach p tw1 S1 (iI (d : Nat)) (iI (y : Nat))) (w6 := fun p => w6_teach p tw6 S6 (iI (d : Nat)) (iI (y : Nat))) 0 5 (fun post h => ?_) (fun post h => ?_)
        · unfold w6_teach
          rintro S rfl
          refine g6_dead h6 ?_
          rw [c]
          refine ⟨fun _ => ?_, fun z => absurd z (by decide)⟩
          rw [show (39 : Int32) = iI (39 : Nat) from rfl]
          refine g6_in (by omega) ?_
          rw [c2, e12, iI_clampN (by omega), e6, cs]
          exact ⟨fun _ => ⟨iI_inN (by omega) (by omega), fun z => absurd rfl z, fun _ => s6_den fun S' k a0 b0 c0 => h S' (th_K.trans k) a0 b0 c0⟩, fun z => absurd z (by decide)⟩
        · unfold w1_teach
          refine g1_dead hs.r ?_
          rw [c]
          refine ⟨fun _ => ?_, fun z => absurd z (by decide)⟩
          rw [show (39 : Int32) = iI (39 : Nat) from rfl]
          refine g1_in (by omega) ?_
          rw [c2, iI_clampN (by omega), e1, cs]
          exact ⟨fun _ => ⟨iI_inN (by omega) (by omega), fun z => absurd rfl z, fun _ => den 5 (by decide) post h⟩, fun z => absurd z (by decide)⟩
      · have ci : ¬ (iI (s.2.1 d) : Int32) = iI (y : Nat) := fun z => cs ((iI_eqN (by omega) (by omega)).mp z)
        refine pt_chg (s' := slG s d y) (o := 6 + d) (z := 3) (d := d) (x := iI (y : Nat)) (w1 := fun p => w1_teach p tw1 S1 (iI (d : Nat)) (iI (y : Nat))) (w6 := fun p => w6_teach p tw6 S6 (iI (d : Nat)) (iI (y : Nat))) hs hC hT (by omega) (by omega) (by omega) (gok_slG hok (by omega)) (fun u6 q1 q2 => mS_sl hok hs.2.2.1 q1 q2 hd) (fun u1 q1 q2 q3 => cS_sl hs.2.2.2.2 q3 q1 q2) (fun post h => ?_) (fun post h => ?_)
        · unfold w6_teach
          rintro S rfl
          refine g6_dead h6 ?_
          rw [c]
          refine ⟨fun _ => ?_, fun z => absurd z (by decide)⟩
          rw [show (39 : Int32) = iI (39 : Nat) from rfl]
          refine g6_in (by omega) ?_
          rw [c2, e12, iI_clampN (by omega), e6]
          refine ⟨fun _ => ⟨iI_inN (by omega) (by omega), fun _ => ?_, fun z => absurd z ci⟩, fun z => absurd z (by decide)⟩
          have hh := h post (fun u hu => hu)
          rw [iI_clampN (by omega)] at hh
          exact hh
        · unfold w1_teach
          refine g1_dead hs.r ?_
          rw [c]
          refine ⟨fun _ => ?_, fun z => absurd z (by decide)⟩
          rw [show (39 : Int32) = iI (39 : Nat) from rfl]
          refine g1_in (by omega) ?_
          rw [c2, iI_clampN (by omega), e1]
          refine ⟨fun _ => ⟨iI_inN (by omega) (by omega), fun _ => ?_, fun z => absurd z ci⟩, fun z => absurd z (by decide)⟩
          unfold j1_teach_45
          refine s1_yes fun A k x0 y0 => ?_
          refine ⟨fun _ => ?_, fun z => absurd z (by decide)⟩
          exact h A k x0 y0 post (fun u hu => hu)
    · have c2 : inN 40 a1 = false := by simpa using c2
      refine pt_q hI (w1 := fun p => w1_teach p tw1 S1 a0 a1) (w6 := fun p => w6_teach p tw6 S6 a0 a1) 0 2 (fun post h => ?_) (fun post h => ?_)
      · unfold w6_teach
        rintro S rfl
        refine g6_dead h6 ?_
        rw [c]
        refine ⟨fun _ => ?_, fun z => absurd z (by decide)⟩
        rw [show (39 : Int32) = iI (39 : Nat) from rfl]
        refine g6_in (by omega) ?_
        rw [c2]
        exact ⟨fun z => absurd rfl z, fun _ => s6_den fun S' k a0 b0 c0 => h S' (th_K.trans k) a0 b0 c0⟩
      · unfold w1_teach
        refine g1_dead hs.r ?_
        rw [c]
        refine ⟨fun _ => ?_, fun z => absurd z (by decide)⟩
        rw [show (39 : Int32) = iI (39 : Nat) from rfl]
        refine g1_in (by omega) ?_
        rw [c2]
        exact ⟨fun z => absurd rfl z, fun _ => den 2 (by decide) post h⟩
  · have c : gd oT a0 = false := by simpa using c
    refine pt_q hI (w1 := fun p => w1_teach p tw1 S1 a0 a1) (w6 := fun p => w6_teach p tw6 S6 a0 a1) 0 1 (fun post h => ?_) (fun post h => ?_)
    · unfold w6_teach
      rintro S rfl
      refine g6_dead h6 ?_
      rw [c]
      exact ⟨fun z => absurd rfl z, fun _ => s6_den fun S' k a0 b0 c0 => h S' (th_K.trans k) a0 b0 c0⟩
    · unfold w1_teach
      refine g1_dead hs.r ?_
      rw [c]
      exact ⟨fun z => absurd rfl z, fun _ => den 1 (by decide) post h⟩
