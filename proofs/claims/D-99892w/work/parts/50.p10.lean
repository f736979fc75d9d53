/-! PURE 10: more that is asked -/
set_option maxRecDepth 100000
section P10
variable {tw : Option (Nat → Nat)} {S : MS} {tw' : Option TD} {S' : CS} {s : GS} {oT : Option GT}
/-- refused, or the body -/
theorem e_q (h : same tw S tw' S' oT s) (b : Bool) (B6 : (Int32 → MS → Prop) → MS → Prop) (B1 : (Int32 → CS → Prop) → CS → Prop) (H : b = true → ∃ T, oT = some T ∧ Body tw S tw' S' T s B6 B1) :
    ∃ r t, Q6 S (fun post => m6 tw (uI S 0 0 0) oT s → (b = true → B6 post (uI S 0 0 0)) ∧ (b = false → w6_refused (fun r10 S11 => post r10 S11) (uI S 0 0 0) 1)) r t ∧
      Q1 S' (fun post => c1 tw' (sI (sI S' 0 4 0) 0 6 (-1)) oT s → (b = true → B1 post (sI (sI S' 0 4 0) 0 6 (-1))) ∧ (b = false → w1_no (fun r7 S8 => post r7 S8) (sI (sI S' 0 4 0) 0 6 (-1)) 1)) r t := by
  obtain ⟨r, t, q6, q1⟩ := e_why (why := if b = true then 0 else 1) (B6 := B6) (B1 := B1) h (by cases b <;> simp) (fun c => H (by cases b with | true => rfl | false => exact absurd c (by decide)))
  refine ⟨r, t, q6.mono fun post w _ => ?_, q1.mono fun post w _ => ?_⟩
  · have w := w _ rfl
    cases b with
    | true => exact ⟨fun _ => w.1 (by decide), fun c => by cases c⟩
    | false => exact ⟨fun c => (by cases c), fun _ => w.2 (by decide)⟩
  · unfold w1_anew at w
    have w := w _ rfl _ rfl
    cases b with
    | true => exact ⟨fun _ => w.1 rfl, fun c => by cases c⟩
    | false => exact ⟨fun c => (by cases c), fun _ => w.2 (by decide)⟩
theorem kU {S : MS} : K6 S (uI S 0 0 0) := K6.uI (by unfold sc6; omega)
theorem kA {S : CS} : K1 S (sI (sI S 0 4 0) 0 6 (-1)) := (K1.sI (by unfold sc1; omega)).trans (K1.sI (by unfold sc1; omega))
theorem nb {b : Bool} (h : ¬ b01 b = 0) : b = true := (Bool.not_eq_false _).mp (fun c => h ((b01_eq b).mpr c))
theorem yb {b : Bool} (h : b01 b = 0) : b = false := (b01_eq b).mp h
theorem e_house (h : same tw S tw' S' oT s) (x : Int32) : ∃ r t, Q6 S (fun p => w6_house p tw S x) r t ∧ Q1 S' (fun p => w1_house p tw' S' x) r t := by
  obtain ⟨r, t, q6, q1⟩ := e_q h (gh oT x) (fun post S1 => w6_works (fun S5 => w6_whoIn (fun r6 => w6_good (fun r7 S8 => post r7 S8) S5 r6) tw S5 x) S1) (fun post S2 => w4_who (fun r7 => post r7 S2) tw' S2 0 x) (fun c => by
    cases oT with
    | none => cases c
    | some T =>
      obtain ⟨a, ha, rfl⟩ := inN_true (show inN (gH T) x = true from c)
      have hok := h.1
      have hH := hok.1.2.2.2.2
      refine ⟨T, rfl, iI (whoN T s a), fun post S1 k e0 hT hS hp => ?_, fun post S1 k e0 e1 hT hS hp => ?_⟩
      · refine s6_works fun S2 k2 e3 hw => ?_
        exact s6_whoIn hok (k2.T hT) (works_S hok hw hS) (by omega) (s6_good fun S3 k3 e4 e5 e6 => hp S3 (k.trans (k2.trans k3)) (e4.trans (e3.trans e0)) e5 e6)
      · exact s4_who hok hT hS (by omega) (hp S1 k e0 e1))
  refine ⟨r, t, q6.mono fun post w => ?_, q1.mono fun post w => ?_⟩
  · have w := w (kU.m h.l)
    unfold w6_house
    rintro S1 rfl
    exact g6_house (kU.m h.l) ⟨fun c => w.1 (nb c), fun c => w.2 (yb c)⟩
  · have w := w (kA.m h.r)
    unfold w1_house w1_anew
    rintro S1 rfl S2 rfl
    exact g1_house (kA.m h.r) ⟨fun c => w.2 (yb c), fun c => w.1 (nb c)⟩
theorem e_perfect (h : same tw S tw' S' oT s) : ∃ r t, Q6 S (fun p => w6_perfect p tw S) r t ∧ Q1 S' (fun p => w1_perfect p tw' S') r t := by
  obtain ⟨r, t, q6, q1⟩ := e_q h (gt oT) (fun post S1 => w6_works (fun S6 => (lp (fun (K : (Int32 × Int32) → Prop) (z : (Int32 × Int32)) => f6_perfect_26 post tw S6 K z.1 z.2) (0, 0))) S1) (fun post S2 => lp (fun (K : (Int32 × Int32) → Prop) (z : (Int32 × Int32)) => f1_perfect_21 post tw' S2 K z.1 z.2) (0, 0)) (fun c => by
    obtain ⟨T, rfl⟩ := gt_true c
    have hok := h.1
    let step : Int32 × Nat → (Int32 × Nat) ⊕ Int32 := fun z => if 100 ≤ z.2 then .inr z.1 else if pop (setB (fun d => riN T s d z.2 0) (gN T)) = iI (gN T : Nat) then .inl (z.1 + 1, z.2 + 1) else .inl (z.1 + 0, z.2 + 1)
    have hP : ∀ z z' : Int32 × Nat, z.2 ≤ 100 → step z = .inl z' → z'.2 ≤ 100 ∧ 100 - z'.2 < 100 - z.2 := by
      intro z z' hi e
      dsimp only [step] at e
      by_cases c : 100 ≤ z.2
      · rw [if_pos c] at e; cases e
      · rw [if_neg c] at e
        by_cases c2 : pop (setB (fun d => riN T s d z.2 0) (gN T)) = iI (gN T : Nat)
        · rw [if_pos c2] at e; cases e; dsimp only; omega
        · rw [if_neg c2] at e; cases e; dsimp only; omega
    obtain ⟨r, hr⟩ := lp_two (fun z => z.2 ≤ 100) (fun z => 100 - z.2) step hP (0, 0) (Nat.zero_le _)
    refine ⟨T, rfl, r, fun post S1 k e0 hT hS hp => ?_, fun post S1 k e0 e1 hT hS hp => ?_⟩
    · refine s6_works fun S2 k2 e3 hw => ?_
      have hT2 := k2.T hT
      have hS2 := works_S hok hw hS
      refine lp_res (P := fun z : Int32 × Nat => z.2 ≤ 100) (fun z => (z.1, iI (z.2 : Nat))) hr (Nat.zero_le _) (fun z z' a b => (hP z z' a b).1) (good := fun r => ∀ S3, K6 S S3 → S3.1 0 0 = 0 → S3.1 0 1 = 0 → S3.1 0 2 = -1 → post r S3) hp ?_
      rintro ⟨c, i⟩ K hi hK hg
      have hi : i ≤ 100 := hi
      show f6_perfect_26 post tw S2 K c (iI i)
      unfold f6_perfect_26
      dsimp only [step] at hK hg
      rw [show (100 : Int32) = iI (100 : Nat) from rfl, iI_leN (by omega) (by omega), iI_succ]
      refine ⟨fun cc => ?_, fun cc => s6_rightOn hok hT2 hS2 (show i < 200 by omega) (s6_bits ?_)⟩
      · exact s6_good fun S3 k3 e4 e5 e6 => hg _ (if_pos cc) S3 (k.trans (k2.trans k3)) (e4.trans (e3.trans e0)) e5 e6
      · rw [if_neg cc] at hK
        rw [hT2.2.2.1]
        exact ⟨fun c2 => hK (c + 0, i + 1) (if_neg c2), fun c2 => hK (c + 1, i + 1) (if_pos c2)⟩
    · refine lp_res (P := fun z : Int32 × Nat => z.2 ≤ 100) (fun z => (z.1, iI (z.2 : Nat))) hr (Nat.zero_le _) (fun z z' a b => (hP z z' a b).1) (good := fun r => post r S1) (hp S1 k e0 e1) ?_
      rintro ⟨c, i⟩ K hi hK hg
      have hi : i ≤ 100 := hi
      show f1_perfect_21 post tw' S1 K c (iI i)
      unfold f1_perfect_21
      dsimp only [step] at hK hg
      rw [show (99 : Int32) = iI (99 : Nat) from rfl, iI_ltN (by omega) (by omega), iI_succ]
      refine ⟨fun cc => hg _ (if_pos (by omega)), fun cc => s4_rightOnes hok hT hS (show i < 200 by omega) (s1_ones ?_)⟩
      rw [if_neg (show ¬ 100 ≤ i by omega)] at hK
      rw [hT.2.2.2.2.2.1]
      exact ⟨fun c2 => hK (c + 0, i + 1) (if_neg c2), fun c2 => hK (c + 1, i + 1) (if_pos c2)⟩)
  refine ⟨r, t, q6.mono fun post w => ?_, q1.mono fun post w => ?_⟩
  · have w := w (kU.m h.l)
    unfold w6_perfect
    rintro S1 rfl
    cases oT with
    | none => exact ⟨fun _ => w.2 rfl, fun ⟨t, c⟩ => by rw [show tw = none from h.1] at c; cases c⟩
    | some T =>
      obtain ⟨t, ht⟩ := h.2.1.1
      exact ⟨fun c => (by rw [ht] at c; cases c), fun _ => w.1 rfl⟩
  · have w := w (kA.m h.r)
    unfold w1_perfect w1_anew
    rintro S1 rfl S2 rfl
    cases oT with
    | none => exact ⟨fun _ => w.2 rfl, fun ⟨t, c⟩ => by rw [show tw' = none from h.2] at c; cases c⟩
    | some T =>
      obtain ⟨t, ht⟩ := h.2.2.2.1.1
      exact ⟨fun c => (by rw [ht] at c; cases c), fun _ => w.1 rfl⟩
end P10
