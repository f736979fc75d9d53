/-! PURE 13: more that is asked -/
set_option maxRecDepth 100000
section P13
variable {tw : Option (Nat → Nat)} {S : MS} {tw' : Option TD} {S' : CS} {s : GS} {oT : Option GT}
theorem s4_forOne {post : Int32 → Prop} {T : GT} {r : Nat} (hok : gok T s) (hT : cT tw' S' T) (hS : cS tw' r S' T s) {p : Nat} (hpp : p < gP T) (hp : post (setB (fun d => gO T d = p) (gN T))) : w4_forOne post tw' S' r (iI p) := by
  have hN := hok.1.2.2.1
  have hP := hok.1.2.1
  unfold w4_forOne
  refine lp_set (gN T) (fun d => gO T d = p) (fun i hi K hK => ?_) (fun K => ?_)
  · show f4_forOne_4 post tw' S' r (iI p) K (setB (fun d => gO T d = p) i) (iI i)
    have hO := (hok.2.1 i hi).2
    have hL := (hok.2.1 i hi).1
    unfold f4_forOne_4
    rw [hT.2.2.2.2.2.1, iI_leN (by omega) (by omega), iI_succ, iI_clampN (by omega), hT.2.2.1, hT.2.2.2.1 i hi, hT.2.2.2.2.2.2.2 i hi, iI_eqN (by omega) (by omega)]
    rw [setB] at hK
    refine ⟨hS.1, fun c => absurd c (by omega), fun _ => ⟨iI_inN (by omega) (by omega), hi, hL, fun c => ?_, fun c => ?_⟩⟩
    · rw [if_neg (by simpa using c)] at hK; exact hK
    · rw [if_pos (by simpa using c)] at hK; exact hK
  · show f4_forOne_4 post tw' S' r (iI p) K (setB (fun d => gO T d = p) (gN T)) (iI (gN T))
    unfold f4_forOne_4
    rw [hT.2.2.2.2.2.1, iI_leN (by omega) (by omega)]
    exact ⟨hS.1, fun _ => hp, fun c => absurd (Nat.le_refl _) c⟩
theorem e_person (h : same tw S tw' S' oT s) {n : Nat} (hn : n < 100) (hn6 : S.1 2 18 = iI n) (hn1 : S'.1.1 (300 + 4 * 0) 4 = iI n) (x y : Int32) : ∃ r t, Q6 S (fun p => w6_person p tw S x y) r t ∧ Q1 S' (fun p => w1_person p tw' S' x y) r t := by
  obtain ⟨r, t, q6, q1⟩ := e_q h (gp oT x && inN 3 y) (fun post S1 => w6_works (fun S9 => (lp (fun (K : (Int32 × Int32) → Prop) (z : (Int32 × Int32)) => f6_person_37 post tw S9 x y K z.1 z.2) (0, 0))) S1)
    (fun post S2 => (y = 0 → (vp_in x 6 ∧ (post (S2.1.1 (300 + 4 * 0 + 1) x.toNatClampNeg) S2))) ∧ (¬ y = 0 → ((y = 1 → (w4_forOne (fun r8 => (post r8 S2)) tw' S2 0 x)) ∧ (¬ y = 1 → (w4_heard (fun r10 => (post r10 S2)) tw' S2 0 x (S2.1.1 (300 + 4 * 0) 4)))))) (fun c => by
    have c2 := Bool.and_eq_true_iff.mp c
    cases oT with
    | none => exact absurd c2.1 (by simp [gp])
    | some T =>
    obtain ⟨p, hpp, rfl⟩ := inN_true c2.1
    have hok := h.1
    have hN := hok.1.2.2.1
    have hP := hok.1.2.1
    have hb := hok.2.2.1 p hpp
    refine ⟨T, rfl, if y = 0 then iI (s.1 p) else if y = 1 then setB (fun d => gO T d = p) (gN T) else setB (fun d => earN T s d n 0 = p) (gN T), fun post S1 k e0 hT hS hp => ?_, fun post S1 k e0 e1 hT hS hp => ?_⟩
    · refine s6_works fun S2 k2 e3 hw => ?_
      have hT2 := k2.T hT
      have hS2 := works_S hok hw hS
      have g : ∀ v, v = (if y = 0 then iI (s.1 p) else if y = 1 then setB (fun d => gO T d = p) (gN T) else setB (fun d => earN T s d n 0 = p) (gN T)) → w6_good (fun r S => post r S) S2 v := fun v e => s6_good fun S3 k3 e4 e5 e6 => by rw [e]; exact hp S3 (k.trans (k2.trans k3)) (e4.trans (e3.trans e0)) e5 e6
      have hv : S2.1 2 18 = iI n := by rw [(k.trans k2) 2 18 (by unfold sc6; omega)]; exact hn6
      have hx : S2.1 2 p = iI (s.1 p) := (k2.S hS).1 p hpp
      refine lp_set (gN T) (fun d => gO T d = p) (fun i hi K hK => ?_) (fun K => ?_)
      · show f6_person_37 post tw S2 (iI p) y K (setB (fun d => gO T d = p) i) (iI i)
        have hO := (hok.2.1 i hi).2
        unfold f6_person_37
        rw [hT2.2.2.1, iI_leN (by omega) (by omega), iI_succ, iI_clampN (n := i) (by omega), hT2.2.2.2.2.2 i hi, iI_eqN (by omega) (by omega)]
        rw [setB] at hK
        refine ⟨hT2.1, fun c => absurd c (by omega), fun _ => ⟨iI_inN (by omega) (by omega), fun c => ?_, fun c => ?_⟩⟩
        · rw [if_neg (by simpa using c)] at hK; exact hK
        · rw [if_pos (by simpa using c)] at hK; exact hK
      · show f6_person_37 post tw S2 (iI p) y K (setB (fun d => gO T d = p) (gN T)) (iI (gN T))
        unfold f6_person_37
        rw [hT2.2.2.1, iI_leN (by omega) (by omega), hv, iI_clampN (n := p) (by omega), hx]
        refine ⟨hT2.1, fun _ => ⟨fun n0 => ⟨fun n1 => s6_heardOf hok hT2 hS2 hpp (by omega) (g _ ?_), fun n1 => g _ ?_⟩, fun n0 => ⟨iI_inN (by omega) (by omega), g _ ?_⟩⟩, fun c => absurd (Nat.le_refl _) c⟩
        · rw [if_neg n0, if_neg n1]
        · rw [if_neg n0, if_pos n1]
        · rw [if_pos n0]
    · have g := hp S1 k e0 e1
      show (y = 0 → _) ∧ (¬ y = 0 → _)
      have hv : S1.1.1 (300 + 4 * 0) 4 = iI n := by rw [k.1 _ _ (by unfold sc1; omega)]; exact hn1
      rw [iI_clampN (by omega), hS.2.1 p hpp, hv]
      refine ⟨fun n0 => ⟨iI_inN (by omega) (by omega), ?_⟩, fun n0 => ⟨fun n1 => s4_forOne hok hT hS hpp ?_, fun n1 => s4_heard hok hT hS hpp (by omega) ?_⟩⟩
      · rw [if_pos n0] at g; exact g
      · rw [if_neg n0, if_pos n1] at g; exact g
      · rw [if_neg n0, if_neg n1] at g; exact g)
  refine ⟨r, t, q6.mono fun post w => ?_, q1.mono fun post w => ?_⟩
  · have w := w (kU.m h.l)
    unfold w6_person
    rintro S1 rfl
    refine g6_person (kU.m h.l) ⟨fun c => w.2 (by rw [yb c]; rfl), fun c => ?_⟩
    rw [show (2 : Int32) = iI (2 : Nat) from rfl]
    exact g6_in (N := 2) (by omega) ⟨fun c2 => w.1 (by rw [nb c, nb c2]; rfl), fun c2 => w.2 (by rw [yb c2, Bool.and_false])⟩
  · have w := w (kA.m h.r)
    unfold w1_person w1_anew
    rintro S1 rfl S2 rfl
    refine g1_person (kA.m h.r) ⟨fun c => ?_, fun c => w.2 (by rw [yb c]; rfl)⟩
    refine ⟨fun n0 => (w.1 (by rw [nb c, n0]; decide)).1 n0, fun n0 => ⟨fun n1 => ((w.1 (by rw [nb c, n1]; decide)).2 n0).1 n1, fun n1 => ⟨fun n2 => ((w.1 (by rw [nb c, n2]; decide)).2 n0).2 n1, fun n2 => w.2 ?_⟩⟩⟩
    rw [Bool.and_eq_false_iff]
    refine Or.inr ?_
    cases e : inN 3 y with
    | false => rfl
    | true =>
      obtain ⟨m, hm, rfl⟩ := inN_true e
      exfalso
      rcases (show m = 0 ∨ m = 1 ∨ m = 2 by omega) with rfl | rfl | rfl
      · exact n0 rfl
      · exact n1 rfl
      · exact n2 rfl
end P13
