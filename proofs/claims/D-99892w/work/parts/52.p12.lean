/-! PURE 12: more that is asked -/
set_option maxRecDepth 100000
section P12
variable {tw : Option (Nat → Nat)} {S : MS} {tw' : Option TD} {S' : CS} {s : GS} {oT : Option GT}
theorem g6_in {post : Int32 → Prop} {x : Int32} {N : Nat} (hN : N < 1000) (h : post (b01 (inN (N + 1) x))) : w6_in post x 0 (iI (N : Nat)) := by
  have a : x < 0 ↔ x.toInt < 0 := by rw [Int32.lt_iff_toInt_lt]; rfl
  have b : iI (N : Nat) < x ↔ (N : Int) < x.toInt := by rw [Int32.lt_iff_toInt_lt, iI_toInt (by omega) (by omega)]
  unfold w6_in
  rw [a, b]
  unfold inN at h
  refine ⟨fun c => ?_, fun c => ⟨fun d => ?_, fun d => ?_⟩⟩
  · rw [decide_eq_false (by omega)] at h; exact h
  · rw [decide_eq_false (by omega)] at h; exact h
  · rw [decide_eq_true (by omega)] at h; exact h
theorem e_dead (h : same tw S tw' S' oT s) (x y : Int32) : ∃ r t, Q6 S (fun p => w6_dead p tw S x y) r t ∧ Q1 S' (fun p => w1_dead p tw' S' x y) r t := by
  obtain ⟨r, t, q6, q1⟩ := e_q h (gd oT x && inN 4 y) (fun post S1 => ((¬ y = 0 → ((¬ y = 1 → ((¬ y = 2 → (vp_in (12 + x) 19 ∧ (w6_good (fun r11 S12 => (post r11 S12)) S1 (S1.1 2 (12 + x).toNatClampNeg)))) ∧ (y = 2 → ((∃ t, tw = some t) ∧ (vp_in x 6 ∧ (w6_good (fun r13 S14 => (post r13 S14)) S1 (S1.1 24 x.toNatClampNeg))))))) ∧ (y = 1 → (vp_in (6 + x) 19 ∧ (w6_good (fun r15 S16 => (post r15 S16)) S1 (S1.1 2 (6 + x).toNatClampNeg)))))) ∧ (y = 0 → ((∃ t, tw = some t) ∧ (vp_in x 6 ∧ (w6_good (fun r17 S18 => (post r17 S18)) S1 (S1.1 22 x.toNatClampNeg)))))))
    (fun post S2 => (y = 0 → ((∃ τ, tw' = some τ) ∧ (vp_in x 6 ∧ (x.toNatClampNeg < tG tw' ∧ (wg_law (fun v8 => (post v8 S2)) tw' x.toNatClampNeg))))) ∧ (¬ y = 0 → ((y = 1 → (vp_in x 6 ∧ (post (S2.1.1 (300 + 4 * 0 + 3) x.toNatClampNeg) S2))) ∧ (¬ y = 1 → ((y = 2 → ((∃ τ, tw' = some τ) ∧ (vp_in x 6 ∧ (x.toNatClampNeg < tG tw' ∧ (tL tw' x.toNatClampNeg < 4 ∧ (post (S2.1.1 (1001 + 2 * x.toNatClampNeg) 1) S2)))))) ∧ (¬ y = 2 → (vp_in x 6 ∧ (post (S2.1.1 (300 + 4 * 0 + 2) x.toNatClampNeg) S2)))))))) (fun c => by
    have c2 := Bool.and_eq_true_iff.mp c
    cases oT with
    | none => exact absurd c2.1 (by simp [gd])
    | some T =>
    obtain ⟨d, hd, rfl⟩ := inN_true c2.1
    have hok := h.1
    have hN := hok.1.2.2.1
    have hL := (hok.2.1 d hd).1
    have e12 : (12 : Int32) + iI (d : Nat) = iI ((12 + d : Nat) : Int) := by rw [show (12 : Int32) = iI 12 from rfl, iI_add]; rfl
    have e6 : (6 : Int32) + iI (d : Nat) = iI ((6 + d : Nat) : Int) := by rw [show (6 : Int32) = iI 6 from rfl, iI_add]; rfl
    have i6 : vp_in (iI (d : Nat)) 6 := iI_inN (by omega) (by omega)
    refine ⟨T, rfl, if y = 0 then iI (gL T d) else if y = 1 then iI (s.2.1 d) else if y = 2 then iI (gO T d) else iI (s.2.2 d), fun post S1 k e0 hT hS hp => ?_, fun post S1 k e0 e1 hT hS hp => ?_⟩
    · have g : ∀ v, v = (if y = 0 then iI (gL T d) else if y = 1 then iI (s.2.1 d) else if y = 2 then iI (gO T d) else iI (s.2.2 d)) → w6_good (fun r S => post r S) S1 v := fun v e => s6_good fun S3 k3 e4 e5 e6 => by rw [e]; exact hp S3 (k.trans k3) (e4.trans e0) e5 e6
      show (¬ y = 0 → _) ∧ (y = 0 → _)
      rw [e12, e6, iI_clampN (by omega), iI_clampN (by omega), iI_clampN (by omega), hS.2.1 d hd, hS.2.2 d hd, hT.2.2.2.2.1 d hd, hT.2.2.2.2.2 d hd]
      refine ⟨fun n0 => ⟨fun n1 => ⟨fun n2 => ⟨iI_inN (by omega) (by omega), g _ ?_⟩, fun n2 => ⟨hT.1, i6, g _ ?_⟩⟩, fun n1 => ⟨iI_inN (by omega) (by omega), g _ ?_⟩⟩, fun n0 => ⟨hT.1, i6, g _ ?_⟩⟩
      · rw [if_neg n0, if_neg n1, if_neg n2]
      · rw [if_neg n0, if_neg n1, if_pos n2]
      · rw [if_neg n0, if_pos n1]
      · rw [if_pos n0]
    · have g := hp S1 k e0 e1
      show (y = 0 → _) ∧ (¬ y = 0 → _)
      rw [iI_clampN (by omega), hS.2.2.1 d hd, hS.2.2.2 d hd, hT.2.2.2.2.2.2.2 d hd, hT.2.2.1]
      refine ⟨fun n0 => ⟨hT.1, i6, hd, ?_⟩, fun n0 => ⟨fun n1 => ⟨i6, ?_⟩, fun n1 => ⟨fun n2 => ⟨hT.1, i6, hd, ?_, ?_⟩, fun n2 => ⟨i6, ?_⟩⟩⟩⟩
      · rw [if_pos n0] at g
        unfold wg_law
        rw [hT.2.2.2.1 d hd]
        refine ⟨hL, fun c => ?_, fun c => ?_, fun c => ?_, fun c => ?_⟩
        · rw [c] at g; exact g
        · rw [c] at g; exact g
        · rw [c] at g; exact g
        · rw [c] at g; exact g
      · rw [if_neg n0, if_pos n1] at g; exact g
      · rw [hT.2.2.2.1 d hd]; exact hL
      · rw [if_neg n0, if_neg n1, if_pos n2] at g; exact g
      · rw [if_neg n0, if_neg n1, if_neg n2] at g; exact g)
  refine ⟨r, t, q6.mono fun post w => ?_, q1.mono fun post w => ?_⟩
  · have w := w (kU.m h.l)
    unfold w6_dead
    rintro S1 rfl
    refine g6_dead (kU.m h.l) ⟨fun c => w.2 (by rw [yb c]; rfl), fun c => ?_⟩
    rw [show (3 : Int32) = iI (3 : Nat) from rfl]
    exact g6_in (N := 3) (by omega) ⟨fun c2 => w.1 (by rw [nb c, nb c2]; rfl), fun c2 => w.2 (by rw [yb c2, Bool.and_false])⟩
  · have w := w (kA.m h.r)
    unfold w1_dead w1_anew
    rintro S1 rfl S2 rfl
    refine g1_dead (kA.m h.r) ⟨fun c => ?_, fun c => w.2 (by rw [yb c]; rfl)⟩
    refine ⟨fun n0 => (w.1 (by rw [nb c, n0]; decide)).1 n0, fun n0 => ⟨fun n1 => ((w.1 (by rw [nb c, n1]; decide)).2 n0).1 n1, fun n1 => ⟨fun n2 => (((w.1 (by rw [nb c, n2]; decide)).2 n0).2 n1).1 n2, fun n2 => ⟨fun n3 => (((w.1 (by rw [nb c, n3]; decide)).2 n0).2 n1).2 n2, fun n3 => w.2 ?_⟩⟩⟩⟩
    rw [Bool.and_eq_false_iff]
    refine Or.inr ?_
    cases e : inN 4 y with
    | false => rfl
    | true =>
      obtain ⟨m, hm, rfl⟩ := inN_true e
      exfalso
      rcases (show m = 0 ∨ m = 1 ∨ m = 2 ∨ m = 3 by omega) with rfl | rfl | rfl | rfl
      · exact n0 rfl
      · exact n1 rfl
      · exact n2 rfl
      · exact n3 rfl
end P12
