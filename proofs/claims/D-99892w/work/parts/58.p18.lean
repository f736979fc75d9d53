/-! PURE 18: another mirror, tried -/
set_option maxRecDepth 100000
/-- how often, from a on -/
def cntB (f : Nat → Bool) (a : Nat) : Nat → Int32
  | 0 => 0
  | i + 1 => if f (a + i) then cntB f a i + 1 else cntB f a i + 0
section P18
variable {tw' : Option TD} {S' : CS} {T : GT} {s : GS}
def miS (s : GS) (d : Nat) (v : Int) : GS := (s.1, s.2.1, fun e => if e = d then v else s.2.2 e)
theorem gok_mi (h : gok T s) {d : Nat} {v : Int} (hv : v = -2 ∨ (0 ≤ v ∧ v < gH T)) : gok T (miS s d v) := by
  obtain ⟨h1, h2, h3, h4, h5, h6⟩ := h
  refine ⟨h1, h2, h3, h4, h5, fun e he => ?_⟩
  show (if e = d then v else s.2.2 e) = -2 ∨ (0 ≤ (if e = d then v else s.2.2 e) ∧ (if e = d then v else s.2.2 e) < gH T)
  by_cases c : e = d
  · rw [if_pos c]; exact hv
  · rw [if_neg c]; exact h6 e he
theorem s1_mirrored {post : Int32 → CS → Prop} (hok : gok T s) (hT : cT tw' S' T) (hS : cS tw' 0 S' T s) {d h a b : Nat} (hd : d < gN T) (hh : h < gH T) (ha : a ≤ b + 1) (hb : b < 150) (hp : ∀ S1, K1 S' S1 → S1.1.1 0 = S'.1.1 0 → post (cntB (fun n => riN T (miS s d h) d n 0) a (b + 1 - a)) S1) : w1_mirrored post tw' S' (iI d) (iI h) (iI a) (iI b) := by
  have hN := hok.1.2.2.1
  unfold w1_mirrored
  refine s4_try hok hS fun S4 k4 e5 hS4 _ => ?_
  rw [iI_clampN (by omega)]
  refine ⟨iI_inN (by omega) (by omega), ?_⟩
  rintro S10 rfl
  have k10 : K1 S4 (sI S4 (300 + 4 * 2 + 2) d (iI h)) := K1.sI (by unfold sc1; omega)
  have kk : K1 S' (sI S4 (300 + 4 * 2 + 2) d (iI h)) := k4.trans k10
  have o0 : (sI S4 (300 + 4 * 2 + 2) d (iI h)).1.1 0 = S'.1.1 0 := by
    show (sA S4 (300 + 4 * 2 + 2) (upd (S4.1.1 (300 + 4 * 2 + 2)) d (iI h))).1.1 0 = _
    rw [sA_ne (by omega), e5]
  have hS10 : cS tw' 2 (sI S4 (300 + 4 * 2 + 2) d (iI h)) T (miS s d h) := by
    obtain ⟨⟨τ, t1, t2⟩, h1, h2, h3⟩ := hS4
    refine ⟨⟨τ, t1, t2⟩, fun p hp => ?_, fun e he => ?_, fun e he => ?_⟩
    · show (sA S4 (300 + 4 * 2 + 2) (upd (S4.1.1 (300 + 4 * 2 + 2)) d (iI h))).1.1 (300 + 4 * 2 + 1) p = _
      rw [sA_ne (by omega)]; exact h1 p hp
    · show (sA S4 (300 + 4 * 2 + 2) (upd (S4.1.1 (300 + 4 * 2 + 2)) d (iI h))).1.1 (300 + 4 * 2 + 3) e = _
      rw [sA_ne (by omega)]; exact h2 e he
    · show (sA S4 (300 + 4 * 2 + 2) (upd (S4.1.1 (300 + 4 * 2 + 2)) d (iI h))).1.1 (300 + 4 * 2 + 2) e = iI (if e = d then (h : Int) else s.2.2 e)
      rw [sA_eq]
      show (if e = d then iI h else S4.1.1 (300 + 4 * 2 + 2) e) = _
      by_cases c : e = d
      · rw [if_pos c, if_pos c]
      · rw [if_neg c, if_neg c]; exact h3 e he
  have hg := gok_mi (d := d) (v := (h : Int)) hok (Or.inr ⟨by omega, by omega⟩)
  refine lp_up (b + 1 - a) (fun i => (cntB (fun n => riN T (miS s d h) d n 0) a i, iI ((a + i : Nat) : Int))) rfl (fun i hi K hK => ?_) (fun K => ?_)
  · show f1_mirrored_23 post tw' _ (iI d) (iI b) K (cntB (fun n => riN T (miS s d h) d n 0) a i) (iI ((a + i : Nat) : Int))
    unfold f1_mirrored_23
    rw [iI_ltN (by omega) (by omega), iI_succ]
    refine ⟨fun c => absurd c (by omega), fun _ => s4_isRight (f := 0) hg (kk.T hT) hS10 hd (by omega) (by omega) ?_⟩
    rw [b01_eq]
    rw [cntB] at hK
    refine ⟨fun c => ?_, fun c => ?_⟩
    · rw [if_neg (by rw [c]; decide)] at hK; exact hK
    · rw [if_pos ((Bool.not_eq_false _).mp c)] at hK; exact hK
  · show f1_mirrored_23 post tw' _ (iI d) (iI b) K (cntB (fun n => riN T (miS s d h) d n 0) a (b + 1 - a)) (iI ((a + (b + 1 - a) : Nat) : Int))
    unfold f1_mirrored_23
    rw [iI_ltN (by omega) (by omega)]
    exact ⟨fun _ => hp _ kk o0, fun c => absurd (by omega) c⟩
end P18
