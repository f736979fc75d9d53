/-! PURE 16: a street that is tried -/
set_option maxRecDepth 100000
section P16
variable {tw' : Option TD} {S' : CS} {T : GT} {s : GS}
theorem cpy6 {f g : Nat → Int32} {i : Nat} (h : i < 6) : va_cpy f g 0 0 6 i = f i := by
  unfold va_cpy
  simp [h]
theorem K1.sA {S : CS} {r : Nat} {f : Nat → Int32} (h : ∀ k, sc1 r k) : K1 S (sA S r f) := by
  refine ⟨fun a j c => ?_, fun _ _ => rfl, fun _ => rfl⟩
  by_cases e : a = r
  · subst e; exact absurd (h j) c
  · rw [sA_ne e]
theorem s4_try {post : CS → Prop} (hok : gok T s) (hS : cS tw' 0 S' T s) (h : ∀ S1, K1 S' S1 → S1.1.1 0 = S'.1.1 0 → cS tw' 2 S1 T s → S1.1.1 308 4 = S'.1.1 300 4 → post S1) : w4_become post S' 2 0 := by
  have hN := hok.1.2.2.1
  have hP := hok.1.2.1
  obtain ⟨⟨τ, t1, t2⟩, h1, h2, h3⟩ := hS
  unfold w4_become
  rintro S1 rfl S2 rfl S3 rfl S4 rfl S5 rfl
  have kT : K1 S' (sT S' 2 (S'.2.1 0)) := ⟨fun _ _ _ => rfl, fun r c => if_neg c, fun _ => rfl⟩
  refine h _ (((kT.trans (K1.sI (by unfold sc1; omega))).trans (K1.sA (fun k => by unfold sc1; omega))).trans (K1.sA (fun k => by unfold sc1; omega)) |>.trans (K1.sA (fun k => by unfold sc1; omega))) ?_ ⟨⟨τ, t1, ?_⟩, fun p hp => ?_, fun d hd => ?_, fun d hd => ?_⟩ ?_
  · rw [sA_ne (by omega), sA_ne (by omega), sA_ne (by omega)]; rfl
  · show (if (2 : Nat) = 2 then S'.2.1 0 else S'.2.1 2) = _
    rw [if_pos rfl]; exact t2
  · rw [sA_ne (by omega), sA_ne (by omega), sA_eq, cpy6 (by omega)]; exact h1 p hp
  · rw [sA_eq, cpy6 (by omega), sA_ne (by omega), sA_ne (by omega)]; exact h2 d hd
  · rw [sA_ne (by omega), sA_eq, cpy6 (by omega), sA_ne (by omega)]; exact h3 d hd
  · rw [sA_ne (by omega), sA_ne (by omega), sA_ne (by omega)]; rfl
end P16
