/-! PURE 23: how it was is kept -/
set_option maxRecDepth 100000
/-- where the next row goes, and whence the rows below come -/
def rb (a : Nat) : Nat := if a = 16 then 15 else a
def rs (a j : Nat) : Nat := if a = 16 then j + 1 else j
theorem rb_lt {a : Nat} (h : a ≤ 16) : rb a < 16 := by unfold rb; by_cases c : a = 16 <;> simp [c] <;> omega
def rem6 (S : MS) (a : Nat) (u : MS) : Prop := (∀ r k, r ≠ 4 → ¬ (r = 0 ∧ k = 19) → u.1 r k = S.1 r k) ∧ u.1 0 19 = iI ((rb a + 1 : Nat) : Int) ∧ (∀ k, k < 19 → u.1 4 (19 * rb a + k) = S.1 2 k) ∧ ∀ j k, j < rb a → k < 19 → u.1 4 (19 * j + k) = S.1 4 (19 * rs a j + k)
def rowF (S : MS) (b i : Nat) : MS := (fun r k => if r = 4 ∧ 19 * b ≤ k ∧ k < 19 * b + i then S.1 2 (k - 19 * b) else S.1 r k, S.2)
def shF (S : MS) (i : Nat) : MS := (fun r k => if r = 4 ∧ k < i then S.1 4 (k + 19) else S.1 r k, S.2)
theorem rowF_at (S : MS) (b i r k : Nat) : (rowF S b i).1 r k = if r = 4 ∧ 19 * b ≤ k ∧ k < 19 * b + i then S.1 2 (k - 19 * b) else S.1 r k := rfl
theorem shF_at (S : MS) (i r k : Nat) : (shF S i).1 r k = if r = 4 ∧ k < i then S.1 4 (k + 19) else S.1 r k := rfl
theorem uI_at (S : MS) (r0 k0 : Nat) (v : Int32) (r k : Nat) : (uI S r0 k0 v).1 r k = if r = r0 ∧ k = k0 then v else S.1 r k := by
  show (if r = r0 then upd (S.1 r0) k0 v else S.1 r) k = _
  by_cases h : r = r0
  · subst h
    rw [if_pos rfl]
    unfold upd
    by_cases h2 : k = k0
    · rw [if_pos h2, if_pos ⟨rfl, h2⟩]
    · rw [if_neg h2, if_neg (fun c => h2 c.2)]
  · rw [if_neg h, if_neg (fun c => h c.1)]
theorem rowF_up (S : MS) (b i : Nat) : uI (rowF S b i) 4 (19 * b + i) (S.1 2 i) = rowF S b (i + 1) := by
  refine Prod.ext (funext fun r => funext fun k => ?_) rfl
  rw [uI_at, rowF_at, rowF_at]
  by_cases a4 : r = 4
  · by_cases ji : k = 19 * b + i
    · rw [if_pos ⟨a4, ji⟩, if_pos (by omega), ji, Nat.add_sub_cancel_left]
    · rw [if_neg (fun c => ji c.2)]
      by_cases h : r = 4 ∧ 19 * b ≤ k ∧ k < 19 * b + i
      · rw [if_pos h, if_pos (by omega)]
      · rw [if_neg h, if_neg (by omega)]
  · rw [if_neg (fun c => a4 c.1), if_neg (fun c => a4 c.1), if_neg (fun c => a4 c.1)]
theorem shF_up (S : MS) (i : Nat) : uI (shF S i) 4 i (S.1 4 (i + 19)) = shF S (i + 1) := by
  refine Prod.ext (funext fun r => funext fun k => ?_) rfl
  rw [uI_at, shF_at, shF_at]
  by_cases a4 : r = 4
  · by_cases ji : k = i
    · rw [if_pos ⟨a4, ji⟩, if_pos (by omega), ji]
    · rw [if_neg (fun c => ji c.2)]
      by_cases h : r = 4 ∧ k < i
      · rw [if_pos h, if_pos (by omega)]
      · rw [if_neg h, if_neg (by omega)]
  · rw [if_neg (fun c => a4 c.1), if_neg (fun c => a4 c.1), if_neg (fun c => a4 c.1)]
theorem rowF_0 (S : MS) (b : Nat) : rowF S b 0 = S := Prod.ext (funext fun r => funext fun k => if_neg (by omega)) rfl
theorem shF_0 (S : MS) : shF S 0 = S := Prod.ext (funext fun r => funext fun k => if_neg (by omega)) rfl
theorem s6_row {post : MS → Prop} {S : MS} {b : Nat} (hb : b < 16) (hS : S.1 0 19 = iI b) (h : ∀ u : MS, (∀ r k, r ≠ 4 → ¬ (r = 0 ∧ k = 19) → u.1 r k = S.1 r k) → u.1 0 19 = iI ((b + 1 : Nat) : Int) → (∀ k, k < 19 → u.1 4 (19 * b + k) = S.1 2 k) → (∀ k, ¬ (19 * b ≤ k ∧ k < 19 * b + 19) → u.1 4 k = S.1 4 k) → post u) : lp (fun (K : (MS × Int32) → Prop) (z : (MS × Int32)) => f6_remembers_51 post K z.1 z.2) (S, 0) := by
  have e0 : ∀ i, (rowF S b i).1 0 19 = iI b := fun i => by rw [rowF_at, if_neg (by omega)]; exact hS
  refine lp_up 19 (fun i => (rowF S b i, iI i)) ?_ (fun i hi K hK => ?_) (fun K => ?_)
  · show (S, (0 : Int32)) = (rowF S b 0, iI (0 : Nat))
    rw [rowF_0]; rfl
  · show f6_remembers_51 post K (rowF S b i) (iI i)
    unfold f6_remembers_51
    rw [e0, show (19 : Int32) = iI (19 : Nat) from rfl, iI_leN (by omega) (by omega), iI_mul, iI_add, show ((19 : Nat) : Int) * (b : Int) + (i : Int) = ((19 * b + i : Nat) : Int) by omega, iI_clampN (by omega), iI_clampN (by omega), iI_succ i]
    refine ⟨fun c => absurd c (by omega), fun _ => ⟨iI_inN (by omega) (by omega), iI_inN (by omega) (by omega), fun S4 e => ?_⟩⟩
    rw [e, rowF_at, if_neg (by omega), rowF_up]
    exact hK
  · show f6_remembers_51 post K (rowF S b 19) (iI (19 : Nat))
    unfold f6_remembers_51
    refine ⟨fun _ => ?_, fun c => absurd (Int32.le_refl _) c⟩
    rintro S3 rfl
    rw [e0, iI_succ]
    refine h _ (fun r k c d => ?_) ?_ (fun k hk => ?_) (fun k hk => ?_)
    · rw [uI_at, if_neg d, rowF_at, if_neg (fun z => c z.1)]
    · rw [uI_at, if_pos ⟨rfl, rfl⟩]
    · rw [uI_at, if_neg (by omega), rowF_at, if_pos (by omega), Nat.add_sub_cancel_left]
    · rw [uI_at, if_neg (by omega), rowF_at, if_neg (by omega)]
theorem s6_remembers {post : MS → Prop} {S : MS} {a : Nat} (ha : a ≤ 16) (hS : S.1 0 19 = iI a) (h : ∀ u, rem6 S a u → post u) : w6_remembers post S := by
  unfold w6_remembers
  rw [hS, show (16 : Int32) = iI (16 : Nat) from rfl, iI_eqN (by omega) (by omega)]
  refine ⟨fun c => ?_, fun c => ?_⟩
  · refine s6_row (b := a) (by omega) hS (fun u h1 h2 h3 h4 => h u ?_)
    unfold rem6 rb rs
    rw [if_neg c]
    refine ⟨h1, h2, h3, fun j k hj hk => ?_⟩
    rw [if_neg c]
    exact h4 _ (by omega)
  · subst c
    refine lp_up 285 (fun i => (shF S i, iI i)) ?_ (fun i hi K hK => ?_) (fun K => ?_)
    · show (S, (0 : Int32)) = (shF S 0, iI (0 : Nat))
      rw [shF_0]; rfl
    · show f6_remembers_11 post K (shF S i) (iI i)
      unfold f6_remembers_11
      rw [show (285 : Int32) = iI (285 : Nat) from rfl, iI_leN (by omega) (by omega), show (19 : Int32) = iI (19 : Nat) from rfl, iI_add, show (i : Int) + (19 : Nat) = ((i + 19 : Nat) : Int) by omega, iI_clampN (by omega), iI_clampN (by omega), iI_succ i]
      refine ⟨fun c => absurd c (by omega), fun _ => ⟨iI_inN (by omega) (by omega), iI_inN (by omega) (by omega), fun S7 e => ?_⟩⟩
      rw [e, shF_at, if_neg (by omega), shF_up]
      exact hK
    · show f6_remembers_11 post K (shF S 285) (iI (285 : Nat))
      unfold f6_remembers_11
      refine ⟨fun _ => ?_, fun c => absurd (Int32.le_refl _) c⟩
      rintro S6 rfl
      rw [show (shF S 285).1 0 19 = iI (16 : Nat) by rw [shF_at, if_neg (by omega)]; exact hS]
      refine s6_row (b := 15) (by omega) (by rw [uI_at, if_pos ⟨rfl, rfl⟩]; rfl) (fun u h1 h2 h3 h4 => h u ?_)
      unfold rem6 rb rs
      rw [if_pos rfl]
      refine ⟨fun r k c d => ?_, h2, fun k hk => ?_, fun j k hj hk => ?_⟩
      · rw [h1 r k c d, uI_at, if_neg d, shF_at, if_neg (by omega)]
      · rw [h3 k hk, uI_at, if_neg (by omega), shF_at, if_neg (by omega)]
      · rw [if_pos rfl, h4 _ (by omega), uI_at, if_neg (by omega), shF_at, if_pos (by omega), show 19 * j + k + 19 = 19 * (j + 1) + k by omega]
/-- a street becomes another -/
def bec (S : CS) (x y : Nat) (u : CS) : Prop := (∀ r k, ¬ (300 + 4 * x ≤ r ∧ r < 300 + 4 * x + 4) → u.1.1 r k = S.1.1 r k) ∧ (∀ r, r ≠ x → u.2.1 r = S.2.1 r) ∧ u.2.1 x = S.2.1 y ∧ u.2.2 = S.2.2 ∧ (∀ z k, 1 ≤ z → z < 4 → k < 6 → u.1.1 (300 + 4 * x + z) k = S.1.1 (300 + 4 * y + z) k) ∧ (∀ k, u.1.1 (300 + 4 * x) k = if k = 4 then S.1.1 (300 + 4 * y) 4 else S.1.1 (300 + 4 * x) k)
theorem s4_bec {post : CS → Prop} {S : CS} {x y : Nat} (hxy : x ≠ y) (h : ∀ u, bec S x y u → post u) : w4_become post S x y := by
  unfold w4_become
  rintro S1 rfl S2 rfl S3 rfl S4 rfl S5 rfl
  refine h _ ⟨fun r k c => ?_, fun r c => if_neg c, if_pos rfl, rfl, fun z k h1 h2 hk => ?_, fun k => ?_⟩
  · rw [sA_ne (by omega), sA_ne (by omega), sA_ne (by omega)]
    show (sA _ _ _).1.1 r k = _
    rw [sA_ne (by omega)]
    rfl
  · rcases (show z = 1 ∨ z = 2 ∨ z = 3 by omega) with rfl | rfl | rfl
    · rw [sA_ne (by omega), sA_ne (by omega), sA_eq, cpy6 hk]
      show (sA _ _ _).1.1 _ k = _
      rw [sA_ne (by omega)]
      rfl
    · rw [sA_ne (by omega), sA_eq, cpy6 hk, sA_ne (by omega)]
      show (sA _ _ _).1.1 _ k = _
      rw [sA_ne (by omega)]
      rfl
    · rw [sA_eq, cpy6 hk, sA_ne (by omega), sA_ne (by omega)]
      show (sA _ _ _).1.1 _ k = _
      rw [sA_ne (by omega)]
      rfl
  · rw [sA_ne (by omega), sA_ne (by omega), sA_ne (by omega)]
    show (sA _ _ _).1.1 _ k = _
    rw [sA_eq]
    rfl
/-- a row of the street that another became -/
theorem bec.row {S u : CS} {tw : Option TD} {x y n : Nat} {T : GT} {s : GS} (hok : gok T s) (h : bec S x y u) (hS : rowC tw S y T s n) : rowC tw u x T s n := by
  obtain ⟨h1, h2, h3, h4, h5, h6⟩ := h
  obtain ⟨⟨⟨τ, e1, e2⟩, g1, g2, g3⟩, g4⟩ := hS
  have hP := hok.1.2.1
  have hN := hok.1.2.2.1
  refine ⟨⟨⟨τ, e1, h3.trans e2⟩, fun p hp => ?_, fun d hd => ?_, fun d hd => ?_⟩, ?_⟩
  · rw [h5 1 p (by omega) (by omega) (by omega)]; exact g1 p hp
  · rw [h5 3 d (by omega) (by omega) (by omega)]; exact g2 d hd
  · rw [h5 2 d (by omega) (by omega) (by omega)]; exact g3 d hd
  · rw [h6, if_pos rfl]; exact g4
/-- a row of another street stays -/
theorem bec.keep {S u : CS} {tw : Option TD} {x y r n : Nat} {T : GT} {s : GS} (h : bec S x y u) (hr : r ≠ x) (hS : rowC tw S r T s n) : rowC tw u r T s n :=
  hS.mv (fun z k hz => h.1 _ _ (by omega)) (h.2.1 r hr)
