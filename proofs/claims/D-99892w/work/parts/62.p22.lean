/-! PURE 22: what stays when a part is moved; feed -/
set_option maxRecDepth 100000
theorem mT.mv {tw : Option (Nat → Nat)} {S u : MS} {T : GT} (e : ∀ r k, 20 ≤ r → u.1 r k = S.1 r k) (hT : mT tw S T) : mT tw u T := by
  refine ⟨hT.1, ?_, ?_, ?_, fun d hd => ?_, fun d hd => ?_⟩
  · rw [e _ _ (by omega)]; exact hT.2.1
  · rw [e _ _ (by omega)]; exact hT.2.2.1
  · rw [e _ _ (by omega)]; exact hT.2.2.2.1
  · rw [e _ _ (by omega)]; exact hT.2.2.2.2.1 d hd
  · rw [e _ _ (by omega)]; exact hT.2.2.2.2.2 d hd
theorem mS.mv {S u : MS} {r : Nat} {T : GT} {s : GS} (e : ∀ k, u.1 r k = S.1 r k) (h : mS r S T s) : mS r u T s :=
  ⟨fun p hp => (e _).trans (h.1 p hp), fun d hd => (e _).trans (h.2.1 d hd), fun d hd => (e _).trans (h.2.2 d hd)⟩
theorem cT.mv {tw : Option TD} {S u : CS} {T : GT} (e : ∀ r k, (50 ≤ r ∧ r < 300) ∨ 1000 ≤ r → u.1.1 r k = S.1.1 r k) (hT : cT tw S T) : cT tw u T := by
  obtain ⟨h1, h2, h3, h4, h5, h6, h7, h8⟩ := hT
  refine ⟨h1, h2, h3, h4, ?_, ?_, ?_, fun d hd => ?_⟩
  · rw [e _ _ (by omega)]; exact h5
  · rw [e _ _ (by omega)]; exact h6
  · rw [e _ _ (by omega)]; exact h7
  · rw [e _ _ (by omega)]; exact h8 d hd
theorem cS.mv {tw : Option TD} {S u : CS} {T : GT} {s : GS} {r : Nat} (e : ∀ z k, z < 4 → u.1.1 (300 + 4 * r + z) k = S.1.1 (300 + 4 * r + z) k) (e2 : u.2.1 r = S.2.1 r) (hS : cS tw r S T s) : cS tw r u T s := by
  obtain ⟨⟨τ, e1, e3⟩, h2, h3, h4⟩ := hS
  exact ⟨⟨τ, e1, e2.trans e3⟩, fun p hp => (e 1 p (by omega)).trans (h2 p hp), fun d hd => (e 3 d (by omega)).trans (h3 d hd), fun d hd => (e 2 d (by omega)).trans (h4 d hd)⟩
theorem rowC.mv {tw : Option TD} {S u : CS} {T : GT} {s : GS} {r n : Nat} (e : ∀ z k, z < 4 → u.1.1 (300 + 4 * r + z) k = S.1.1 (300 + 4 * r + z) k) (e2 : u.2.1 r = S.2.1 r) (hS : rowC tw S r T s n) : rowC tw u r T s n :=
  ⟨hS.1.mv e e2, (e 0 4 (by omega)).trans hS.2⟩
theorem Told.mv {T : GT} {S6 u6 : MS} {S1 u1 : CS} (e6 : ∀ r k, 20 ≤ r → u6.1 r k = S6.1 r k) (e1 : ∀ r k, (50 ≤ r ∧ r < 300) ∨ 1000 ≤ r → u1.1.1 r k = S1.1.1 r k) (h : Told T S6 S1) : Told T u6 u1 := by
  obtain ⟨s0, lp, U, E, un, ot, hb, hd, hn, g0, hU, hE, hlp, a1, a2, a3, a4, a5, a6, b1, b2, c1, c2, d1⟩ := h
  refine ⟨s0, lp, U, E, un, ot, hb, hd, hn, g0, hU, hE, hlp, ?_, ?_, ?_, ?_, ?_, ?_, fun p hp => ?_, fun d hd => ?_, fun k hk => ?_, c2, fun k hk => ?_⟩
  · rw [e6 _ _ (by omega)]; exact a1
  · rw [e1 _ _ (by omega)]; exact a2
  · rw [e6 _ _ (by omega)]; exact a3
  · rw [e1 _ _ (by omega)]; exact a4
  · rw [e6 _ _ (by omega)]; exact a5
  · rw [e1 _ _ (by omega)]; exact a6
  · rw [e6 _ _ (by omega), e1 _ _ (by omega), e1 _ _ (by omega)]; exact b1 p hp
  · rw [e6 _ _ (by omega), e1 _ _ (by omega), e6 _ _ (by omega), e1 _ _ (by omega), e1 _ _ (by omega)]; exact b2 d hd
  · rw [e6 _ _ (by omega), e1 _ _ (by omega), e6 _ _ (by omega), e1 _ _ (by omega)]; exact c1 k hk
  · rw [e6 _ _ (by omega), e1 _ _ (by omega), e6 _ _ (by omega), e1 _ _ (by omega), e6 _ _ (by omega), e1 _ _ (by omega)]; exact d1 k hk
/-- the tape alone is another one -/
theorem Inv0.tape {tw1 : Option TD} {S1 u1 : CS} {tw6 : Option (Nat → Nat)} {S6 u6 : MS} (h : Inv0 tw1 S1 tw6 S6) (e6 : ∀ r k, r ≠ 1 → ¬ (r = 0 ∧ (k = 0 ∨ k = 6)) → u6.1 r k = S6.1 r k) (e1 : ∀ r k, r ≠ 1 → ¬ (r = 0 ∧ k = 1) → u1.1.1 r k = S1.1.1 r k) (e2 : u1.2 = S1.2)
    (ht : ∀ k, k < 800 → u6.1 1 k = u1.1.1 1 k) {n : Nat} (hn : n ≤ 800) (h6 : u6.1 0 6 = iI n) (h1 : u1.1.1 0 1 = iI n) : Inv0 tw1 u1 tw6 u6 := by
  obtain ⟨oT, s, a, i, hs, ⟨-, -, t5, t6, t7, t8, t9, t10, t11, t12, t13, t14, t15, m, t16, t17, t18⟩, hT⟩ := h
  have hC : Com u6 u1 a i := by
    refine ⟨ht, ⟨n, hn, h6, h1⟩, ?_, ?_, ?_, t8, ?_, ?_, t11, ?_, ?_, ?_, ?_, m, t16, ?_, ?_⟩
    · rw [e6 _ _ (by omega) (by omega), e1 _ _ (by omega) (by omega)]; exact t5
    · rw [e6 _ _ (by omega) (by omega), e1 _ _ (by omega) (by omega), e1 _ _ (by omega) (by omega)]; exact t6
    · rw [e6 _ _ (by omega) (by omega), e1 _ _ (by omega) (by omega)]; exact t7
    · rw [e6 _ _ (by omega) (by omega)]; exact t9
    · rw [e1 _ _ (by omega) (by omega)]; exact t10
    · rw [e6 _ _ (by omega) (by omega)]; exact t12
    · rw [e1 _ _ (by omega) (by omega)]; exact t13
    · rw [e2]; exact t14
    · rw [e2]; exact t15
    · rw [e6 _ _ (by omega) (by omega)]; exact t17
    · rw [e1 _ _ (by omega) (by omega)]; exact t18
  refine ⟨oT, s, a, i, ?_, hC, ?_⟩
  · cases oT with
    | none => exact hs
    | some T => exact ⟨hs.1, hs.2.1.mv fun r k c => e6 r k (by omega) (by omega), hs.2.2.1.mv fun k => e6 _ _ (by omega) (by omega), hs.2.2.2.1.mv fun r k c => e1 r k (by omega) (by omega), hs.2.2.2.2.mv (fun z k _ => e1 _ _ (by omega) (by omega)) (by rw [e2])⟩
  · cases oT with
    | none => exact hT
    | some T =>
      obtain ⟨g1, ⟨us, un, g5⟩, vs, vn, g6⟩ := hT
      refine ⟨g1.mv (fun r k c => e6 r k (by omega) (by omega)) (fun r k c => e1 r k (by omega) (by omega)), ⟨us, un, fun k hk => ?_⟩, vs, vn, fun k hk => ?_⟩
      · obtain ⟨f1, f2, f3, f4⟩ := g5 k hk
        rw [e2]
        exact ⟨f1, f2, f3.keep fun z => e6 _ _ (by omega) (by omega), f4.mv (fun z k _ => e1 _ _ (by omega) (by omega)) (by rw [e2])⟩
      · obtain ⟨f1, f2, f3, f4⟩ := g6 k hk
        exact ⟨f1, f2, f3.keep fun z => e6 _ _ (by omega) (by omega), f4.mv (fun z k _ => e1 _ _ (by omega) (by omega)) (by rw [e2])⟩
/-- a byte of a word -/
def byt (w : Int32) (j : Nat) : Int32 := vp_nar .byte ((w >>> (iI (24 - 8 * (j : Int)) &&& 31)).toInt8.toInt32)
def tapP (f : Nat → Int32) (n k : Nat) (B : Nat → Int32) : Nat → Int32 := fun j => if n ≤ j ∧ j < n + k then B (j - n) else f j
theorem tapP_up (f : Nat → Int32) (n k : Nat) (B : Nat → Int32) : upd (tapP f n k B) (n + k) (B k) = tapP f n (k + 1) B := by
  funext j
  unfold upd tapP
  by_cases h : j = n + k
  · rw [if_pos h, if_pos (by omega), h, Nat.add_sub_cancel_left]
  · rw [if_neg h]
    by_cases h2 : n ≤ j ∧ j < n + k
    · rw [if_pos h2, if_pos (by omega)]
    · rw [if_neg h2, if_neg (by omega)]
theorem tapP_0 (f : Nat → Int32) (n : Nat) (B : Nat → Int32) : tapP f n 0 B = f := funext fun j => if_neg (by omega)
def fdM (S : MS) (n k : Nat) (B : Nat → Int32) : MS := (fun r => if r = 1 then tapP (S.1 1) n k B else if r = 0 then upd (S.1 0) 6 (iI ((n + k : Nat) : Int)) else S.1 r, S.2)
def fdC (S : CS) (n k : Nat) (B : Nat → Int32) : CS := ((fun r => if r = 1 then tapP (S.1.1 1) n k B else if r = 0 then upd (S.1.1 0) 1 (iI ((n + k : Nat) : Int)) else S.1.1 r, S.1.2), S.2)
theorem fdM_up (S : MS) (n k : Nat) (B : Nat → Int32) : uI (uI (fdM S n k B) 1 (n + k) (B k)) 0 6 (iI ((n + k : Nat) : Int) + 1) = fdM S n (k + 1) B := by
  unfold uI fdM
  refine Prod.ext (funext fun r => ?_) rfl
  dsimp only
  by_cases h0 : r = 0
  · subst h0
    rw [if_pos rfl, if_neg (by omega), if_pos rfl]
    simp only [if_neg (show ¬ (0 : Nat) = 1 by omega), if_true]
    rw [iI_succ]
    funext j
    unfold upd
    by_cases h : j = 6 <;> simp [h, Int.add_assoc]
  · rw [if_neg h0]
    by_cases h1 : r = 1
    · subst h1
      rw [if_pos rfl, if_pos rfl]
      simp only [if_true]
      exact tapP_up _ _ _ _
    · rw [if_neg h1, if_neg h1, if_neg h0, if_neg h1, if_neg h0]
theorem fdC_up (S : CS) (n k : Nat) (B : Nat → Int32) : sI (sI (fdC S n k B) 1 (n + k) (B k)) 0 1 (iI ((n + k : Nat) : Int) + 1) = fdC S n (k + 1) B := by
  unfold sI sA fdC
  refine Prod.ext (Prod.ext (funext fun r => ?_) rfl) rfl
  dsimp only
  by_cases h0 : r = 0
  · subst h0
    rw [if_pos rfl, if_neg (by omega), if_pos rfl]
    simp only [if_neg (show ¬ (0 : Nat) = 1 by omega), if_true]
    rw [iI_succ]
    funext j
    unfold upd
    by_cases h : j = 1 <;> simp [h, Int.add_assoc]
  · rw [if_neg h0]
    by_cases h1 : r = 1
    · subst h1
      rw [if_pos rfl, if_pos rfl]
      simp only [if_true]
      exact tapP_up _ _ _ _
    · rw [if_neg h1, if_neg h1, if_neg h0, if_neg h1, if_neg h0]
theorem fdM_0 {S : MS} {n : Nat} {B : Nat → Int32} (h : S.1 0 6 = iI n) : fdM S n 0 B = S := by
  unfold fdM
  refine Prod.ext (funext fun r => ?_) rfl
  dsimp only
  by_cases h1 : r = 1
  · subst h1; rw [if_pos rfl, tapP_0]
  · rw [if_neg h1]
    by_cases h0 : r = 0
    · subst h0
      rw [if_pos rfl]
      funext j
      unfold upd
      by_cases h2 : j = 6
      · subst h2; rw [if_pos rfl, h]; rfl
      · rw [if_neg h2]
    · rw [if_neg h0]
theorem fdC_0 {S : CS} {n : Nat} {B : Nat → Int32} (h : S.1.1 0 1 = iI n) : fdC S n 0 B = S := by
  unfold fdC
  refine Prod.ext (Prod.ext (funext fun r => ?_) rfl) rfl
  dsimp only
  by_cases h1 : r = 1
  · subst h1; rw [if_pos rfl, tapP_0]
  · rw [if_neg h1]
    by_cases h0 : r = 0
    · subst h0
      rw [if_pos rfl]
      funext j
      unfold upd
      by_cases h2 : j = 1
      · subst h2; rw [if_pos rfl, h]; rfl
      · rw [if_neg h2]
    · rw [if_neg h0]
theorem sh4 : ∀ i, i < 20 → (24 - 8 * (iI (i : Nat) - iI (i : Nat) / 4 * 4)) &&& 31 = iI (24 - 8 * ((i % 4 : Nat) : Int)) &&& 31 := by decide +kernel
/-- the twin's step -/
theorem j6_fd {S : MS} {n i : Nat} {B : Nat → Int32} {w : Int32} {K : (MS × Int32) → Prop} (hn : n + 20 ≤ 800) (hi : i < 20) (hB : B i = byt w (i % 4)) (hK : K (fdM S n (i + 1) B, iI ((i + 1 : Nat) : Int))) : j6_feed_76 K (fdM S n i B) (iI (i : Nat)) w := by
  have e : (fdM S n i B).1 0 6 = iI ((n + i : Nat) : Int) := rfl
  unfold j6_feed_76
  rw [e]
  refine ⟨iI_inN (by omega) (by omega), ?_⟩
  rintro S8 rfl S9 rfl
  rw [iI_clampN (by omega), sh4 i hi]
  have e8 : ∀ v, (uI (fdM S n i B) 1 (n + i) v).1 0 6 = iI ((n + i : Nat) : Int) := fun v => rfl
  rw [e8, iI_succ i]
  have h := fdM_up S n i B
  rw [hB] at h
  unfold byt at h
  rw [h]
  exact hK
def fdB (a b c d e : Int32) (i : Nat) : Int32 := byt (if i < 4 then a else if i < 8 then b else if i < 12 then c else if i < 16 then d else e) (i % 4)
theorem s6_feed {post : Int32 → MS → Prop} {S : MS} {n : Nat} {a b c d e : Int32} (hS : S.1 0 6 = iI n) (hn : n ≤ 800) (h1 : n + 20 ≤ 800 → post (iI ((n + 20 : Nat) : Int)) (fdM (uI S 0 0 0) n 20 (fdB a b c d e))) (h0 : ¬ n + 20 ≤ 800 → post (-1) (uI S 0 0 0)) : w6_feed post S a b c d e := by
  unfold w6_feed
  rintro S1 rfl
  have e6 : (uI S 0 0 0).1 0 6 = iI n := hS
  rw [e6, show (20 : Int32) = iI (20 : Nat) from rfl, iI_add, show (800 : Int32) = iI (800 : Nat) from rfl, show ((n : Int) + (20 : Nat)) = ((n + 20 : Nat) : Int) by omega, iI_leN (by omega) (by omega)]
  refine ⟨fun q => ?_, h0⟩
  refine lp_up 20 (fun i => (fdM (uI S 0 0 0) n i (fdB a b c d e), iI (i : Nat))) ?_ (fun i hi K hK => ?_) (fun K => ?_)
  · rw [fdM_0 e6]; rfl
  · show f6_feed_23 post a b c d e K (fdM (uI S 0 0 0) n i (fdB a b c d e)) (iI (i : Nat))
    unfold f6_feed_23
    rw [show (20 : Int32) = iI (20 : Nat) from rfl, show (4 : Int32) = iI (4 : Nat) from rfl, show (8 : Int32) = iI (8 : Nat) from rfl, show (12 : Int32) = iI (12 : Nat) from rfl, show (16 : Int32) = iI (16 : Nat) from rfl, iI_leN (by omega) (by omega), iI_leN (by omega) (by omega), iI_leN (by omega) (by omega), iI_leN (by omega) (by omega), iI_leN (by omega) (by omega)]
    refine ⟨fun c => absurd c (by omega), fun _ => ⟨fun c4 => ⟨fun c8 => ⟨fun c12 => ⟨fun c16 => ?_, fun c16 => ?_⟩, fun c12 => ?_⟩, fun c8 => ?_⟩, fun c4 => ?_⟩⟩
    · exact j6_fd q hi (by unfold fdB; rw [if_neg (by omega), if_neg (by omega), if_neg (by omega), if_neg (by omega)]) hK
    · exact j6_fd q hi (by unfold fdB; rw [if_neg (by omega), if_neg (by omega), if_neg (by omega), if_pos (by omega)]) hK
    · exact j6_fd q hi (by unfold fdB; rw [if_neg (by omega), if_neg (by omega), if_pos (by omega)]) hK
    · exact j6_fd q hi (by unfold fdB; rw [if_neg (by omega), if_pos (by omega)]) hK
    · exact j6_fd q hi (by unfold fdB; rw [if_pos (by omega)]) hK
  · show f6_feed_23 post a b c d e K (fdM (uI S 0 0 0) n 20 (fdB a b c d e)) (iI (20 : Nat))
    unfold f6_feed_23
    exact ⟨fun _ => h1 q, fun c => absurd (Int32.le_refl _) c⟩
/-- four bytes of a word -/
theorem s1_bytes {post : CS → Prop} {S : CS} {n k : Nat} {B : Nat → Int32} {w : Int32} (hn : n + k + 4 ≤ 800) (hB : ∀ j, j < 4 → B (k + j) = byt w j) (h : post (fdC S n (k + 4) B)) : w1_bytes post (fdC S n k B) w := by
  unfold w1_bytes
  refine lp_up 4 (fun i => (fdC S n (k + i) B, iI (24 - 8 * (i : Int)))) rfl (fun i hi K hK => ?_) (fun K => ?_)
  · show f1_bytes_3 post w K (fdC S n (k + i) B) (iI (24 - 8 * (i : Int)))
    unfold f1_bytes_3
    have e : (fdC S n (k + i) B).1.1 0 1 = iI ((n + (k + i) : Nat) : Int) := rfl
    rw [e]
    refine ⟨fun c => ?_, fun _ => ⟨iI_inN (by omega) (by omega), ?_⟩⟩
    · rw [show (0 : Int32) = iI 0 from rfl, iI_lt (by omega) (by omega) (by omega) (by omega)] at c
      omega
    rintro S3 rfl S4 rfl
    rw [iI_clampN (by omega)]
    have e8 : ∀ v, (sI (fdC S n (k + i) B) 1 (n + (k + i)) v).1.1 0 1 = iI ((n + (k + i) : Nat) : Int) := fun v => rfl
    rw [e8, show (-8 : Int32) = iI (-8) from rfl, iI_add, show 24 - 8 * (i : Int) + -8 = 24 - 8 * ((i + 1 : Nat) : Int) by omega]
    have h := fdC_up S n (k + i) B
    rw [hB i hi] at h
    unfold byt at h
    rw [h]
    exact hK
  · show f1_bytes_3 post w K (fdC S n (k + 4) B) (iI (24 - 8 * ((4 : Nat) : Int)))
    unfold f1_bytes_3
    exact ⟨fun _ => h, fun c => absurd (by decide) c⟩
theorem s1_feed {post : Int32 → CS → Prop} {S : CS} {n : Nat} {a b c d e : Int32} (hS : S.1.1 0 1 = iI n) (hn : n ≤ 800) (h1 : n + 20 ≤ 800 → post (iI ((n + 20 : Nat) : Int)) (fdC S n 20 (fdB a b c d e))) (h0 : ¬ n + 20 ≤ 800 → post (-1) S) : w1_feed post S a b c d e := by
  unfold w1_feed
  rw [hS, show (20 : Int32) = iI (20 : Nat) from rfl, iI_add, show (800 : Int32) = iI (800 : Nat) from rfl, show ((n : Int) + (20 : Nat)) = ((n + 20 : Nat) : Int) by omega, iI_leN (by omega) (by omega)]
  refine ⟨fun q => ?_, h0⟩
  have hh := h1 q
  have go : w1_bytes (fun S3 => w1_bytes (fun S5 => w1_bytes (fun S7 => w1_bytes (fun S9 => w1_bytes (fun S11 => post (S11.1.1 0 1) S11) S9 e) S7 d) S5 c) S3 b) (fdC S n 0 (fdB a b c d e)) a := by
    refine s1_bytes (by omega) (fun j hj => ?_) (s1_bytes (by omega) (fun j hj => ?_) (s1_bytes (by omega) (fun j hj => ?_) (s1_bytes (by omega) (fun j hj => ?_) (s1_bytes (by omega) (fun j hj => ?_) hh))))
    · unfold fdB; rw [if_pos (by omega), show (0 + j) % 4 = j by omega]
    · unfold fdB; rw [if_neg (by omega), if_pos (by omega), show (0 + 4 + j) % 4 = j by omega]
    · unfold fdB; rw [if_neg (by omega), if_neg (by omega), if_pos (by omega), show (0 + 4 + 4 + j) % 4 = j by omega]
    · unfold fdB; rw [if_neg (by omega), if_neg (by omega), if_neg (by omega), if_pos (by omega), show (0 + 4 + 4 + 4 + j) % 4 = j by omega]
    · unfold fdB; rw [if_neg (by omega), if_neg (by omega), if_neg (by omega), if_neg (by omega), show (0 + 4 + 4 + 4 + 4 + j) % 4 = j by omega]
  rw [fdC_0 hS] at go
  exact go
theorem o_feed (a0 a1 a2 a3 a4 : Int32) : Ob_feed Inv0 a0 a1 a2 a3 a4 := by
  intro tw1 S1 tw6 S6 hI
  obtain ⟨oT, s, a, i, hs, ⟨t1, ⟨n, hn, h6, h1⟩, t5, t6, t7, -⟩, -⟩ := id hI
  by_cases q : n + 20 ≤ 800
  · refine ⟨iI ((n + 20 : Nat) : Int), fun u => u = fdC S1 n 20 (fdB a0 a1 a2 a3 a4), fun u => u = fdM (uI S6 0 0 0) n 20 (fdB a0 a1 a2 a3 a4), s1_feed h1 hn (fun _ => ⟨rfl, rfl⟩) (fun c => absurd q c), s6_feed h6 hn (fun _ => ⟨rfl, rfl⟩) (fun c => absurd q c), ?_⟩
    rintro u1 u6 rfl rfl
    refine hI.tape (fun r k c d => ?_) (fun r k c d => ?_) rfl (fun k hk => ?_) (n := n + 20) q rfl rfl
    · show (if r = 1 then _ else if r = 0 then _ else (uI S6 0 0 0).1 r) k = _
      rw [if_neg c]
      by_cases h0 : r = 0
      · subst h0
        rw [if_pos rfl]
        show upd (upd (S6.1 0) 0 0) 6 _ k = _
        unfold upd
        rw [if_neg (by omega), if_neg (by omega)]
      · rw [if_neg h0]
        show (if r = 0 then _ else S6.1 r) k = _
        rw [if_neg h0]
    · show (if r = 1 then _ else if r = 0 then _ else S1.1.1 r) k = _
      rw [if_neg c]
      by_cases h0 : r = 0
      · subst h0
        rw [if_pos rfl]
        unfold upd
        rw [if_neg (by omega)]
      · rw [if_neg h0]
    · show tapP (S6.1 1) n 20 _ k = tapP (S1.1.1 1) n 20 _ k
      unfold tapP
      rw [t1 k hk]
  · refine ⟨-1, fun u => u = S1, fun u => u = uI S6 0 0 0, s1_feed h1 hn (fun c => absurd c q) (fun _ => ⟨rfl, rfl⟩), s6_feed h6 hn (fun c => absurd c q) (fun _ => ⟨rfl, rfl⟩), ?_⟩
    rintro u1 u6 rfl rfl
    exact hI.keep (K6.uI (by unfold sc6; omega)) (K1.refl _) t5 t6
