/-! PURE 4: what is asked of both sides at once -/
set_option maxRecDepth 100000
/-- what the twin may scribble on while it is asked -/
def sc6 (r k : Nat) : Prop := r = 3 ∨ (6 ≤ r ∧ r ≤ 11) ∨ (r = 0 ∧ (k ≤ 2 ∨ 23 ≤ k))
def K6 (S S' : MS) : Prop := ∀ r k, ¬ sc6 r k → S'.1 r k = S.1 r k
/-- what the component may scribble on while it is asked -/
def sc1 (r k : Nat) : Prop := (4 ≤ r ∧ r ≤ 13) ∨ (308 ≤ r ∧ r ≤ 311) ∨ (r = 0 ∧ (k = 4 ∨ k = 6 ∨ 17 ≤ k))
def K1 (S S' : CS) : Prop := (∀ r k, ¬ sc1 r k → S'.1.1 r k = S.1.1 r k) ∧ (∀ r, r ≠ 2 → S'.2.1 r = S.2.1 r) ∧ ∀ k, S'.2.2 k = S.2.2 k
/-- it answers r, and leaves trouble t -/
def Q6 (S : MS) (W : (Int32 → MS → Prop) → Prop) (r t : Int32) : Prop := ∀ post : Int32 → MS → Prop, (∀ S', K6 S S' → S'.1 0 0 = 0 → S'.1 0 1 = t → S'.1 0 2 = -1 → post r S') → W post
def Q1 (S : CS) (W : (Int32 → CS → Prop) → Prop) (r t : Int32) : Prop := ∀ post : Int32 → CS → Prop, (∀ S', K1 S S' → S'.1.1 0 4 = t → S'.1.1 0 6 = -1 → post r S') → W post
/-- both stand on the same town and street -/
def same (tw : Option (Nat → Nat)) (S : MS) (tw' : Option TD) (S' : CS) : Option GT → GS → Prop
  | none, _ => tw = none ∧ tw' = none
  | some T, s => gok T s ∧ mT tw S T ∧ mS 2 S T s ∧ cT tw' S' T ∧ cS tw' 0 S' T s
theorem K6.refl (S : MS) : K6 S S := fun _ _ _ => rfl
theorem K6.trans {S S' S'' : MS} (h : K6 S S') (h' : K6 S' S'') : K6 S S'' := fun r k c => (h' r k c).trans (h r k c)
theorem K6.uI {S : MS} {r k : Nat} {v : Int32} (h : sc6 r k) : K6 S (uI S r k v) := by
  intro a j c
  show (if a = r then upd (S.1 r) k v else S.1 a) j = S.1 a j
  by_cases e : a = r
  · subst e
    rw [if_pos rfl]
    by_cases f : j = k
    · subst f; exact absurd h c
    · exact if_neg f
  · rw [if_neg e]
theorem K6.T {S S' : MS} {tw : Option (Nat → Nat)} {T : GT} (h : K6 S S') (hT : mT tw S T) : mT tw S' T := by
  have e : ∀ r k, 20 ≤ r → S'.1 r k = S.1 r k := fun r k c => h r k (by unfold sc6; omega)
  refine ⟨hT.1, ?_, ?_, ?_, fun d hd => ?_, fun d hd => ?_⟩
  · rw [e _ _ (by omega)]; exact hT.2.1
  · rw [e _ _ (by omega)]; exact hT.2.2.1
  · rw [e _ _ (by omega)]; exact hT.2.2.2.1
  · rw [e _ _ (by omega)]; exact hT.2.2.2.2.1 d hd
  · rw [e _ _ (by omega)]; exact hT.2.2.2.2.2 d hd
theorem K6.S {S S' : MS} {T : GT} {s : GS} (h : K6 S S') (hS : mS 2 S T s) : mS 2 S' T s := by
  have e : ∀ k, S'.1 2 k = S.1 2 k := fun k => h 2 k (by unfold sc6; omega)
  exact ⟨fun p hp => (e _).trans (hS.1 p hp), fun d hd => (e _).trans (hS.2.1 d hd), fun d hd => (e _).trans (hS.2.2 d hd)⟩
theorem K1.refl (S : CS) : K1 S S := ⟨fun _ _ _ => rfl, fun _ _ => rfl, fun _ => rfl⟩
theorem K1.trans {S S' S'' : CS} (h : K1 S S') (h' : K1 S' S'') : K1 S S'' := ⟨fun r k c => (h'.1 r k c).trans (h.1 r k c), fun r c => (h'.2.1 r c).trans (h.2.1 r c), fun k => (h'.2.2 k).trans (h.2.2 k)⟩
theorem K1.sI {S : CS} {r k : Nat} {v : Int32} (h : sc1 r k) : K1 S (sI S r k v) := by
  refine ⟨fun a j c => ?_, fun _ _ => rfl, fun _ => rfl⟩
  by_cases e : a = r
  · subst e
    show (sA S a (upd (S.1.1 a) k v)).1.1 a j = S.1.1 a j
    rw [sA_eq]
    by_cases f : j = k
    · subst f; exact absurd h c
    · exact if_neg f
  · show (sA S r (upd (S.1.1 r) k v)).1.1 a j = S.1.1 a j
    rw [sA_ne e]
theorem K1.T {S S' : CS} {tw : Option TD} {T : GT} (h : K1 S S') (hT : cT tw S T) : cT tw S' T := by
  obtain ⟨h1, h2, h3, h4, h5, h6, h7, h8⟩ := hT
  have e : ∀ k, S'.1.1 50 k = S.1.1 50 k := fun k => h.1 50 k (by unfold sc1; omega)
  refine ⟨h1, h2, h3, h4, (e _).trans h5, (e _).trans h6, (e _).trans h7, fun d hd => ?_⟩
  rw [h.1 (1001 + 2 * d) 1 (by unfold sc1; omega)]
  exact h8 d hd
theorem K1.S {S S' : CS} {tw : Option TD} {T : GT} {s : GS} (h : K1 S S') (hS : cS tw 0 S T s) : cS tw 0 S' T s := by
  obtain ⟨⟨τ, e1, e2⟩, h2, h3, h4⟩ := hS
  refine ⟨⟨τ, e1, (h.2.1 0 (by omega)).trans e2⟩, fun p hp => ?_, fun d hd => ?_, fun d hd => ?_⟩
  · rw [h.1 _ _ (by unfold sc1; omega)]; exact h2 p hp
  · rw [h.1 _ _ (by unfold sc1; omega)]; exact h3 d hd
  · rw [h.1 _ _ (by unfold sc1; omega)]; exact h4 d hd
/-- worked on is what is there -/
theorem s6_works {post : MS → Prop} {S : MS} (h : ∀ S', K6 S S' → S'.1 0 0 = S.1 0 0 → (∀ k, k < 19 → S'.1 3 k = S.1 2 k) → post S') : w6_works post S := by
  unfold w6_works
  refine lp_up 19 (fun i => ((fun r k => if r = 3 ∧ k < i then S.1 2 k else S.1 r k, S.2), iI i)) ?_ (fun i hi K hK => ?_) (fun K => ?_)
  · simp; rfl
  · show f6_works_2 post K (fun r k => if r = 3 ∧ k < i then S.1 2 k else S.1 r k, S.2) (iI i)
    unfold f6_works_2
    rw [show (19 : Int32) = iI (19 : Nat) from rfl, iI_leN (by omega) (by omega), iI_clampN (by omega), iI_succ]
    refine ⟨fun c => absurd c (by omega), fun _ => ⟨iI_inN (by omega) (by omega), iI_inN (by omega) (by omega), fun S2 e => ?_⟩⟩
    have : S2 = (fun r k => if r = 3 ∧ k < i + 1 then S.1 2 k else S.1 r k, S.2) := by
      rw [e]
      unfold uI upd
      refine Prod.ext (funext fun a => funext fun j => ?_) rfl
      by_cases a3 : a = 3
      · subst a3
        by_cases ji : j = i
        · subst ji; simp
        · have : (j < i + 1) ↔ j < i := by omega
          simp [ji, this]
      · simp [a3]
    rw [this]
    exact hK
  · show f6_works_2 post K (fun r k => if r = 3 ∧ k < 19 then S.1 2 k else S.1 r k, S.2) (iI (19 : Nat))
    unfold f6_works_2
    rw [show (19 : Int32) = iI (19 : Nat) from rfl, iI_leN (by omega) (by omega)]
    refine ⟨fun _ => h _ (fun r k c => ?_) (by simp) (fun k hk => by simp [hk]), fun c => absurd (Nat.le_refl _) c⟩
    have : r ≠ 3 := fun e => c (Or.inl e)
    simp [this]
theorem works_S {S S' : MS} {T : GT} {s : GS} (hok : gok T s) (h : ∀ k, k < 19 → S'.1 3 k = S.1 2 k) (hS : mS 2 S T s) : mS 3 S' T s := by
  have hP := hok.1.2.1
  have hN := hok.1.2.2.1
  exact ⟨fun p hp => (h _ (by omega)).trans (hS.1 p hp), fun d hd => (h _ (by omega)).trans (hS.2.1 d hd), fun d hd => (h _ (by omega)).trans (hS.2.2 d hd)⟩
theorem s6_good {post : Int32 → MS → Prop} {S : MS} {x : Int32} (h : ∀ S', K6 S S' → S'.1 0 0 = S.1 0 0 → S'.1 0 1 = 0 → S'.1 0 2 = -1 → post x S') : w6_good post S x := by
  unfold w6_good
  rintro S1 rfl S2 rfl
  exact h _ ((K6.uI (by unfold sc6; omega)).trans (K6.uI (by unfold sc6; omega))) rfl rfl rfl
theorem s6_refused {post : Int32 → MS → Prop} {S : MS} {x : Int32} (h : ∀ S', K6 S S' → S'.1 0 0 = S.1 0 0 → S'.1 0 1 = x → S'.1 0 2 = -1 → post (-1) S') : w6_refused post S x := by
  unfold w6_refused
  rintro S1 rfl S2 rfl
  exact h _ ((K6.uI (by unfold sc6; omega)).trans (K6.uI (by unfold sc6; omega))) rfl rfl rfl
theorem s1_anew {post : CS → Prop} {S : CS} (h : ∀ S', K1 S S' → S'.1.1 0 4 = 0 → S'.1.1 0 6 = -1 → post S') : w1_anew post S := by
  unfold w1_anew
  rintro S1 rfl S2 rfl
  exact h _ ((K1.sI (by unfold sc1; omega)).trans (K1.sI (by unfold sc1; omega))) rfl rfl
theorem s1_no {post : Int32 → CS → Prop} {S : CS} {x : Int32} (hw : S.1.1 0 6 = -1) (h : ∀ S', K1 S S' → S'.1.1 0 4 = x → S'.1.1 0 6 = -1 → post (-1) S') : w1_no post S x := by
  unfold w1_no
  rintro S1 rfl
  exact h _ (K1.sI (by unfold sc1; omega)) rfl (by rw [← hw]; rfl)
/-- a number between 0 and N -/
theorem iI_below {x : Int32} {N : Nat} (hN : N < 1000) (h1 : ¬ x < 0) (h2 : ¬ iI N ≤ x) : ∃ d, d < N ∧ x = iI (d : Nat) := by
  rw [← iI_self x] at h1 h2 ⊢
  have b1 := x.minValue_le_toInt
  have b2 := x.toInt_le
  generalize x.toInt = z at *
  have b1 : -2147483648 ≤ z := b1
  have b2 : z ≤ 2147483647 := b2
  rw [show (0 : Int32) = iI 0 from rfl, iI_lt (by omega) (by omega) (by omega) (by omega)] at h1
  rw [iI_le (by omega) (by omega) (by omega) (by omega)] at h2
  exact ⟨z.toNat, by omega, by rw [show ((z.toNat : Nat) : Int) = z by omega]⟩
theorem s6_isDead {post : Int32 → Prop} {tw : Option (Nat → Nat)} {S : MS} {T : GT} (hT : mT tw S T) (hN : gN T ≤ 6) {x : Int32} (h1 : ∀ d, d < gN T → x = iI (d : Nat) → post 1) (h0 : (∀ d, d < gN T → x ≠ iI (d : Nat)) → post 0) : w6_isDead post tw S x := by
  unfold w6_isDead
  obtain ⟨t, ht⟩ := hT.1
  refine ⟨fun c => by rw [ht] at c; exact absurd c (by simp), fun _ => ⟨fun c => h0 (fun d hd e => ?_), fun c => ⟨fun c2 => h0 (fun d hd e => ?_), fun c2 => ?_⟩⟩⟩
  · subst e
    rw [show (0 : Int32) = iI (0 : Nat) from rfl, iI_ltN (by omega) (by omega)] at c
    omega
  · subst e
    rw [hT.2.2.1, iI_leN (by omega) (by omega)] at c2
    omega
  · rw [hT.2.2.1] at c2
    obtain ⟨d, hd, e⟩ := iI_below (by omega) c c2
    exact h1 d hd e
theorem s1_isDead {post : Int32 → Prop} {tw : Option TD} {S : CS} {T : GT} (hT : cT tw S T) (hN : gN T ≤ 6) {x : Int32} (h1 : ∀ d, d < gN T → x = iI (d : Nat) → post 1) (h0 : (∀ d, d < gN T → x ≠ iI (d : Nat)) → post 0) : w1_isDead post tw S x := by
  unfold w1_isDead w1_in
  obtain ⟨t, ht⟩ := hT.1
  have e9 : S.1.1 50 9 - 1 = iI ((gN T : Int) - 1) := by rw [hT.2.2.2.2.2.1, show (1 : Int32) = iI 1 from rfl, iI_sub]
  rw [e9]
  have ne : (0 : Int32) ≠ 1 := by decide
  refine ⟨fun c => by rw [ht] at c; exact absurd c (by simp), fun _ => ⟨fun c => ⟨fun _ => h0 (fun d hd e => ?_), fun c => absurd rfl c⟩, fun c => ⟨fun c2 => ⟨fun _ => h0 (fun d hd e => ?_), fun c => absurd rfl c⟩, fun c2 => ⟨fun c => absurd c.symm ne, fun _ => ?_⟩⟩⟩⟩
  · subst e
    rw [show (0 : Int32) = iI (0 : Nat) from rfl, iI_ltN (by omega) (by omega)] at c
    omega
  · subst e
    rw [iI_lt (by omega) (by omega) (by omega) (by omega)] at c2
    omega
  · obtain ⟨d, hd, e⟩ := iI_below (N := gN T) (by omega) c (fun c3 => c2 (by
      have b2 := x.toInt_le
      have b1 := x.minValue_le_toInt
      rw [← iI_self x] at c3 ⊢
      generalize x.toInt = z at *
      have b1 : -2147483648 ≤ z := b1
      have b2 : z ≤ 2147483647 := b2
      rw [iI_le (by omega) (by omega) (by omega) (by omega)] at c3
      rw [iI_lt (by omega) (by omega) (by omega) (by omega)]
      omega))
    exact h1 d hd e
/-- a night -/
theorem s1_nightWhy1 {post : Int32 → Prop} {S : CS} {y : Int32} (h1 : ∀ n, n < 100 → y = iI (n : Nat) → post 0) (h0 : (∀ n, n < 100 → y ≠ iI (n : Nat)) → post 2) : w1_nightWhy post S 1 y := by
  unfold w1_nightWhy w1_in w1_numberWhy
  have n1 : ¬ (1 : Int32) = 0 := by decide
  refine ⟨fun c => ⟨fun _ => ⟨fun _ => h0 (fun n hn e => ?_), fun c => absurd rfl c⟩, fun c => absurd c n1⟩, fun c => ⟨fun c2 => ⟨fun _ => ⟨fun _ => h0 (fun n hn e => ?_), fun c => absurd rfl c⟩, fun c => absurd c n1⟩, fun c2 => ⟨fun _ => ⟨fun c => absurd c n1, fun _ => ?_⟩, fun c => absurd c n1⟩⟩⟩
  · subst e
    rw [show (0 : Int32) = iI (0 : Nat) from rfl, iI_ltN (by omega) (by omega)] at c
    omega
  · subst e
    rw [show (99 : Int32) = iI (99 : Nat) from rfl, iI_ltN (by omega) (by omega)] at c2
    omega
  · obtain ⟨n, hn, e⟩ := iI_below (N := 100) (by omega) c (fun c3 => c2 (by
      have b2 := y.toInt_le
      have b1 := y.minValue_le_toInt
      rw [← iI_self y] at c3 ⊢
      generalize y.toInt = z at *
      have b1 : -2147483648 ≤ z := b1
      have b2 : z ≤ 2147483647 := b2
      rw [iI_le (by omega) (by omega) (by omega) (by omega)] at c3
      rw [show (99 : Int32) = iI 99 from rfl, iI_lt (by omega) (by omega) (by omega) (by omega)]
      omega))
    exact h1 n hn e
theorem s1_nightWhy0 {post : Int32 → Prop} {S : CS} {y : Int32} (h : post 1) : w1_nightWhy post S 0 y := by
  unfold w1_nightWhy w1_in w1_numberWhy
  exact ⟨fun _ => ⟨fun c => absurd rfl c, fun _ => h⟩, fun _ => ⟨fun _ => ⟨fun c => absurd rfl c, fun _ => h⟩, fun _ => ⟨fun c => absurd rfl c, fun _ => h⟩⟩⟩
theorem s6_refusesNight1 {post : Int32 → Prop} {S : MS} {y : Int32} (h1 : ∀ n, n < 100 → y = iI (n : Nat) → post 0) (h0 : (∀ n, n < 100 → y ≠ iI (n : Nat)) → post 2) : w6_refusesNight post S 1 y := by
  have n1 : ¬ (1 : Int32) = 0 := by decide
  have := s1_nightWhy1 (post := post) (S := default) h1 h0
  unfold w1_nightWhy w1_in w1_numberWhy at this
  unfold w6_refusesNight w6_in
  refine ⟨fun _ => ⟨fun c => ⟨fun c0 => ((this.1 c).1 n1).1 c0, fun c => absurd rfl c⟩, fun c => ⟨fun c2 => ⟨fun c0 => (((this.2 c).1 c2).1 n1).1 c0, fun c => absurd rfl c⟩, fun c2 => ⟨fun c => absurd c n1, fun c0 => (((this.2 c).2 c2).1 n1).2 c0⟩⟩⟩, fun c => absurd c n1⟩
theorem s6_refusesNight0 {post : Int32 → Prop} {S : MS} {y : Int32} (h : post 1) : w6_refusesNight post S 0 y := by
  unfold w6_refusesNight
  exact ⟨fun c => absurd rfl c, fun _ => h⟩
section P4
variable {tw : Option (Nat → Nat)} {S : MS} {tw' : Option TD} {S' : CS} {s : GS}
theorem ne_0 {p : Prop} (h : (1 : Int32) = 0) : p := absurd h (by decide)
theorem e_hears {oT : Option GT} (h : same tw S tw' S' oT s) (x y : Int32) : ∃ r t, Q6 S (fun p => w6_hears p tw S x y) r t ∧ Q1 S' (fun p => w1_hears p tw' S' x y) r t := by
  have l0 : ((0 : Int32) ≤ 0) := by decide
  have l1 : ¬ ((1 : Int32) ≤ 0) := by decide
  have l2 : ¬ ((2 : Int32) ≤ 0) := by decide
  cases oT with
  | none =>
    obtain ⟨rfl, rfl⟩ := h
    refine ⟨-1, 1, fun post hp => ?_, fun post hp => ?_⟩
    · show w6_hears post none S x y
      unfold w6_hears
      rintro S1 rfl
      unfold w6_isDead
      exact ⟨fun _ => s6_refusesNight0 ⟨fun c => absurd c l1, fun _ => s6_refused fun S2 k e0 e1 e2 => hp S2 ((K6.uI (by unfold sc6; omega)).trans k) e0 e1 e2⟩, fun ⟨t, c⟩ => absurd c (by simp)⟩
    · show w1_hears post none S' x y
      unfold w1_hears
      refine s1_anew fun S1 k1 e1 e2 => ?_
      unfold w1_isDead
      exact ⟨fun _ => s1_nightWhy0 ⟨fun c => ne_0 c, fun _ => s1_no e2 fun S2 k2 e3 e4 => hp S2 (k1.trans k2) e3 e4⟩, fun ⟨t, c⟩ => absurd c (by simp)⟩
  | some T =>
    obtain ⟨hok, hT, hS, hT', hS'⟩ := h
    have hN := hok.1.2.2.1
    have hb : K6 S (uI S 0 0 0) := K6.uI (by unfold sc6; omega)
    by_cases hd : ∃ d, d < gN T ∧ x = iI (d : Nat)
    · obtain ⟨d, hd, rfl⟩ := hd
      by_cases hn : ∃ n, n < 100 ∧ y = iI (n : Nat)
      · obtain ⟨n, hn, rfl⟩ := hn
        refine ⟨iI (earN T s d n 0), 0, fun post hp => ?_, fun post hp => ?_⟩
        · show w6_hears post tw S (iI d) (iI n)
          unfold w6_hears
          rintro S1 rfl
          refine s6_isDead (hb.T hT) hN (fun _ _ _ => s6_refusesNight1 (fun _ _ _ => ⟨fun _ => s6_works fun S2 k1 e0 hw => ?_, fun c => absurd l0 c⟩) fun c => absurd rfl (c n hn)) fun c => absurd rfl (c d hd)
          refine s6_whoHears hok (k1.T (hb.T hT)) (works_S hok hw (hb.S hS)) hd (by omega) (s6_good fun S3 k2 e4 e5 e6 => hp S3 (hb.trans (k1.trans k2)) (e4.trans e0) e5 e6)
        · show w1_hears post tw' S' (iI d) (iI n)
          unfold w1_hears
          refine s1_anew fun S1 k1 e1 e2 => ?_
          refine s1_isDead (k1.T hT') hN (fun _ _ _ => s1_nightWhy1 (fun _ _ _ => ⟨fun _ => ?_, fun c => absurd rfl c⟩) fun c => absurd rfl (c n hn)) fun c => absurd rfl (c d hd)
          exact s4_ear (f := 0) hok (k1.T hT') (k1.S hS') hd (by omega) (by omega) (hp S1 k1 e1 e2)
      · refine ⟨-1, 2, fun post hp => ?_, fun post hp => ?_⟩
        · show w6_hears post tw S (iI d) y
          unfold w6_hears
          rintro S1 rfl
          exact s6_isDead (hb.T hT) hN (fun _ _ _ => s6_refusesNight1 (fun n c e => absurd ⟨n, c, e⟩ hn) fun _ => ⟨fun c => absurd c l2, fun _ => s6_refused fun S2 k e0 e1 e2 => hp S2 (hb.trans k) e0 e1 e2⟩) fun c => absurd rfl (c d hd)
        · show w1_hears post tw' S' (iI d) y
          unfold w1_hears
          refine s1_anew fun S1 k1 e1 e2 => ?_
          exact s1_isDead (k1.T hT') hN (fun _ _ _ => s1_nightWhy1 (fun n c e => absurd ⟨n, c, e⟩ hn) fun _ => ⟨fun c => absurd c (by decide), fun _ => s1_no e2 fun S2 k2 e3 e4 => hp S2 (k1.trans k2) e3 e4⟩) fun c => absurd rfl (c d hd)
    · refine ⟨-1, 1, fun post hp => ?_, fun post hp => ?_⟩
      · show w6_hears post tw S x y
        unfold w6_hears
        rintro S1 rfl
        exact s6_isDead (hb.T hT) hN (fun d c e => absurd ⟨d, c, e⟩ hd) fun _ => s6_refusesNight0 ⟨fun c => absurd c l1, fun _ => s6_refused fun S2 k e0 e1 e2 => hp S2 (hb.trans k) e0 e1 e2⟩
      · show w1_hears post tw' S' x y
        unfold w1_hears
        refine s1_anew fun S1 k1 e1 e2 => ?_
        exact s1_isDead (k1.T hT') hN (fun d c e => absurd ⟨d, c, e⟩ hd) fun _ => s1_nightWhy0 ⟨fun c => ne_0 c, fun _ => s1_no e2 fun S2 k2 e3 e4 => hp S2 (k1.trans k2) e3 e4⟩
end P4
