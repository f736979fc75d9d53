/-! PURE 21: how the two stand to each other between calls -/
set_option maxRecDepth 100000
/-- a row of the twin's numbers is the street s on night n -/
def rowM (S : MS) (r off : Nat) (T : GT) (s : GS) (n : Nat) : Prop := (∀ p, p < gP T → S.1 r (off + p) = iI (s.1 p)) ∧ (∀ d, d < gN T → S.1 r (off + (6 + d)) = iI (s.2.1 d)) ∧ (∀ d, d < gN T → S.1 r (off + (12 + d)) = iI (s.2.2 d)) ∧ S.1 r (off + 18) = iI n
/-- the component's street r is s on night n -/
def rowC (tw : Option TD) (S : CS) (r : Nat) (T : GT) (s : GS) (n : Nat) : Prop := cS tw r S T s ∧ S.1.1 (300 + 4 * r) 4 = iI n
/-- what is no street's: tape, troubles, counts -/
def Com (S6 : MS) (S1 : CS) (a i : Nat) : Prop := (∀ k, k < 800 → S6.1 1 k = S1.1.1 1 k) ∧ (∃ n : Nat, n ≤ 800 ∧ S6.1 0 6 = iI n ∧ S1.1.1 0 1 = iI n) ∧ S6.1 0 1 = S1.1.1 0 4 ∧ (S6.1 0 2 = S1.1.1 0 6 ∧ (S1.1.1 0 4 = 4 ∨ S1.1.1 0 6 = -1)) ∧ S6.1 0 12 = S1.1.1 0 5 ∧
  a ≤ 16 ∧ S6.1 0 19 = iI a ∧ S1.1.1 0 8 = iI a ∧ i ≤ 3 ∧ S6.1 0 20 = iI i ∧ S1.1.1 0 7 = iI i ∧ (∀ k, k < 16 → 3 ≤ S1.2.2 k ∧ S1.2.2 k < 19) ∧ (∀ j k, j < 16 → k < 16 → S1.2.2 j = S1.2.2 k → j = k) ∧ ∃ n : Nat, n < 100 ∧ S6.1 2 18 = iI n ∧ S1.1.1 (300 + 4 * 0) 4 = iI n
/-- what the town's text told: lips, who is where at first, whose slip is unsure, what was heard -/
def Told (T : GT) (S6 : MS) (S1 : CS) : Prop := ∃ (s0 : GS) (lp U E : Nat) (un ot hb hd hn : Nat → Nat), gok T s0 ∧ U ≤ 4 ∧ E ≤ 8 ∧ lp ≤ 40 ∧ S6.1 20 1 = iI lp ∧ S1.1.1 50 7 = iI lp ∧ S6.1 20 5 = iI U ∧ S1.1.1 50 10 = iI U ∧ S6.1 20 6 = iI E ∧ S1.1.1 50 11 = iI E ∧
  (∀ p, p < gP T → S6.1 21 p = iI (s0.1 p) ∧ S1.1.1 (1000 + 2 * p) 2 = iI (s0.1 p) ∧ S1.1.1 (1000 + 2 * p) 1 = iI p) ∧ (∀ d, d < gN T → S6.1 23 d = iI (s0.2.1 d) ∧ S1.1.1 (1001 + 2 * d) 0 = iI (s0.2.1 d) ∧ S6.1 25 d = iI (s0.2.2 d) ∧ S1.1.1 (1001 + 2 * d) 2 = iI (s0.2.2 d) ∧ S1.1.1 (1001 + 2 * d) 5 = iI d) ∧
  (∀ k, k < U → un k < gN T ∧ ot k ≤ 39 ∧ S6.1 26 k = iI (un k) ∧ S1.1.1 53 k = iI (un k) ∧ S6.1 27 k = iI (ot k) ∧ S1.1.1 (1001 + 2 * un k) 3 = iI (ot k)) ∧ (∀ j k, j < U → k < U → un j = un k → j = k) ∧
  ∀ k, k < E → hb k < gP T ∧ hd k < gN T ∧ hn k < 100 ∧ S6.1 28 k = iI (hb k) ∧ S1.1.1 54 k = iI (hb k) ∧ S6.1 29 k = iI (hd k) ∧ S1.1.1 55 k = iI (hd k) ∧ S6.1 30 k = iI (hn k) ∧ S1.1.1 56 k = iI (hn k)
/-- with a town: the night, what can be undone, the images -/
def Twn (tw1 : Option TD) (S1 : CS) (S6 : MS) (a i : Nat) : Option GT → Prop
  | none => a = 0 ∧ i = 0
  | some T => Told T S6 S1 ∧
    (∃ (us : Nat → GS) (un : Nat → Nat), ∀ k, k < a → gok T (us k) ∧ un k < 100 ∧ rowM S6 4 (19 * k) T (us k) (un k) ∧ rowC tw1 S1 (S1.2.2 k) T (us k) (un k)) ∧
    ∃ (us : Nat → GS) (un : Nat → Nat), ∀ k, k < i → gok T (us k) ∧ un k < 100 ∧ rowM S6 5 (19 * k) T (us k) (un k) ∧ rowC tw1 S1 (19 + k) T (us k) (un k)
/-- the two stand together -/
def Inv0 (tw1 : Option TD) (S1 : CS) (tw6 : Option (Nat → Nat)) (S6 : MS) : Prop := ∃ (oT : Option GT) (s : GS) (a i : Nat), same tw6 S6 tw1 S1 oT s ∧ Com S6 S1 a i ∧ Twn tw1 S1 S6 a i oT
theorem rowM.keep {S S' : MS} {r off : Nat} {T : GT} {s : GS} {n : Nat} (h : rowM S r off T s n) (e : ∀ k, S'.1 r k = S.1 r k) : rowM S' r off T s n :=
  ⟨fun p hp => (e _).trans (h.1 p hp), fun d hd => (e _).trans (h.2.1 d hd), fun d hd => (e _).trans (h.2.2.1 d hd), (e _).trans h.2.2.2⟩
theorem K1.C {S S' : CS} {tw : Option TD} {T : GT} {s : GS} {r n : Nat} (h : K1 S S') (hr : r ≠ 2) (hr2 : r < 22) (hS : rowC tw S r T s n) : rowC tw S' r T s n := by
  obtain ⟨⟨⟨τ, e1, e2⟩, h2, h3, h4⟩, h5⟩ := hS
  have e : ∀ z k, z < 4 → S'.1.1 (300 + 4 * r + z) k = S.1.1 (300 + 4 * r + z) k := fun z k hz => h.1 _ _ (by unfold sc1; omega)
  exact ⟨⟨⟨τ, e1, (h.2.1 r hr).trans e2⟩, fun p hp => (e 1 p (by omega)).trans (h2 p hp), fun d hd => (e 3 d (by omega)).trans (h3 d hd), fun d hd => (e 2 d (by omega)).trans (h4 d hd)⟩, (e 0 4 (by omega)).trans h5⟩
theorem Told.keep {T : GT} {S6 u6 : MS} {S1 u1 : CS} (k6 : K6 S6 u6) (k1 : K1 S1 u1) (h : Told T S6 S1) : Told T u6 u1 := by
  obtain ⟨s0, lp, U, E, un, ot, hb, hd, hn, g0, hU, hE, hlp, a1, a2, a3, a4, a5, a6, b1, b2, c1, c2, d1⟩ := h
  have e6 : ∀ r k, 20 ≤ r → u6.1 r k = S6.1 r k := fun r k c => k6 r k (by unfold sc6; omega)
  have e1 : ∀ r k, 50 ≤ r → r < 300 → u1.1.1 r k = S1.1.1 r k := fun r k c c2 => k1.1 r k (by unfold sc1; omega)
  have e2 : ∀ r k, 1000 ≤ r → u1.1.1 r k = S1.1.1 r k := fun r k c => k1.1 r k (by unfold sc1; omega)
  refine ⟨s0, lp, U, E, un, ot, hb, hd, hn, g0, hU, hE, hlp, ?_, ?_, ?_, ?_, ?_, ?_, fun p hp => ?_, fun d hd => ?_, fun k hk => ?_, c2, fun k hk => ?_⟩
  · rw [e6 _ _ (by omega)]; exact a1
  · rw [e1 _ _ (by omega) (by omega)]; exact a2
  · rw [e6 _ _ (by omega)]; exact a3
  · rw [e1 _ _ (by omega) (by omega)]; exact a4
  · rw [e6 _ _ (by omega)]; exact a5
  · rw [e1 _ _ (by omega) (by omega)]; exact a6
  · rw [e6 _ _ (by omega), e2 _ _ (by omega), e2 _ _ (by omega)]; exact b1 p hp
  · rw [e6 _ _ (by omega), e2 _ _ (by omega), e6 _ _ (by omega), e2 _ _ (by omega), e2 _ _ (by omega)]; exact b2 d hd
  · rw [e6 _ _ (by omega), e1 _ _ (by omega) (by omega), e6 _ _ (by omega), e2 _ _ (by omega)]; exact c1 k hk
  · rw [e6 _ _ (by omega), e1 _ _ (by omega) (by omega), e6 _ _ (by omega), e1 _ _ (by omega) (by omega), e6 _ _ (by omega), e1 _ _ (by omega) (by omega)]; exact d1 k hk
theorem Inv0.keep {tw1 : Option TD} {S1 u1 : CS} {tw6 : Option (Nat → Nat)} {S6 u6 : MS} (k6 : K6 S6 u6) (k1 : K1 S1 u1) (ht : u6.1 0 1 = u1.1.1 0 4) (hw : u6.1 0 2 = u1.1.1 0 6 ∧ (u1.1.1 0 4 = 4 ∨ u1.1.1 0 6 = -1)) (h : Inv0 tw1 S1 tw6 S6) : Inv0 tw1 u1 tw6 u6 := by
  obtain ⟨oT, s, a, i, hs, ⟨t1, ⟨n, t2, t3, t4⟩, -, -, t7, t8, t9, t10, t11, t12, t13, t14, t15, m, t16, t17, t18⟩, hT⟩ := h
  have e6 : ∀ r k, ¬ sc6 r k → u6.1 r k = S6.1 r k := k6
  have e1 : ∀ r k, ¬ sc1 r k → u1.1.1 r k = S1.1.1 r k := k1.1
  have hC : Com u6 u1 a i := by
    refine ⟨fun k hk => ?_, ⟨n, t2, ?_, ?_⟩, ht, hw, ?_, t8, ?_, ?_, t11, ?_, ?_, fun k hk => ?_, fun j k hj hk => ?_, m, t16, ?_, ?_⟩
    · rw [e6 _ _ (by unfold sc6; omega), e1 _ _ (by unfold sc1; omega)]; exact t1 k hk
    · rw [e6 _ _ (by unfold sc6; omega)]; exact t3
    · rw [e1 _ _ (by unfold sc1; omega)]; exact t4
    · rw [e6 _ _ (by unfold sc6; omega), e1 _ _ (by unfold sc1; omega)]; exact t7
    · rw [e6 _ _ (by unfold sc6; omega)]; exact t9
    · rw [e1 _ _ (by unfold sc1; omega)]; exact t10
    · rw [e6 _ _ (by unfold sc6; omega)]; exact t12
    · rw [e1 _ _ (by unfold sc1; omega)]; exact t13
    · rw [k1.2.2]; exact t14 k hk
    · rw [k1.2.2, k1.2.2]; exact t15 j k hj hk
    · rw [e6 _ _ (by unfold sc6; omega)]; exact t17
    · rw [e1 _ _ (by unfold sc1; omega)]; exact t18
  refine ⟨oT, s, a, i, ?_, hC, ?_⟩
  · cases oT with
    | none => exact hs
    | some T => exact ⟨hs.1, k6.T hs.2.1, k6.S hs.2.2.1, k1.T hs.2.2.2.1, k1.S hs.2.2.2.2⟩
  · cases oT with
    | none => exact hT
    | some T =>
      obtain ⟨g1, ⟨us, un, g5⟩, vs, vn, g6⟩ := hT
      refine ⟨g1.keep k6 k1, ⟨us, un, fun k hk => ?_⟩, vs, vn, fun k hk => ?_⟩
      · obtain ⟨f1, f2, f3, f4⟩ := g5 k hk
        have := t14 k (by omega)
        rw [k1.2.2]
        exact ⟨f1, f2, f3.keep fun z => e6 _ _ (by unfold sc6; omega), k1.C (by omega) (by omega) f4⟩
      · obtain ⟨f1, f2, f3, f4⟩ := g6 k hk
        exact ⟨f1, f2, f3.keep fun z => e6 _ _ (by unfold sc6; omega), k1.C (by omega) (by omega) f4⟩
/-- a question: what was there stays, but troubles -/
theorem ob_i {w1 : (Int32 → CS → Prop) → Option TD → CS → Prop} {w6 : (Int32 → MS → Prop) → Option (Nat → Nat) → MS → Prop} (h : ∀ tw1 S1 tw6 S6, Inv0 tw1 S1 tw6 S6 → ∃ r t, Q6 S6 (fun p => w6 p tw6 S6) r t ∧ Q1 S1 (fun p => w1 p tw1 S1) r t) : ObI Inv0 w1 w6 := by
  intro tw1 S1 tw6 S6 hI
  obtain ⟨r, t, h6, h1⟩ := h tw1 S1 tw6 S6 hI
  refine ⟨r, fun u => K1 S1 u ∧ u.1.1 0 4 = t ∧ u.1.1 0 6 = -1, fun u => K6 S6 u ∧ u.1 0 1 = t ∧ u.1 0 2 = -1, h1 _ (fun S' k a b => ⟨rfl, k, a, b⟩), h6 _ (fun S' k _ a b => ⟨rfl, k, a, b⟩), ?_⟩
  rintro u1 u6 ⟨k1, a1, b1⟩ ⟨k6, a6, b6⟩
  exact hI.keep k6 k1 (a6.trans a1.symm) ⟨b6.trans b1.symm, Or.inr b1⟩
theorem ob_of {w1 : (Int32 → CS → Prop) → Option TD → CS → Prop} {w6 : (Int32 → MS → Prop) → Option (Nat → Nat) → MS → Prop} (h : ∀ tw6 S6 tw1 S1 oT s, same tw6 S6 tw1 S1 oT s → ∃ r t, Q6 S6 (fun p => w6 p tw6 S6) r t ∧ Q1 S1 (fun p => w1 p tw1 S1) r t) : ObI Inv0 w1 w6 :=
  ob_i fun tw1 S1 tw6 S6 hI => by
    obtain ⟨oT, s, a, i, hs, -⟩ := hI
    exact h tw6 S6 tw1 S1 oT s hs
theorem o_hears (a0 a1 : Int32) : Ob_hears Inv0 a0 a1 := ob_of fun _ _ _ _ _ _ h => e_hears h a0 a1
theorem o_comesOut (a0 a1 : Int32) : Ob_comesOut Inv0 a0 a1 := ob_of fun _ _ _ _ _ _ h => e_comesOut h a0 a1
theorem o_rightFrom (a0 a1 : Int32) : Ob_rightFrom Inv0 a0 a1 := ob_of fun _ _ _ _ _ _ h => e_rightFrom h a0 a1
theorem o_right (a0 : Int32) : Ob_right Inv0 a0 := ob_of fun _ _ _ _ _ _ h => e_right h a0
theorem o_silent (a0 : Int32) : Ob_silent Inv0 a0 := ob_of fun _ _ _ _ _ _ h => e_silent h a0
theorem o_outIf (a0 a1 a2 : Int32) : Ob_outIf Inv0 a0 a1 a2 := ob_of fun _ _ _ _ _ _ h => e_outIf h a0 a1 a2
theorem o_aims (a0 a1 a2 : Int32) : Ob_aims Inv0 a0 a1 a2 := ob_of fun _ _ _ _ _ _ h => e_aims h a0 a1 a2
theorem o_medium (a0 : Int32) : Ob_medium Inv0 a0 := ob_of fun _ _ _ _ _ _ h => e_medium h a0
theorem o_off (a0 a1 : Int32) : Ob_off Inv0 a0 a1 := ob_of fun _ _ _ _ _ _ h => e_off h a0 a1
theorem o_house (a0 : Int32) : Ob_house Inv0 a0 := ob_of fun _ _ _ _ _ _ h => e_house h a0
theorem o_perfect : Ob_perfect Inv0 := ob_of fun _ _ _ _ _ _ h => e_perfect h
theorem o_nightsOf (a0 a1 : Int32) : Ob_nightsOf Inv0 a0 a1 := ob_of fun _ _ _ _ _ _ h => e_nightsOf h a0 a1
theorem o_together (a0 a1 : Int32) : Ob_together Inv0 a0 a1 := ob_of fun _ _ _ _ _ _ h => e_together h a0 a1
theorem o_dead (a0 a1 : Int32) : Ob_dead Inv0 a0 a1 := ob_of fun _ _ _ _ _ _ h => e_dead h a0 a1
theorem o_aimFor (a0 a1 a2 : Int32) : Ob_aimFor Inv0 a0 a1 a2 := ob_of fun _ _ _ _ _ _ h => e_aimFor h a0 a1 a2
theorem o_bestNight : Ob_bestNight Inv0 := ob_of fun _ _ _ _ _ _ h => e_bestNight h
theorem o_slipFor (a0 a1 : Int32) : Ob_slipFor Inv0 a0 a1 := ob_of fun _ _ _ _ _ _ h => e_slipFor h a0 a1
theorem o_mirrorFor (a0 a1 : Int32) : Ob_mirrorFor Inv0 a0 a1 := ob_of fun _ _ _ _ _ _ h => e_mirrorFor h a0 a1
theorem o_mirrorBest (a0 : Int32) : Ob_mirrorBest Inv0 a0 := ob_of fun _ _ _ _ _ _ h => e_mirrorBest h a0
theorem o_person (a0 a1 : Int32) : Ob_person Inv0 a0 a1 := ob_i fun tw1 S1 tw6 S6 hI => by
  obtain ⟨oT, s, a, i, hs, ⟨-, -, -, -, -, -, -, -, -, -, -, -, -, n, h1, h2, h3⟩, -⟩ := hI
  exact e_person hs h1 h2 h3 a0 a1
/-- a question that leaves all but 'thrown' -/
theorem ob_r {w1 : (Int32 → CS → Prop) → Option TD → CS → Prop} {w6 : (Int32 → MS → Prop) → Option (Nat → Nat) → MS → Prop} (h : ∀ tw1 S1 tw6 S6, Inv0 tw1 S1 tw6 S6 → ∃ r, (∀ post, post r S1 → w1 post tw1 S1) ∧ ∀ post, post r (uI S6 0 0 0) → w6 post tw6 S6) : ObI Inv0 w1 w6 := by
  intro tw1 S1 tw6 S6 hI
  obtain ⟨r, h1, h6⟩ := h tw1 S1 tw6 S6 hI
  refine ⟨r, fun u => u = S1, fun u => u = uI S6 0 0 0, h1 _ ⟨rfl, rfl⟩, h6 _ ⟨rfl, rfl⟩, ?_⟩
  rintro u1 u6 rfl rfl
  obtain ⟨oT, s, a, i, hs, ⟨-, -, t5, t6, -⟩, -⟩ := id hI
  exact hI.keep (K6.uI (by unfold sc6; omega)) (K1.refl _) t5 t6
theorem o_fault : Ob_fault Inv0 := ob_r fun tw1 S1 tw6 S6 hI => by
  obtain ⟨oT, s, a, i, hs, ⟨-, -, t5, t6, t7, -⟩, -⟩ := hI
  refine ⟨S1.1.1 0 5, fun post h => h, fun post h => ?_⟩
  unfold w6_fault
  rintro S rfl
  rw [← t7] at h
  exact h
theorem o_where : Ob_where Inv0 := ob_r fun tw1 S1 tw6 S6 hI => by
  obtain ⟨oT, s, a, i, hs, ⟨-, -, t5, t6, t7, -⟩, -⟩ := hI
  refine ⟨S1.1.1 0 6, fun post h => ?_, fun post h => ?_⟩
  · unfold w1_where
    refine ⟨fun c => ?_, fun _ => h⟩
    rcases t6.2 with e | e
    · exact absurd e c
    · rw [e] at h; exact h
  · unfold w6_where
    rintro S rfl
    rw [← t6.1] at h
    exact h
theorem o_trouble : Ob_trouble Inv0 := ob_r fun tw1 S1 tw6 S6 hI => by
  obtain ⟨oT, s, a, i, hs, ⟨-, -, t5, t6, t7, -⟩, -⟩ := hI
  refine ⟨S1.1.1 0 4, fun post h => h, fun post h => ?_⟩
  unfold w6_trouble
  rintro S rfl
  rw [← t5] at h
  exact h
theorem o_start : Inv0 none C0 none M0 := by
  refine ⟨none, (fun _ => 0, fun _ => 0, fun _ => 0), 0, 0, ⟨rfl, rfl⟩, ⟨fun k _ => rfl, ⟨0, by omega, rfl, rfl⟩, rfl, ⟨rfl, Or.inr rfl⟩, rfl, by omega, rfl, rfl, by omega, rfl, rfl, fun k hk => ?_, fun j k _ _ e => ?_, 0, by omega, rfl, rfl⟩, rfl, rfl⟩
  · show 3 ≤ 3 + k ∧ 3 + k < 19
    omega
  · have e : 3 + j = 3 + k := e
    omega
