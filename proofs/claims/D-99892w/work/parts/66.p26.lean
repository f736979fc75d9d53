/-! PURE 26: hang, take, teach -/
set_option maxRecDepth 100000
theorem s6_chg {post : Int32 → MS → Prop} {S6 : MS} {a o : Nat} {x : Int32} (ha : a ≤ 16) (hS : S6.1 0 19 = iI a) (ho : o < 18) (h : ∀ B u, rem6 S6 a B → K6 (uI B 2 o x) u → u.1 0 1 = 0 → u.1 0 2 = -1 → post 1 u) : w6_remembers (fun S3 => (vp_in (iI (o : Nat)) 19 ∧ (∀ S4, S4 = uI S3 2 (iI (o : Nat)).toNatClampNeg x → (w6_granted (fun r5 S6 => ((r5 = 0 ∨ r5 = 1) ∧ post r5 S6)) S4)))) S6 := by
  refine s6_remembers ha hS (fun B hB => ⟨iI_inN (by omega) (by omega), ?_⟩)
  rintro S4 rfl
  rw [iI_clampN (by omega)]
  unfold w6_granted
  exact s6_good fun S' k _ b c => ⟨Or.inr rfl, h B S' hB k b c⟩
theorem s6_den {post : Int32 → MS → Prop} {S : MS} {x : Int32} (h : ∀ S', K6 S S' → S'.1 0 0 = S.1 0 0 → S'.1 0 1 = x → S'.1 0 2 = -1 → post 0 S') : w6_denied (fun r4 S5 => ((r4 = 0 ∨ r4 = 1) ∧ post r4 S5)) S x := by
  unfold w6_denied
  exact s6_refused fun S' k a b c => ⟨Or.inl rfl, h S' k a b c⟩
theorem s1_yes {post : Int32 → CS → Prop} {S : CS} {x : Int32} (h : ∀ S', K1 S S' → S'.1.1 0 4 = x → S'.1.1 0 6 = -1 → post (if x = 0 then 1 else 0) S') : w1_yes post S x := by
  unfold w1_yes
  refine s1_anew fun A k a0 b0 => ?_
  rintro S3 rfl
  have hh := h (sI A 0 4 x) (k.trans (K1.sI (by unfold sc1; omega))) (by rw [sI_at, if_pos ⟨rfl, rfl⟩]) (by rw [sI_at, if_neg (by omega)]; exact b0)
  exact ⟨fun c => by rw [if_neg c] at hh; exact hh, fun c => by rw [if_pos c] at hh; exact hh⟩
theorem s1_chg {post : Int32 → CS → Prop} {A : CS} {a z d : Nat} {x : Int32} (ha : a ≤ 16) (hA : A.1.1 0 8 = iI a) (hp : ∀ k, k < 16 → 3 ≤ A.2.2 k ∧ A.2.2 k < 19) (hd : d < 6) (hz : z < 4) (h : ∀ B v w, bec A 1 0 B → rot1 (sI B (300 + 4 * 0 + z) d x) a v → bec v (v.2.2 (rb a)) 1 w → post 1 (sI w 0 8 (iI ((rb a + 1 : Nat) : Int)))) : w1_note (fun S2 => (vp_in (iI (d : Nat)) 6 ∧ (∀ S4, S4 = sI S2 (300 + 4 * 0 + z) (iI (d : Nat)).toNatClampNeg x → (w1_done (fun r5 S6 => ((r5 = 0 ∨ r5 = 1) ∧ post r5 S6)) S4)))) A := by
  unfold w1_note
  refine s4_bec (by omega) (fun B hB => ⟨iI_inN hd (by omega), ?_⟩)
  rintro S4 rfl
  rw [iI_clampN (by omega)]
  refine s1_done ha ?_ (fun k hk => ?_) (fun v w hv hw => ⟨Or.inr rfl, h B v w hB hv hw⟩)
  · rw [sI_at, if_neg (by omega), hB.1 _ _ (by omega)]; exact hA
  · show 3 ≤ B.2.2 k ∧ B.2.2 k < 19
    rw [hB.2.2.2.1]; exact hp k hk
def miG (s : GS) (d : Nat) (y : Int) : GS := (s.1, s.2.1, fun e => if e = d then y else s.2.2 e)
def slG (s : GS) (d y : Nat) : GS := (s.1, fun e => if e = d then y else s.2.1 e, s.2.2)
theorem gok_miG {T : GT} {s : GS} (h : gok T s) {d : Nat} {y : Int} (hy : y = -2 ∨ (0 ≤ y ∧ y < gH T)) : gok T (miG s d y) := by
  obtain ⟨h1, h2, h3, h4, h5, h6⟩ := h
  refine ⟨h1, h2, h3, h4, h5, fun e he => ?_⟩
  show (if e = d then y else s.2.2 e) = -2 ∨ (0 ≤ (if e = d then y else s.2.2 e) ∧ (if e = d then y else s.2.2 e) < gH T)
  by_cases c : e = d
  · rw [if_pos c]; exact hy
  · rw [if_neg c]; exact h6 e he
theorem gok_slG {T : GT} {s : GS} (h : gok T s) {d y : Nat} (hy : y ≤ 39) : gok T (slG s d y) := by
  obtain ⟨h1, h2, h3, h4, h5, h6⟩ := h
  refine ⟨h1, h2, h3, h4, fun e he => ?_, h6⟩
  show (if e = d then y else s.2.1 e) ≤ 39
  by_cases c : e = d
  · rw [if_pos c]; exact hy
  · rw [if_neg c]; exact h5 e he
/-- one number of the street is another, on both sides -/
theorem Inv0.chg {tw1 : Option TD} {S1 A1 B1 v w : CS} {tw6 : Option (Nat → Nat)} {S6 A6 B6 u6 : MS} {T : GT} {s s' : GS} {a i o z d : Nat} {x : Int32}
    (hs : same tw6 S6 tw1 S1 (some T) s) (hC : Com S6 S1 a i) (hT : Twn tw1 S1 S6 a i (some T))
    (k6 : K6 S6 A6) (h6 : rem6 A6 a B6) (k7 : K6 (uI B6 2 o x) u6) (ho : o < 18) (hz : 1 ≤ z ∧ z < 4) (t6 : u6.1 0 1 = 0) (w6 : u6.1 0 2 = -1)
    (k1 : K1 S1 A1) (a0 : A1.1.1 0 4 = 0) (b0 : A1.1.1 0 6 = -1) (b1 : bec A1 1 0 B1) (v1 : rot1 (sI B1 (300 + 4 * 0 + z) d x) a v) (w1 : bec v (v.2.2 (rb a)) 1 w) (hok : gok T s')
    (m6 : (∀ k, k ≠ o → u6.1 2 k = S6.1 2 k) → u6.1 2 o = x → mS 2 u6 T s')
    (c1 : (∀ y k, y < 4 → ¬ (y = z ∧ k = d) → (sI B1 (300 + 4 * 0 + z) d x).1.1 (300 + 4 * 0 + y) k = S1.1.1 (300 + 4 * 0 + y) k) → (sI B1 (300 + 4 * 0 + z) d x).1.1 (300 + 4 * 0 + z) d = x → stT tw1 (sI B1 (300 + 4 * 0 + z) d x) 0 → cS tw1 0 (sI B1 (300 + 4 * 0 + z) d x) T s') :
    Inv0 tw1 (sI w 0 8 (iI ((rb a + 1 : Nat) : Int))) tw6 u6 := by
  obtain ⟨-, -, -, -, -, -, -, -, -, -, -, -, -, n, hn, hn6, hn1⟩ := id hC
  have mm : ∀ k, k ≠ o → u6.1 2 k = S6.1 2 k := fun k q => by
    rw [k7 _ _ (by unfold sc6; omega), uI_at, if_neg (by omega), h6.1 _ _ (by omega) (by omega), k6 _ _ (by unfold sc6; omega)]
  have mo : u6.1 2 o = x := by rw [k7 _ _ (by unfold sc6; omega), uI_at, if_pos ⟨rfl, rfl⟩]
  have cc : ∀ y k, y < 4 → ¬ (y = z ∧ k = d) → (sI B1 (300 + 4 * 0 + z) d x).1.1 (300 + 4 * 0 + y) k = S1.1.1 (300 + 4 * 0 + y) k := fun y k hy q => by
    rw [sI_at, if_neg (by omega), b1.1 _ _ (by omega), k1.1 _ _ (by unfold sc1; omega)]
  refine Inv0.act (C1 := sI B1 (300 + 4 * 0 + z) d x) (s' := s') (n' := n) hs hC hT hn6 hn1 hn k6 h6 (fun r k2 q1 q2 => ?_) (m6 mm mo) ((mm 18 (by omega)).trans hn6) k1 b1 (fun r k2 q => ?_) rfl v1 w1 (c1 cc ?_ ?_) ?_ hok hn t6 w6 a0 b0
  · rw [k7 _ _ q2, uI_at, if_neg (by omega)]
  · rw [sI_at, if_neg (by omega)]
  · rw [sI_at, if_pos ⟨rfl, rfl⟩]
  · obtain ⟨⟨τ, z1, z2⟩, -⟩ := hs.2.2.2.2
    refine ⟨τ, z1, ?_⟩
    show B1.2.1 0 = _
    rw [b1.2.1 0 (by omega), k1.2.1 0 (by omega)]
    exact z2
  · exact (cc 0 4 (by omega) (by omega)).trans hn1
theorem mS_mi {S u : MS} {T : GT} {s : GS} {d : Nat} {y : Int} (hok : gok T s) (h : mS 2 S T s) (e : ∀ k, k ≠ 12 + d → u.1 2 k = S.1 2 k) (eo : u.1 2 (12 + d) = iI y) (hd : d < gN T) : mS 2 u T (miG s d y) := by
  have hP := hok.1.2.1
  have hN := hok.1.2.2.1
  refine ⟨fun p hp => (e _ (by omega)).trans (h.1 p hp), fun f hf => (e _ (by omega)).trans (h.2.1 f hf), fun f hf => ?_⟩
  show _ = iI (if f = d then y else s.2.2 f)
  by_cases c : f = d
  · rw [if_pos c, c]; exact eo
  · rw [if_neg c]; exact (e _ (by omega)).trans (h.2.2 f hf)
theorem mS_sl {S u : MS} {T : GT} {s : GS} {d y : Nat} (hok : gok T s) (h : mS 2 S T s) (e : ∀ k, k ≠ 6 + d → u.1 2 k = S.1 2 k) (eo : u.1 2 (6 + d) = iI y) (hd : d < gN T) : mS 2 u T (slG s d y) := by
  have hP := hok.1.2.1
  have hN := hok.1.2.2.1
  refine ⟨fun p hp => (e _ (by omega)).trans (h.1 p hp), fun f hf => ?_, fun f hf => (e _ (by omega)).trans (h.2.2 f hf)⟩
  show _ = iI ((if f = d then y else s.2.1 f : Nat) : Int)
  by_cases c : f = d
  · rw [if_pos c, c]; exact eo
  · rw [if_neg c]; exact (e _ (by omega)).trans (h.2.1 f hf)
theorem cS_mi {tw : Option TD} {S u : CS} {T : GT} {s : GS} {d : Nat} {y : Int} (h : cS tw 0 S T s) (ht : stT tw u 0) (e : ∀ z k, z < 4 → ¬ (z = 2 ∧ k = d) → u.1.1 (300 + 4 * 0 + z) k = S.1.1 (300 + 4 * 0 + z) k) (eo : u.1.1 (300 + 4 * 0 + 2) d = iI y) : cS tw 0 u T (miG s d y) := by
  refine ⟨ht, fun p hp => (e 1 p (by omega) (by omega)).trans (h.2.1 p hp), fun f hf => (e 3 f (by omega) (by omega)).trans (h.2.2.1 f hf), fun f hf => ?_⟩
  show _ = iI (if f = d then y else s.2.2 f)
  by_cases c : f = d
  · rw [if_pos c, c]; exact eo
  · rw [if_neg c]; exact (e 2 f (by omega) (by omega)).trans (h.2.2.2 f hf)
theorem cS_sl {tw : Option TD} {S u : CS} {T : GT} {s : GS} {d y : Nat} (h : cS tw 0 S T s) (ht : stT tw u 0) (e : ∀ z k, z < 4 → ¬ (z = 3 ∧ k = d) → u.1.1 (300 + 4 * 0 + z) k = S.1.1 (300 + 4 * 0 + z) k) (eo : u.1.1 (300 + 4 * 0 + 3) d = iI y) : cS tw 0 u T (slG s d y) := by
  refine ⟨ht, fun p hp => (e 1 p (by omega) (by omega)).trans (h.2.1 p hp), fun f hf => ?_, fun f hf => (e 2 f (by omega) (by omega)).trans (h.2.2.2 f hf)⟩
  show _ = iI ((if f = d then y else s.2.1 f : Nat) : Int)
  by_cases c : f = d
  · rw [if_pos c, c]; exact eo
  · rw [if_neg c]; exact (e 3 f (by omega) (by omega)).trans (h.2.2.1 f hf)
