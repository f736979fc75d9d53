/-! PURE 31: undo -/
set_option maxRecDepth 100000
/-- a street of the pile or of the images becomes the street: both sides -/
theorem Inv0.got {tw1 : Option TD} {S1 A u1 : CS} {tw6 : Option (Nat → Nat)} {S6 u6 : MS} {T : GT} {s z : GS} {a i b zn r0 off X : Nat}
    (hs : same tw6 S6 tw1 S1 (some T) s) (hC : Com S6 S1 a i) (hT : Twn tw1 S1 S6 a i (some T)) (hba : b ≤ a) (hr0 : r0 = 4 ∨ r0 = 5)
    (k6 : K6 (rowG (uI (uI S6 0 0 0) 0 19 (iI b)) 2 0 (fun k => S6.1 r0 (off + k)) 19) u6) (e5 : u6.1 0 1 = 0) (e6 : u6.1 0 2 = -1)
    (k1 : K1 S1 A) (x0 : A.1.1 0 4 = 0) (y0 : A.1.1 0 6 = -1) (hB : bec (sI A 0 8 (iI b)) 0 X u1) (hX : 3 ≤ X ∧ X < 22) (hok : gok T z) (hzn : zn < 100) (hM : rowM S6 r0 off T z zn) (hR : rowC tw1 S1 X T z zn) : Inv0 tw1 u1 tw6 u6 := by
  obtain ⟨-, -, -, -, -, ha, ha6, ha1, hi, hi6, hi1, hp, -, -⟩ := id hC
  obtain ⟨-, ⟨us, un, g5⟩, vs, vn, g6⟩ := id hT
  have hP := hok.1.2.1
  have hN := hok.1.2.2.1
  have m : ∀ r k, ¬ sc6 r k → r ≠ 2 → ¬ (r = 0 ∧ k = 19) → u6.1 r k = S6.1 r k := fun r k q1 q2 q3 => by
    rw [k6 _ _ q1, rowG_at, if_neg (fun z => q2 z.1), uI_at, if_neg q3, uI_at, if_neg (fun z => q1 (by unfold sc6; omega))]
  have m2 : ∀ k, k < 19 → u6.1 2 k = S6.1 r0 (off + k) := fun k hk => by
    rw [k6 _ _ (by unfold sc6; omega), rowG_at, if_pos (by omega), Nat.sub_zero]
  have w : ∀ r k, ¬ sc1 r k → ¬ (300 ≤ r ∧ r < 304) → ¬ (r = 0 ∧ k = 8) → u1.1.1 r k = S1.1.1 r k := fun r k q1 q2 q3 => by
    rw [hB.1 _ _ (by omega), sI_at, if_neg q3, k1.1 _ _ q1]
  have up : ∀ {r : Nat} {z : GS} {zn : Nat}, r < 22 → r ≠ 0 → r ≠ 2 → rowC tw1 S1 r T z zn → rowC tw1 u1 r T z zn := fun {r} {z} {zn} q1 q2 q3 hr =>
    rowC.mv (S := S1) (fun y k hy => w _ _ (by unfold sc1; omega) (by omega) (by omega)) ((hB.2.1 r q2).trans (k1.2.1 r q3)) hr
  have u0 : rowC tw1 u1 0 T z zn := hB.row hok (rowC.mv (S := A) (fun y k hy => by rw [sI_at, if_neg (by omega)]) rfl (k1.C (by omega) (by omega) hR))
  refine Inv0.re (s' := z) (a' := b) (i' := i) (n' := zn) hs hC hT (fun r k c => m r k (by unfold sc6; omega) (by omega) (by omega)) (fun r k c => w r k (by unfold sc1; omega) (by omega) (by omega)) ?_ hok ⟨fun p hp => (m2 _ (by omega)).trans (hM.1 p hp), fun d hd => (m2 _ (by omega)).trans (hM.2.1 d hd), fun d hd => (m2 _ (by omega)).trans (hM.2.2.1 d hd)⟩ u0.1 hzn ((m2 _ (by omega)).trans hM.2.2.2) u0.2 ?_ e6 ?_ (by omega) ?_ ?_ hi ?_ ?_ ⟨us, un, fun k hk => ?_⟩ ⟨vs, vn, fun k hk => ?_⟩
  · rw [hB.2.2.2.1]; funext z; exact k1.2.2 z
  · rw [e5, hB.1 _ _ (by omega), sI_at, if_neg (by omega), x0]
  · rw [hB.1 _ _ (by omega), sI_at, if_neg (by omega), y0]
  · rw [k6 _ _ (by unfold sc6; omega), rowG_at, if_neg (by omega), uI_at, if_pos ⟨rfl, rfl⟩]
  · rw [hB.1 _ _ (by omega), sI_at, if_pos ⟨rfl, rfl⟩]
  · rw [m _ _ (by unfold sc6; omega) (by omega) (by omega)]; exact hi6
  · rw [w _ _ (by unfold sc1; omega) (by omega) (by omega)]; exact hi1
  · obtain ⟨y1, y2, y3, y4⟩ := g5 k (by omega)
    have := hp k (by omega)
    exact ⟨y1, y2, y3.keep fun z => m _ _ (by unfold sc6; omega) (by omega) (by omega), up (by omega) (by omega) (by omega) y4⟩
  · obtain ⟨y1, y2, y3, y4⟩ := g6 k hk
    exact ⟨y1, y2, y3.keep fun z => m _ _ (by unfold sc6; omega) (by omega) (by omega), up (by omega) (by omega) (by omega) y4⟩
theorem o_undo : Ob_undo Inv0 := by
  intro tw1 S1 tw6 S6 hI
  obtain ⟨oT, s, a, i, hs, hC, hT⟩ := id hI
  obtain ⟨-, -, -, -, -, ha, ha6, ha1, hi, hi6, hi1, hp, -, n, hn, hn6, hn1⟩ := id hC
  have r1 : a = 0 → ∀ post : Int32 → CS → Prop, (∀ S', K1 S1 S' → S'.1.1 0 4 = 6 → S'.1.1 0 6 = -1 → post 0 S') → w1_undo post S1 := fun e post h => by
    subst e
    unfold w1_undo
    refine ⟨fun z => absurd ha1 z, fun _ => ?_⟩
    unfold j1_undo_14
    refine s1_yes fun A k x y => ?_
    exact ⟨fun z => absurd rfl z, fun _ => h A k x y⟩
  cases oT with
  | none =>
    obtain ⟨e6, e1⟩ := hs
    subst e6
    subst e1
    refine pt_q hI (w1 := fun p => w1_undo p S1) (w6 := fun p => w6_undo p none S6) 0 6 (fun post h => ?_) (fun post h => r1 hT.1 post h)
    unfold w6_undo
    rintro S rfl
    exact ⟨fun _ => s6_den fun S' k a0 b0 c0 => h S' (th_K.trans k) a0 b0 c0, fun z => (by obtain ⟨t, e⟩ := z; cases e)⟩
  | some T =>
    obtain ⟨t6, ht6⟩ := hs.2.1.1
    have n6 : (uI S6 0 0 0).1 0 19 = iI a := by rw [uI_at, if_neg (by omega)]; exact ha6
    by_cases c : a = 0
    · refine pt_q hI (w1 := fun p => w1_undo p S1) (w6 := fun p => w6_undo p tw6 S6) 0 6 (fun post h => ?_) (fun post h => r1 c post h)
      subst c
      unfold w6_undo
      rintro S rfl
      exact ⟨fun z => (by rw [ht6] at z; cases z), fun _ => ⟨fun z => absurd n6 z, fun _ => s6_den fun S' k a0 b0 c0 => h S' (th_K.trans k) a0 b0 c0⟩⟩
    · obtain ⟨b, rfl⟩ : ∃ b, a = b + 1 := ⟨a - 1, by omega⟩
      obtain ⟨-, ⟨us, un, g5⟩, -⟩ := id hT
      obtain ⟨y1, y2, y3, y4⟩ := g5 b (by omega)
      have hX := hp b (by omega)
      have ne : ¬ (iI ((b + 1 : Nat) : Int) : Int32) = 0 := by
        rw [show (0 : Int32) = iI (0 : Nat) from rfl, iI_eqN (by omega) (by omega)]; omega
      have sb : (iI ((b + 1 : Nat) : Int) : Int32) - 1 = iI (b : Nat) := by
        rw [show (1 : Int32) = iI 1 from rfl, iI_sub, show ((b + 1 : Nat) : Int) - 1 = (b : Nat) by omega]
      refine ⟨1, fun u => ∃ A, K1 S1 A ∧ A.1.1 0 4 = 0 ∧ A.1.1 0 6 = -1 ∧ bec (sI A 0 8 (iI b)) 0 (S1.2.2 b) u, fun u => K6 (rowG (uI (uI S6 0 0 0) 0 19 (iI b)) 2 0 (fun k => S6.1 4 (19 * b + k)) 19) u ∧ u.1 0 1 = 0 ∧ u.1 0 2 = -1, ?_, ?_, ?_⟩
      · show w1_undo _ S1
        unfold w1_undo
        rw [ha1]
        refine ⟨fun _ => ?_, fun z => absurd z ne⟩
        unfold j1_undo_14
        refine s1_yes fun A k x y => ?_
        refine ⟨fun _ => ?_, fun z => absurd z (by decide)⟩
        rintro S5 rfl
        have eA : A.1.1 0 8 = iI ((b + 1 : Nat) : Int) := by rw [k.1 _ _ (by unfold sc1; omega)]; exact ha1
        rw [eA, sb, sI_at, if_pos ⟨rfl, rfl⟩, iI_clampN (by omega)]
        have e2 : (sI A 0 8 (iI (b : Nat))).2.2 b = S1.2.2 b := k.2.2 b
        rw [e2]
        exact ⟨iI_inN (by omega) (by omega), by omega, s4_bec (by omega) (fun B hB => ⟨rfl, A, k, x, y, hB⟩)⟩
      · show w6_undo _ tw6 S6
        unfold w6_undo
        rintro S rfl
        refine ⟨fun z => (by rw [ht6] at z; cases z), fun _ => ⟨fun _ => ?_, fun z => absurd (n6.symm.trans z) ne⟩⟩
        rintro S6' rfl
        rw [n6, sb]
        have e0 : ∀ j, (rowG (uI (uI S6 0 0 0) 0 19 (iI (b : Nat))) 2 0 (fun k => S6.1 4 (19 * b + k)) j).1 0 19 = iI b := fun j => by rw [rowG_at, if_neg (by omega), uI_at, if_pos ⟨rfl, rfl⟩]
        refine lp_up 19 (fun j => (rowG (uI (uI S6 0 0 0) 0 19 (iI (b : Nat))) 2 0 (fun k => S6.1 4 (19 * b + k)) j, iI j)) ?_ (fun j hj K hK => ?_) (fun K => ?_)
        · show (uI (uI S6 0 0 0) 0 19 (iI (b : Nat)), (0 : Int32)) = (rowG _ 2 0 _ 0, iI (0 : Nat))
          rw [rowG_0]; rfl
        · show f6_undo_38 _ K (rowG (uI (uI S6 0 0 0) 0 19 (iI (b : Nat))) 2 0 (fun k => S6.1 4 (19 * b + k)) j) (iI j)
          unfold f6_undo_38
          rw [e0, show (19 : Int32) = iI (19 : Nat) from rfl, iI_leN (by omega) (by omega), iI_mul, iI_add, show ((19 : Nat) : Int) * (b : Int) + (j : Int) = ((19 * b + j : Nat) : Int) by omega, iI_clampN (by omega), iI_clampN (by omega), iI_succ j]
          refine ⟨fun c => absurd c (by omega), fun _ => ⟨iI_inN (by omega) (by omega), iI_inN (by omega) (by omega), fun S4 e => ?_⟩⟩
          have hu := rowG_up (uI (uI S6 0 0 0) 0 19 (iI (b : Nat))) 2 0 (fun k => S6.1 4 (19 * b + k)) j
          rw [Nat.zero_add] at hu
          rw [e, rowG_at, if_neg (by omega), uI_at, if_neg (by omega), uI_at, if_neg (by omega), hu]
          exact hK
        · show f6_undo_38 _ K (rowG (uI (uI S6 0 0 0) 0 19 (iI (b : Nat))) 2 0 (fun k => S6.1 4 (19 * b + k)) 19) (iI (19 : Nat))
          unfold f6_undo_38
          refine ⟨fun _ => ?_, fun c => absurd (Int32.le_refl _) c⟩
          unfold w6_granted
          exact s6_good fun u k3 _ e5 e6 => ⟨Or.inr rfl, rfl, k3, e5, e6⟩
      · rintro u1 u6 ⟨A, k1, x0, y0, hB⟩ ⟨k6, e5, e6⟩
        exact Inv0.got (z := us b) (zn := un b) hs hC hT (by omega) (Or.inl rfl) k6 e5 e6 k1 x0 y0 hB (by omega) y1 y2 y3 y4
