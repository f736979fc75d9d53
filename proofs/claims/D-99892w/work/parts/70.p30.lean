/-! PURE 30: image -/
set_option maxRecDepth 100000
/-- a row is being copied -/
def rowG (S : MS) (r off : Nat) (src : Nat → Int32) (i : Nat) : MS := (fun q k => if q = r ∧ off ≤ k ∧ k < off + i then src (k - off) else S.1 q k, S.2)
theorem rowG_at (S : MS) (r off : Nat) (src : Nat → Int32) (i q k : Nat) : (rowG S r off src i).1 q k = if q = r ∧ off ≤ k ∧ k < off + i then src (k - off) else S.1 q k := rfl
theorem rowG_0 (S : MS) (r off : Nat) (src : Nat → Int32) : rowG S r off src 0 = S := Prod.ext (funext fun q => funext fun k => if_neg (by omega)) rfl
theorem rowG_up (S : MS) (r off : Nat) (src : Nat → Int32) (i : Nat) : uI (rowG S r off src i) r (off + i) (src i) = rowG S r off src (i + 1) := by
  refine Prod.ext (funext fun q => funext fun k => ?_) rfl
  rw [uI_at, rowG_at, rowG_at]
  by_cases a4 : q = r
  · by_cases ji : k = off + i
    · rw [if_pos ⟨a4, ji⟩, if_pos (by omega), ji, Nat.add_sub_cancel_left]
    · rw [if_neg (fun c => ji c.2)]
      by_cases h : q = r ∧ off ≤ k ∧ k < off + i
      · rw [if_pos h, if_pos (by omega)]
      · rw [if_neg h, if_neg (by omega)]
  · rw [if_neg (fun c => a4 c.1), if_neg (fun c => a4 c.1), if_neg (fun c => a4 c.1)]
/-- the counts, the pile and the images made anew -/
theorem Inv0.re {tw1 : Option TD} {S1 u1 : CS} {tw6 : Option (Nat → Nat)} {S6 u6 : MS} {T : GT} {s s' : GS} {a i a' i' n' : Nat}
    (hs : same tw6 S6 tw1 S1 (some T) s) (hC : Com S6 S1 a i) (hT : Twn tw1 S1 S6 a i (some T))
    (e6 : ∀ r k, 20 ≤ r ∨ r = 1 ∨ (r = 0 ∧ (k = 6 ∨ k = 12)) → u6.1 r k = S6.1 r k) (e1 : ∀ r k, (50 ≤ r ∧ r < 300) ∨ 1000 ≤ r ∨ r = 1 ∨ (r = 0 ∧ (k = 1 ∨ k = 5)) → u1.1.1 r k = S1.1.1 r k) (e2 : u1.2.2 = S1.2.2)
    (hok : gok T s') (m6 : mS 2 u6 T s') (c1 : cS tw1 0 u1 T s') (hn : n' < 100) (n6 : u6.1 2 18 = iI n') (n1 : u1.1.1 (300 + 4 * 0) 4 = iI n')
    (t : u6.1 0 1 = u1.1.1 0 4) (w6 : u6.1 0 2 = -1) (w1 : u1.1.1 0 6 = -1) (ha : a' ≤ 16) (a6 : u6.1 0 19 = iI a') (a1 : u1.1.1 0 8 = iI a') (hi : i' ≤ 3) (i6 : u6.1 0 20 = iI i') (i1 : u1.1.1 0 7 = iI i')
    (hu : ∃ (us : Nat → GS) (un : Nat → Nat), ∀ k, k < a' → gok T (us k) ∧ un k < 100 ∧ rowM u6 4 (19 * k) T (us k) (un k) ∧ rowC tw1 u1 (S1.2.2 k) T (us k) (un k))
    (hv : ∃ (us : Nat → GS) (un : Nat → Nat), ∀ k, k < i' → gok T (us k) ∧ un k < 100 ∧ rowM u6 5 (19 * k) T (us k) (un k) ∧ rowC tw1 u1 (19 + k) T (us k) (un k)) : Inv0 tw1 u1 tw6 u6 := by
  obtain ⟨t1, ⟨tn, t2, t3, t4⟩, -, -, t7, -, -, -, -, -, -, t14, t15, -⟩ := hC
  refine ⟨some T, s', a', i', ⟨hok, hs.2.1.mv fun r k c => e6 r k (by omega), m6, hs.2.2.2.1.mv fun r k c => e1 r k (by omega), c1⟩, ⟨fun k hk => ?_, ⟨tn, t2, ?_, ?_⟩, t, ⟨w6.trans w1.symm, Or.inr w1⟩, ?_, ha, a6, a1, hi, i6, i1, ?_, ?_, n', hn, n6, n1⟩, hT.1.mv (fun r k c => e6 r k (by omega)) (fun r k c => e1 r k (by omega)), ?_, hv⟩
  · rw [e6 _ _ (by omega), e1 _ _ (by omega)]; exact t1 k hk
  · rw [e6 _ _ (by omega)]; exact t3
  · rw [e1 _ _ (by omega)]; exact t4
  · rw [e6 _ _ (by omega), e1 _ _ (by omega)]; exact t7
  · rw [e2]; exact t14
  · rw [e2]; exact t15
  · rw [e2]; exact hu
theorem o_image : Ob_image Inv0 := by
  intro tw1 S1 tw6 S6 hI
  obtain ⟨oT, s, a, i, hs, hC, hT⟩ := id hI
  cases oT with
  | none =>
    obtain ⟨e6, e1⟩ := hs
    subst e6
    subst e1
    refine pt_q hI (w1 := fun p => w1_image p none S1) (w6 := fun p => w6_image p none S6) (-1) 1 (fun post h => ?_) (fun post h => ?_)
    · unfold w6_image
      rintro S rfl
      exact ⟨fun _ => s6_refused fun S' k a0 b0 c0 => h S' (th_K.trans k) a0 b0 c0, fun z => (by obtain ⟨t, e⟩ := z; cases e)⟩
    · unfold w1_image
      exact s1_anew fun A k a0 b0 => ⟨fun _ => s1_no b0 fun S' k2 a2 b2 => h S' (k.trans k2) a2 b2, fun z => (by obtain ⟨t, e⟩ := z; cases e)⟩
  | some T =>
    obtain ⟨-, -, -, -, -, ha, ha6, ha1, hi, hi6, hi1, hp, -, n, hn, hn6, hn1⟩ := id hC
    obtain ⟨-, ⟨us, un, g5⟩, vs, vn, g6⟩ := id hT
    have hok := hs.1
    have hP := hok.1.2.1
    have hN := hok.1.2.2.1
    obtain ⟨t6, ht6⟩ := hs.2.1.1
    obtain ⟨t1, ht1⟩ := hs.2.2.2.1.1
    have n6 : (uI S6 0 0 0).1 0 20 = iI i := by rw [uI_at, if_neg (by omega)]; exact hi6
    by_cases c : i = 3
    · subst c
      refine pt_q hI (w1 := fun p => w1_image p tw1 S1) (w6 := fun p => w6_image p tw6 S6) (-1) 3 (fun post h => ?_) (fun post h => ?_)
      · unfold w6_image
        rintro S rfl
        exact ⟨fun z => (by rw [ht6] at z; cases z), fun _ => ⟨fun z => absurd n6 z, fun _ => s6_refused fun S' k a0 b0 c0 => h S' (th_K.trans k) a0 b0 c0⟩⟩
      · unfold w1_image
        refine s1_anew fun A k a0 b0 => ⟨fun z => (by rw [ht1] at z; cases z), fun _ => ⟨fun z => absurd ?_ z, fun _ => s1_no b0 fun S' k2 a2 b2 => h S' (k.trans k2) a2 b2⟩⟩
        rw [k.1 _ _ (by unfold sc1; omega)]
        exact hi1
    · have ne : ¬ (iI (i : Nat) : Int32) = 3 := by
        rw [show (3 : Int32) = iI (3 : Nat) from rfl, iI_eqN (by omega) (by omega)]; exact c
      refine ⟨iI i, fun u => ∃ A B, K1 S1 A ∧ A.1.1 0 4 = 0 ∧ A.1.1 0 6 = -1 ∧ bec A (19 + i) 0 B ∧ u = sI B 0 7 (iI ((i + 1 : Nat) : Int)), fun u => K6 (uI (rowG (uI S6 0 0 0) 5 (19 * i) (fun k => S6.1 2 k) 19) 0 20 (iI ((i + 1 : Nat) : Int))) u ∧ u.1 0 1 = 0 ∧ u.1 0 2 = -1, ?_, ?_, ?_⟩
      · show w1_image _ tw1 S1
        unfold w1_image
        refine s1_anew fun A k a0 b0 => ⟨fun z => (by rw [ht1] at z; cases z), fun _ => ?_⟩
        have eA : A.1.1 0 7 = iI i := by rw [k.1 _ _ (by unfold sc1; omega)]; exact hi1
        rw [eA, iI_clampN (by omega)]
        refine ⟨fun _ => ⟨iI_inN (by omega) (by omega), by omega, s4_bec (by omega) (fun B hB => ?_)⟩, fun z => absurd z ne⟩
        rintro S11 rfl
        have eB : B.1.1 0 7 = iI i := by rw [hB.1 _ _ (by omega)]; exact eA
        rw [eB, iI_succ]
        refine ⟨?_, A, B, k, a0, b0, hB, rfl⟩
        rw [sI_at, if_pos ⟨rfl, rfl⟩, show (1 : Int32) = iI 1 from rfl, iI_sub, show ((i + 1 : Nat) : Int) - 1 = (i : Nat) by omega]
      · show w6_image _ tw6 S6
        unfold w6_image
        rintro S rfl
        refine ⟨fun z => (by rw [ht6] at z; cases z), fun _ => ⟨fun _ => ?_, fun z => absurd (n6.symm.trans z) ne⟩⟩
        have e0 : ∀ j, (rowG (uI S6 0 0 0) 5 (19 * i) (fun k => S6.1 2 k) j).1 0 20 = iI i := fun j => by rw [rowG_at, if_neg (by omega)]; exact n6
        refine lp_up 19 (fun j => (rowG (uI S6 0 0 0) 5 (19 * i) (fun k => S6.1 2 k) j, iI j)) ?_ (fun j hj K hK => ?_) (fun K => ?_)
        · show (uI S6 0 0 0, (0 : Int32)) = (rowG _ 5 (19 * i) _ 0, iI (0 : Nat))
          rw [rowG_0]; rfl
        · show f6_image_34 _ K (rowG (uI S6 0 0 0) 5 (19 * i) (fun k => S6.1 2 k) j) (iI j)
          unfold f6_image_34
          rw [e0, show (19 : Int32) = iI (19 : Nat) from rfl, iI_leN (by omega) (by omega), iI_mul, iI_add, show ((19 : Nat) : Int) * (i : Int) + (j : Int) = ((19 * i + j : Nat) : Int) by omega, iI_clampN (by omega), iI_clampN (by omega), iI_succ j]
          refine ⟨fun c => absurd c (by omega), fun _ => ⟨iI_inN (by omega) (by omega), iI_inN (by omega) (by omega), fun S4 e => ?_⟩⟩
          rw [e, rowG_at, if_neg (by omega), uI_at, if_neg (by omega), rowG_up (uI S6 0 0 0) 5 (19 * i) (fun k => S6.1 2 k) j]
          exact hK
        · show f6_image_34 _ K (rowG (uI S6 0 0 0) 5 (19 * i) (fun k => S6.1 2 k) 19) (iI (19 : Nat))
          unfold f6_image_34
          refine ⟨fun _ => ?_, fun c => absurd (Int32.le_refl _) c⟩
          rintro S7 rfl
          rw [e0, iI_succ, uI_at, if_pos ⟨rfl, rfl⟩]
          refine s6_good fun u k3 _ e5 e6 => ⟨?_, k3, e5, e6⟩
          rw [show (1 : Int32) = iI 1 from rfl, iI_sub, show ((i + 1 : Nat) : Int) - 1 = (i : Nat) by omega]
      · rintro u1 u6 ⟨A, B, k1, x0, y0, hB, rfl⟩ ⟨k6, e5, e6⟩
        have m : ∀ r k, ¬ sc6 r k → ¬ (r = 5 ∧ 19 * i ≤ k ∧ k < 19 * i + 19) → ¬ (r = 0 ∧ k = 20) → u6.1 r k = S6.1 r k := fun r k q1 q2 q3 => by
          rw [k6 _ _ q1, uI_at, if_neg q3, rowG_at, if_neg q2, uI_at, if_neg (fun z => q1 (by unfold sc6; omega))]
        have w : ∀ r k, ¬ sc1 r k → ¬ (300 + 4 * (19 + i) ≤ r ∧ r < 300 + 4 * (19 + i) + 4) → ¬ (r = 0 ∧ k = 7) → (sI B 0 7 (iI ((i + 1 : Nat) : Int))).1.1 r k = S1.1.1 r k := fun r k q1 q2 q3 => by
          rw [sI_at, if_neg q3, hB.1 _ _ q2, k1.1 _ _ q1]
        have up : ∀ {r : Nat} {z : GS} {zn : Nat}, r < 22 → r ≠ 19 + i → r ≠ 2 → rowC tw1 S1 r T z zn → rowC tw1 (sI B 0 7 (iI ((i + 1 : Nat) : Int))) r T z zn := fun {r} {z} {zn} q1 q2 q3 hr =>
          rowC.mv (S := S1) (fun y k hy => w _ _ (by unfold sc1; omega) (by omega) (by omega)) ((hB.2.1 r q2).trans (k1.2.1 r q3)) hr
        have r0 : rowC tw1 S1 0 T s n := ⟨hs.2.2.2.2, hn1⟩
        have rN : rowC tw1 (sI B 0 7 (iI ((i + 1 : Nat) : Int))) (19 + i) T s n := rowC.mv (S := B) (fun y k hy => by rw [sI_at, if_neg (by omega)]) rfl (hB.row hok (k1.C (by omega) (by omega) r0))
        have u0 := up (by omega) (by omega) (by omega) r0
        refine Inv0.re (s' := s) (a' := a) (i' := i + 1) (n' := n) hs hC hT (fun r k c => m r k (by unfold sc6; omega) (by omega) (by omega)) (fun r k c => w r k (by unfold sc1; omega) (by omega) (by omega)) ?_ hok (hs.2.2.1.mv fun k => m 2 k (by unfold sc6; omega) (by omega) (by omega)) u0.1 hn ?_ u0.2 ?_ e6 ?_ ha ?_ ?_ (by omega) ?_ ?_ ⟨us, un, fun k hk => ?_⟩ ⟨fun k => if k = i then s else vs k, fun k => if k = i then n else vn k, fun k hk => ?_⟩
        · show B.2.2 = S1.2.2
          rw [hB.2.2.2.1]; funext z; exact k1.2.2 z
        · rw [m _ _ (by unfold sc6; omega) (by omega) (by omega)]; exact hn6
        · rw [e5, sI_at, if_neg (by omega), hB.1 _ _ (by omega), x0]
        · rw [sI_at, if_neg (by omega), hB.1 _ _ (by omega), y0]
        · rw [m _ _ (by unfold sc6; omega) (by omega) (by omega)]; exact ha6
        · rw [w _ _ (by unfold sc1; omega) (by omega) (by omega)]; exact ha1
        · rw [k6 _ _ (by unfold sc6; omega), uI_at, if_pos ⟨rfl, rfl⟩]
        · rw [sI_at, if_pos ⟨rfl, rfl⟩]
        · obtain ⟨y1, y2, y3, y4⟩ := g5 k hk
          have := hp k (by omega)
          exact ⟨y1, y2, y3.keep fun z => m _ _ (by unfold sc6; omega) (by omega) (by omega), up (by omega) (by omega) (by omega) y4⟩
        · dsimp only
          by_cases ck : k = i
          · subst ck
            rw [if_pos rfl, if_pos rfl]
            have z6 : ∀ j, j < 19 → u6.1 5 (19 * k + j) = S6.1 2 j := fun j hj => by
              rw [k6 _ _ (by unfold sc6; omega), uI_at, if_neg (by omega), rowG_at, if_pos (by omega), Nat.add_sub_cancel_left]
            refine ⟨hok, hn, ⟨fun p hp => ?_, fun d hd => ?_, fun d hd => ?_, ?_⟩, rN⟩
            · rw [z6 _ (by omega)]; exact hs.2.2.1.1 p hp
            · rw [z6 _ (by omega)]; exact hs.2.2.1.2.1 d hd
            · rw [z6 _ (by omega)]; exact hs.2.2.1.2.2 d hd
            · rw [z6 _ (by omega)]; exact hn6
          · rw [if_neg ck, if_neg ck]
            obtain ⟨y1, y2, y3, y4⟩ := g6 k (by omega)
            have z6 : ∀ j, j < 19 → u6.1 5 (19 * k + j) = S6.1 5 (19 * k + j) := fun j hj => m _ _ (by unfold sc6; omega) (by omega) (by omega)
            refine ⟨y1, y2, ⟨fun p hp => ?_, fun d hd => ?_, fun d hd => ?_, ?_⟩, up (by omega) (by omega) (by omega) y4⟩
            · rw [z6 _ (by omega)]; exact y3.1 p hp
            · rw [z6 _ (by omega)]; exact y3.2.1 d hd
            · rw [z6 _ (by omega)]; exact y3.2.2.1 d hd
            · rw [z6 _ (by omega)]; exact y3.2.2.2
