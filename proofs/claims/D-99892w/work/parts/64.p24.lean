/-! PURE 24: an act is done, on both sides -/
set_option maxRecDepth 100000
def rk (a k : Nat) : Nat := if a = 16 then (k + 1) % 16 else k
/-- the pile makes room -/
def rot1 (S : CS) (a : Nat) (v : CS) : Prop := (∀ r k, ¬ (r = 0 ∧ k = 8) → v.1.1 r k = S.1.1 r k) ∧ v.2.1 = S.2.1 ∧ (∀ k, k < 16 → v.2.2 k = S.2.2 (rk a k)) ∧ v.1.1 0 8 = iI (rb a)
def rotF (S : CS) (i : Nat) : CS := (S.1, S.2.1, fun k => if k < i then S.2.2 (k + 1) else S.2.2 k)
theorem sI_at (S : CS) (r0 k0 : Nat) (v : Int32) (r k : Nat) : (sI S r0 k0 v).1.1 r k = if r = r0 ∧ k = k0 then v else S.1.1 r k := by
  show (if r = r0 then upd (S.1.1 r0) k0 v else S.1.1 r) k = _
  by_cases h : r = r0
  · subst h
    rw [if_pos rfl]
    unfold upd
    by_cases h2 : k = k0
    · rw [if_pos h2, if_pos ⟨rfl, h2⟩]
    · rw [if_neg h2, if_neg (fun c => h2 c.2)]
  · rw [if_neg h, if_neg (fun c => h c.1)]
theorem j1_don {post : Int32 → CS → Prop} {v : CS} {b : Nat} (hb : b < 16) (hv : v.1.1 0 8 = iI b) (hp : 3 ≤ v.2.2 b ∧ v.2.2 b < 19) (h : ∀ w, bec v (v.2.2 b) 1 w → post 1 (sI w 0 8 (iI ((b + 1 : Nat) : Int)))) : j1_done_62 post v := by
  unfold j1_done_62
  rw [hv, iI_clampN (by omega)]
  refine ⟨iI_inN (by omega) (by omega), by omega, s4_bec (by omega) (fun w hw => ?_)⟩
  rintro S6 rfl
  have e : w.1.1 0 8 = iI b := by rw [hw.1 0 8 (by omega)]; exact hv
  rw [e, iI_succ]
  exact h w hw
theorem s1_done {post : Int32 → CS → Prop} {S : CS} {a : Nat} (ha : a ≤ 16) (hS : S.1.1 0 8 = iI a) (hp : ∀ k, k < 16 → 3 ≤ S.2.2 k ∧ S.2.2 k < 19) (h : ∀ v w, rot1 S a v → bec v (v.2.2 (rb a)) 1 w → post 1 (sI w 0 8 (iI ((rb a + 1 : Nat) : Int)))) : w1_done post S := by
  unfold w1_done
  rw [hS, show (16 : Int32) = iI (16 : Nat) from rfl, iI_eqN (by omega) (by omega)]
  refine ⟨fun c => ?_, fun c => ?_⟩
  · have e : rb a = a := if_neg c
    have r0 : rot1 S a S := ⟨fun _ _ _ => rfl, rfl, fun k _ => by unfold rk; rw [if_neg c], by rw [e]; exact hS⟩
    refine j1_don (b := a) (by omega) hS (hp a (by omega)) (fun w hw => ?_)
    have hh := h S w r0
    rw [e] at hh
    exact hh hw
  · subst c
    refine ⟨by have := hp 0 (by omega); omega, ?_⟩
    refine lp_up 15 (fun i => (rotF S i, iI ((i + 1 : Nat) : Int))) ?_ (fun i hi K hK => ?_) (fun K => ?_)
    · refine Prod.ext (Prod.ext rfl (Prod.ext rfl (funext fun k => ?_))) rfl
      show S.2.2 k = if k < 0 then S.2.2 (k + 1) else S.2.2 k
      rw [if_neg (by omega)]
    · show f1_done_18 post (S.2.2 0) K (rotF S i) (iI ((i + 1 : Nat) : Int))
      unfold f1_done_18
      rw [show (16 : Int32) = iI (16 : Nat) from rfl, iI_leN (by omega) (by omega), iI_clampN (by omega), show (1 : Int32) = iI (1 : Nat) from rfl, iI_sub, show ((i + 1 : Nat) : Int) - (1 : Nat) = (i : Nat) by omega, iI_clampN (by omega), iI_add, show ((i + 1 : Nat) : Int) + (1 : Nat) = ((i + 1 + 1 : Nat) : Int) by omega]
      have e1 : (rotF S i).2.2 (i + 1) = S.2.2 (i + 1) := if_neg (by omega)
      rw [e1]
      refine ⟨fun c => absurd c (by omega), fun _ => ⟨iI_inN (by omega) (by omega), by have := hp (i + 1) (by omega); omega, iI_inN (by omega) (by omega), fun S14 e => ?_⟩⟩
      have : S14 = rotF S (i + 1) := by
        rw [e]
        refine Prod.ext rfl (Prod.ext rfl (funext fun k => ?_))
        show (if k = i then S.2.2 (i + 1) else if k < i then S.2.2 (k + 1) else S.2.2 k) = if k < i + 1 then S.2.2 (k + 1) else S.2.2 k
        by_cases c : k = i
        · subst c; rw [if_pos rfl, if_pos (by omega)]
        · rw [if_neg c]
          by_cases d : k < i
          · rw [if_pos d, if_pos (by omega)]
          · rw [if_neg d, if_neg (by omega)]
      rw [this]
      exact hK
    · show f1_done_18 post (S.2.2 0) K (rotF S 15) (iI ((15 + 1 : Nat) : Int))
      unfold f1_done_18
      refine ⟨fun _ => ?_, fun c => absurd (Int32.le_refl _) c⟩
      rintro S9 rfl S10 rfl
      have r0 : rot1 S 16 (sI (sU (rotF S 15) 15 (S.2.2 0)) 0 8 ((sU (rotF S 15) 15 (S.2.2 0)).1.1 0 8 - 1)) := by
        refine ⟨fun r k c => ?_, rfl, fun k hk => ?_, ?_⟩
        · rw [sI_at, if_neg c]; rfl
        · show (if k = 15 then S.2.2 0 else if k < 15 then S.2.2 (k + 1) else S.2.2 k) = S.2.2 (rk 16 k)
          unfold rk
          rw [if_pos rfl]
          by_cases c : k = 15
          · subst c; rfl
          · rw [if_neg c, if_pos (by omega), show (k + 1) % 16 = k + 1 by omega]
        · rw [sI_at, if_pos ⟨rfl, rfl⟩]
          show S.1.1 0 8 - 1 = _
          rw [hS]
          rfl
      refine j1_don (b := 15) (by omega) r0.2.2.2 ?_ (fun w hw => h _ w r0 hw)
      rw [r0.2.2.1 15 (by omega)]
      exact hp _ (by unfold rk; rw [if_pos rfl]; omega)
theorem rk_rs {a k : Nat} (ha : a ≤ 16) (hk : k < rb a) : rk a k = rs a k := by
  unfold rk rs
  unfold rb at hk
  by_cases c : a = 16
  · rw [if_pos c] at hk; rw [if_pos c, if_pos c, show (k + 1) % 16 = k + 1 by omega]
  · rw [if_neg c, if_neg c]
theorem rk_lt {a k : Nat} (hk : k < 16) : rk a k < 16 := by
  unfold rk
  by_cases c : a = 16
  · rw [if_pos c]; omega
  · rw [if_neg c]; exact hk
theorem rk_inj {a j k : Nat} (hj : j < 16) (hk : k < 16) (e : rk a j = rk a k) : j = k := by
  unfold rk at e
  by_cases c : a = 16
  · rw [if_pos c, if_pos c] at e; omega
  · rw [if_neg c, if_neg c] at e; exact e
/-- an act: how it was is laid on the pile, the street is another -/
theorem Inv0.act {tw1 : Option TD} {S1 A1 B1 C1 v w : CS} {tw6 : Option (Nat → Nat)} {S6 A6 B6 u6 : MS} {T : GT} {s s' : GS} {a i n n' : Nat}
    (hs : same tw6 S6 tw1 S1 (some T) s) (hC : Com S6 S1 a i) (hT : Twn tw1 S1 S6 a i (some T)) (hn6 : S6.1 2 18 = iI n) (hn1 : S1.1.1 (300 + 4 * 0) 4 = iI n) (hn : n < 100)
    (k6 : K6 S6 A6) (h6 : rem6 A6 a B6) (e6 : ∀ r k, r ≠ 2 → ¬ sc6 r k → u6.1 r k = B6.1 r k) (m6 : mS 2 u6 T s') (n6 : u6.1 2 18 = iI n')
    (k1 : K1 S1 A1) (b1 : bec A1 1 0 B1) (e1 : ∀ r k, ¬ (300 ≤ r ∧ r < 304) → C1.1.1 r k = B1.1.1 r k) (f1 : C1.2 = B1.2) (v1 : rot1 C1 a v) (w1 : bec v (v.2.2 (rb a)) 1 w)
    (c1 : cS tw1 0 C1 T s') (n1 : C1.1.1 (300 + 4 * 0) 4 = iI n') (hok : gok T s') (hn' : n' < 100) (ht6 : u6.1 0 1 = 0) (hw6 : u6.1 0 2 = -1) (ht1 : A1.1.1 0 4 = 0) (hw1 : A1.1.1 0 6 = -1) :
    Inv0 tw1 (sI w 0 8 (iI ((rb a + 1 : Nat) : Int))) tw6 u6 := by
  obtain ⟨t1, ⟨tn, t2, t3, t4⟩, t5, t6, t7, t8, t9, t10, t11, t12, t13, t14, t15, -⟩ := hC
  obtain ⟨g1, ⟨us, un, g5⟩, vs, vn, g6⟩ := hT
  have hb := rb_lt t8
  have p6 : ∀ r k, r ≠ 2 → r ≠ 4 → ¬ sc6 r k → ¬ (r = 0 ∧ k = 19) → u6.1 r k = S6.1 r k := fun r k a1 a2 a3 a4 => by
    rw [e6 r k a1 a3, h6.1 r k a2 a4, k6 r k a3]
  have X2 : ∀ k, k < 16 → v.2.2 k = S1.2.2 (rk a k) := fun k hk => by rw [v1.2.2.1 k hk, f1, b1.2.2.2.1, k1.2.2]
  have X3 : 3 ≤ v.2.2 (rb a) ∧ v.2.2 (rb a) < 19 := by rw [X2 _ hb]; exact t14 _ (rk_lt hb)
  generalize hX : v.2.2 (rb a) = X at *
  have q1 : ∀ r k, ¬ sc1 r k → ¬ (300 ≤ r ∧ r < 308) → ¬ (300 + 4 * X ≤ r ∧ r < 300 + 4 * X + 4) → ¬ (r = 0 ∧ k = 8) → (sI w 0 8 (iI ((rb a + 1 : Nat) : Int))).1.1 r k = S1.1.1 r k := fun r k a1 a2 a3 a4 => by
    rw [sI_at, if_neg a4, w1.1 r k (by omega), v1.1 r k a4, e1 r k (by omega), b1.1 r k (by omega), k1.1 r k a1]
  have q2 : ∀ r, r ≠ X → r ≠ 1 → r ≠ 2 → (sI w 0 8 (iI ((rb a + 1 : Nat) : Int))).2.1 r = S1.2.1 r := fun r a1 a2 a3 => by
    show w.2.1 r = _
    rw [w1.2.1 r a1, v1.2.1, f1, b1.2.1 r a2, k1.2.1 r a3]
  have q3 : ∀ k, k < 16 → (sI w 0 8 (iI ((rb a + 1 : Nat) : Int))).2.2 k = S1.2.2 (rk a k) := fun k hk => by
    show w.2.2 k = _
    rw [w1.2.2.2.1]
    exact X2 k hk
  have q4 : ∀ {r : Nat} {z : GS} {zn : Nat}, r < 22 → r ≠ 0 → r ≠ 1 → r ≠ 2 → r ≠ X → rowC tw1 S1 r T z zn → rowC tw1 (sI w 0 8 (iI ((rb a + 1 : Nat) : Int))) r T z zn := fun {r} {z} {zn} a1 a2 a3 a4 a5 hr =>
    hr.mv (fun y k hy => q1 _ _ (by unfold sc1; omega) (by omega) (by omega) (by omega)) (q2 _ a5 a3 a4)
  have wX : rowC tw1 w X T s n := by
    refine w1.row hs.1 ?_
    have r0 : rowC tw1 S1 0 T s n := ⟨hs.2.2.2.2, hn1⟩
    have r1 : rowC tw1 A1 0 T s n := k1.C (by omega) (by omega) r0
    have r2 : rowC tw1 B1 1 T s n := b1.row hs.1 r1
    have r3 : rowC tw1 C1 1 T s n := r2.mv (fun z k hz => e1 _ _ (by omega)) (by rw [f1])
    exact r3.mv (fun z k hz => v1.1 _ _ (by omega)) (by rw [v1.2.1])
  have w0 : rowC tw1 w 0 T s' n' := by
    have r3 : rowC tw1 v 0 T s' n' := rowC.mv (S := C1) (fun z k hz => v1.1 _ _ (by omega)) (by rw [v1.2.1]) ⟨c1, n1⟩
    exact w1.keep (by omega) r3
  have up : ∀ {r : Nat} {z : GS} {zn : Nat}, rowC tw1 w r T z zn → rowC tw1 (sI w 0 8 (iI ((rb a + 1 : Nat) : Int))) r T z zn := fun {r} {z} {zn} hr => rowC.mv (S := w) (fun y k hy => by rw [sI_at, if_neg (by omega)]) rfl hr
  have u0 := up w0
  refine ⟨some T, s', rb a + 1, i, ⟨hok, hs.2.1.mv fun r k c => p6 r k (by omega) (by omega) (by unfold sc6; omega) (by omega), m6, hs.2.2.2.1.mv fun r k c => q1 r k (by unfold sc1; omega) (by omega) (by omega) (by omega), u0.1⟩, ?_, ?_⟩
  · refine ⟨fun k hk => ?_, ⟨tn, t2, ?_, ?_⟩, ?_, ⟨?_, ?_⟩, ?_, by omega, ?_, ?_, t11, ?_, ?_, fun k hk => ?_, fun j k hj hk e => ?_, n', hn', n6, u0.2⟩
    · rw [p6 _ _ (by omega) (by omega) (by unfold sc6; omega) (by omega), q1 _ _ (by unfold sc1; omega) (by omega) (by omega) (by omega)]; exact t1 k hk
    · rw [p6 _ _ (by omega) (by omega) (by unfold sc6; omega) (by omega)]; exact t3
    · rw [q1 _ _ (by unfold sc1; omega) (by omega) (by omega) (by omega)]; exact t4
    · rw [ht6, sI_at, if_neg (by omega), w1.1 _ _ (by omega), v1.1 _ _ (by omega), e1 _ _ (by omega), b1.1 _ _ (by omega), ht1]
    · rw [hw6, sI_at, if_neg (by omega), w1.1 _ _ (by omega), v1.1 _ _ (by omega), e1 _ _ (by omega), b1.1 _ _ (by omega), hw1]
    · right
      rw [sI_at, if_neg (by omega), w1.1 _ _ (by omega), v1.1 _ _ (by omega), e1 _ _ (by omega), b1.1 _ _ (by omega), hw1]
    · rw [p6 _ _ (by omega) (by omega) (by unfold sc6; omega) (by omega), q1 _ _ (by unfold sc1; omega) (by omega) (by omega) (by omega)]; exact t7
    · rw [e6 _ _ (by omega) (by unfold sc6; omega)]; exact h6.2.1
    · rw [sI_at, if_pos ⟨rfl, rfl⟩]
    · rw [p6 _ _ (by omega) (by omega) (by unfold sc6; omega) (by omega)]; exact t12
    · rw [q1 _ _ (by unfold sc1; omega) (by omega) (by omega) (by omega)]; exact t13
    · rw [q3 k hk]; exact t14 _ (rk_lt hk)
    · rw [q3 j hj, q3 k hk] at e
      exact rk_inj hj hk (t15 _ _ (rk_lt hj) (rk_lt hk) e)
  · refine ⟨g1.mv (fun r k c => p6 r k (by omega) (by omega) (by unfold sc6; omega) (by omega)) (fun r k c => q1 r k (by unfold sc1; omega) (by omega) (by omega) (by omega)), ⟨fun k => if k = rb a then s else us (rs a k), fun k => if k = rb a then n else un (rs a k), fun k hk => ?_⟩, vs, vn, fun k hk => ?_⟩
    · have f6 : ∀ k2, u6.1 4 k2 = B6.1 4 k2 := fun k2 => e6 _ _ (by omega) (by unfold sc6; omega)
      by_cases c : k = rb a
      · subst c
        dsimp only
        rw [if_pos rfl, if_pos rfl]
        have z6 : ∀ j, j < 19 → u6.1 4 (19 * rb a + j) = S6.1 2 j := fun j hj => by rw [f6, h6.2.2.1 j hj, k6 _ _ (by unfold sc6; omega)]
        have hP := hs.1.1.2.1
        have hN := hs.1.1.2.2.1
        refine ⟨hs.1, hn, ⟨fun p hp => ?_, fun d hd => ?_, fun d hd => ?_, ?_⟩, ?_⟩
        · rw [z6 _ (by omega)]; exact hs.2.2.1.1 p hp
        · rw [z6 _ (by omega)]; exact hs.2.2.1.2.1 d hd
        · rw [z6 _ (by omega)]; exact hs.2.2.1.2.2 d hd
        · rw [z6 _ (by omega)]; exact hn6
        · rw [show (sI w 0 8 (iI ((rb a + 1 : Nat) : Int))).2.2 (rb a) = X by show w.2.2 _ = _; rw [w1.2.2.2.1]; exact hX]
          exact up wX
      · dsimp only
        rw [if_neg c, if_neg c]
        have hk2 : k < rb a := by omega
        have hrs : rs a k < a := by
          unfold rs
          unfold rb at hk2
          by_cases d : a = 16
          · rw [if_pos d]; rw [if_pos d] at hk2; omega
          · rw [if_neg d]; rw [if_neg d] at hk2; omega
        obtain ⟨y1, y2, y3, y4⟩ := g5 (rs a k) hrs
        have z6 : ∀ j, j < 19 → u6.1 4 (19 * k + j) = S6.1 4 (19 * rs a k + j) := fun j hj => by rw [f6, h6.2.2.2 k j hk2 hj, k6 _ _ (by unfold sc6; omega)]
        have hP := hs.1.1.2.1
        have hN := hs.1.1.2.2.1
        refine ⟨y1, y2, ⟨fun p hp => ?_, fun d hd => ?_, fun d hd => ?_, ?_⟩, ?_⟩
        · rw [z6 _ (by omega)]; exact y3.1 p hp
        · rw [z6 _ (by omega)]; exact y3.2.1 d hd
        · rw [z6 _ (by omega)]; exact y3.2.2.1 d hd
        · rw [z6 _ (by omega)]; exact y3.2.2.2
        · rw [q3 k (by omega), rk_rs t8 hk2]
          have hr := t14 (rs a k) (by omega)
          refine q4 (by omega) (by omega) (by omega) (by omega) (fun e => ?_) y4
          rw [← hX, X2 _ hb] at e
          have := t15 _ _ (by omega) (rk_lt hb) e
          rw [← rk_rs t8 hk2] at this
          exact c (rk_inj (by omega) hb this)
    · obtain ⟨y1, y2, y3, y4⟩ := g6 k hk
      exact ⟨y1, y2, y3.keep fun z => p6 _ _ (by omega) (by omega) (by unfold sc6; omega) (by omega), q4 (by omega) (by omega) (by omega) (by omega) (by omega) y4⟩
