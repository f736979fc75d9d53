/-! PURE 7: more that is asked -/
set_option maxRecDepth 100000
def popF : Nat → Int32 → Int32 → Int32
  | 0, c, _ => c
  | k + 1, c, x => if x = 0 then c else popF k (c + 1) (x &&& (x - 1))
/-- how many are in a set -/
def pop (x : Int32) : Int32 := popF (x.toBitVec.toNat + 1) 0 x
theorem low_lt {x : Int32} (h : ¬ x = 0) : (x &&& (x - 1)).toBitVec.toNat < x.toBitVec.toNat := by
  have h0 : x.toBitVec ≠ 0#32 := fun c => h (Int32.toBitVec_inj.mp c)
  have h1 : x.toBitVec.toNat ≠ 0 := fun c => h0 (BitVec.eq_of_toNat_eq c)
  show (x.toBitVec &&& (x.toBitVec - 1#32)).toNat < x.toBitVec.toNat
  rw [BitVec.toNat_and]
  have h2 : (x.toBitVec - 1#32).toNat = x.toBitVec.toNat - 1 := by
    have := x.toBitVec.isLt
    rw [BitVec.toNat_sub]
    show (2 ^ 32 - 1 + x.toBitVec.toNat) % 2 ^ 32 = _
    omega
  have := @Nat.and_le_right x.toBitVec.toNat (x.toBitVec - 1#32).toNat
  omega
theorem s6_bits {post : Int32 → Prop} {x : Int32} (h : post (pop x)) : w6_bits post x := by
  unfold w6_bits
  have key : ∀ n c x, x.toBitVec.toNat < n → post (popF n c x) → lpn (fun (K : (Int32 × Int32) → Prop) (z : (Int32 × Int32)) => f6_bits_4 post K z.1 z.2) n (c, x) := by
    intro n
    induction n with
    | zero => intro c x h; exact absurd h (by omega)
    | succ n ih =>
      intro c x h hp
      show f6_bits_4 post _ c x
      unfold f6_bits_4
      unfold popF at hp
      refine ⟨fun e => ?_, fun e => ?_⟩
      · rw [if_pos e] at hp; exact hp
      · rw [if_neg e] at hp
        exact ih _ _ (by have := low_lt e; omega) hp
  exact ⟨_, key _ 0 x (Nat.lt_succ_self _) h⟩
theorem s1_ones {post : Int32 → Prop} {x : Int32} (h : post (pop x)) : w1_ones post x := s6_bits h
section P7
variable {tw : Option (Nat → Nat)} {S : MS} {tw' : Option TD} {S' : CS} {s : GS} {oT : Option GT}
theorem s4_heard {post : Int32 → Prop} {T : GT} {r : Nat} (hok : gok T s) (hT : cT tw' S' T) (hS : cS tw' r S' T s) {p n : Nat} (hpp : p < gP T) (hn : n < 200) (hp : post (setB (fun d => earN T s d n 0 = p) (gN T))) : w4_heard post tw' S' r (iI p) (iI n) := by
  have hN := hok.1.2.2.1
  have hP := hok.1.2.1
  unfold w4_heard
  refine lp_set (gN T) (fun d => earN T s d n 0 = p) (fun i hi K hK => ?_) (fun K => ?_)
  · show f4_heard_5 post tw' S' r (iI p) (iI n) K (setB (fun d => earN T s d n 0 = p) i) (iI i)
    unfold f4_heard_5
    rw [hT.2.2.2.2.2.1, iI_leN (by omega) (by omega), iI_succ]
    refine ⟨hS.1, fun c => absurd c (by omega), fun _ => s4_ear (f := 0) hok hT hS hi hn (by omega) ?_⟩
    obtain ⟨q, hq, e⟩ := earN_lt hok i n 0
    rw [setB] at hK
    rw [e, iI_eqN (by omega) (by omega)]
    refine ⟨fun c => ?_, fun c => ?_⟩
    · rw [if_neg (by rw [e]; simp; omega)] at hK; exact hK
    · rw [if_pos (by rw [e]; simp; omega)] at hK; exact hK
  · show f4_heard_5 post tw' S' r (iI p) (iI n) K (setB (fun d => earN T s d n 0 = p) (gN T)) (iI (gN T))
    unfold f4_heard_5
    rw [hT.2.2.2.2.2.1, iI_leN (by omega) (by omega)]
    exact ⟨hS.1, fun _ => hp, fun c => absurd (Nat.le_refl _) c⟩
/-- a town, a night -/
theorem e_n (h : same tw S tw' S' oT s) {y : Int32} {B6 : (Int32 → MS → Prop) → MS → Prop} {B1 : (Int32 → CS → Prop) → CS → Prop}
    (H : ∀ T, oT = some T → gok T s → ∀ n, n < 100 → y = iI (n : Nat) → Body tw S tw' S' T s B6 B1) :
    ∃ r t, Q6 S (fun post => ∀ S1, S1 = uI S 0 0 0 → (tw = none → w6_refusesNight (fun r3 => (r3 ≤ 0 → B6 post S1) ∧ (¬ r3 ≤ 0 → w6_refused (fun r10 S11 => post r10 S11) S1 r3)) S1 0 y) ∧ ((∃ t, tw = some t) → w6_refusesNight (fun r3 => (r3 ≤ 0 → B6 post S1) ∧ (¬ r3 ≤ 0 → w6_refused (fun r10 S11 => post r10 S11) S1 r3)) S1 1 y)) r t ∧
      Q1 S' (fun post => w1_anew (fun S2 => (tw' = none → w1_nightWhy (fun r4 => (r4 = 0 → B1 post S2) ∧ (¬ r4 = 0 → w1_no (fun r7 S8 => post r7 S8) S2 r4)) S2 0 y) ∧ ((∃ τ, tw' = some τ) → w1_nightWhy (fun r4 => (r4 = 0 → B1 post S2) ∧ (¬ r4 = 0 → w1_no (fun r7 S8 => post r7 S8) S2 r4)) S2 1 y)) S') r t := by
  have hb : K6 S (uI S 0 0 0) := K6.uI (by unfold sc6; omega)
  have k : K1 S' (sI (sI S' 0 4 0) 0 6 (-1)) := (K1.sI (by unfold sc1; omega)).trans (K1.sI (by unfold sc1; omega))
  obtain ⟨r, t, q6, q1⟩ := e_why (B6 := B6) (B1 := B1) h (gw_in (gt oT) y) (fun c => by
    obtain ⟨c1, n, hn, rfl⟩ := gw_0 c
    obtain ⟨T, rfl⟩ := gt_true c1
    exact ⟨T, rfl, H T rfl h.1 n hn rfl⟩)
  refine ⟨r, t, q6.mono fun post w => ?_, q1.mono fun post w => ?_⟩
  · rintro S1 rfl
    exact g6_town (A := fun v => w6_refusesNight (fun r3 => (r3 ≤ 0 → B6 post (uI S 0 0 0)) ∧ (¬ r3 ≤ 0 → w6_refused (fun r10 S11 => post r10 S11) (uI S 0 0 0) r3)) (uI S 0 0 0) v y) (hb.m h.l) (g6_night (w _ rfl))
  · unfold w1_anew
    unfold w1_anew at w
    rintro S1 rfl S2 rfl
    exact g1_town (A := fun v => w1_nightWhy (fun r4 => (r4 = 0 → B1 post (sI (sI S' 0 4 0) 0 6 (-1))) ∧ (¬ r4 = 0 → w1_no (fun r7 S8 => post r7 S8) (sI (sI S' 0 4 0) 0 6 (-1)) r4)) (sI (sI S' 0 4 0) 0 6 (-1)) v y) (k.m h.r) (g1_night (w _ rfl _ rfl))
theorem e_silent (h : same tw S tw' S' oT s) (y : Int32) : ∃ r t, Q6 S (fun p => w6_silent p tw S y) r t ∧ Q1 S' (fun p => w1_silent p tw' S' y) r t := by
  unfold w6_silent w1_silent j6_silent_18 j1_silent_17
  refine e_n h fun T _ hok n hn e => ?_
  subst e
  have hP := hok.1.2.1
  refine ⟨setB (fun p => setB (fun d => earN T s d n 0 = p) (gN T) = 0) (gP T), fun post S1 k e0 hT hS hp => ?_, fun post S1 k e0 e1 hT hS hp => ?_⟩
  · refine s6_works fun S2 k2 e3 hw => ?_
    have hT2 := k2.T hT
    have hS2 := works_S hok hw hS
    refine lp_set (gP T) (fun p => setB (fun d => earN T s d n 0 = p) (gN T) = 0) (fun i hi K hK => ?_) (fun K => ?_)
    · show f6_silent_42 post tw S2 (iI n) K (setB (fun p => setB (fun d => earN T s d n 0 = p) (gN T) = 0) i) (iI i)
      unfold f6_silent_42
      rw [hT2.2.1, iI_leN (by omega) (by omega), iI_succ]
      refine ⟨hT2.1, fun c => absurd c (by omega), fun _ => s6_heardOf hok hT2 hS2 hi (by omega) ⟨fun c => ?_, fun c => ?_⟩⟩
      · rw [setB, if_neg (by simpa using c)] at hK; exact hK
      · rw [setB, if_pos (by simpa using c)] at hK; exact hK
    · show f6_silent_42 post tw S2 (iI n) K (setB (fun p => setB (fun d => earN T s d n 0 = p) (gN T) = 0) (gP T)) (iI (gP T))
      unfold f6_silent_42
      rw [hT2.2.1, iI_leN (by omega) (by omega)]
      exact ⟨hT2.1, fun _ => s6_good fun S3 k3 e4 e5 e6 => hp S3 (k.trans (k2.trans k3)) (e4.trans (e3.trans e0)) e5 e6, fun c => absurd (Nat.le_refl _) c⟩
  · refine lp_set (gP T) (fun p => setB (fun d => earN T s d n 0 = p) (gN T) = 0) (fun i hi K hK => ?_) (fun K => ?_)
    · show f1_silent_37 post tw' S1 (iI n) K (setB (fun p => setB (fun d => earN T s d n 0 = p) (gN T) = 0) i) (iI i)
      unfold f1_silent_37
      rw [hT.2.2.2.2.1, iI_leN (by omega) (by omega), iI_succ]
      refine ⟨hT.1, fun c => absurd c (by omega), fun _ => s4_heard hok hT hS hi (by omega) ⟨fun c => ?_, fun c => ?_⟩⟩
      · rw [setB, if_neg (by simpa using c)] at hK; exact hK
      · rw [setB, if_pos (by simpa using c)] at hK; exact hK
    · show f1_silent_37 post tw' S1 (iI n) K (setB (fun p => setB (fun d => earN T s d n 0 = p) (gN T) = 0) (gP T)) (iI (gP T))
      unfold f1_silent_37
      rw [hT.2.2.2.2.1, iI_leN (by omega) (by omega)]
      exact ⟨hT.1, fun _ => hp S1 k e0 e1, fun c => absurd (Nat.le_refl _) c⟩
end P7
