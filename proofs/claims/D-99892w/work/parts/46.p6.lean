/-! PURE 6: the refusals, alike on both sides -/
set_option maxRecDepth 100000
def inN (N : Nat) (x : Int32) : Bool := decide (0 ≤ x.toInt ∧ x.toInt < N)
theorem inN_true {N : Nat} {x : Int32} (h : inN N x = true) : ∃ d, d < N ∧ x = iI (d : Nat) := by
  have h := of_decide_eq_true h
  refine ⟨x.toInt.toNat, by omega, ?_⟩
  rw [show ((x.toInt.toNat : Nat) : Int) = x.toInt by omega]
  exact (iI_self x).symm
theorem inN_iI {N d : Nat} (hd : d < N) (hN : N < 1000) : inN N (iI (d : Nat)) = true := by
  unfold inN
  rw [iI_toInt (by omega) (by omega)]
  exact decide_eq_true (by omega)
theorem gin {post : Int32 → Prop} {x : Int32} {N : Nat} (hN : N < 1000) (h : post (b01 (inN N x))) : (x < 0 → post 0) ∧ (¬ x < 0 → (iI (N : Nat) ≤ x → post 0) ∧ (¬ iI (N : Nat) ≤ x → post 1)) := by
  have a : x < 0 ↔ x.toInt < 0 := by rw [Int32.lt_iff_toInt_lt]; rfl
  have b : iI (N : Nat) ≤ x ↔ (N : Int) ≤ x.toInt := by rw [Int32.le_iff_toInt_le, iI_toInt (by omega) (by omega)]
  rw [a, b]
  unfold inN at h
  refine ⟨fun c => ?_, fun c => ⟨fun d => ?_, fun d => ?_⟩⟩
  · rw [decide_eq_false (by omega)] at h; exact h
  · rw [decide_eq_false (by omega)] at h; exact h
  · rw [decide_eq_true (by omega)] at h; exact h
theorem gin1 {post : Int32 → Prop} {x : Int32} {N : Nat} (hN : N < 1000) (h : post (b01 (inN N x))) : w1_in (fun r => (r = 0 → post 0) ∧ (¬ r = 0 → post 1)) x 0 (iI (N : Nat) - 1) := by
  have a : x < 0 ↔ x.toInt < 0 := by rw [Int32.lt_iff_toInt_lt]; rfl
  have b : iI (N : Nat) - 1 < x ↔ (N : Int) ≤ x.toInt := by
    rw [show (1 : Int32) = iI 1 from rfl, iI_sub, Int32.lt_iff_toInt_lt, iI_toInt (by omega) (by omega)]; omega
  unfold w1_in
  rw [a, b]
  unfold inN at h
  refine ⟨fun c => ⟨fun _ => ?_, fun c => absurd rfl c⟩, fun c => ⟨fun d => ⟨fun _ => ?_, fun c => absurd rfl c⟩, fun d => ⟨fun c => ne_0 c, fun _ => ?_⟩⟩⟩
  · rw [decide_eq_false (by omega)] at h; exact h
  · rw [decide_eq_false (by omega)] at h; exact h
  · rw [decide_eq_true (by omega)] at h; exact h
def m6 (tw : Option (Nat → Nat)) (S : MS) : Option GT → GS → Prop
  | none, _ => tw = none
  | some T, s => gok T s ∧ mT tw S T ∧ mS 2 S T s
def c1 (tw : Option TD) (S : CS) : Option GT → GS → Prop
  | none, _ => tw = none
  | some T, s => gok T s ∧ cT tw S T ∧ cS tw 0 S T s
theorem same.l {tw : Option (Nat → Nat)} {S : MS} {tw' : Option TD} {S' : CS} {oT : Option GT} {s : GS} (h : same tw S tw' S' oT s) : m6 tw S oT s := by
  cases oT with
  | none => exact h.1
  | some T => exact ⟨h.1, h.2.1, h.2.2.1⟩
theorem same.r {tw : Option (Nat → Nat)} {S : MS} {tw' : Option TD} {S' : CS} {oT : Option GT} {s : GS} (h : same tw S tw' S' oT s) : c1 tw' S' oT s := by
  cases oT with
  | none => exact h.2
  | some T => exact ⟨h.1, h.2.2.2.1, h.2.2.2.2⟩
theorem K6.m {S S1 : MS} {tw : Option (Nat → Nat)} {oT : Option GT} {s : GS} (k : K6 S S1) (h : m6 tw S oT s) : m6 tw S1 oT s := by
  cases oT with
  | none => exact h
  | some T => exact ⟨h.1, k.T h.2.1, k.S h.2.2⟩
theorem K1.m {S S1 : CS} {tw : Option TD} {oT : Option GT} {s : GS} (k : K1 S S1) (h : c1 tw S oT s) : c1 tw S1 oT s := by
  cases oT with
  | none => exact h
  | some T => exact ⟨h.1, k.T h.2.1, k.S h.2.2⟩
def gd (oT : Option GT) (x : Int32) : Bool := match oT with | none => false | some T => inN (gN T) x
def gp (oT : Option GT) (x : Int32) : Bool := match oT with | none => false | some T => inN (gP T) x
def gh (oT : Option GT) (x : Int32) : Bool := match oT with | none => false | some T => inN (gH T) x
def gt (oT : Option GT) : Bool := match oT with | none => false | some _ => true
def gw (b : Bool) (y : Int32) : Int32 := if b = true then (if inN 100 y = true then 0 else 2) else 1
theorem gw_in (b : Bool) (y : Int32) : gw b y = 0 ∨ gw b y = 1 ∨ gw b y = 2 := by
  unfold gw
  by_cases h : b = true
  · rw [if_pos h]
    by_cases h2 : inN 100 y = true
    · rw [if_pos h2]; exact Or.inl rfl
    · rw [if_neg h2]; exact Or.inr (Or.inr rfl)
  · rw [if_neg h]; exact Or.inr (Or.inl rfl)
theorem gw_0 {b : Bool} {y : Int32} (h : gw b y = 0) : b = true ∧ ∃ n, n < 100 ∧ y = iI (n : Nat) := by
  unfold gw at h
  by_cases hb : b = true
  · rw [if_pos hb] at h
    by_cases h2 : inN 100 y = true
    · exact ⟨hb, inN_true h2⟩
    · rw [if_neg h2] at h; exact absurd h (by decide)
  · rw [if_neg hb] at h; exact absurd h (by decide)
section P6
variable {tw : Option (Nat → Nat)} {S : MS} {tw' : Option TD} {S' : CS} {s : GS} {oT : Option GT} {post : Int32 → Prop}
theorem g6_dead (h : m6 tw S oT s) {x : Int32} (hp : post (b01 (gd oT x))) : w6_isDead post tw S x := by
  unfold w6_isDead
  cases oT with
  | none => exact ⟨fun _ => hp, fun ⟨t, c⟩ => by rw [show tw = none from h] at c; cases c⟩
  | some T =>
    have := h.1.1.2.2.1
    obtain ⟨t, ht⟩ := h.2.1.1
    rw [h.2.1.2.2.1]
    exact ⟨fun c => (by rw [ht] at c; cases c), fun _ => gin (by omega) hp⟩
theorem g6_person (h : m6 tw S oT s) {x : Int32} (hp : post (b01 (gp oT x))) : w6_isPerson post tw S x := by
  unfold w6_isPerson
  cases oT with
  | none => exact ⟨fun _ => hp, fun ⟨t, c⟩ => by rw [show tw = none from h] at c; cases c⟩
  | some T =>
    have := h.1.1.2.1
    obtain ⟨t, ht⟩ := h.2.1.1
    rw [h.2.1.2.1]
    exact ⟨fun c => (by rw [ht] at c; cases c), fun _ => gin (by omega) hp⟩
theorem g6_house (h : m6 tw S oT s) {x : Int32} (hp : post (b01 (gh oT x))) : w6_isHouse post tw S x := by
  unfold w6_isHouse
  cases oT with
  | none => exact ⟨fun _ => hp, fun ⟨t, c⟩ => by rw [show tw = none from h] at c; cases c⟩
  | some T =>
    have := h.1.1.2.2.2.2
    obtain ⟨t, ht⟩ := h.2.1.1
    rw [h.2.1.2.2.2.1]
    exact ⟨fun c => (by rw [ht] at c; cases c), fun _ => gin (by omega) hp⟩
theorem g1_dead (h : c1 tw' S' oT s) {x : Int32} (hp : post (b01 (gd oT x))) : w1_isDead post tw' S' x := by
  unfold w1_isDead
  cases oT with
  | none => exact ⟨fun _ => hp, fun ⟨t, c⟩ => by rw [show tw' = none from h] at c; cases c⟩
  | some T =>
    have := h.1.1.2.2.1
    obtain ⟨t, ht⟩ := h.2.1.1
    rw [h.2.1.2.2.2.2.2.1]
    exact ⟨fun c => (by rw [ht] at c; cases c), fun _ => gin1 (by omega) hp⟩
theorem g1_person (h : c1 tw' S' oT s) {x : Int32} (hp : post (b01 (gp oT x))) : w1_isPerson post tw' S' x := by
  unfold w1_isPerson
  cases oT with
  | none => exact ⟨fun _ => hp, fun ⟨t, c⟩ => by rw [show tw' = none from h] at c; cases c⟩
  | some T =>
    have := h.1.1.2.1
    obtain ⟨t, ht⟩ := h.2.1.1
    rw [h.2.1.2.2.2.2.1]
    exact ⟨fun c => (by rw [ht] at c; cases c), fun _ => gin1 (by omega) hp⟩
theorem g1_house (h : c1 tw' S' oT s) {x : Int32} (hp : post (b01 (gh oT x))) : w1_isHouse post tw' S' x := by
  unfold w1_isHouse
  cases oT with
  | none => exact ⟨fun _ => hp, fun ⟨t, c⟩ => by rw [show tw' = none from h] at c; cases c⟩
  | some T =>
    have := h.1.1.2.2.2.2
    obtain ⟨t, ht⟩ := h.2.1.1
    rw [h.2.1.2.2.2.2.2.2.1]
    exact ⟨fun c => (by rw [ht] at c; cases c), fun _ => gin1 (by omega) hp⟩
theorem g6_town {A : Int32 → Prop} (h : m6 tw S oT s) (hp : A (b01 (gt oT))) : (tw = none → A 0) ∧ ((∃ t, tw = some t) → A 1) := by
  cases oT with
  | none => exact ⟨fun _ => hp, fun ⟨t, c⟩ => by rw [show tw = none from h] at c; cases c⟩
  | some T =>
    obtain ⟨t, ht⟩ := h.2.1.1
    exact ⟨fun c => (by rw [ht] at c; cases c), fun _ => hp⟩
theorem g1_town {A : Int32 → Prop} (h : c1 tw' S' oT s) (hp : A (b01 (gt oT))) : (tw' = none → A 0) ∧ ((∃ t, tw' = some t) → A 1) := by
  cases oT with
  | none => exact ⟨fun _ => hp, fun ⟨t, c⟩ => by rw [show tw' = none from h] at c; cases c⟩
  | some T =>
    obtain ⟨t, ht⟩ := h.2.1.1
    exact ⟨fun c => (by rw [ht] at c; cases c), fun _ => hp⟩
theorem g6_night {b : Bool} {y : Int32} (hp : post (gw b y)) : w6_refusesNight post S (b01 b) y := by
  cases b with
  | false => exact s6_refusesNight0 hp
  | true =>
    refine s6_refusesNight1 (fun n hn e => ?_) fun hn => ?_
    · rw [e] at hp; unfold gw at hp; rw [if_pos rfl, if_pos (inN_iI hn (by omega))] at hp; exact hp
    · unfold gw at hp
      rw [if_pos rfl, if_neg (fun c => by obtain ⟨n, h1, h2⟩ := inN_true c; exact hn n h1 h2)] at hp
      exact hp
theorem g1_night {b : Bool} {y : Int32} (hp : post (gw b y)) : w1_nightWhy post S' (b01 b) y := by
  cases b with
  | false => exact s1_nightWhy0 hp
  | true =>
    refine s1_nightWhy1 (fun n hn e => ?_) fun hn => ?_
    · rw [e] at hp; unfold gw at hp; rw [if_pos rfl, if_pos (inN_iI hn (by omega))] at hp; exact hp
    · unfold gw at hp
      rw [if_pos rfl, if_neg (fun c => by obtain ⟨n, h1, h2⟩ := inN_true c; exact hn n h1 h2)] at hp
      exact hp
theorem Q6.mono {W W' : (Int32 → MS → Prop) → Prop} {r t : Int32} (q : Q6 S W r t) (h : ∀ post, W post → W' post) : Q6 S W' r t := fun post hp => h post (q post hp)
theorem Q1.mono {W W' : (Int32 → CS → Prop) → Prop} {r t : Int32} (q : Q1 S' W r t) (h : ∀ post, W post → W' post) : Q1 S' W' r t := fun post hp => h post (q post hp)
/-- a refusal by a number, or the body -/
theorem e_why (h : same tw S tw' S' oT s) {why : Int32} (hw : why = 0 ∨ why = 1 ∨ why = 2) {B6 : (Int32 → MS → Prop) → MS → Prop} {B1 : (Int32 → CS → Prop) → CS → Prop}
    (H : why = 0 → ∃ T, oT = some T ∧ Body tw S tw' S' T s B6 B1) :
    ∃ r t, Q6 S (fun post => ∀ S1, S1 = uI S 0 0 0 → (why ≤ 0 → B6 post S1) ∧ (¬ why ≤ 0 → w6_refused (fun r10 S11 => post r10 S11) S1 why)) r t ∧
      Q1 S' (fun post => w1_anew (fun S2 => (why = 0 → B1 post S2) ∧ (¬ why = 0 → w1_no (fun r7 S8 => post r7 S8) S2 why)) S') r t := by
  have hb : K6 S (uI S 0 0 0) := K6.uI (by unfold sc6; omega)
  by_cases c : why = 0
  · obtain ⟨T, rfl, r, h6, h1⟩ := H c
    obtain ⟨hok, hT, hS, hT', hS'⟩ := h
    subst c
    refine ⟨r, 0, fun post hp => ?_, fun post hp => ?_⟩
    · rintro S1 rfl
      exact ⟨fun _ => h6 post _ hb rfl (hb.T hT) (hb.S hS) hp, fun c => absurd (by decide) c⟩
    · refine s1_anew fun S1 k1 e1 e2 => ⟨fun _ => h1 post S1 k1 e1 e2 (k1.T hT') (k1.S hS') hp, fun c => absurd rfl c⟩
  · have hl : ¬ why ≤ 0 := by
      rcases hw with e | e | e
      · exact absurd e c
      · rw [e]; decide
      · rw [e]; decide
    refine ⟨-1, why, fun post hp => ?_, fun post hp => ?_⟩
    · rintro S1 rfl
      exact ⟨fun c => absurd c hl, fun _ => s6_refused fun S2 k e0 e1 e2 => hp S2 (hb.trans k) e0 e1 e2⟩
    · exact s1_anew fun S1 k1 e1 e2 => ⟨fun d => absurd d c, fun _ => s1_no e2 fun S2 k2 e3 e4 => hp S2 (k1.trans k2) e3 e4⟩
theorem gt_true (h : gt oT = true) : ∃ T, oT = some T := by
  cases oT with
  | none => cases h
  | some T => exact ⟨T, rfl⟩
theorem e_right (h : same tw S tw' S' oT s) (y : Int32) : ∃ r t, Q6 S (fun p => w6_right p tw S y) r t ∧ Q1 S' (fun p => w1_right p tw' S' y) r t := by
  have hb : K6 S (uI S 0 0 0) := K6.uI (by unfold sc6; omega)
  obtain ⟨r, t, q6, q1⟩ := e_why h (gw_in (gt oT) y) (B6 := fun post S1 => w6_works (fun S6 => w6_rightOn (fun r7 => w6_good (fun r8 S9 => post r8 S9) S6 r7) tw S6 y) S1) (B1 := fun post S2 => w4_rightOnes (fun r6 => post r6 S2) tw' S2 0 y) (fun c => by
    obtain ⟨c1, n, hn, rfl⟩ := gw_0 c
    obtain ⟨T, rfl⟩ := gt_true c1
    have hok := h.1
    refine ⟨T, rfl, setB (fun d => riN T s d n 0) (gN T), fun post S1 k e0 hT hS hp => ?_, fun post S1 k e0 e1 hT hS hp => ?_⟩
    · refine s6_works fun S2 k2 e3 hw => ?_
      exact s6_rightOn hok (k2.T hT) (works_S hok hw hS) (by omega) (s6_good fun S3 k3 e4 e5 e6 => hp S3 (k.trans (k2.trans k3)) (e4.trans (e3.trans e0)) e5 e6)
    · exact s4_rightOnes hok hT hS (by omega) (hp S1 k e0 e1))
  refine ⟨r, t, q6.mono fun post w => ?_, q1.mono fun post w => ?_⟩
  · unfold w6_right
    rintro S1 rfl
    exact g6_town (A := fun v => j6_right_18 post tw (uI S 0 0 0) y v) (hb.m h.l) (g6_night (w _ rfl))
  · unfold w1_right w1_anew
    unfold w1_anew at w
    rintro S1 rfl S2 rfl
    have k : K1 S' (sI (sI S' 0 4 0) 0 6 (-1)) := (K1.sI (by unfold sc1; omega)).trans (K1.sI (by unfold sc1; omega))
    exact g1_town (A := fun v => j1_right_17 post tw' (sI (sI S' 0 4 0) 0 6 (-1)) y v) (k.m h.r) (g1_night (w _ rfl _ rfl))
end P6
