/-! PURE 5: rules for what both sides do alike; more that is asked -/
set_option maxRecDepth 100000
def rsn {α β : Type} (step : α → α ⊕ β) : Nat → α → β → Prop
  | 0, _, _ => False
  | n + 1, z, r => match step z with
    | .inr r' => r' = r
    | .inl z' => rsn step n z' r
def Res {α β : Type} (step : α → α ⊕ β) (z : α) (r : β) : Prop := ∃ n, rsn step n z r
/-- a loop that both sides go round alike -/
theorem lp_two {α β : Type} (P : α → Prop) (μ : α → Nat) (step : α → α ⊕ β) (hμ : ∀ z z', P z → step z = .inl z' → P z' ∧ μ z' < μ z) (z : α) (hz : P z) : ∃ r : β, Res step z r := by
  have key : ∀ n z, μ z < n → P z → ∃ r : β, rsn step n z r := by
    intro n
    induction n with
    | zero => intro z h; exact absurd h (by omega)
    | succ n ih =>
      intro z h hp
      unfold rsn
      cases e : step z with
      | inr r => exact ⟨r, rfl⟩
      | inl z' =>
        obtain ⟨h1, h2⟩ := hμ z z' hp e
        exact ih z' (by omega) h1
  obtain ⟨r, hr⟩ := key (μ z + 1) z (by omega) hz
  exact ⟨r, _, hr⟩
theorem lp_res {σ α β : Type} {P : σ → Prop} {step : σ → σ ⊕ β} {F : (α → Prop) → α → Prop} {good : β → Prop} (g : σ → α) {z : σ} {r : β} (hr : Res step z r) (hz : P z) (hP : ∀ z z', P z → step z = .inl z' → P z') (hg : good r) (h : ∀ z K, P z → (∀ z', step z = .inl z' → K (g z')) → (∀ r, step z = .inr r → good r) → F K (g z)) : lp F (g z) := by
  obtain ⟨n, hr⟩ := hr
  refine ⟨n, ?_⟩
  induction n generalizing z with
  | zero => exact hr.elim
  | succ n ih =>
    unfold rsn at hr
    refine h _ _ hz (fun z' e => ?_) fun r' e => ?_
    · rw [e] at hr; exact ih (hP _ _ hz e) hr
    · rw [e] at hr
      have hr : r' = r := hr
      rw [hr]; exact hg
section P5
variable {tw : Option (Nat → Nat)} {S : MS} {tw' : Option TD} {S' : CS} {s : GS}
/-- what the body of a question owes, on both sides -/
def Body (tw : Option (Nat → Nat)) (S : MS) (tw' : Option TD) (S' : CS) (T : GT) (s : GS) (B6 : (Int32 → MS → Prop) → MS → Prop) (B1 : (Int32 → CS → Prop) → CS → Prop) : Prop :=
  ∃ r, (∀ post S1, K6 S S1 → S1.1 0 0 = 0 → mT tw S1 T → mS 2 S1 T s → (∀ S2, K6 S S2 → S2.1 0 0 = 0 → S2.1 0 1 = 0 → S2.1 0 2 = -1 → post r S2) → B6 post S1) ∧
    ∀ post S1, K1 S' S1 → S1.1.1 0 4 = 0 → S1.1.1 0 6 = -1 → cT tw' S1 T → cS tw' 0 S1 T s → (∀ S2, K1 S' S2 → S2.1.1 0 4 = 0 → S2.1.1 0 6 = -1 → post r S2) → B1 post S1
/-- a dead, a night -/
theorem e_dn {oT : Option GT} (h : same tw S tw' S' oT s) {x y : Int32} {B6 : (Int32 → MS → Prop) → MS → Prop} {B1 : (Int32 → CS → Prop) → CS → Prop}
    (H : ∀ T, oT = some T → gok T s → ∀ d n, d < gN T → n < 100 → x = iI (d : Nat) → y = iI (n : Nat) → Body tw S tw' S' T s B6 B1) :
    ∃ r t, Q6 S (fun post => ∀ S1, S1 = uI S 0 0 0 → w6_isDead (fun r2 => w6_refusesNight (fun r3 => (r3 ≤ 0 → B6 post S1) ∧ (¬ r3 ≤ 0 → w6_refused (fun r10 S11 => post r10 S11) S1 r3)) S1 r2 y) tw S1 x) r t ∧
      Q1 S' (fun post => w1_anew (fun S2 => w1_isDead (fun r3 => w1_nightWhy (fun r4 => (r4 = 0 → B1 post S2) ∧ (¬ r4 = 0 → w1_no (fun r7 S8 => post r7 S8) S2 r4)) S2 r3 y) tw' S2 x) S') r t := by
  have l0 : ((0 : Int32) ≤ 0) := by decide
  have l1 : ¬ ((1 : Int32) ≤ 0) := by decide
  have l2 : ¬ ((2 : Int32) ≤ 0) := by decide
  have hb : K6 S (uI S 0 0 0) := K6.uI (by unfold sc6; omega)
  cases oT with
  | none =>
    obtain ⟨rfl, rfl⟩ := h
    refine ⟨-1, 1, fun post hp => ?_, fun post hp => ?_⟩
    · rintro S1 rfl
      unfold w6_isDead
      exact ⟨fun _ => s6_refusesNight0 ⟨fun c => absurd c l1, fun _ => s6_refused fun S2 k e0 e1 e2 => hp S2 (hb.trans k) e0 e1 e2⟩, fun ⟨t, c⟩ => absurd c (by simp)⟩
    · refine s1_anew fun S1 k1 e1 e2 => ?_
      unfold w1_isDead
      exact ⟨fun _ => s1_nightWhy0 ⟨fun c => ne_0 c, fun _ => s1_no e2 fun S2 k2 e3 e4 => hp S2 (k1.trans k2) e3 e4⟩, fun ⟨t, c⟩ => absurd c (by simp)⟩
  | some T =>
    obtain ⟨hok, hT, hS, hT', hS'⟩ := h
    have hN := hok.1.2.2.1
    by_cases hd : ∃ d, d < gN T ∧ x = iI (d : Nat)
    · obtain ⟨d, hd, rfl⟩ := hd
      by_cases hn : ∃ n, n < 100 ∧ y = iI (n : Nat)
      · obtain ⟨n, hn, rfl⟩ := hn
        obtain ⟨r, h6, h1⟩ := H T rfl hok d n hd hn rfl rfl
        refine ⟨r, 0, fun post hp => ?_, fun post hp => ?_⟩
        · rintro S1 rfl
          exact s6_isDead (hb.T hT) hN (fun _ _ _ => s6_refusesNight1 (fun _ _ _ => ⟨fun _ => h6 post _ hb rfl (hb.T hT) (hb.S hS) hp, fun c => absurd l0 c⟩) fun c => absurd rfl (c n hn)) fun c => absurd rfl (c d hd)
        · refine s1_anew fun S1 k1 e1 e2 => ?_
          exact s1_isDead (k1.T hT') hN (fun _ _ _ => s1_nightWhy1 (fun _ _ _ => ⟨fun _ => h1 post S1 k1 e1 e2 (k1.T hT') (k1.S hS') hp, fun c => absurd rfl c⟩) fun c => absurd rfl (c n hn)) fun c => absurd rfl (c d hd)
      · refine ⟨-1, 2, fun post hp => ?_, fun post hp => ?_⟩
        · rintro S1 rfl
          exact s6_isDead (hb.T hT) hN (fun _ _ _ => s6_refusesNight1 (fun n c e => absurd ⟨n, c, e⟩ hn) fun _ => ⟨fun c => absurd c l2, fun _ => s6_refused fun S2 k e0 e1 e2 => hp S2 (hb.trans k) e0 e1 e2⟩) fun c => absurd rfl (c d hd)
        · refine s1_anew fun S1 k1 e1 e2 => ?_
          exact s1_isDead (k1.T hT') hN (fun _ _ _ => s1_nightWhy1 (fun n c e => absurd ⟨n, c, e⟩ hn) fun _ => ⟨fun c => absurd c (by decide), fun _ => s1_no e2 fun S2 k2 e3 e4 => hp S2 (k1.trans k2) e3 e4⟩) fun c => absurd rfl (c d hd)
    · refine ⟨-1, 1, fun post hp => ?_, fun post hp => ?_⟩
      · rintro S1 rfl
        exact s6_isDead (hb.T hT) hN (fun d c e => absurd ⟨d, c, e⟩ hd) fun _ => s6_refusesNight0 ⟨fun c => absurd c l1, fun _ => s6_refused fun S2 k e0 e1 e2 => hp S2 (hb.trans k) e0 e1 e2⟩
      · refine s1_anew fun S1 k1 e1 e2 => ?_
        exact s1_isDead (k1.T hT') hN (fun d c e => absurd ⟨d, c, e⟩ hd) fun _ => s1_nightWhy0 ⟨fun c => ne_0 c, fun _ => s1_no e2 fun S2 k2 e3 e4 => hp S2 (k1.trans k2) e3 e4⟩
theorem e_comesOut {oT : Option GT} (h : same tw S tw' S' oT s) (x y : Int32) : ∃ r t, Q6 S (fun p => w6_comesOut p tw S x y) r t ∧ Q1 S' (fun p => w1_comesOut p tw' S' x y) r t := by
  unfold w6_comesOut w1_comesOut
  refine e_dn h fun T _ hok d n hd hn e1 e2 => ?_
  subst e1 e2
  have hO := (hok.2.1 d hd).2
  have hb := hok.2.2.1 _ hO
  have hH := hok.1.2.2.2.2
  refine ⟨iI (outN T s d (s.1 (gO T d)) n), fun post S1 k e0 hT hS hp => ?_, fun post S1 k e0 e1 hT hS hp => ?_⟩
  · refine s6_works fun S2 k2 e3 hw => ?_
    have hT2 := k2.T hT
    have hS2 := works_S hok hw hS
    refine s6_aimOf hok hT2 hS2 hd (s6_outOf hok hT2 hS2 hd (by omega) (by omega) (s6_good fun S3 k3 e4 e5 e6 => hp S3 (k.trans (k2.trans k3)) (e4.trans (e3.trans e0)) e5 e6))
  · exact s4_aimed hok hT hS hd (s4_out hok hT hS hd (by omega) (by omega) (hp S1 k e0 e1))
theorem e_rightFrom {oT : Option GT} (h : same tw S tw' S' oT s) (x y : Int32) : ∃ r t, Q6 S (fun p => w6_rightFrom p tw S x y) r t ∧ Q1 S' (fun p => w1_rightFrom p tw' S' x y) r t := by
  unfold w6_rightFrom w1_rightFrom
  refine e_dn h fun T _ hok d n hd hn e1 e2 => ?_
  subst e1 e2
  let step : Nat → Nat ⊕ Int32 := fun i => if 100 ≤ i then .inr (-2) else if riN T s d i 0 = true then .inr (iI (i : Nat)) else .inl (i + 1)
  have hP : ∀ i i', i ≤ 100 → step i = .inl i' → i' ≤ 100 ∧ 100 - i' < 100 - i := by
    intro i i' hi e
    dsimp only [step] at e
    by_cases c : 100 ≤ i
    · rw [if_pos c] at e; cases e
    · rw [if_neg c] at e
      by_cases c2 : riN T s d i 0 = true
      · rw [if_pos c2] at e; cases e
      · rw [if_neg c2] at e
        cases e
        omega
  obtain ⟨r, hr⟩ := lp_two (fun i => i ≤ 100) (fun i => 100 - i) step hP n (by omega)
  refine ⟨r, fun post S1 k e0 hT hS hp => ?_, fun post S1 k e0 e1 hT hS hp => ?_⟩
  · refine s6_works fun S2 k2 e3 hw => ?_
    have hT2 := k2.T hT
    have hS2 := works_S hok hw hS
    refine lp_res (P := fun i => i ≤ 100) (fun i : Nat => iI i) hr (by omega) (fun z z' a b => (hP z z' a b).1) (good := fun r => ∀ S3, K6 S S3 → S3.1 0 0 = 0 → S3.1 0 1 = 0 → S3.1 0 2 = -1 → post r S3) hp ?_
    intro i K hi hK hg
    show f6_rightFrom_33 post tw S2 (iI d) K (iI i)
    unfold f6_rightFrom_33
    dsimp only [step] at hK hg
    rw [show (100 : Int32) = iI (100 : Nat) from rfl, iI_leN (by omega) (by omega), iI_succ]
    refine ⟨fun c => ?_, fun c => s6_isRight hok hT2 hS2 hd (show i < 200 by omega) ?_⟩
    · exact s6_good fun S3 k3 e4 e5 e6 => hg (-2) (if_pos c) S3 (k.trans (k2.trans k3)) (e4.trans (e3.trans e0)) e5 e6
    · rw [if_neg c] at hK hg
      rw [b01_eq]
      refine ⟨fun c2 => hK _ (if_neg (by rw [c2]; decide)), fun c2 => ?_⟩
      exact s6_good fun S3 k3 e4 e5 e6 => hg _ (if_pos ((Bool.not_eq_false _).mp c2)) S3 (k.trans (k2.trans k3)) (e4.trans (e3.trans e0)) e5 e6
  · refine lp_res (P := fun i => i ≤ 100) (fun i : Nat => iI i) hr (by omega) (fun z z' a b => (hP z z' a b).1) (good := fun r => post r S1) (hp S1 k e0 e1) ?_
    intro i K hi hK hg
    show f1_rightFrom_28 post tw' S1 (iI d) K (iI i)
    unfold f1_rightFrom_28
    dsimp only [step] at hK hg
    rw [show (99 : Int32) = iI (99 : Nat) from rfl, iI_ltN (by omega) (by omega), iI_succ]
    refine ⟨fun c => hg _ (if_pos (by omega)), fun c => s4_isRight (f := 0) hok hT hS hd (show i < 200 by omega) (by omega) ?_⟩
    rw [if_neg (show ¬ 100 ≤ i by omega)] at hK hg
    rw [b01_eq]
    exact ⟨fun c2 => hK _ (if_neg (by rw [c2]; decide)), fun c2 => hg _ (if_pos ((Bool.not_eq_false _).mp c2))⟩
end P5
