/-! PURE 3: more of the twin's readers; the component's core readers -/
set_option maxRecDepth 100000
/-- a set of dead, as both sides make it -/
def setB (f : Nat → Bool) : Nat → Int32
  | 0 => 0
  | d + 1 => if f d then setB f d ||| ((1 : Int32) <<< (iI d &&& 31)) else setB f d ||| 0
def b01 (b : Bool) : Int32 := if b then 1 else 0
theorem b01_ne (b : Bool) : (¬ b01 b = 0) ↔ b = true := by cases b <;> simp [b01]
theorem b01_eq (b : Bool) : b01 b = 0 ↔ b = false := by cases b <;> simp [b01]
theorem lp_set {F : (Int32 × Int32 → Prop) → Int32 × Int32 → Prop} (N : Nat) (f : Nat → Bool) (h : ∀ i, i < N → ∀ (K : Int32 × Int32 → Prop), K (setB f (i + 1), iI ((i + 1 : Nat) : Int)) → F K (setB f i, iI i)) (hl : ∀ K, F K (setB f N, iI N)) : lp F (0, 0) :=
  lp_up N (fun i => (setB f i, iI i)) rfl h hl
section P3
variable {tw : Option (Nat → Nat)} {S : MS} {T : GT} {s : GS}
theorem s6_aimOf {post : Int32 → Prop} (hok : gok T s) (hT : mT tw S T) (hS : mS 3 S T s) {d : Nat} (hd : d < gN T) (hp : post (iI (s.1 (gO T d)))) : w6_aimOf post tw S (iI d) := by
  have hN := hok.1.2.2.1
  have hP := hok.1.2.1
  have hO := (hok.2.1 d hd).2
  unfold w6_aimOf
  rw [iI_clampN (by omega), hT.2.2.2.2.2 d hd, iI_clampN (by omega), hS.1 _ hO]
  exact ⟨hT.1, iI_inN (by omega) (by omega), iI_inN (by omega) (by omega), hp⟩
theorem s6_whoHears {post : Int32 → Prop} (hok : gok T s) (hT : mT tw S T) (hS : mS 3 S T s) {d n : Nat} (hd : d < gN T) (hn : n < 200) (hp : post (iI (earN T s d n 0))) : w6_whoHears post tw S (iI d) (iI n) := by
  have hO := (hok.2.1 d hd).2
  have hb := hok.2.2.1 _ hO
  have hH := hok.1.2.2.2.2
  have hlt := outN_lt hok d (s.1 (gO T d)) n
  unfold w6_whoHears
  refine s6_aimOf hok hT hS hd (s6_outOf hok hT hS hd (by omega) hn (s6_heardFrom hok hT hS hlt ?_))
  unfold earN at hp
  rw [Nat.add_zero, Nat.mod_eq_of_lt hlt] at hp
  exact hp
theorem s6_isRight {post : Int32 → Prop} (hok : gok T s) (hT : mT tw S T) (hS : mS 3 S T s) {d n : Nat} (hd : d < gN T) (hn : n < 200) (hp : post (b01 (riN T s d n 0))) : w6_isRight post tw S (iI d) (iI n) := by
  have hN := hok.1.2.2.1
  have hP := hok.1.2.1
  have hO := (hok.2.1 d hd).2
  unfold w6_isRight
  refine s6_whoHears hok hT hS hd hn ?_
  obtain ⟨q, hq, e⟩ := earN_lt hok d n 0
  rw [iI_clampN (by omega), hT.2.2.2.2.2 d hd, e, iI_eqN (by omega) (by omega)]
  refine ⟨hT.1, iI_inN (by omega) (by omega), fun c => ?_, fun c => ?_⟩
  · rw [show riN T s d n 0 = false by unfold riN; rw [e]; simp; omega] at hp
    exact hp
  · rw [show riN T s d n 0 = true by unfold riN; rw [e]; simp; omega] at hp
    exact hp
theorem s6_rightOn {post : Int32 → Prop} (hok : gok T s) (hT : mT tw S T) (hS : mS 3 S T s) {n : Nat} (hn : n < 200) (hp : post (setB (fun d => riN T s d n 0) (gN T))) : w6_rightOn post tw S (iI n) := by
  have hN := hok.1.2.2.1
  unfold w6_rightOn
  refine lp_set (gN T) (fun d => riN T s d n 0) (fun i hi K hK => ?_) (fun K => ?_)
  · show f6_rightOn_4 post tw S (iI n) K (setB (fun d => riN T s d n 0) i) (iI i)
    unfold f6_rightOn_4
    rw [hT.2.2.1, iI_leN (by omega) (by omega), iI_succ]
    refine ⟨hT.1, fun c => absurd c (by omega), fun _ => s6_isRight hok hT hS hi hn ?_⟩
    rw [b01_eq]
    refine ⟨fun c => ?_, fun c => ?_⟩
    · rw [setB, if_neg (by rw [c]; decide)] at hK; exact hK
    · rw [setB, if_pos ((Bool.not_eq_false _).mp c)] at hK; exact hK
  · show f6_rightOn_4 post tw S (iI n) K (setB (fun d => riN T s d n 0) (gN T)) (iI (gN T))
    unfold f6_rightOn_4
    rw [hT.2.2.1, iI_leN (by omega) (by omega)]
    exact ⟨hT.1, fun _ => hp, fun c => absurd (Nat.le_refl _) c⟩
theorem s6_heardOf {post : Int32 → Prop} (hok : gok T s) (hT : mT tw S T) (hS : mS 3 S T s) {p n : Nat} (hpp : p < gP T) (hn : n < 200) (hp : post (setB (fun d => earN T s d n 0 = p) (gN T))) : w6_heardOf post tw S (iI p) (iI n) := by
  have hN := hok.1.2.2.1
  have hP := hok.1.2.1
  unfold w6_heardOf
  refine lp_set (gN T) (fun d => earN T s d n 0 = p) (fun i hi K hK => ?_) (fun K => ?_)
  · show f6_heardOf_5 post tw S (iI p) (iI n) K (setB (fun d => earN T s d n 0 = p) i) (iI i)
    unfold f6_heardOf_5
    rw [hT.2.2.1, iI_leN (by omega) (by omega), iI_succ]
    refine ⟨hT.1, fun c => absurd c (by omega), fun _ => s6_whoHears hok hT hS hi hn ?_⟩
    obtain ⟨q, hq, e⟩ := earN_lt hok i n 0
    rw [setB] at hK
    rw [e, iI_eqN (by omega) (by omega)]
    refine ⟨fun c => ?_, fun c => ?_⟩
    · rw [if_neg (by rw [e]; simp; omega)] at hK; exact hK
    · rw [if_pos (by rw [e]; simp; omega)] at hK; exact hK
  · show f6_heardOf_5 post tw S (iI p) (iI n) K (setB (fun d => earN T s d n 0 = p) (gN T)) (iI (gN T))
    unfold f6_heardOf_5
    rw [hT.2.2.1, iI_leN (by omega) (by omega)]
    exact ⟨hT.1, fun _ => hp, fun c => absurd (Nat.le_refl _) c⟩
end P3
/-- the component's town is T; its street r is s -/
def cT (tw : Option TD) (S : CS) (T : GT) : Prop :=
  (∃ τ, tw = some τ) ∧ tP tw = gP T ∧ tG tw = gN T ∧ (∀ d, d < gN T → tL tw d = gL T d) ∧ S.1.1 50 8 = iI (gP T) ∧ S.1.1 50 9 = iI (gN T) ∧ S.1.1 50 6 = iI (gH T) ∧ ∀ d, d < gN T → S.1.1 (1001 + 2 * d) 1 = iI (gO T d)
def cS (tw : Option TD) (r : Nat) (S : CS) (T : GT) (s : GS) : Prop :=
  stT tw S r ∧ (∀ p, p < gP T → S.1.1 (300 + 4 * r + 1) p = iI (s.1 p)) ∧ (∀ d, d < gN T → S.1.1 (300 + 4 * r + 3) d = iI (s.2.1 d)) ∧ ∀ d, d < gN T → S.1.1 (300 + 4 * r + 2) d = iI (s.2.2 d)
section P3C
variable {tw : Option TD} {S : CS} {T : GT} {s : GS} {r : Nat}
theorem s4_who {post : Int32 → Prop} (hok : gok T s) (hT : cT tw S T) (hS : cS tw r S T s) {h : Nat} (hh : h < 1000) (hp : post (iI (whoN T s h))) : w4_who post tw S r (iI h) := by
  have hP := hok.1.2.1
  have hH := hok.1.2.2.2.2
  have hTP := hT.2.2.2.2.1
  unfold w4_who
  have stp : ∀ i, i < gP T → s.1 i ≠ h → ∀ K : Int32 → Prop, K (iI ((i + 1 : Nat) : Int)) → f4_who_2 post tw S r (iI h) K (iI i) := by
    intro i hi hne K hK
    have hb := hok.2.2.1 i hi
    unfold f4_who_2
    rw [hTP, iI_leN (by omega) (by omega), iI_clampN (by omega), hS.2.1 i hi, iI_eqN (by omega) (by omega), iI_succ]
    exact ⟨hS.1, fun c => absurd c (by omega), fun _ => ⟨iI_inN (by omega) (by omega), fun _ => hK, fun c => absurd c hne⟩⟩
  rcases whoN_at (T := T) (s := s) h with ⟨e, hn⟩ | ⟨q, hq, hqh, e, hn⟩
  · refine lp_up (gP T) (fun i => iI i) rfl (fun i hi K hK => stp i hi (hn i hi) K hK) (fun K => ?_)
    unfold f4_who_2
    rw [hTP, iI_leN (by omega) (by omega)]
    rw [e] at hp
    exact ⟨hS.1, fun _ => hp, fun c => absurd (Nat.le_refl _) c⟩
  · refine lp_up q (fun i => iI i) rfl (fun i hi K hK => stp i (by omega) (hn i hi) K hK) (fun K => ?_)
    have hb := hok.2.2.1 q hq
    unfold f4_who_2
    rw [hTP, iI_leN (by omega) (by omega), iI_clampN (by omega), hS.2.1 q hq, iI_eqN (by omega) (by omega)]
    rw [e] at hp
    exact ⟨hS.1, fun c => absurd c (by omega), fun _ => ⟨iI_inN (by omega) (by omega), fun c => absurd hqh c, fun _ => hp⟩⟩
theorem s1_wrap {post : Int32 → Prop} {H z : Int} (hH1 : 0 < H) (hH2 : H ≤ 40) (h1 : -1000000 ≤ z) (h2 : z < 1000000) (hp : post (iI (z % H))) : w1_wrap post (lI z) (iI H) := by
  unfold w1_wrap
  rw [iI_l (by omega) (by omega)]
  have hne : ¬ lI H = 0 := by
    rw [show (0 : Int64) = lI 0 from rfl, lI_eq (by omega) (by omega) (by omega) (by omega)]; omega
  rw [wrapL (by omega) (by omega) (by omega) (by omega)]
  exact ⟨hne, hne, hp⟩
theorem sg_slips {post : Int32 → Prop} (hok : gok T s) (hT : cT tw S T) {d n : Nat} (hd : d < gN T) (hn : n < 200) (hp : post (iI (slN T s d n))) : wg_slips post tw d (iI (s.2.1 d)) (iI n) := by
  have hL := (hok.2.1 d hd).1
  have hs := hok.2.2.2.2.1 d hd
  have e := hT.2.2.2.1 d hd
  unfold wg_slips
  rw [e]
  refine ⟨hL, fun c => ?_, fun c => ?_, fun c => ?_, fun c => ?_⟩
  · unfold w11_slips
    rw [show slN T s d n = (s.2.1 d : Int) by unfold slN; rw [if_pos (by omega)]] at hp
    exact hp
  · unfold w12_slips w11_slips
    rw [show slN T s d n = -(s.2.1 d : Int) by unfold slN; rw [if_neg (by omega), if_pos (by omega)]] at hp
    rw [iI_neg]
    exact hp
  · unfold w13_slips
    rw [show slN T s d n = (s.2.1 d : Int) * n by unfold slN; rw [if_neg (by omega), if_neg (by omega), if_pos (by omega)]] at hp
    rw [iI_mul]
    exact hp
  · unfold w14_slips
    rw [show (0 : Int32) = iI 0 from rfl, show (2 : Int32) = iI 2 from rfl, iI_rem (by omega) (by omega) (by omega) (by omega), iI_neg, tmod_nat (by omega), iI_eq (by omega) (by omega) (by omega) (by omega)]
    refine ⟨fun c3 => ?_, fun c3 => ?_⟩
    · rw [show slN T s d n = -(s.2.1 d : Int) by unfold slN; rw [if_neg (by omega), if_neg (by omega), if_neg (by omega), if_neg (by omega)]] at hp
      exact hp
    · rw [show slN T s d n = (s.2.1 d : Int) by unfold slN; rw [if_neg (by omega), if_neg (by omega), if_neg (by omega), if_pos (by omega)]] at hp
      exact hp
theorem s4_out {post : Int32 → Prop} (hok : gok T s) (hT : cT tw S T) (hS : cS tw r S T s) {d aim n : Nat} (hd : d < gN T) (ha : aim < 1000) (hn : n < 200) (hp : post (iI (outN T s d aim n))) : w4_out post tw S r (iI d) (iI aim) (iI n) := by
  have hN := hok.1.2.2.1
  have hH1 := hok.1.2.2.2.1
  have hH2 := hok.1.2.2.2.2
  have hsl := slN_in hok hd hn
  have hm := hok.2.2.2.2.2 d hd
  have hin : vp_in (iI d) 6 := iI_inN (by omega) (by omega)
  unfold w4_out
  rw [iI_clampN (by omega), hT.2.2.1, hS.2.2.1 d hd, hT.2.2.2.2.2.2.1, hS.2.2.2 d hd]
  refine ⟨hS.1, hin, hd, hin, sg_slips hok hT hd hn ?_⟩
  rw [iI_l (z := (aim : Int)) (by omega) (by omega), iI_l (z := slN T s d n) (by omega) (by omega), lI_add]
  refine s1_wrap (by omega) (by omega) (by omega) (by omega) ?_
  have a1 := Int.emod_lt_of_pos ((aim : Int) + slN T s d n) (show (0 : Int) < gH T by omega)
  have a2 := Int.emod_nonneg ((aim : Int) + slN T s d n) (show (gH T : Int) ≠ 0 by omega)
  unfold outN at hp
  dsimp only at hp
  generalize ((aim : Int) + slN T s d n) % gH T = z at *
  rw [show (-2 : Int32) = iI (-2) from rfl, iI_eq (by omega) (by omega) (by omega) (by omega), iI_l (by omega) (by omega), iI_l (by omega) (by omega), show (2 : Int64) = lI 2 from rfl, lI_mul, lI_sub]
  refine ⟨hin, fun c => ⟨hin, ?_⟩, fun c => ?_⟩
  · rw [if_neg c] at hp
    have b1 := Int.emod_lt_of_pos (2 * s.2.2 d - z) (show (0 : Int) < gH T by omega)
    have b2 := Int.emod_nonneg (2 * s.2.2 d - z) (show (gH T : Int) ≠ 0 by omega)
    refine s1_wrap (by omega) (by omega) (by omega) (by omega) ?_
    rw [show ((z.toNat : Nat) : Int) = z by omega, show ((((2 * s.2.2 d - z) % (gH T : Int)).toNat : Nat) : Int) = (2 * s.2.2 d - z) % (gH T : Int) by omega] at hp
    exact hp
  · rw [if_pos c, show ((z.toNat : Nat) : Int) = z by omega] at hp
    exact hp
theorem s4_aimed {post : Int32 → Prop} (hok : gok T s) (hT : cT tw S T) (hS : cS tw r S T s) {d : Nat} (hd : d < gN T) (hp : post (iI (s.1 (gO T d)))) : w4_aimed post tw S r (iI d) := by
  have hN := hok.1.2.2.1
  have hP := hok.1.2.1
  have hO := (hok.2.1 d hd).2
  have hL := (hok.2.1 d hd).1
  unfold w4_aimed
  rw [iI_clampN (by omega), hT.2.2.1, hT.2.2.2.1 d hd, hT.2.2.2.2.2.2.2 d hd, iI_clampN (by omega), hS.2.1 _ hO]
  exact ⟨hS.1, iI_inN (by omega) (by omega), hd, hL, iI_inN (by omega) (by omega), hp⟩
theorem s4_from {post : Int32 → Prop} (hok : gok T s) (hT : cT tw S T) (hS : cS tw r S T s) {h : Nat} (hh : h < gH T) (hp : post (iI (frN T s h))) : w4_from post tw S r (iI h) := by
  have hH1 := hok.1.2.2.2.1
  have hH2 := hok.1.2.2.2.2
  obtain ⟨j, hj, e, hne, hall⟩ := frN_at hok hh
  unfold w4_from
  refine lp_up j (fun i => iI (((h + i) % gH T : Nat) : Int)) ?_ (fun i hi K hK => ?_) (fun K => ?_)
  · rw [Nat.add_zero, Nat.mod_eq_of_lt hh]
  · have hm := Nat.mod_lt (h + i) (show 0 < gH T by omega)
    unfold f4_from_2
    refine s4_who hok hT hS (by omega) ?_
    rw [hall i hi]
    refine ⟨fun c => absurd rfl c, fun _ => ?_⟩
    rw [hT.2.2.2.2.2.2.1, iI_succ, iI_rem (by omega) (by omega) (by omega) (by omega), tmod_nat (by omega), show (0 : Int32) = iI 0 from rfl, iI_eq (by omega) (by omega) (by omega) (by omega)]
    have e2 : (((h + i) % gH T + 1 : Nat) : Int) % (gH T : Int) = (((h + (i + 1)) % gH T : Nat) : Int) := by
      rw [← Int.natCast_emod, Nat.mod_add_mod, Nat.add_assoc]
    rw [e2]
    exact ⟨hS.1, by omega, hK⟩
  · have hm := Nat.mod_lt (h + j) (show 0 < gH T by omega)
    unfold f4_from_2
    refine s4_who hok hT hS (by omega) ?_
    rw [e] at hp
    rcases whoN_lt (T := T) (s := s) ((h + j) % gH T) with q | q
    · exact absurd q hne
    · have hP := hok.1.2.1
      rw [show (-2 : Int32) = iI (-2) from rfl, iI_eq (by omega) (by omega) (by omega) (by omega)]
      exact ⟨fun _ => s4_who hok hT hS (by omega) hp, fun c => absurd c hne⟩
theorem s4_ear {post : Int32 → Prop} (hok : gok T s) (hT : cT tw S T) (hS : cS tw r S T s) {d n f : Nat} (hd : d < gN T) (hn : n < 200) (hf : f < 10) (hp : post (iI (earN T s d n f))) : w4_ear post tw S r (iI d) (iI n) (iI f) := by
  have hO := (hok.2.1 d hd).2
  have hb := hok.2.2.1 _ hO
  have hH := hok.1.2.2.2.2
  have hH1 := hok.1.2.2.2.1
  have hlt := outN_lt hok d (s.1 (gO T d)) n
  unfold w4_ear
  refine s4_aimed hok hT hS hd (s4_out hok hT hS hd (by omega) hn ⟨hS.1, ?_⟩)
  rw [hT.2.2.2.2.2.2.1, iI_l (by omega) (by omega), iI_l (by omega) (by omega), lI_add]
  refine s1_wrap (by omega) (by omega) (by omega) (by omega) ?_
  rw [show ((outN T s d (s.1 (gO T d)) n : Int) + (f : Int)) % (gH T : Int) = (((outN T s d (s.1 (gO T d)) n + f) % gH T : Nat) : Int) by rw [Int.natCast_emod]; rfl]
  exact s4_from hok hT hS (Nat.mod_lt _ (by omega)) hp
theorem s4_isRight {post : Int32 → Prop} (hok : gok T s) (hT : cT tw S T) (hS : cS tw r S T s) {d n f : Nat} (hd : d < gN T) (hn : n < 200) (hf : f < 10) (hp : post (b01 (riN T s d n f))) : w4_isRight post tw S r (iI d) (iI n) (iI f) := by
  have hN := hok.1.2.2.1
  have hP := hok.1.2.1
  have hO := (hok.2.1 d hd).2
  have hL := (hok.2.1 d hd).1
  unfold w4_isRight
  refine s4_ear hok hT hS hd hn hf ?_
  obtain ⟨q, hq, e⟩ := earN_lt hok d n f
  rw [iI_clampN (by omega), hT.2.2.1, hT.2.2.2.1 d hd, hT.2.2.2.2.2.2.2 d hd, e, iI_eqN (by omega) (by omega)]
  refine ⟨hS.1, iI_inN (by omega) (by omega), hd, hL, fun c => ?_, fun c => ?_⟩
  · rw [show riN T s d n f = false by unfold riN; rw [e]; simp; omega] at hp
    exact hp
  · rw [show riN T s d n f = true by unfold riN; rw [e]; simp; omega] at hp
    exact hp
theorem s4_rightOnes {post : Int32 → Prop} (hok : gok T s) (hT : cT tw S T) (hS : cS tw r S T s) {n : Nat} (hn : n < 200) (hp : post (setB (fun d => riN T s d n 0) (gN T))) : w4_rightOnes post tw S r (iI n) := by
  have hN := hok.1.2.2.1
  unfold w4_rightOnes
  refine lp_set (gN T) (fun d => riN T s d n 0) (fun i hi K hK => ?_) (fun K => ?_)
  · show f4_rightOnes_4 post tw S r (iI n) K (setB (fun d => riN T s d n 0) i) (iI i)
    unfold f4_rightOnes_4
    rw [hT.2.2.2.2.2.1, iI_leN (by omega) (by omega), iI_succ]
    refine ⟨hS.1, fun c => absurd c (by omega), fun _ => s4_isRight (f := 0) hok hT hS hi hn (by omega) ?_⟩
    rw [b01_eq]
    refine ⟨fun c => ?_, fun c => ?_⟩
    · rw [setB, if_neg (by rw [c]; decide)] at hK; exact hK
    · rw [setB, if_pos ((Bool.not_eq_false _).mp c)] at hK; exact hK
  · show f4_rightOnes_4 post tw S r (iI n) K (setB (fun d => riN T s d n 0) (gN T)) (iI (gN T))
    unfold f4_rightOnes_4
    rw [hT.2.2.2.2.2.1, iI_leN (by omega) (by omega)]
    exact ⟨hS.1, fun _ => hp, fun c => absurd (Nat.le_refl _) c⟩
end P3C
