/-! PURE 2: the twin's readers -/
set_option maxRecDepth 100000
/-- the twin's town is T; its row of numbers r (2: as it is, 3: worked on) is s -/
def mT (tw : Option (Nat → Nat)) (S : MS) (T : GT) : Prop :=
  (∃ t, tw = some t) ∧ S.1 20 2 = iI (gP T) ∧ S.1 20 3 = iI (gN T) ∧ S.1 20 0 = iI (gH T) ∧ (∀ d, d < gN T → S.1 22 d = iI (gL T d)) ∧ ∀ d, d < gN T → S.1 24 d = iI (gO T d)
def mS (r : Nat) (S : MS) (T : GT) (s : GS) : Prop :=
  (∀ p, p < gP T → S.1 r p = iI (s.1 p)) ∧ (∀ d, d < gN T → S.1 r (6 + d) = iI (s.2.1 d)) ∧ ∀ d, d < gN T → S.1 r (12 + d) = iI (s.2.2 d)
section P2
variable {tw : Option (Nat → Nat)} {S : MS} {T : GT} {s : GS}
theorem s6_whoIn {post : Int32 → Prop} (hok : gok T s) (hT : mT tw S T) (hS : mS 3 S T s) {h : Nat} (hh : h < 1000) (hp : post (iI (whoN T s h))) : w6_whoIn post tw S (iI h) := by
  have hP := hok.1.2.1
  have hH := hok.1.2.2.2.2
  unfold w6_whoIn
  have stp : ∀ i, i < gP T → s.1 i ≠ h → ∀ K : Int32 → Prop, K (iI ((i + 1 : Nat) : Int)) → f6_whoIn_2 post tw S (iI h) K (iI i) := by
    intro i hi hne K hK
    have hb := hok.2.2.1 i hi
    unfold f6_whoIn_2
    rw [hT.2.1, iI_leN (by omega) (by omega), iI_clampN (by omega), hS.1 i hi, iI_eqN (by omega) (by omega), iI_succ]
    exact ⟨hT.1, fun c => absurd c (by omega), fun _ => ⟨iI_inN (by omega) (by omega), fun _ => hK, fun c => absurd c hne⟩⟩
  rcases whoN_at (T := T) (s := s) h with ⟨e, hn⟩ | ⟨q, hq, hqh, e, hn⟩
  · refine lp_up (gP T) (fun i => iI i) rfl (fun i hi K hK => stp i hi (hn i hi) K hK) (fun K => ?_)
    unfold f6_whoIn_2
    rw [hT.2.1, iI_leN (by omega) (by omega)]
    rw [e] at hp
    exact ⟨hT.1, fun _ => hp, fun c => absurd (Nat.le_refl _) c⟩
  · refine lp_up q (fun i => iI i) rfl (fun i hi K hK => stp i (by omega) (hn i hi) K hK) (fun K => ?_)
    have hb := hok.2.2.1 q hq
    unfold f6_whoIn_2
    rw [hT.2.1, iI_leN (by omega) (by omega), iI_clampN (by omega), hS.1 q hq, iI_eqN (by omega) (by omega)]
    rw [e] at hp
    exact ⟨hT.1, fun c => absurd c (by omega), fun _ => ⟨iI_inN (by omega) (by omega), fun c => absurd hqh c, fun _ => hp⟩⟩
theorem s6_around {post : Int32 → Prop} (hH1 : 2 ≤ gH T) (hH2 : gH T ≤ 40) (hT : mT tw S T) {z : Int} (h1 : -1000000 ≤ z) (h2 : z < 1000000) (hp : post (iI (z % gH T))) : w6_around post tw S (lI z) := by
  unfold w6_around
  rw [hT.2.2.2.1, iI_l (by omega) (by omega)]
  have hne : ¬ lI (gH T) = 0 := by
    rw [show (0 : Int64) = lI 0 from rfl, lI_eq (by omega) (by omega) (by omega) (by omega)]; omega
  rw [wrapL (by omega) (by omega) (by omega) (by omega)]
  exact ⟨hT.1, hne, hne, hp⟩
theorem slN_in (hok : gok T s) {d n : Nat} (hd : d < gN T) (hn : n < 200) : -10000 < slN T s d n ∧ slN T s d n < 10000 := by
  have h1 := hok.2.2.2.2.1 d hd
  have h2 : (s.2.1 d : Int) * n ≤ 39 * 199 := by
    have : s.2.1 d * n ≤ 39 * 199 := Nat.mul_le_mul h1 (by omega)
    exact_mod_cast this
  have h3 : (0 : Int) ≤ (s.2.1 d : Int) * n := Int.mul_nonneg (by omega) (by omega)
  unfold slN
  split
  · omega
  · split
    · omega
    · split
      · omega
      · split <;> omega
theorem s6_j71 {post : Int32 → Prop} (hok : gok T s) (hT : mT tw S T) (hS : mS 3 S T s) {d aim n : Nat} (hd : d < gN T) (ha : aim < 1000) (hn : n < 200) (hp : post (iI (outN T s d aim n))) : j6_outOf_71 post tw S (iI d) (iI aim) (iI (slN T s d n)) := by
  have hN := hok.1.2.2.1
  have hH1 := hok.1.2.2.2.1
  have hH2 := hok.1.2.2.2.2
  have hsl := slN_in hok hd hn
  have hm := hok.2.2.2.2.2 d hd
  unfold j6_outOf_71
  rw [iI_add, iI_l (by omega) (by omega)]
  refine s6_around hH1 hH2 hT (by omega) (by omega) ?_
  have e1 : (12 : Int32) + iI d = iI ((12 + d : Nat) : Int) := by rw [show (12 : Int32) = iI 12 from rfl, iI_add]; rfl
  have a1 := Int.emod_lt_of_pos ((aim : Int) + slN T s d n) (show (0 : Int) < gH T by omega)
  have a2 := Int.emod_nonneg ((aim : Int) + slN T s d n) (show (gH T : Int) ≠ 0 by omega)
  unfold outN at hp
  dsimp only at hp
  generalize ((aim : Int) + slN T s d n) % gH T = z at *
  rw [e1, iI_clampN (by omega), hS.2.2 d hd, show (-2 : Int32) = iI (-2) from rfl, iI_eq (by omega) (by omega) (by omega) (by omega), show (2 : Int32) = iI 2 from rfl, iI_mul, iI_sub, iI_l (by omega) (by omega)]
  refine ⟨iI_inN (by omega) (by omega), fun c => ?_, fun c => ?_⟩
  · rw [if_neg c] at hp
    have b1 := Int.emod_lt_of_pos (2 * s.2.2 d - z) (show (0 : Int) < gH T by omega)
    have b2 := Int.emod_nonneg (2 * s.2.2 d - z) (show (gH T : Int) ≠ 0 by omega)
    refine s6_around hH1 hH2 hT (by omega) (by omega) ?_
    rw [show ((z.toNat : Nat) : Int) = z by omega, show ((((2 * s.2.2 d - z) % (gH T : Int)).toNat : Nat) : Int) = (2 * s.2.2 d - z) % (gH T : Int) by omega] at hp
    exact hp
  · rw [if_pos c, show ((z.toNat : Nat) : Int) = z by omega] at hp
    exact hp
theorem s6_outOf {post : Int32 → Prop} (hok : gok T s) (hT : mT tw S T) (hS : mS 3 S T s) {d aim n : Nat} (hd : d < gN T) (ha : aim < 1000) (hn : n < 200) (hp : post (iI (outN T s d aim n))) : w6_outOf post tw S (iI d) (iI aim) (iI n) := by
  have hN := hok.1.2.2.1
  have hL := (hok.2.1 d hd).1
  have hs := hok.2.2.2.2.1 d hd
  have key := s6_j71 (post := post) hok hT hS hd ha hn hp
  unfold w6_outOf
  have e1 : (6 : Int32) + iI d = iI ((6 + d : Nat) : Int) := by rw [show (6 : Int32) = iI 6 from rfl, iI_add]; rfl
  rw [e1, iI_clampN (by omega), iI_clampN (by omega), hT.2.2.2.2.1 d hd, hS.2.1 d hd]
  rw [show (0 : Int32) = iI 0 from rfl, show (1 : Int32) = iI 1 from rfl, show (2 : Int32) = iI 2 from rfl, iI_rem (by omega) (by omega) (by omega) (by omega), iI_mul, iI_neg]
  rw [iI_eq (by omega) (by omega) (by omega) (by omega), iI_eq (by omega) (by omega) (by omega) (by omega), iI_eq (by omega) (by omega) (by omega) (by omega), tmod_nat (by omega), iI_eq (by omega) (by omega) (by omega) (by omega)]
  refine ⟨iI_inN (by omega) (by omega), hT.1, iI_inN (by omega) (by omega), fun c0 => ⟨fun c1 => ⟨fun c2 => ⟨fun c3 => ?_, fun c3 => ?_⟩, fun c2 => ?_⟩, fun c1 => ?_⟩, fun c0 => ?_⟩
  · rw [show slN T s d n = -(s.2.1 d : Int) by unfold slN; rw [if_neg (by omega), if_neg (by omega), if_neg (by omega), if_neg (by omega)]] at key
    exact key
  · rw [show slN T s d n = (s.2.1 d : Int) by unfold slN; rw [if_neg (by omega), if_neg (by omega), if_neg (by omega), if_pos (by omega)]] at key
    exact key
  · rw [show slN T s d n = (s.2.1 d : Int) * n by unfold slN; rw [if_neg (by omega), if_neg (by omega), if_pos (by omega)]] at key
    exact key
  · rw [show slN T s d n = -(s.2.1 d : Int) by unfold slN; rw [if_neg (by omega), if_pos (by omega)]] at key
    exact key
  · rw [show slN T s d n = (s.2.1 d : Int) by unfold slN; rw [if_pos (by omega)]] at key
    exact key
theorem s6_heardFrom {post : Int32 → Prop} (hok : gok T s) (hT : mT tw S T) (hS : mS 3 S T s) {h : Nat} (hh : h < gH T) (hp : post (iI (frN T s h))) : w6_heardFrom post tw S (iI h) := by
  have hH1 := hok.1.2.2.2.1
  have hH2 := hok.1.2.2.2.2
  obtain ⟨j, hj, e, hne, hall⟩ := frN_at hok hh
  unfold w6_heardFrom
  refine lp_up j (fun i => iI (((h + i) % gH T : Nat) : Int)) ?_ (fun i hi K hK => ?_) (fun K => ?_)
  · rw [Nat.add_zero, Nat.mod_eq_of_lt hh]
  · have hm := Nat.mod_lt (h + i) (show 0 < gH T by omega)
    unfold f6_heardFrom_2
    refine s6_whoIn hok hT hS (by omega) ?_
    rw [hall i hi]
    refine ⟨fun c => absurd rfl c, fun _ => ?_⟩
    rw [iI_succ, iI_l (by omega) (by omega)]
    refine s6_around hH1 hH2 hT (by omega) (by omega) ?_
    have e2 : (((h + i) % gH T + 1 : Nat) : Int) % (gH T : Int) = (((h + (i + 1)) % gH T : Nat) : Int) := by
      rw [← Int.natCast_emod, Nat.mod_add_mod, Nat.add_assoc]
    rw [e2]
    exact hK
  · have hm := Nat.mod_lt (h + j) (show 0 < gH T by omega)
    unfold f6_heardFrom_2
    refine s6_whoIn hok hT hS (by omega) ?_
    rw [e] at hp
    rcases whoN_lt (T := T) (s := s) ((h + j) % gH T) with q | q
    · exact absurd q hne
    · have hP := hok.1.2.1
      rw [show (-2 : Int32) = iI (-2) from rfl, iI_eq (by omega) (by omega) (by omega) (by omega)]
      exact ⟨fun _ => s6_whoIn hok hT hS (by omega) hp, fun c => absurd c hne⟩
end P2
