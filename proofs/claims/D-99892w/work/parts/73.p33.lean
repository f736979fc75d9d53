/-! PURE 33: size -/
set_option maxRecDepth 100000
/-- how many mirrors hang -/
def miC (s : GS) : Nat → Nat
  | 0 => 0
  | d + 1 => miC s d + (if s.2.2 d = -2 then 0 else 1)
theorem s6_mirrorsNow {post : Int32 → Prop} {tw : Option (Nat → Nat)} {S : MS} {T : GT} {s : GS} (hok : gok T s) (hT : mT tw S T) (hS : mS 2 S T s) (hp : post (iI (miC s (gN T)))) : w6_mirrorsNow post tw S := by
  have hN := hok.1.2.2.1
  unfold w6_mirrorsNow
  refine lp_up (gN T) (fun i => (iI (miC s i), iI i)) rfl (fun i hi K hK => ?_) (fun K => ?_)
  · show f6_mirrorsNow_4 post tw S K (iI (miC s i)) (iI i)
    unfold f6_mirrorsNow_4
    rw [hT.2.2.1, iI_leN (by omega) (by omega), show (12 : Int32) = iI (12 : Nat) from rfl, iI_add, show ((12 : Nat) : Int) + (i : Int) = ((12 + i : Nat) : Int) by omega, iI_clampN (by omega), hS.2.2 i hi, iI_succ i, show (-2 : Int32) = iI (-2) from rfl]
    have hb : -2 ≤ s.2.2 i ∧ s.2.2 i < 40 := by
      have := hok.1.2.2.2.2
      rcases hok.2.2.2.2.2 i hi with e | e <;> omega
    rw [iI_eq (by omega) (by omega) (by omega) (by omega)]
    have hK : K (iI ((miC s i + (if s.2.2 i = -2 then 0 else 1) : Nat) : Int), iI ((i + 1 : Nat) : Int)) := hK
    refine ⟨hT.1, fun c => absurd c (by omega), fun _ => ⟨iI_inN (by omega) (by omega), fun c => ?_, fun c => ?_⟩⟩
    · rw [if_neg c] at hK
      rw [iI_succ]; exact hK
    · rw [if_pos c, Nat.add_zero] at hK
      rw [show (0 : Int32) = iI 0 from rfl, iI_add, Int.add_zero]; exact hK
  · show f6_mirrorsNow_4 post tw S K (iI (miC s (gN T))) (iI (gN T))
    unfold f6_mirrorsNow_4
    rw [hT.2.2.1]
    exact ⟨hT.1, fun _ => hp, fun c => absurd (Int32.le_refl _) c⟩
theorem s4_hung {post : Int32 → Prop} {tw : Option TD} {S : CS} {T : GT} {s : GS} (hok : gok T s) (hT : cT tw S T) (hS : cS tw 0 S T s) (hp : post (iI (miC s (gN T)))) : w4_hung post tw S 0 := by
  have hN := hok.1.2.2.1
  unfold w4_hung
  refine lp_up (gN T) (fun i => (iI (miC s i), iI i)) rfl (fun i hi K hK => ?_) (fun K => ?_)
  · show f4_hung_4 post tw S 0 K (iI (miC s i)) (iI i)
    unfold f4_hung_4
    rw [hT.2.2.2.2.2.1, iI_leN (by omega) (by omega), iI_clampN (by omega), hS.2.2.2 i hi, iI_succ i, show (-2 : Int32) = iI (-2) from rfl]
    have hb : -2 ≤ s.2.2 i ∧ s.2.2 i < 40 := by
      have := hok.1.2.2.2.2
      rcases hok.2.2.2.2.2 i hi with e | e <;> omega
    rw [iI_eq (by omega) (by omega) (by omega) (by omega)]
    have hK : K (iI ((miC s i + (if s.2.2 i = -2 then 0 else 1) : Nat) : Int), iI ((i + 1 : Nat) : Int)) := hK
    refine ⟨hS.1, fun c => absurd c (by omega), fun _ => ⟨iI_inN (by omega) (by omega), fun c => ?_, fun c => ?_⟩⟩
    · rw [if_neg c] at hK
      rw [iI_succ]; exact hK
    · rw [if_pos c, Nat.add_zero] at hK
      rw [show (0 : Int32) = iI 0 from rfl, iI_add, Int.add_zero]; exact hK
  · show f4_hung_4 post tw S 0 K (iI (miC s (gN T))) (iI (gN T))
    unfold f4_hung_4
    rw [hT.2.2.2.2.2.1]
    exact ⟨hS.1, fun _ => hp, fun c => absurd (Int32.le_refl _) c⟩
theorem o_size (a0 : Int32) : Ob_size Inv0 a0 := ob_r fun tw1 S1 tw6 S6 hI => by
  obtain ⟨oT, s, a, i, hs, hC, hT⟩ := hI
  obtain ⟨-, ⟨tn, t2, t3, t4⟩, -, -, -, ha, ha6, ha1, hi, hi6, hi1, hp, -, n, hn, hn6, hn1⟩ := hC
  have u : ∀ r k, ¬ (r = 0 ∧ k = 0) → (uI S6 0 0 0).1 r k = S6.1 r k := fun r k q => by rw [uI_at, if_neg q]
  have i9 : ∀ {post : Int32 → Prop} {x : Int32}, post (b01 (inN 10 x)) → w6_in post x 0 9 := fun {post} {x} h => by
    rw [show (9 : Int32) = iI (9 : Nat) from rfl]; exact g6_in (by omega) h
  have i91 : ∀ {post : Int32 → Prop} {x : Int32}, post (b01 (inN 10 x)) → w1_in post x 0 9 := fun {post} {x} h => by
    rw [show (9 : Int32) = iI (9 : Nat) from rfl]; exact g1_in (by omega) h
  by_cases c10 : a0 = 10
  · subst c10
    refine ⟨iI tn, fun post h => ?_, fun post h => ?_⟩
    · unfold w1_size
      exact ⟨fun z => absurd rfl z, fun _ => by rw [t4]; exact h⟩
    · unfold w6_size
      rintro S rfl
      exact ⟨fun z => absurd rfl z, fun _ => by rw [u _ _ (by omega), t3]; exact h⟩
  by_cases c9 : inN 10 a0 = true
  · cases oT with
    | none =>
      obtain ⟨e6, e1⟩ := hs
      subst e6
      subst e1
      refine ⟨0, fun post h => ?_, fun post h => ?_⟩
      · unfold w1_size
        refine ⟨fun _ => ⟨fun _ => i91 ?_, fun z => (by obtain ⟨t, e⟩ := z; cases e)⟩, fun z => absurd z c10⟩
        rw [c9]
        exact ⟨fun z => absurd z (by decide), fun _ => h⟩
      · unfold w6_size
        rintro S rfl
        refine ⟨fun _ => i9 ?_, fun z => absurd z c10⟩
        rw [c9]
        exact ⟨fun _ => ⟨fun _ => h, fun z => (by obtain ⟨t, e⟩ := z; cases e)⟩, fun z => absurd z (by decide)⟩
    | some T =>
      obtain ⟨⟨s0, lp, U, E, un, ot, hb, hd, hn', g0, hU, hE, hlp, b1, b2, b3, b4, b5, b6, -⟩, -⟩ := hT
      obtain ⟨t6, ht6⟩ := hs.2.1.1
      obtain ⟨t1, ht1⟩ := hs.2.2.2.1.1
      obtain ⟨d, hd10, rfl⟩ := inN_true c9
      rcases (show d = 0 ∨ d = 1 ∨ d = 2 ∨ d = 3 ∨ d = 4 ∨ d = 5 ∨ d = 6 ∨ d = 7 ∨ d = 8 ∨ d = 9 by omega) with rfl | rfl | rfl | rfl | rfl | rfl | rfl | rfl | rfl | rfl
      · refine ⟨iI (gH T), fun post h => ?_, fun post h => ?_⟩
        · unfold w1_size
          refine ⟨fun _ => ⟨fun z => (by rw [ht1] at z; cases z), fun _ => ?_⟩, fun z => absurd z c10⟩
          exact ⟨fun _ => (by rw [hs.2.2.2.1.2.2.2.2.2.2.1]; exact h), fun z => absurd (show (iI ((0 : Nat) : Int) : Int32) = 0 from rfl) z⟩
        · unfold w6_size
          rintro S rfl
          refine ⟨fun _ => i9 ?_, fun z => absurd z c10⟩
          rw [c9]
          refine ⟨fun _ => ⟨fun z => (by rw [ht6] at z; cases z), fun _ => ?_⟩, fun z => absurd z (by decide)⟩
          exact ⟨fun _ => (by rw [u _ _ (by omega), hs.2.1.2.2.2.1]; exact h), fun z => absurd (show (iI ((0 : Nat) : Int) : Int32) = 0 from rfl) z⟩
      · refine ⟨iI lp, fun post h => ?_, fun post h => ?_⟩
        · unfold w1_size
          refine ⟨fun _ => ⟨fun z => (by rw [ht1] at z; cases z), fun _ => ?_⟩, fun z => absurd z c10⟩
          refine ⟨fun z => absurd z (by decide), fun _ => ?_⟩
          exact ⟨fun _ => (by rw [b2]; exact h), fun z => absurd (show (iI ((1 : Nat) : Int) : Int32) = 1 from rfl) z⟩
        · unfold w6_size
          rintro S rfl
          refine ⟨fun _ => i9 ?_, fun z => absurd z c10⟩
          rw [c9]
          refine ⟨fun _ => ⟨fun z => (by rw [ht6] at z; cases z), fun _ => ?_⟩, fun z => absurd z (by decide)⟩
          refine ⟨fun z => absurd z (by decide), fun _ => ?_⟩
          exact ⟨fun _ => (by rw [u _ _ (by omega), b1]; exact h), fun z => absurd (show (iI ((1 : Nat) : Int) : Int32) = 1 from rfl) z⟩
      · refine ⟨iI (gP T), fun post h => ?_, fun post h => ?_⟩
        · unfold w1_size
          refine ⟨fun _ => ⟨fun z => (by rw [ht1] at z; cases z), fun _ => ?_⟩, fun z => absurd z c10⟩
          refine ⟨fun z => absurd z (by decide), fun _ => ?_⟩
          refine ⟨fun z => absurd z (by decide), fun _ => ?_⟩
          exact ⟨fun _ => (by rw [hs.2.2.2.1.2.2.2.2.1]; exact h), fun z => absurd (show (iI ((2 : Nat) : Int) : Int32) = 2 from rfl) z⟩
        · unfold w6_size
          rintro S rfl
          refine ⟨fun _ => i9 ?_, fun z => absurd z c10⟩
          rw [c9]
          refine ⟨fun _ => ⟨fun z => (by rw [ht6] at z; cases z), fun _ => ?_⟩, fun z => absurd z (by decide)⟩
          refine ⟨fun z => absurd z (by decide), fun _ => ?_⟩
          refine ⟨fun z => absurd z (by decide), fun _ => ?_⟩
          exact ⟨fun _ => (by rw [u _ _ (by omega), hs.2.1.2.1]; exact h), fun z => absurd (show (iI ((2 : Nat) : Int) : Int32) = 2 from rfl) z⟩
      · refine ⟨iI (gN T), fun post h => ?_, fun post h => ?_⟩
        · unfold w1_size
          refine ⟨fun _ => ⟨fun z => (by rw [ht1] at z; cases z), fun _ => ?_⟩, fun z => absurd z c10⟩
          refine ⟨fun z => absurd z (by decide), fun _ => ?_⟩
          refine ⟨fun z => absurd z (by decide), fun _ => ?_⟩
          refine ⟨fun z => absurd z (by decide), fun _ => ?_⟩
          exact ⟨fun _ => (by rw [hs.2.2.2.1.2.2.2.2.2.1]; exact h), fun z => absurd (show (iI ((3 : Nat) : Int) : Int32) = 3 from rfl) z⟩
        · unfold w6_size
          rintro S rfl
          refine ⟨fun _ => i9 ?_, fun z => absurd z c10⟩
          rw [c9]
          refine ⟨fun _ => ⟨fun z => (by rw [ht6] at z; cases z), fun _ => ?_⟩, fun z => absurd z (by decide)⟩
          refine ⟨fun z => absurd z (by decide), fun _ => ?_⟩
          refine ⟨fun z => absurd z (by decide), fun _ => ?_⟩
          refine ⟨fun z => absurd z (by decide), fun _ => ?_⟩
          exact ⟨fun _ => (by rw [u _ _ (by omega), hs.2.1.2.2.1]; exact h), fun z => absurd (show (iI ((3 : Nat) : Int) : Int32) = 3 from rfl) z⟩
      · refine ⟨iI (miC s (gN T)), fun post h => ?_, fun post h => ?_⟩
        · unfold w1_size
          refine ⟨fun _ => ⟨fun z => (by rw [ht1] at z; cases z), fun _ => ?_⟩, fun z => absurd z c10⟩
          refine ⟨fun z => absurd z (by decide), fun _ => ?_⟩
          refine ⟨fun z => absurd z (by decide), fun _ => ?_⟩
          refine ⟨fun z => absurd z (by decide), fun _ => ?_⟩
          refine ⟨fun z => absurd z (by decide), fun _ => ?_⟩
          exact ⟨fun _ => s4_hung hs.1 hs.2.2.2.1 hs.2.2.2.2 h, fun z => absurd (show (iI ((4 : Nat) : Int) : Int32) = 4 from rfl) z⟩
        · unfold w6_size
          rintro S rfl
          refine ⟨fun _ => i9 ?_, fun z => absurd z c10⟩
          rw [c9]
          refine ⟨fun _ => ⟨fun z => (by rw [ht6] at z; cases z), fun _ => ?_⟩, fun z => absurd z (by decide)⟩
          refine ⟨fun z => absurd z (by decide), fun _ => ?_⟩
          refine ⟨fun z => absurd z (by decide), fun _ => ?_⟩
          refine ⟨fun z => absurd z (by decide), fun _ => ?_⟩
          refine ⟨fun z => absurd z (by decide), fun _ => ?_⟩
          exact ⟨fun _ => s6_mirrorsNow hs.1 (th_K.T hs.2.1) (th_K.S hs.2.2.1) h, fun z => absurd (show (iI ((4 : Nat) : Int) : Int32) = 4 from rfl) z⟩
      · refine ⟨iI U, fun post h => ?_, fun post h => ?_⟩
        · unfold w1_size
          refine ⟨fun _ => ⟨fun z => (by rw [ht1] at z; cases z), fun _ => ?_⟩, fun z => absurd z c10⟩
          refine ⟨fun z => absurd z (by decide), fun _ => ?_⟩
          refine ⟨fun z => absurd z (by decide), fun _ => ?_⟩
          refine ⟨fun z => absurd z (by decide), fun _ => ?_⟩
          refine ⟨fun z => absurd z (by decide), fun _ => ?_⟩
          refine ⟨fun z => absurd z (by decide), fun _ => ?_⟩
          exact ⟨fun _ => (by rw [b4]; exact h), fun z => absurd (show (iI ((5 : Nat) : Int) : Int32) = 5 from rfl) z⟩
        · unfold w6_size
          rintro S rfl
          refine ⟨fun _ => i9 ?_, fun z => absurd z c10⟩
          rw [c9]
          refine ⟨fun _ => ⟨fun z => (by rw [ht6] at z; cases z), fun _ => ?_⟩, fun z => absurd z (by decide)⟩
          refine ⟨fun z => absurd z (by decide), fun _ => ?_⟩
          refine ⟨fun z => absurd z (by decide), fun _ => ?_⟩
          refine ⟨fun z => absurd z (by decide), fun _ => ?_⟩
          refine ⟨fun z => absurd z (by decide), fun _ => ?_⟩
          refine ⟨fun z => absurd z (by decide), fun _ => ?_⟩
          exact ⟨fun _ => (by rw [u _ _ (by omega), b3]; exact h), fun z => absurd (show (iI ((5 : Nat) : Int) : Int32) = 5 from rfl) z⟩
      · refine ⟨iI E, fun post h => ?_, fun post h => ?_⟩
        · unfold w1_size
          refine ⟨fun _ => ⟨fun z => (by rw [ht1] at z; cases z), fun _ => ?_⟩, fun z => absurd z c10⟩
          refine ⟨fun z => absurd z (by decide), fun _ => ?_⟩
          refine ⟨fun z => absurd z (by decide), fun _ => ?_⟩
          refine ⟨fun z => absurd z (by decide), fun _ => ?_⟩
          refine ⟨fun z => absurd z (by decide), fun _ => ?_⟩
          refine ⟨fun z => absurd z (by decide), fun _ => ?_⟩
          refine ⟨fun z => absurd z (by decide), fun _ => ?_⟩
          exact ⟨fun _ => (by rw [b6]; exact h), fun z => absurd (show (iI ((6 : Nat) : Int) : Int32) = 6 from rfl) z⟩
        · unfold w6_size
          rintro S rfl
          refine ⟨fun _ => i9 ?_, fun z => absurd z c10⟩
          rw [c9]
          refine ⟨fun _ => ⟨fun z => (by rw [ht6] at z; cases z), fun _ => ?_⟩, fun z => absurd z (by decide)⟩
          refine ⟨fun z => absurd z (by decide), fun _ => ?_⟩
          refine ⟨fun z => absurd z (by decide), fun _ => ?_⟩
          refine ⟨fun z => absurd z (by decide), fun _ => ?_⟩
          refine ⟨fun z => absurd z (by decide), fun _ => ?_⟩
          refine ⟨fun z => absurd z (by decide), fun _ => ?_⟩
          refine ⟨fun z => absurd z (by decide), fun _ => ?_⟩
          exact ⟨fun _ => (by rw [u _ _ (by omega), b5]; exact h), fun z => absurd (show (iI ((6 : Nat) : Int) : Int32) = 6 from rfl) z⟩
      · refine ⟨iI n, fun post h => ?_, fun post h => ?_⟩
        · unfold w1_size
          refine ⟨fun _ => ⟨fun z => (by rw [ht1] at z; cases z), fun _ => ?_⟩, fun z => absurd z c10⟩
          refine ⟨fun z => absurd z (by decide), fun _ => ?_⟩
          refine ⟨fun z => absurd z (by decide), fun _ => ?_⟩
          refine ⟨fun z => absurd z (by decide), fun _ => ?_⟩
          refine ⟨fun z => absurd z (by decide), fun _ => ?_⟩
          refine ⟨fun z => absurd z (by decide), fun _ => ?_⟩
          refine ⟨fun z => absurd z (by decide), fun _ => ?_⟩
          refine ⟨fun z => absurd z (by decide), fun _ => ?_⟩
          exact ⟨fun _ => (by rw [hn1]; exact h), fun z => absurd (show (iI ((7 : Nat) : Int) : Int32) = 7 from rfl) z⟩
        · unfold w6_size
          rintro S rfl
          refine ⟨fun _ => i9 ?_, fun z => absurd z c10⟩
          rw [c9]
          refine ⟨fun _ => ⟨fun z => (by rw [ht6] at z; cases z), fun _ => ?_⟩, fun z => absurd z (by decide)⟩
          refine ⟨fun z => absurd z (by decide), fun _ => ?_⟩
          refine ⟨fun z => absurd z (by decide), fun _ => ?_⟩
          refine ⟨fun z => absurd z (by decide), fun _ => ?_⟩
          refine ⟨fun z => absurd z (by decide), fun _ => ?_⟩
          refine ⟨fun z => absurd z (by decide), fun _ => ?_⟩
          refine ⟨fun z => absurd z (by decide), fun _ => ?_⟩
          refine ⟨fun z => absurd z (by decide), fun _ => ?_⟩
          exact ⟨fun _ => (by rw [u _ _ (by omega), hn6]; exact h), fun z => absurd (show (iI ((7 : Nat) : Int) : Int32) = 7 from rfl) z⟩
      · refine ⟨iI a, fun post h => ?_, fun post h => ?_⟩
        · unfold w1_size
          refine ⟨fun _ => ⟨fun z => (by rw [ht1] at z; cases z), fun _ => ?_⟩, fun z => absurd z c10⟩
          refine ⟨fun z => absurd z (by decide), fun _ => ?_⟩
          refine ⟨fun z => absurd z (by decide), fun _ => ?_⟩
          refine ⟨fun z => absurd z (by decide), fun _ => ?_⟩
          refine ⟨fun z => absurd z (by decide), fun _ => ?_⟩
          refine ⟨fun z => absurd z (by decide), fun _ => ?_⟩
          refine ⟨fun z => absurd z (by decide), fun _ => ?_⟩
          refine ⟨fun z => absurd z (by decide), fun _ => ?_⟩
          refine ⟨fun z => absurd z (by decide), fun _ => ?_⟩
          exact ⟨fun _ => (by rw [ha1]; exact h), fun z => absurd (show (iI ((8 : Nat) : Int) : Int32) = 8 from rfl) z⟩
        · unfold w6_size
          rintro S rfl
          refine ⟨fun _ => i9 ?_, fun z => absurd z c10⟩
          rw [c9]
          refine ⟨fun _ => ⟨fun z => (by rw [ht6] at z; cases z), fun _ => ?_⟩, fun z => absurd z (by decide)⟩
          refine ⟨fun z => absurd z (by decide), fun _ => ?_⟩
          refine ⟨fun z => absurd z (by decide), fun _ => ?_⟩
          refine ⟨fun z => absurd z (by decide), fun _ => ?_⟩
          refine ⟨fun z => absurd z (by decide), fun _ => ?_⟩
          refine ⟨fun z => absurd z (by decide), fun _ => ?_⟩
          refine ⟨fun z => absurd z (by decide), fun _ => ?_⟩
          refine ⟨fun z => absurd z (by decide), fun _ => ?_⟩
          refine ⟨fun z => absurd z (by decide), fun _ => ?_⟩
          exact ⟨fun _ => (by rw [u _ _ (by omega), ha6]; exact h), fun z => absurd (show (iI ((8 : Nat) : Int) : Int32) = 8 from rfl) z⟩
      · refine ⟨iI i, fun post h => ?_, fun post h => ?_⟩
        · unfold w1_size
          refine ⟨fun _ => ⟨fun z => (by rw [ht1] at z; cases z), fun _ => ?_⟩, fun z => absurd z c10⟩
          refine ⟨fun z => absurd z (by decide), fun _ => ?_⟩
          refine ⟨fun z => absurd z (by decide), fun _ => ?_⟩
          refine ⟨fun z => absurd z (by decide), fun _ => ?_⟩
          refine ⟨fun z => absurd z (by decide), fun _ => ?_⟩
          refine ⟨fun z => absurd z (by decide), fun _ => ?_⟩
          refine ⟨fun z => absurd z (by decide), fun _ => ?_⟩
          refine ⟨fun z => absurd z (by decide), fun _ => ?_⟩
          refine ⟨fun z => absurd z (by decide), fun _ => ?_⟩
          refine ⟨fun z => absurd z (by decide), fun _ => ?_⟩
          exact ⟨fun _ => (by rw [hi1]; exact h), fun z => absurd (show (iI ((9 : Nat) : Int) : Int32) = 9 from rfl) z⟩
        · unfold w6_size
          rintro S rfl
          refine ⟨fun _ => i9 ?_, fun z => absurd z c10⟩
          rw [c9]
          refine ⟨fun _ => ⟨fun z => (by rw [ht6] at z; cases z), fun _ => ?_⟩, fun z => absurd z (by decide)⟩
          refine ⟨fun z => absurd z (by decide), fun _ => ?_⟩
          refine ⟨fun z => absurd z (by decide), fun _ => ?_⟩
          refine ⟨fun z => absurd z (by decide), fun _ => ?_⟩
          refine ⟨fun z => absurd z (by decide), fun _ => ?_⟩
          refine ⟨fun z => absurd z (by decide), fun _ => ?_⟩
          refine ⟨fun z => absurd z (by decide), fun _ => ?_⟩
          refine ⟨fun z => absurd z (by decide), fun _ => ?_⟩
          refine ⟨fun z => absurd z (by decide), fun _ => ?_⟩
          refine ⟨fun z => absurd z (by decide), fun _ => ?_⟩
          exact (by rw [u _ _ (by omega), hi6]; exact h)
  · have c9 : inN 10 a0 = false := by simpa using c9
    have no : ∀ k : Int32, inN 10 k = true → ¬ a0 = k := fun k hk z => by rw [z, hk] at c9; cases c9
    refine ⟨-1, fun post h => ?_, fun post h => ?_⟩
    · unfold w1_size
      refine ⟨fun _ => ⟨fun _ => i91 ?_, fun _ => ?_⟩, fun z => absurd z c10⟩
      · rw [c9]
        exact ⟨fun _ => h, fun z => absurd rfl z⟩
      · refine ⟨fun z => absurd z (no 0 (by decide)), fun _ => ?_⟩
        refine ⟨fun z => absurd z (no 1 (by decide)), fun _ => ?_⟩
        refine ⟨fun z => absurd z (no 2 (by decide)), fun _ => ?_⟩
        refine ⟨fun z => absurd z (no 3 (by decide)), fun _ => ?_⟩
        refine ⟨fun z => absurd z (no 4 (by decide)), fun _ => ?_⟩
        refine ⟨fun z => absurd z (no 5 (by decide)), fun _ => ?_⟩
        refine ⟨fun z => absurd z (no 6 (by decide)), fun _ => ?_⟩
        refine ⟨fun z => absurd z (no 7 (by decide)), fun _ => ?_⟩
        refine ⟨fun z => absurd z (no 8 (by decide)), fun _ => ?_⟩
        refine ⟨fun z => absurd z (no 9 (by decide)), fun _ => ?_⟩
        exact h
    · unfold w6_size
      rintro S rfl
      refine ⟨fun _ => i9 ?_, fun z => absurd z c10⟩
      rw [c9]
      exact ⟨fun z => absurd rfl z, fun _ => h⟩
