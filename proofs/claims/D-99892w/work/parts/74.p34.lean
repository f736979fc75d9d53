/-! PURE 34: led -/
set_option maxRecDepth 100000
/-- worked on is what is there, and nothing else is moved -/
theorem s6_works3 {post : MS → Prop} {S : MS} (h : ∀ S', (∀ r k, r ≠ 3 → S'.1 r k = S.1 r k) → (∀ k, k < 19 → S'.1 3 k = S.1 2 k) → post S') : w6_works post S := by
  unfold w6_works
  refine lp_up 19 (fun j => (rowG S 3 0 (fun k => S.1 2 k) j, iI j)) ?_ (fun j hj K hK => ?_) (fun K => ?_)
  · show (S, (0 : Int32)) = (rowG _ 3 0 _ 0, iI (0 : Nat))
    rw [rowG_0]; rfl
  · show f6_works_2 post K (rowG S 3 0 (fun k => S.1 2 k) j) (iI j)
    unfold f6_works_2
    rw [show (19 : Int32) = iI (19 : Nat) from rfl, iI_leN (by omega) (by omega), iI_clampN (by omega), iI_succ]
    refine ⟨fun c => absurd c (by omega), fun _ => ⟨iI_inN (by omega) (by omega), iI_inN (by omega) (by omega), fun S2 e => ?_⟩⟩
    have hu := rowG_up S 3 0 (fun k => S.1 2 k) j
    rw [Nat.zero_add] at hu
    rw [e, rowG_at, if_neg (by omega), hu]
    exact hK
  · show f6_works_2 post K (rowG S 3 0 (fun k => S.1 2 k) 19) (iI (19 : Nat))
    unfold f6_works_2
    refine ⟨fun _ => h _ (fun r k q => ?_) (fun k hk => ?_), fun c => absurd (Int32.le_refl _) c⟩
    · rw [rowG_at, if_neg (fun z => q z.1)]
    · rw [rowG_at, if_pos (by omega), Nat.sub_zero]
def ldS (T : GT) (s : GS) (n : Nat) (x : Int32) : Nat × Nat → (Nat × Nat) ⊕ Option Nat := fun z =>
  if gN T ≤ z.2 then .inr none else if riN T s z.2 n 0 = true then .inl (z.1, z.2 + 1) else if iI (z.1 : Nat) = x then .inr (some z.2) else .inl (z.1 + 1, z.2 + 1)
theorem o_led (a0 : Int32) : ObE Inv0 a0 := by
  intro tw1 S1 tw6 S6 hI ov
  obtain ⟨oT, s, a, i, hs, hC, hT⟩ := id hI
  obtain ⟨-, -, t5, t6, -, -, -, -, -, -, -, -, -, n, hn, hn6, hn1⟩ := hC
  have fin : ∀ u : MS, (∀ r k, r ≠ 3 → ¬ (r = 0 ∧ k = 0) → u.1 r k = S6.1 r k) → Inv0 tw1 S1 tw6 u := fun u hu =>
    hI.keep (fun r k q => hu r k (fun z => q (by unfold sc6; omega)) (fun z => q (by unfold sc6; omega))) (K1.refl _) ((hu 0 1 (by omega) (by omega)).trans t5) ⟨(hu 0 2 (by omega) (by omega)).trans t6.1, t6.2⟩
  have u0 : ∀ r k, ¬ (r = 0 ∧ k = 0) → (uI S6 0 0 0).1 r k = S6.1 r k := fun r k q => by rw [uI_at, if_neg q]
  cases oT with
  | none =>
    obtain ⟨e6, e1⟩ := hs
    subst e6
    subst e1
    refine ⟨1, 0, ?_, ?_⟩
    · unfold w0_led w1_led
      refine lp_up 0 (fun _ => (0, 0)) rfl (fun i hi => absurd hi (by omega)) (fun K => ?_)
      exact ⟨fun _ => ⟨rfl, fun z => absurd z (by decide)⟩, fun z => (by obtain ⟨t, e⟩ := z; cases e)⟩
    · unfold w6_led
      rintro S rfl
      refine ⟨fun _ => ?_, fun z => (by obtain ⟨t, e⟩ := z; cases e)⟩
      refine lp_up 0 (fun _ => (0, 0)) rfl (fun i hi => absurd hi (by omega)) (fun K => ?_)
      rintro S3 rfl
      refine ⟨rfl, ?_⟩
      unfold w6_thrown
      refine ⟨by rw [uI_at, if_pos ⟨rfl, rfl⟩], fin _ fun r k _ q => ?_⟩
      rw [uI_at, if_neg q, u0 _ _ q]
  | some T =>
    have hok := hs.1
    have hN := hok.1.2.2.1
    obtain ⟨t6', ht6⟩ := hs.2.1.1
    obtain ⟨t1', ht1⟩ := hs.2.2.2.1.1
    have hP : ∀ z z', (z.1 ≤ z.2 ∧ z.2 ≤ 6) → ldS T s n a0 z = .inl z' → (z'.1 ≤ z'.2 ∧ z'.2 ≤ 6) ∧ 6 - z'.2 < 6 - z.2 := by
      intro z z' hz e
      unfold ldS at e
      by_cases c : gN T ≤ z.2
      · rw [if_pos c] at e; cases e
      · rw [if_neg c] at e
        by_cases c2 : riN T s z.2 n 0 = true
        · rw [if_pos c2] at e; cases e; exact ⟨⟨by show z.1 ≤ z.2 + 1; omega, by show z.2 + 1 ≤ 6; omega⟩, by show 6 - (z.2 + 1) < 6 - z.2; omega⟩
        · rw [if_neg c2] at e
          by_cases c3 : iI (z.1 : Nat) = a0
          · rw [if_pos c3] at e; cases e
          · rw [if_neg c3] at e; cases e; exact ⟨⟨by show z.1 + 1 ≤ z.2 + 1; omega, by show z.2 + 1 ≤ 6; omega⟩, by show 6 - (z.2 + 1) < 6 - z.2; omega⟩
    obtain ⟨r, hr⟩ := lp_two (fun z : Nat × Nat => z.1 ≤ z.2 ∧ z.2 ≤ 6) (fun z => 6 - z.2) (ldS T s n a0) hP (0, 0) (by omega)
    refine ⟨match r with | none => 1 | some _ => 0, match r with | none => 0 | some d => iI (d : Nat), ?_, ?_⟩
    · unfold w0_led w1_led
      refine lp_res (P := fun z : Nat × Nat => z.1 ≤ z.2 ∧ z.2 ≤ 6) (fun z : Nat × Nat => ((iI (z.1 : Nat), iI (z.2 : Nat)) : Int32 × Int32)) hr ⟨by omega, by omega⟩ (fun z z' p q => (hP z z' p q).1) (good := fun r' => r' = r) rfl ?_
      intro z K hz hK hg
      show f1_led_4 _ _ tw1 S1 a0 K (iI (z.1 : Nat)) (iI (z.2 : Nat))
      unfold f1_led_4
      unfold ldS at hK hg
      rw [hs.2.2.2.1.2.2.2.2.2.1, iI_leN (by omega) (by omega), hn1]
      refine ⟨fun q => (by rw [ht1] at q; cases q), fun _ => ⟨fun c => ?_, fun c => ?_⟩⟩
      · have := hg none (by rw [if_pos c])
        subst this
        exact ⟨rfl, fun q => absurd (show (1 : Int32) = 0 from q) (by decide)⟩
      · refine s4_isRight (f := 0) hok hs.2.2.2.1 hs.2.2.2.2 (by omega) (by omega) (by omega) ?_
        by_cases c2 : riN T s z.2 n 0 = true
        · rw [c2]
          refine ⟨fun q => absurd q (by decide), fun _ => ?_⟩
          rw [iI_succ]
          exact hK _ (by rw [if_neg c, if_pos c2])
        · have c2' : riN T s z.2 n 0 = false := by simpa using c2
          rw [c2']
          refine ⟨fun _ => ⟨fun c3 => ?_, fun c3 => ?_⟩, fun q => absurd rfl q⟩
          · rw [iI_succ, iI_succ]
            exact hK _ (by rw [if_neg c, if_neg c2, if_neg c3])
          · have := hg (some z.2) (by rw [if_neg c, if_neg c2, if_pos c3])
            subst this
            exact ⟨rfl, fun _ => rfl⟩
    · unfold w6_led
      rintro S rfl
      refine ⟨fun q => (by rw [ht6] at q; cases q), fun _ => s6_works3 fun A hA hw => ?_⟩
      have kA : K6 S6 A := fun r k q => by
        rw [hA r k (fun z => q (by unfold sc6; omega)), u0 r k (fun z => q (by unfold sc6; omega))]
      have hm := kA.T hs.2.1
      have h3 := works_S hok hw (th_K.S hs.2.2.1)
      have e18 : A.1 2 18 = iI n := (hA _ _ (by omega)).trans ((u0 _ _ (by omega)).trans hn6)
      have fA : ∀ r k, r ≠ 3 → ¬ (r = 0 ∧ k = 0) → A.1 r k = S6.1 r k := fun r k q1 q2 => (hA r k q1).trans (u0 r k q2)
      refine lp_res (P := fun z : Nat × Nat => z.1 ≤ z.2 ∧ z.2 ≤ 6) (fun z : Nat × Nat => ((iI (z.1 : Nat), iI (z.2 : Nat)) : Int32 × Int32)) hr ⟨by omega, by omega⟩ (fun z z' p q => (hP z z' p q).1) (good := fun r' => r' = r) rfl ?_
      intro z K hz hK hg
      show f6_led_20b _ tw6 A a0 K (iI (z.1 : Nat)) (iI (z.2 : Nat))
      unfold f6_led_20b
      unfold ldS at hK hg
      rw [hm.2.2.1, iI_leN (by omega) (by omega), e18]
      refine ⟨fun c => ?_, fun c => ?_⟩
      · have := hg none (by rw [if_pos c])
        subst this
        rintro S7 rfl
        refine ⟨rfl, ?_⟩
        unfold w6_thrown
        refine ⟨by rw [uI_at, if_pos ⟨rfl, rfl⟩], fin _ fun r k q1 q2 => ?_⟩
        rw [uI_at, if_neg q2, fA r k q1 q2]
      · refine s6_isRight hok hm h3 (by omega) (by omega) ?_
        by_cases c2 : riN T s z.2 n 0 = true
        · rw [c2]
          refine ⟨fun q => absurd q (by decide), fun _ => ?_⟩
          rw [iI_succ]
          exact hK _ (by rw [if_neg c, if_pos c2])
        · have c2' : riN T s z.2 n 0 = false := by simpa using c2
          rw [c2']
          refine ⟨fun _ => ⟨fun c3 => ?_, fun c3 => ?_⟩, fun q => absurd rfl q⟩
          · rw [iI_succ, iI_succ]
            exact hK _ (by rw [if_neg c, if_neg c2, if_neg c3])
          · have := hg (some z.2) (by rw [if_neg c, if_neg c2, if_pos c3])
            subst this
            refine ⟨rfl, ?_⟩
            unfold w6_thrown
            refine ⟨?_, fin _ fA⟩
            rw [hA 0 0 (by omega), uI_at, if_pos ⟨rfl, rfl⟩]
