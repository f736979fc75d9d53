/-! PURE 35: steps -/
set_option maxRecDepth 100000
theorem ite_le {a b : Int} (h1 : -2147483648 ≤ a) (h2 : a < 2147483648) (h3 : -2147483648 ≤ b) (h4 : b < 2147483648) {x y : Int32} : (if iI a ≤ iI b then x else y) = if a ≤ b then x else y := by
  by_cases c : a ≤ b
  · rw [if_pos c, if_pos ((iI_le h1 h2 h3 h4).mpr c)]
  · rw [if_neg c, if_neg (fun z => c ((iI_le h1 h2 h3 h4).mp z))]
theorem ite_lt {a b : Int} (h1 : -2147483648 ≤ a) (h2 : a < 2147483648) (h3 : -2147483648 ≤ b) (h4 : b < 2147483648) {x y : Int32} : (if iI a < iI b then x else y) = if a < b then x else y := by
  by_cases c : a < b
  · rw [if_pos c, if_pos ((iI_lt h1 h2 h3 h4).mpr c)]
  · rw [if_neg c, if_neg (fun z => c ((iI_lt h1 h2 h3 h4).mp z))]
def stN (H a b : Nat) : Nat := let d := if a ≤ b then b - a else a - b; if d ≤ H - d then d else H - d
theorem e_steps {tw : Option (Nat → Nat)} {S : MS} {tw' : Option TD} {S' : CS} {s : GS} {oT : Option GT} (h : same tw S tw' S' oT s) (x y : Int32) : ∃ r t, Q6 S (fun p => w6_steps p tw S x y) r t ∧ Q1 S' (fun p => w1_steps p tw' S' x y) r t := by
  obtain ⟨r, t, q6, q1⟩ := e_q h (gh oT x && gh oT y) (fun post S1 => w6_apart (fun r10 => w6_good (fun r11 S12 => post r11 S12) S1 r10) tw S1 x y) (fun post S2 => (∃ τ, tw' = some τ) ∧ w7_between (fun r11 => post r11 S2) S2 x y) (fun c => by
    cases oT with
    | none => cases c
    | some T =>
      have c := (Bool.and_eq_true _ _).mp c
      obtain ⟨a, ha, rfl⟩ := inN_true (show inN (gH T) x = true from c.1)
      obtain ⟨b, hb, rfl⟩ := inN_true (show inN (gH T) y = true from c.2)
      have hok := h.1
      have hH := hok.1.2.2.2.2
      have hH2 := hok.1.2.2.2.1
      refine ⟨T, rfl, iI (stN (gH T) a b : Nat), fun post S1 k e0 hT hS hp => ?_, fun post S1 k e0 e1 hT hS hp => ?_⟩
      · unfold w6_apart
        rw [iI_sub, iI_l (by omega) (by omega)]
        refine s6_around (z := (b : Int) - a) hH2 hH hT (by omega) (by omega) ?_
        refine ⟨hT.1, ?_⟩
        have hm : (((b : Int) - a) % gH T) = if a ≤ b then (b : Int) - a else gH T - (a - b) := by
          by_cases q : a ≤ b
          · rw [if_pos q]; exact Int.emod_eq_of_lt (by omega) (by omega)
          · rw [if_neg q, ← Int.add_emod_right, Int.emod_eq_of_lt (by omega) (by omega)]; omega
        rw [hm, hT.2.2.2.1, iI_sub]
        have fin : ∀ v : Int32, v = iI (stN (gH T) a b : Nat) → w6_good (fun r11 S12 => post r11 S12) S1 v := fun v hv => by
          rw [hv]
          exact s6_good fun S3 k3 e4 e5 e6 => hp S3 (k.trans k3) (e4.trans e0) e5 e6
        unfold stN at fin
        by_cases q : a ≤ b
        · rw [if_pos q, iI_le (by omega) (by omega) (by omega) (by omega)]
          refine ⟨fun z => fin _ ?_, fun z => fin _ ?_⟩
          · dsimp only
            rw [if_pos q]
            by_cases q2 : b - a ≤ gH T - (b - a)
            · rw [if_pos q2, show (gH T : Int) - (b - a) = ((b - a : Nat) : Int) by omega]
            · rw [if_neg q2, show (gH T : Int) - (b - a) = ((gH T - (b - a) : Nat) : Int) by omega]
          · dsimp only
            rw [if_pos q, if_pos (by omega), show (b : Int) - a = ((b - a : Nat) : Int) by omega]
        · rw [if_neg q, iI_le (by omega) (by omega) (by omega) (by omega)]
          refine ⟨fun z => fin _ ?_, fun z => fin _ ?_⟩
          · dsimp only
            rw [if_neg q, if_pos (by omega), show (gH T : Int) - (gH T - (a - b)) = ((a - b : Nat) : Int) by omega]
          · dsimp only
            rw [if_neg q]
            by_cases q2 : a - b ≤ gH T - (a - b)
            · rw [if_pos q2, show (gH T : Int) - (a - b) = ((a - b : Nat) : Int) by omega]
            · rw [if_neg q2, show (gH T : Int) - (a - b) = ((gH T - (a - b) : Nat) : Int) by omega]
      · refine ⟨hT.1, ?_⟩
        unfold w7_between
        have e9 : (if 0 ≤ (iI (a : Nat) : Int32) - iI (b : Nat) then (iI (a : Nat) : Int32) - iI (b : Nat) else 0 - (iI (a : Nat) - iI (b : Nat))) = iI ((if a ≤ b then b - a else a - b : Nat) : Int) := by
          rw [iI_sub, show (0 : Int32) = iI 0 from rfl, ite_le (by omega) (by omega) (by omega) (by omega), iI_sub]
          by_cases q : a ≤ b
          · rw [if_pos q]
            by_cases q2 : (0 : Int) ≤ (a : Int) - b
            · rw [if_pos q2]; congr 1; omega
            · rw [if_neg q2]; congr 1; omega
          · rw [if_neg q, if_pos (by omega)]; congr 1; omega
        rw [e9, hT.2.2.2.2.2.2.1, iI_sub]
        have fin : ∀ v : Int32, v = iI (stN (gH T) a b : Nat) → post v S1 := fun v hv => by rw [hv]; exact hp S1 k e0 e1
        refine fin _ ?_
        unfold stN
        have hd : (if a ≤ b then b - a else a - b : Nat) < gH T := by by_cases q : a ≤ b <;> simp [q] <;> omega
        generalize (if a ≤ b then b - a else a - b : Nat) = d at hd
        dsimp only
        rw [ite_lt (by omega) (by omega) (by omega) (by omega)]
        by_cases q : d ≤ gH T - d
        · rw [if_neg (by omega), if_pos q]
        · rw [if_pos (by omega), if_neg q]; congr 1; omega)
  refine ⟨r, t, q6.mono fun post w => ?_, q1.mono fun post w => ?_⟩
  · have w := w (kU.m h.l)
    unfold w6_steps
    rintro S1 rfl
    refine g6_house (kU.m h.l) ⟨fun c => w.2 (by rw [yb c]; rfl), fun c => g6_house (kU.m h.l) ⟨fun c2 => w.2 (by rw [yb c2]; simp), fun c2 => w.1 (by rw [nb c, nb c2]; rfl)⟩⟩
  · have w := w (kA.m h.r)
    unfold w1_steps w1_anew
    rintro S1 rfl S2 rfl
    refine g1_house (kA.m h.r) ⟨fun c => w.2 (by rw [yb c]; rfl), fun c => g1_house (kA.m h.r) ⟨fun c2 => w.2 (by rw [yb c2]; simp), fun c2 => w.1 (by rw [nb c, nb c2]; rfl)⟩⟩
theorem o_steps (a0 a1 : Int32) : Ob_steps Inv0 a0 a1 := ob_of fun _ _ _ _ _ _ h => e_steps h a0 a1
