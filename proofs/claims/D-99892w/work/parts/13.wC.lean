set_option maxRecDepth 100000
/-! THE COMPONENT'S WORLD -/
abbrev CS : Type := MS × (Nat → Option Nat) × (Nat → Nat)
/-- of a town: addresses, names' addresses, how many people, how many dead, their laws -/
abbrev TD : Type := (Nat → Nat) × (Nat → Nat) × Nat × Nat × (Nat → Nat)
def sA (S : CS) (r : Nat) (f : Nat → Int32) : CS := ((fun a => if a = r then f else S.1.1 a, S.1.2), S.2)
def sI (S : CS) (r k : Nat) (v : Int32) : CS := sA S r (upd (S.1.1 r) k v)
def sL (S : CS) (r k : Nat) (v : Int64) : CS := (uL S.1 r k v, S.2)
def sT (S : CS) (r : Nat) (v : Option Nat) : CS := (S.1, fun j => if j = r then v else S.2.1 j, S.2.2)
def sU (S : CS) (k v : Nat) : CS := (S.1, S.2.1, fun j => if j = k then v else S.2.2 j)
/-- the street r is of the town that there is -/
def stT (tw : Option TD) (S : CS) (r : Nat) : Prop := ∃ τ, tw = some τ ∧ S.2.1 r = some (τ.1 0)
theorem sA_ne {S : CS} {r a : Nat} {f : Nat → Int32} (h : a ≠ r) : (sA S r f).1.1 a = S.1.1 a := by simp [sA, h]
theorem sA_eq {S : CS} {r : Nat} {f : Nat → Int32} : (sA S r f).1.1 r = f := by simp [sA]
theorem map_set {α : Type} (f f' : Nat → α) (n i : Nat) (x : α) (hx : f' i = x) (hne : ∀ j, j < n → j ≠ i → f' j = f j) : ((List.range n).map f).set i x = (List.range n).map f' := by
  apply List.ext_getElem?
  intro k
  by_cases hk : k < n
  · by_cases e : k = i
    · subst e
      simp [hk, hx]
    · rw [List.getElem?_set_ne (fun q => e q.symm)]
      simp [hk, hne k hk e]
  · by_cases e : k = i
    · subst e
      simp [hk]
    · rw [List.getElem?_set_ne (fun q => e q.symm)]
      simp [hk]

def obO (ad : Nat → Nat) (tw : Option TD) (S : CS) : List Value := [.ref (ad 1), .int (S.1.1 0 1), .ref (ad 14), va_rf (tw.map fun τ => τ.1 0), .int (S.1.1 0 4), .int (S.1.1 0 5), .int (S.1.1 0 6), .int (S.1.1 0 7), .int (S.1.1 0 8), .ref (ad 20), .ref (ad 24), .ref (ad 28), .ref (ad 4), .ref (ad 2), .ref (ad 3), .ref (ad 10), .ref (ad 11), .int (S.1.1 0 17), .ref (ad 12), .ref (ad 13), .int (S.1.1 0 20), .int (S.1.1 0 21), .int (S.1.1 0 22), .int (S.1.1 0 23), .int (S.1.1 0 24), .long (S.1.2 0 25), .long (S.1.2 0 26), .long (S.1.2 0 27), .int (S.1.1 0 28), .int (S.1.1 0 29)]
def obW (ad : Nat → Nat) (S : CS) : List Value := [.ref (ad 5), .ref (ad 6), .ref (ad 7), .ref (ad 8), .ref (ad 9), .int (S.1.1 4 5), .int (S.1.1 4 6), .int (S.1.1 4 7)]
def obS (ad : Nat → Nat) (sc : Option Nat × Option Nat × (Nat → Value)) (S : CS) : List Value := [.ref (ad 15), .ref (ad 1), .ref (ad 16), .int (S.1.1 14 3), .int (S.1.1 14 4), .int (S.1.1 14 5), .int (S.1.1 14 6), .int (S.1.1 14 7), va_rf sc.1, va_rf sc.2.1]
def obR (sc : Option Nat × Option Nat × (Nat → Value)) (S : CS) : List Value := [sc.2.2 0, sc.2.2 1, sc.2.2 2, sc.2.2 3, sc.2.2 4, .int (S.1.1 15 5), .int (S.1.1 15 6), .int (S.1.1 15 7)]
def obX (ad : Nat → Nat) (S : CS) (r : Nat) : List Value := [.ref (ad (20 + 4 * r + 1)), .ref (ad (20 + 4 * r + 2)), .ref (ad (20 + 4 * r + 3)), va_rf (S.2.1 r), .int (S.1.1 (300 + 4 * r) 4)]
def obT (τ : TD) (S : CS) : List Value := [.ref (τ.1 1), .ref (τ.1 2), .ref (τ.1 3), .ref (τ.1 4), .ref (τ.1 5), .ref (τ.1 6), .int (S.1.1 50 6), .int (S.1.1 50 7), .int (S.1.1 50 8), .int (S.1.1 50 9), .int (S.1.1 50 10), .int (S.1.1 50 11)]
def obP (τ : TD) (S : CS) (i : Nat) : List Value := [.ref (τ.2.1 (10 + i)), .int (S.1.1 (1000 + 2 * i) 1), .int (S.1.1 (1000 + 2 * i) 2)]
def obG (τ : TD) (S : CS) (d : Nat) : List Value := [.int (S.1.1 (1001 + 2 * d) 0), .int (S.1.1 (1001 + 2 * d) 1), .int (S.1.1 (1001 + 2 * d) 2), .int (S.1.1 (1001 + 2 * d) 3), .ref (τ.2.1 (20 + d)), .int (S.1.1 (1001 + 2 * d) 5)]
def fxC (D : va_G) (ad : Nat → Nat) (sc : Option Nat × Option Nat × (Nat → Value)) (tw : Option TD) (S : CS) : va_W := [(ad 0, .inr (0, obO ad tw S)),
  (ad 1, .inl ((D.1 102), 800, .inl (S.1.1 1))),
  (ad 2, .inl (D.1 106, 16, .inr (.inr (.inr (.inr (fun k => some (ad (20 + 4 * S.2.2 k)))))))),
  (ad 3, .inl (D.1 106, 3, .inr (.inr (.inr (.inr (fun k => some (ad (20 + 4 * (19 + k))))))))),
  (ad 4, .inr (4, obW ad S)),
  (ad 5, .inl ((D.1 100), 29160, .inl (S.1.1 5))),
  (ad 6, .inl ((D.1 100), 29160, .inl (S.1.1 6))),
  (ad 7, .inl ((D.1 100), 6, .inl (S.1.1 7))),
  (ad 8, .inl ((D.1 100), 6, .inl (S.1.1 8))),
  (ad 9, .inl ((D.1 100), 6, .inl (S.1.1 9))),
  (ad 10, .inl ((D.1 100), 6, .inl (S.1.1 10))),
  (ad 11, .inl ((D.1 100), 6, .inl (S.1.1 11))),
  (ad 12, .inl ((D.1 100), 7, .inl (S.1.1 12))),
  (ad 13, .inl ((D.1 100), 4, .inl (S.1.1 13))),
  (ad 14, .inr (1, obS ad sc S)),
  (ad 15, .inr (2, obR sc S)),
  (ad 16, .inl ((D.1 103), 8, .inl (S.1.1 16)))]
def stE (D : va_G) (ad : Nat → Nat) (S : CS) (j : Nat) : va_E := if j % 4 = 0 then .inr (3, obX ad S (j / 4)) else .inl (D.1 100, 6, .inl (S.1.1 (300 + j)))
def stC (D : va_G) (ad : Nat → Nat) (S : CS) : va_W := (List.range 88).map (fun j => (ad (20 + j), stE D ad S j))
def tb7 (D : va_G) (τ : TD) (S : CS) : va_W := [(τ.1 0, .inr (6, obT τ S)), (τ.1 1, .inl (D.1 104, 6, .inr (.inr (.inr (.inr (fun i => if i < τ.2.2.1 then some (τ.1 (10 + i)) else none)))))), (τ.1 2, .inl (D.1 105, 6, .inr (.inr (.inr (.inr (fun i => if i < τ.2.2.2.1 then some (τ.1 (20 + i)) else none)))))), (τ.1 3, .inl (D.1 100, 4, .inl (S.1.1 53))), (τ.1 4, .inl (D.1 100, 8, .inl (S.1.1 54))), (τ.1 5, .inl (D.1 100, 8, .inl (S.1.1 55))), (τ.1 6, .inl (D.1 100, 8, .inl (S.1.1 56)))]
def tbP (τ : TD) (S : CS) : va_W := (List.range τ.2.2.1).map (fun i => (τ.1 (10 + i), .inr (7, obP τ S i)))
def tbG (τ : TD) (S : CS) : va_W := (List.range τ.2.2.2.1).map (fun d => (τ.1 (20 + d), .inr (8 + τ.2.2.2.2 d, obG τ S d)))
def tbC (D : va_G) (tw : Option TD) (S : CS) : va_W := match tw with
  | none => []
  | some τ => tb7 D τ S ++ (tbP τ S ++ tbG τ S)
def wC (D : va_G) (ad : Nat → Nat) (sc : Option Nat × Option Nat × (Nat → Value)) (tw : Option TD) (S : CS) : va_W := fxC D ad sc tw S ++ (stC D ad S ++ tbC D tw S)
section CROWS
variable {p : Program} {l : Launch} {e : Env} {R : Room} {s : State} {m : MethodId} {args : Array Value} {below : List Frame} {meth : Method} {c : Code} {H : Heap} {locs : List Loc} {cells slots : Nat} {Q : State → Prop} {cc : ByteArray} {nL pc : Nat} {ret0 : Option FieldType} {D : va_G} {Z : State → Prop} {Hb : Heap} {A : Nat → Prop} {ls : Array Slot} {rest : List Value} {ad : Nat → Nat} {sc : Option Nat × Option Nat × (Nat → Value)} {tw : Option TD} {τ : TD} {S : CS} {own : String} {r : Nat}
theorem st_len : (stC D ad S).length = 88 := by simp [stC]
theorem fx_len : (fxC D ad sc tw S).length = 17 := rfl
theorem wC_f {j : Nat} {x : Nat × va_E} (hj : j < 17) (h : (fxC D ad sc tw S)[j]? = some x) : (wC D ad sc tw S)[j]? = some x := by
  unfold wC
  rw [List.getElem?_append_left (by rw [fx_len]; exact hj)]
  exact h
theorem wC_s {j : Nat} (hj : j < 88) : (wC D ad sc tw S)[17 + j]? = some (ad (20 + j), stE D ad S j) := by
  unfold wC
  rw [List.getElem?_append_right (by rw [fx_len]; omega), fx_len, List.getElem?_append_left (by rw [st_len]; omega)]
  rw [show 17 + j - 17 = j by omega]
  simp [stC, hj]
theorem wC_so (hr : r < 22) : (wC D ad sc tw S)[17 + 4 * r]? = some (ad (20 + 4 * r), .inr (3, obX ad S r)) := by
  rw [wC_s (by omega)]
  simp [stE]
theorem wC_sa (i : Nat) (h0 : 0 < i) (hi : i < 4) (hr : r < 22) : (wC D ad sc tw S)[17 + 4 * r + i]? = some (ad (20 + 4 * r + i), .inl (D.1 100, 6, .inl (S.1.1 (300 + 4 * r + i)))) := by
  rw [Nat.add_assoc, wC_s (by omega), stE, if_neg (by omega), Nat.add_assoc, Nat.add_assoc]
theorem wC_t {j : Nat} {x : Nat × va_E} (hj : j < 7) (h : (tb7 D τ S)[j]? = some x) : (wC D ad sc (some τ) S)[105 + j]? = some x := by
  unfold wC
  rw [List.getElem?_append_right (by rw [fx_len]; omega), fx_len, List.getElem?_append_right (by rw [st_len]; omega), st_len]
  rw [show 105 + j - 17 - 88 = j by omega]
  show (tb7 D τ S ++ (tbP τ S ++ tbG τ S))[j]? = some x
  rw [List.getElem?_append_left (by show j < 7; exact hj)]
  exact h
theorem wC_p {i : Nat} (hi : i < τ.2.2.1) : (wC D ad sc (some τ) S)[112 + i]? = some (τ.1 (10 + i), .inr (7, obP τ S i)) := by
  unfold wC
  rw [List.getElem?_append_right (by rw [fx_len]; omega), fx_len, List.getElem?_append_right (by rw [st_len]; omega), st_len]
  show (tb7 D τ S ++ (tbP τ S ++ tbG τ S))[112 + i - 17 - 88]? = _
  rw [List.getElem?_append_right (by show 7 ≤ _; omega), show 112 + i - 17 - 88 - (tb7 D τ S).length = i by show 112 + i - 17 - 88 - 7 = i; omega, List.getElem?_append_left (by simp [tbP]; exact hi)]
  simp [tbP, hi]
theorem wC_g {i : Nat} (hi : i < τ.2.2.2.1) : (wC D ad sc (some τ) S)[112 + τ.2.2.1 + i]? = some (τ.1 (20 + i), .inr (8 + τ.2.2.2.2 i, obG τ S i)) := by
  unfold wC
  rw [List.getElem?_append_right (by rw [fx_len]; omega), fx_len, List.getElem?_append_right (by rw [st_len]; omega), st_len]
  show (tb7 D τ S ++ (tbP τ S ++ tbG τ S))[112 + τ.2.2.1 + i - 17 - 88]? = _
  rw [List.getElem?_append_right (by show 7 ≤ _; omega), show 112 + τ.2.2.1 + i - 17 - 88 - (tb7 D τ S).length = τ.2.2.1 + i by show 112 + τ.2.2.1 + i - 17 - 88 - 7 = τ.2.2.1 + i; omega, List.getElem?_append_right (by simp [tbP])]
  simp [tbP, tbG, hi]
theorem st_congr {S' : CS} (h : ∀ a, 300 ≤ a → a < 400 → S'.1.1 a = S.1.1 a) (h2 : S'.2.1 = S.2.1) : stC D ad S' = stC D ad S := by
  unfold stC
  apply List.map_congr_left
  intro j hj
  have hj : j < 88 := List.mem_range.mp hj
  have e : stE D ad S' j = stE D ad S j := by
    unfold stE
    rw [h (300 + j) (by omega) (by omega)]
    by_cases q : j % 4 = 0
    · rw [if_pos q, if_pos q]
      unfold obX
      rw [h (300 + 4 * (j / 4)) (by omega) (by omega), h2]
    · rw [if_neg q, if_neg q]
  rw [e]
theorem tb_congr {S' : CS} (h : ∀ a, (50 ≤ a ∧ a < 60) ∨ 1000 ≤ a → S'.1.1 a = S.1.1 a) : tbC D tw S' = tbC D tw S := by
  cases tw with
  | none => rfl
  | some τ =>
    show tb7 D τ S' ++ (tbP τ S' ++ tbG τ S') = tb7 D τ S ++ (tbP τ S ++ tbG τ S)
    have e1 : tb7 D τ S' = tb7 D τ S := by
      unfold tb7 obT
      rw [h 50 (by omega), h 53 (by omega), h 54 (by omega), h 55 (by omega), h 56 (by omega)]
    have e2 : tbP τ S' = tbP τ S := by
      unfold tbP obP
      apply List.map_congr_left
      intro j _
      rw [h (1000 + 2 * j) (by omega)]
    have e3 : tbG τ S' = tbG τ S := by
      unfold tbG obG
      apply List.map_congr_left
      intro j _
      rw [h (1001 + 2 * j) (by omega)]
    rw [e1, e2, e3]
/-- a change of one of the first cells -/
theorem wC_setF {S' : CS} {j : Nat} {x : Nat × va_E} (hj : j < 17) (h : (fxC D ad sc tw S).set j x = fxC D ad sc tw S') (h1 : ∀ a, 50 ≤ a → S'.1.1 a = S.1.1 a) (h2 : S'.2.1 = S.2.1) : (wC D ad sc tw S).set j x = wC D ad sc tw S' := by
  unfold wC
  rw [List.set_append_left _ _ (by rw [fx_len]; exact hj), h, st_congr (S := S) (S' := S') (fun a h0 _ => h1 a (by omega)) h2, tb_congr (S := S) (S' := S') (fun a h0 => h1 a (by omega))]
theorem fx_congr {S' : CS} (h : ∀ a, a < 50 → S'.1.1 a = S.1.1 a) (h1 : S'.1.2 = S.1.2) (h2 : S'.2.2 = S.2.2) : fxC D ad sc tw S' = fxC D ad sc tw S := by
  unfold fxC obO obW obS obR
  rw [h 0 (by omega), h 1 (by omega), h 4 (by omega), h 5 (by omega), h 6 (by omega), h 7 (by omega), h 8 (by omega), h 9 (by omega), h 10 (by omega), h 11 (by omega), h 12 (by omega), h 13 (by omega), h 14 (by omega), h 15 (by omega), h 16 (by omega), h1, h2]
/-- a change of a street's cell -/
theorem wC_setS {S' : CS} {j : Nat} {x : va_E} (hj : j < 88) (h0 : ∀ a, (a < 300 ∨ 400 ≤ a) → S'.1.1 a = S.1.1 a) (h1 : S'.1.2 = S.1.2) (h2 : S'.2.2 = S.2.2) (hx : stE D ad S' j = x) (hne : ∀ i, i < 88 → i ≠ j → stE D ad S' i = stE D ad S i) : (wC D ad sc tw S).set (17 + j) (ad (20 + j), x) = wC D ad sc tw S' := by
  unfold wC
  rw [List.set_append_right _ _ (by rw [fx_len]; omega), fx_len, List.set_append_left _ _ (by rw [st_len]; omega), show 17 + j - 17 = j by omega]
  rw [fx_congr (S := S) (S' := S') (fun a q => h0 a (by omega)) h1 h2, tb_congr (S := S) (S' := S') (fun a q => h0 a (by omega))]
  congr 2
  unfold stC
  exact map_set _ _ 88 j _ (by rw [hx]) (fun i hi hn => by rw [hne i hi hn])
theorem wC_setA {f : Nat → Int32} (i : Nat) (g0 : 0 < i) (gi : i < 4) (hr : r < 22) : (wC D ad sc tw S).set (17 + 4 * r + i) (ad (20 + 4 * r + i), .inl (D.1 100, 6, .inl f)) = wC D ad sc tw (sA S (300 + 4 * r + i) f) := by
  rw [Nat.add_assoc 17, Nat.add_assoc 20]
  refine wC_setS (by omega) (fun a q => sA_ne (by omega)) rfl rfl ?_ (fun k hk hn => ?_)
  · unfold stE
    rw [if_neg (by omega), ← Nat.add_assoc, sA_eq]
  · unfold stE obX
    by_cases q : k % 4 = 0
    · rw [if_pos q, if_pos q, sA_ne (by omega)]
      rfl
    · rw [if_neg q, if_neg q, sA_ne (by omega)]
theorem wC_setN {v : Int32} (hr : r < 22) : (wC D ad sc tw S).set (17 + 4 * r) (ad (20 + 4 * r), .inr (3, (obX ad S r).set 4 (.int v))) = wC D ad sc tw (sI S (300 + 4 * r) 4 v) := by
  refine wC_setS (by omega) (fun a q => sA_ne (by omega)) rfl rfl ?_ (fun k hk hn => ?_)
  · unfold stE
    rw [if_pos (by omega), show 4 * r / 4 = r by omega]
    unfold obX sI
    rw [sA_eq]
    simp [upd, sA]
  · unfold stE obX sI
    by_cases q : k % 4 = 0
    · rw [if_pos q, if_pos q, sA_ne (by omega)]
      rfl
    · rw [if_neg q, if_neg q, sA_ne (by omega)]
theorem wC_setW {v : Option Nat} (hr : r < 22) : (wC D ad sc tw S).set (17 + 4 * r) (ad (20 + 4 * r), .inr (3, (obX ad S r).set 3 (va_rf v))) = wC D ad sc tw (sT S r v) := by
  refine wC_setS (by omega) (fun a q => rfl) rfl rfl ?_ (fun k hk hn => ?_)
  · unfold stE
    rw [if_pos (by omega), show 4 * r / 4 = r by omega]
    simp [obX, sT]
  · unfold stE
    by_cases q : k % 4 = 0
    · rw [if_pos q, if_pos q]
      simp [obX, sT, show k / 4 ≠ r by omega]
    · rw [if_neg q, if_neg q]
      rfl
theorem gO_0 (hC : CX RX1 cc nL ret0 D gCl nwG Z Hb A p s m args meth c) (hP : va_P D gCl (wC D ad sc tw S) H) (hdg : decode cc pc = .ok (.getfield 13, 3)) (kk : W p l e R s m args below meth c H locs cells slots Q (F0 m (pc + 3) ls (.ref (ad 1) :: rest))) : W p l e R s m args below meth c H locs cells slots Q (F0 m pc ls (.ref (ad 0) :: rest)) :=
  va_get (D := D) (ci := 0) (fs := (obO ad tw S)) (v := .ref (ad 1)) (C := RX1) (T := TX1) (N := 30) hC.x hC.b hC.ts in_X1 hC.ow hC.K.1 hP 0 rfl gCl_X1 0 (by decide) (hC.ts _ q324) (fun _ h9 => h9) rfl hdg kk
theorem gO_1 (hC : CX RX1 cc nL ret0 D gCl nwG Z Hb A p s m args meth c) (hP : va_P D gCl (wC D ad sc tw S) H) (hdg : decode cc pc = .ok (.getfield 76, 3)) (kk : W p l e R s m args below meth c H locs cells slots Q (F0 m (pc + 3) ls (.int (S.1.1 0 1) :: rest))) : W p l e R s m args below meth c H locs cells slots Q (F0 m pc ls (.ref (ad 0) :: rest)) :=
  va_get (D := D) (ci := 0) (fs := (obO ad tw S)) (v := .int (S.1.1 0 1)) (C := RX1) (T := TX1) (N := 30) hC.x hC.b hC.ts in_X1 hC.ow hC.K.1 hP 0 rfl gCl_X1 1 (by decide) (hC.ts _ q325) (fun _ h9 => h9) rfl hdg kk
theorem eO_1 {v : Int32} : (wC D ad sc tw S).set 0 (ad 0, .inr (0, (obO ad tw S).set 1 (.int v))) = wC D ad sc tw (sI S 0 1 v) := wC_setF (by omega) rfl (fun a h => sA_ne (by omega)) rfl
theorem pO_1 (hC : CX RX1 cc nL ret0 D gCl nwG Z Hb A p s m args meth c) (hP : va_P D gCl (wC D ad sc tw S) H) (hD : va_D A (wC D ad sc tw S)) (hS : va_S A s.heap H locs) {v : Int32} (hdg : decode cc pc = .ok (.putfield 76, 3)) (kk : ∀ S1 : CS, S1 = sI S 0 1 v → ∀ (H : Heap) (locs : List Loc), va_P D gCl (wC D ad sc tw S1) H → va_D A (wC D ad sc tw S1) → va_S A s.heap H locs → W p l e R s m args below meth c H locs cells slots Q (F0 m (pc + 3) ls (rest))) : W p l e R s m args below meth c H locs cells slots Q (F0 m pc ls (.int v :: .ref (ad 0) :: rest)) := by
  refine va_put (D := D) (ci := 0) (fs := (obO ad tw S)) (v := .int v) (ty := .int) (C := RX1) (T := TX1) (N := 30) hC.x hC.b hC.ts in_X1 tyX1 tyX1_ok nmX1 hC.ow hC.K.1 hP hD hS 0 rfl gCl_X1 1 (by decide) (hC.ts _ q325) (fun _ h9 => h9) rfl (by decide +kernel) rfl rfl (Nat.le_of_ble_eq_true rfl) hdg (fun H1 locs1 hP1 hD1 hS1 => ?_)
  rw [eO_1] at hP1 hD1
  exact kk _ rfl _ _ hP1 hD1 hS1
theorem gO_2 (hC : CX RX1 cc nL ret0 D gCl nwG Z Hb A p s m args meth c) (hP : va_P D gCl (wC D ad sc tw S) H) (hdg : decode cc pc = .ok (.getfield 22, 3)) (kk : W p l e R s m args below meth c H locs cells slots Q (F0 m (pc + 3) ls (.ref (ad 14) :: rest))) : W p l e R s m args below meth c H locs cells slots Q (F0 m pc ls (.ref (ad 0) :: rest)) :=
  va_get (D := D) (ci := 0) (fs := (obO ad tw S)) (v := .ref (ad 14)) (C := RX1) (T := TX1) (N := 30) hC.x hC.b hC.ts in_X1 hC.ow hC.K.1 hP 0 rfl gCl_X1 2 (by decide) (hC.ts _ q326) (fun _ h9 => h9) rfl hdg kk
theorem gO_3 (hC : CX RX1 cc nL ret0 D gCl nwG Z Hb A p s m args meth c) (hP : va_P D gCl (wC D ad sc tw S) H) (hdg : decode cc pc = .ok (.getfield 98, 3)) (kk : W p l e R s m args below meth c H locs cells slots Q (F0 m (pc + 3) ls (va_rf (tw.map fun τ => τ.1 0) :: rest))) : W p l e R s m args below meth c H locs cells slots Q (F0 m pc ls (.ref (ad 0) :: rest)) :=
  va_get (D := D) (ci := 0) (fs := (obO ad tw S)) (v := va_rf (tw.map fun τ => τ.1 0)) (C := RX1) (T := TX1) (N := 30) hC.x hC.b hC.ts in_X1 hC.ow hC.K.1 hP 0 rfl gCl_X1 3 (by decide) (hC.ts _ q327) (fun _ h9 => h9) rfl hdg kk
theorem gO_4 (hC : CX RX1 cc nL ret0 D gCl nwG Z Hb A p s m args meth c) (hP : va_P D gCl (wC D ad sc tw S) H) (hdg : decode cc pc = .ok (.getfield 70, 3)) (kk : W p l e R s m args below meth c H locs cells slots Q (F0 m (pc + 3) ls (.int (S.1.1 0 4) :: rest))) : W p l e R s m args below meth c H locs cells slots Q (F0 m pc ls (.ref (ad 0) :: rest)) :=
  va_get (D := D) (ci := 0) (fs := (obO ad tw S)) (v := .int (S.1.1 0 4)) (C := RX1) (T := TX1) (N := 30) hC.x hC.b hC.ts in_X1 hC.ow hC.K.1 hP 0 rfl gCl_X1 4 (by decide) (hC.ts _ q328) (fun _ h9 => h9) rfl hdg kk
theorem eO_4 {v : Int32} : (wC D ad sc tw S).set 0 (ad 0, .inr (0, (obO ad tw S).set 4 (.int v))) = wC D ad sc tw (sI S 0 4 v) := wC_setF (by omega) rfl (fun a h => sA_ne (by omega)) rfl
theorem pO_4 (hC : CX RX1 cc nL ret0 D gCl nwG Z Hb A p s m args meth c) (hP : va_P D gCl (wC D ad sc tw S) H) (hD : va_D A (wC D ad sc tw S)) (hS : va_S A s.heap H locs) {v : Int32} (hdg : decode cc pc = .ok (.putfield 70, 3)) (kk : ∀ S1 : CS, S1 = sI S 0 4 v → ∀ (H : Heap) (locs : List Loc), va_P D gCl (wC D ad sc tw S1) H → va_D A (wC D ad sc tw S1) → va_S A s.heap H locs → W p l e R s m args below meth c H locs cells slots Q (F0 m (pc + 3) ls (rest))) : W p l e R s m args below meth c H locs cells slots Q (F0 m pc ls (.int v :: .ref (ad 0) :: rest)) := by
  refine va_put (D := D) (ci := 0) (fs := (obO ad tw S)) (v := .int v) (ty := .int) (C := RX1) (T := TX1) (N := 30) hC.x hC.b hC.ts in_X1 tyX1 tyX1_ok nmX1 hC.ow hC.K.1 hP hD hS 0 rfl gCl_X1 4 (by decide) (hC.ts _ q328) (fun _ h9 => h9) rfl (by decide +kernel) rfl rfl (Nat.le_of_ble_eq_true rfl) hdg (fun H1 locs1 hP1 hD1 hS1 => ?_)
  rw [eO_4] at hP1 hD1
  exact kk _ rfl _ _ hP1 hD1 hS1
theorem gO_5 (hC : CX RX1 cc nL ret0 D gCl nwG Z Hb A p s m args meth c) (hP : va_P D gCl (wC D ad sc tw S) H) (hdg : decode cc pc = .ok (.getfield 91, 3)) (kk : W p l e R s m args below meth c H locs cells slots Q (F0 m (pc + 3) ls (.int (S.1.1 0 5) :: rest))) : W p l e R s m args below meth c H locs cells slots Q (F0 m pc ls (.ref (ad 0) :: rest)) :=
  va_get (D := D) (ci := 0) (fs := (obO ad tw S)) (v := .int (S.1.1 0 5)) (C := RX1) (T := TX1) (N := 30) hC.x hC.b hC.ts in_X1 hC.ow hC.K.1 hP 0 rfl gCl_X1 5 (by decide) (hC.ts _ q329) (fun _ h9 => h9) rfl hdg kk
theorem eO_5 {v : Int32} : (wC D ad sc tw S).set 0 (ad 0, .inr (0, (obO ad tw S).set 5 (.int v))) = wC D ad sc tw (sI S 0 5 v) := wC_setF (by omega) rfl (fun a h => sA_ne (by omega)) rfl
theorem pO_5 (hC : CX RX1 cc nL ret0 D gCl nwG Z Hb A p s m args meth c) (hP : va_P D gCl (wC D ad sc tw S) H) (hD : va_D A (wC D ad sc tw S)) (hS : va_S A s.heap H locs) {v : Int32} (hdg : decode cc pc = .ok (.putfield 91, 3)) (kk : ∀ S1 : CS, S1 = sI S 0 5 v → ∀ (H : Heap) (locs : List Loc), va_P D gCl (wC D ad sc tw S1) H → va_D A (wC D ad sc tw S1) → va_S A s.heap H locs → W p l e R s m args below meth c H locs cells slots Q (F0 m (pc + 3) ls (rest))) : W p l e R s m args below meth c H locs cells slots Q (F0 m pc ls (.int v :: .ref (ad 0) :: rest)) := by
  refine va_put (D := D) (ci := 0) (fs := (obO ad tw S)) (v := .int v) (ty := .int) (C := RX1) (T := TX1) (N := 30) hC.x hC.b hC.ts in_X1 tyX1 tyX1_ok nmX1 hC.ow hC.K.1 hP hD hS 0 rfl gCl_X1 5 (by decide) (hC.ts _ q329) (fun _ h9 => h9) rfl (by decide +kernel) rfl rfl (Nat.le_of_ble_eq_true rfl) hdg (fun H1 locs1 hP1 hD1 hS1 => ?_)
  rw [eO_5] at hP1 hD1
  exact kk _ rfl _ _ hP1 hD1 hS1
theorem gO_6 (hC : CX RX1 cc nL ret0 D gCl nwG Z Hb A p s m args meth c) (hP : va_P D gCl (wC D ad sc tw S) H) (hdg : decode cc pc = .ok (.getfield 26, 3)) (kk : W p l e R s m args below meth c H locs cells slots Q (F0 m (pc + 3) ls (.int (S.1.1 0 6) :: rest))) : W p l e R s m args below meth c H locs cells slots Q (F0 m pc ls (.ref (ad 0) :: rest)) :=
  va_get (D := D) (ci := 0) (fs := (obO ad tw S)) (v := .int (S.1.1 0 6)) (C := RX1) (T := TX1) (N := 30) hC.x hC.b hC.ts in_X1 hC.ow hC.K.1 hP 0 rfl gCl_X1 6 (by decide) (hC.ts _ q330) (fun _ h9 => h9) rfl hdg kk
theorem eO_6 {v : Int32} : (wC D ad sc tw S).set 0 (ad 0, .inr (0, (obO ad tw S).set 6 (.int v))) = wC D ad sc tw (sI S 0 6 v) := wC_setF (by omega) rfl (fun a h => sA_ne (by omega)) rfl
theorem pO_6 (hC : CX RX1 cc nL ret0 D gCl nwG Z Hb A p s m args meth c) (hP : va_P D gCl (wC D ad sc tw S) H) (hD : va_D A (wC D ad sc tw S)) (hS : va_S A s.heap H locs) {v : Int32} (hdg : decode cc pc = .ok (.putfield 26, 3)) (kk : ∀ S1 : CS, S1 = sI S 0 6 v → ∀ (H : Heap) (locs : List Loc), va_P D gCl (wC D ad sc tw S1) H → va_D A (wC D ad sc tw S1) → va_S A s.heap H locs → W p l e R s m args below meth c H locs cells slots Q (F0 m (pc + 3) ls (rest))) : W p l e R s m args below meth c H locs cells slots Q (F0 m pc ls (.int v :: .ref (ad 0) :: rest)) := by
  refine va_put (D := D) (ci := 0) (fs := (obO ad tw S)) (v := .int v) (ty := .int) (C := RX1) (T := TX1) (N := 30) hC.x hC.b hC.ts in_X1 tyX1 tyX1_ok nmX1 hC.ow hC.K.1 hP hD hS 0 rfl gCl_X1 6 (by decide) (hC.ts _ q330) (fun _ h9 => h9) rfl (by decide +kernel) rfl rfl (Nat.le_of_ble_eq_true rfl) hdg (fun H1 locs1 hP1 hD1 hS1 => ?_)
  rw [eO_6] at hP1 hD1
  exact kk _ rfl _ _ hP1 hD1 hS1
theorem gO_7 (hC : CX RX1 cc nL ret0 D gCl nwG Z Hb A p s m args meth c) (hP : va_P D gCl (wC D ad sc tw S) H) (hdg : decode cc pc = .ok (.getfield 115, 3)) (kk : W p l e R s m args below meth c H locs cells slots Q (F0 m (pc + 3) ls (.int (S.1.1 0 7) :: rest))) : W p l e R s m args below meth c H locs cells slots Q (F0 m pc ls (.ref (ad 0) :: rest)) :=
  va_get (D := D) (ci := 0) (fs := (obO ad tw S)) (v := .int (S.1.1 0 7)) (C := RX1) (T := TX1) (N := 30) hC.x hC.b hC.ts in_X1 hC.ow hC.K.1 hP 0 rfl gCl_X1 7 (by decide) (hC.ts _ q331) (fun _ h9 => h9) rfl hdg kk
theorem eO_7 {v : Int32} : (wC D ad sc tw S).set 0 (ad 0, .inr (0, (obO ad tw S).set 7 (.int v))) = wC D ad sc tw (sI S 0 7 v) := wC_setF (by omega) rfl (fun a h => sA_ne (by omega)) rfl
theorem pO_7 (hC : CX RX1 cc nL ret0 D gCl nwG Z Hb A p s m args meth c) (hP : va_P D gCl (wC D ad sc tw S) H) (hD : va_D A (wC D ad sc tw S)) (hS : va_S A s.heap H locs) {v : Int32} (hdg : decode cc pc = .ok (.putfield 115, 3)) (kk : ∀ S1 : CS, S1 = sI S 0 7 v → ∀ (H : Heap) (locs : List Loc), va_P D gCl (wC D ad sc tw S1) H → va_D A (wC D ad sc tw S1) → va_S A s.heap H locs → W p l e R s m args below meth c H locs cells slots Q (F0 m (pc + 3) ls (rest))) : W p l e R s m args below meth c H locs cells slots Q (F0 m pc ls (.int v :: .ref (ad 0) :: rest)) := by
  refine va_put (D := D) (ci := 0) (fs := (obO ad tw S)) (v := .int v) (ty := .int) (C := RX1) (T := TX1) (N := 30) hC.x hC.b hC.ts in_X1 tyX1 tyX1_ok nmX1 hC.ow hC.K.1 hP hD hS 0 rfl gCl_X1 7 (by decide) (hC.ts _ q331) (fun _ h9 => h9) rfl (by decide +kernel) rfl rfl (Nat.le_of_ble_eq_true rfl) hdg (fun H1 locs1 hP1 hD1 hS1 => ?_)
  rw [eO_7] at hP1 hD1
  exact kk _ rfl _ _ hP1 hD1 hS1
theorem gO_8 (hC : CX RX1 cc nL ret0 D gCl nwG Z Hb A p s m args meth c) (hP : va_P D gCl (wC D ad sc tw S) H) (hdg : decode cc pc = .ok (.getfield 112, 3)) (kk : W p l e R s m args below meth c H locs cells slots Q (F0 m (pc + 3) ls (.int (S.1.1 0 8) :: rest))) : W p l e R s m args below meth c H locs cells slots Q (F0 m pc ls (.ref (ad 0) :: rest)) :=
  va_get (D := D) (ci := 0) (fs := (obO ad tw S)) (v := .int (S.1.1 0 8)) (C := RX1) (T := TX1) (N := 30) hC.x hC.b hC.ts in_X1 hC.ow hC.K.1 hP 0 rfl gCl_X1 8 (by decide) (hC.ts _ q332) (fun _ h9 => h9) rfl hdg kk
theorem eO_8 {v : Int32} : (wC D ad sc tw S).set 0 (ad 0, .inr (0, (obO ad tw S).set 8 (.int v))) = wC D ad sc tw (sI S 0 8 v) := wC_setF (by omega) rfl (fun a h => sA_ne (by omega)) rfl
theorem pO_8 (hC : CX RX1 cc nL ret0 D gCl nwG Z Hb A p s m args meth c) (hP : va_P D gCl (wC D ad sc tw S) H) (hD : va_D A (wC D ad sc tw S)) (hS : va_S A s.heap H locs) {v : Int32} (hdg : decode cc pc = .ok (.putfield 112, 3)) (kk : ∀ S1 : CS, S1 = sI S 0 8 v → ∀ (H : Heap) (locs : List Loc), va_P D gCl (wC D ad sc tw S1) H → va_D A (wC D ad sc tw S1) → va_S A s.heap H locs → W p l e R s m args below meth c H locs cells slots Q (F0 m (pc + 3) ls (rest))) : W p l e R s m args below meth c H locs cells slots Q (F0 m pc ls (.int v :: .ref (ad 0) :: rest)) := by
  refine va_put (D := D) (ci := 0) (fs := (obO ad tw S)) (v := .int v) (ty := .int) (C := RX1) (T := TX1) (N := 30) hC.x hC.b hC.ts in_X1 tyX1 tyX1_ok nmX1 hC.ow hC.K.1 hP hD hS 0 rfl gCl_X1 8 (by decide) (hC.ts _ q332) (fun _ h9 => h9) rfl (by decide +kernel) rfl rfl (Nat.le_of_ble_eq_true rfl) hdg (fun H1 locs1 hP1 hD1 hS1 => ?_)
  rw [eO_8] at hP1 hD1
  exact kk _ rfl _ _ hP1 hD1 hS1
theorem gO_9 (hC : CX RX1 cc nL ret0 D gCl nwG Z Hb A p s m args meth c) (hP : va_P D gCl (wC D ad sc tw S) H) (hdg : decode cc pc = .ok (.getfield 33, 3)) (kk : W p l e R s m args below meth c H locs cells slots Q (F0 m (pc + 3) ls (.ref (ad 20) :: rest))) : W p l e R s m args below meth c H locs cells slots Q (F0 m pc ls (.ref (ad 0) :: rest)) :=
  va_get (D := D) (ci := 0) (fs := (obO ad tw S)) (v := .ref (ad 20)) (C := RX1) (T := TX1) (N := 30) hC.x hC.b hC.ts in_X1 hC.ow hC.K.1 hP 0 rfl gCl_X1 9 (by decide) (hC.ts _ q333) (fun _ h9 => h9) rfl hdg kk
theorem gO_10 (hC : CX RX1 cc nL ret0 D gCl nwG Z Hb A p s m args meth c) (hP : va_P D gCl (wC D ad sc tw S) H) (hdg : decode cc pc = .ok (.getfield 37, 3)) (kk : W p l e R s m args below meth c H locs cells slots Q (F0 m (pc + 3) ls (.ref (ad 24) :: rest))) : W p l e R s m args below meth c H locs cells slots Q (F0 m pc ls (.ref (ad 0) :: rest)) :=
  va_get (D := D) (ci := 0) (fs := (obO ad tw S)) (v := .ref (ad 24)) (C := RX1) (T := TX1) (N := 30) hC.x hC.b hC.ts in_X1 hC.ow hC.K.1 hP 0 rfl gCl_X1 10 (by decide) (hC.ts _ q334) (fun _ h9 => h9) rfl hdg kk
theorem gO_11 (hC : CX RX1 cc nL ret0 D gCl nwG Z Hb A p s m args meth c) (hP : va_P D gCl (wC D ad sc tw S) H) (hdg : decode cc pc = .ok (.getfield 40, 3)) (kk : W p l e R s m args below meth c H locs cells slots Q (F0 m (pc + 3) ls (.ref (ad 28) :: rest))) : W p l e R s m args below meth c H locs cells slots Q (F0 m pc ls (.ref (ad 0) :: rest)) :=
  va_get (D := D) (ci := 0) (fs := (obO ad tw S)) (v := .ref (ad 28)) (C := RX1) (T := TX1) (N := 30) hC.x hC.b hC.ts in_X1 hC.ow hC.K.1 hP 0 rfl gCl_X1 11 (by decide) (hC.ts _ q335) (fun _ h9 => h9) rfl hdg kk
theorem gO_12 (hC : CX RX1 cc nL ret0 D gCl nwG Z Hb A p s m args meth c) (hP : va_P D gCl (wC D ad sc tw S) H) (hdg : decode cc pc = .ok (.getfield 46, 3)) (kk : W p l e R s m args below meth c H locs cells slots Q (F0 m (pc + 3) ls (.ref (ad 4) :: rest))) : W p l e R s m args below meth c H locs cells slots Q (F0 m pc ls (.ref (ad 0) :: rest)) :=
  va_get (D := D) (ci := 0) (fs := (obO ad tw S)) (v := .ref (ad 4)) (C := RX1) (T := TX1) (N := 30) hC.x hC.b hC.ts in_X1 hC.ow hC.K.1 hP 0 rfl gCl_X1 12 (by decide) (hC.ts _ q336) (fun _ h9 => h9) rfl hdg kk
theorem gO_13 (hC : CX RX1 cc nL ret0 D gCl nwG Z Hb A p s m args meth c) (hP : va_P D gCl (wC D ad sc tw S) H) (hdg : decode cc pc = .ok (.getfield 50, 3)) (kk : W p l e R s m args below meth c H locs cells slots Q (F0 m (pc + 3) ls (.ref (ad 2) :: rest))) : W p l e R s m args below meth c H locs cells slots Q (F0 m pc ls (.ref (ad 0) :: rest)) :=
  va_get (D := D) (ci := 0) (fs := (obO ad tw S)) (v := .ref (ad 2)) (C := RX1) (T := TX1) (N := 30) hC.x hC.b hC.ts in_X1 hC.ow hC.K.1 hP 0 rfl gCl_X1 13 (by decide) (hC.ts _ q337) (fun _ h9 => h9) rfl hdg kk
theorem gO_14 (hC : CX RX1 cc nL ret0 D gCl nwG Z Hb A p s m args meth c) (hP : va_P D gCl (wC D ad sc tw S) H) (hdg : decode cc pc = .ok (.getfield 54, 3)) (kk : W p l e R s m args below meth c H locs cells slots Q (F0 m (pc + 3) ls (.ref (ad 3) :: rest))) : W p l e R s m args below meth c H locs cells slots Q (F0 m pc ls (.ref (ad 0) :: rest)) :=
  va_get (D := D) (ci := 0) (fs := (obO ad tw S)) (v := .ref (ad 3)) (C := RX1) (T := TX1) (N := 30) hC.x hC.b hC.ts in_X1 hC.ow hC.K.1 hP 0 rfl gCl_X1 14 (by decide) (hC.ts _ q338) (fun _ h9 => h9) rfl hdg kk
theorem gO_15 (hC : CX RX1 cc nL ret0 D gCl nwG Z Hb A p s m args meth c) (hP : va_P D gCl (wC D ad sc tw S) H) (hdg : decode cc pc = .ok (.getfield 57, 3)) (kk : W p l e R s m args below meth c H locs cells slots Q (F0 m (pc + 3) ls (.ref (ad 10) :: rest))) : W p l e R s m args below meth c H locs cells slots Q (F0 m pc ls (.ref (ad 0) :: rest)) :=
  va_get (D := D) (ci := 0) (fs := (obO ad tw S)) (v := .ref (ad 10)) (C := RX1) (T := TX1) (N := 30) hC.x hC.b hC.ts in_X1 hC.ow hC.K.1 hP 0 rfl gCl_X1 15 (by decide) (hC.ts _ q339) (fun _ h9 => h9) rfl hdg kk
theorem gO_16 (hC : CX RX1 cc nL ret0 D gCl nwG Z Hb A p s m args meth c) (hP : va_P D gCl (wC D ad sc tw S) H) (hdg : decode cc pc = .ok (.getfield 61, 3)) (kk : W p l e R s m args below meth c H locs cells slots Q (F0 m (pc + 3) ls (.ref (ad 11) :: rest))) : W p l e R s m args below meth c H locs cells slots Q (F0 m pc ls (.ref (ad 0) :: rest)) :=
  va_get (D := D) (ci := 0) (fs := (obO ad tw S)) (v := .ref (ad 11)) (C := RX1) (T := TX1) (N := 30) hC.x hC.b hC.ts in_X1 hC.ow hC.K.1 hP 0 rfl gCl_X1 16 (by decide) (hC.ts _ q340) (fun _ h9 => h9) rfl hdg kk
theorem gO_17 (hC : CX RX1 cc nL ret0 D gCl nwG Z Hb A p s m args meth c) (hP : va_P D gCl (wC D ad sc tw S) H) (hdg : decode cc pc = .ok (.getfield 223, 3)) (kk : W p l e R s m args below meth c H locs cells slots Q (F0 m (pc + 3) ls (.int (S.1.1 0 17) :: rest))) : W p l e R s m args below meth c H locs cells slots Q (F0 m pc ls (.ref (ad 0) :: rest)) :=
  va_get (D := D) (ci := 0) (fs := (obO ad tw S)) (v := .int (S.1.1 0 17)) (C := RX1) (T := TX1) (N := 30) hC.x hC.b hC.ts in_X1 hC.ow hC.K.1 hP 0 rfl gCl_X1 17 (by decide) (hC.ts _ q341) (fun _ h9 => h9) rfl hdg kk
theorem eO_17 {v : Int32} : (wC D ad sc tw S).set 0 (ad 0, .inr (0, (obO ad tw S).set 17 (.int v))) = wC D ad sc tw (sI S 0 17 v) := wC_setF (by omega) rfl (fun a h => sA_ne (by omega)) rfl
theorem pO_17 (hC : CX RX1 cc nL ret0 D gCl nwG Z Hb A p s m args meth c) (hP : va_P D gCl (wC D ad sc tw S) H) (hD : va_D A (wC D ad sc tw S)) (hS : va_S A s.heap H locs) {v : Int32} (hdg : decode cc pc = .ok (.putfield 223, 3)) (kk : ∀ S1 : CS, S1 = sI S 0 17 v → ∀ (H : Heap) (locs : List Loc), va_P D gCl (wC D ad sc tw S1) H → va_D A (wC D ad sc tw S1) → va_S A s.heap H locs → W p l e R s m args below meth c H locs cells slots Q (F0 m (pc + 3) ls (rest))) : W p l e R s m args below meth c H locs cells slots Q (F0 m pc ls (.int v :: .ref (ad 0) :: rest)) := by
  refine va_put (D := D) (ci := 0) (fs := (obO ad tw S)) (v := .int v) (ty := .int) (C := RX1) (T := TX1) (N := 30) hC.x hC.b hC.ts in_X1 tyX1 tyX1_ok nmX1 hC.ow hC.K.1 hP hD hS 0 rfl gCl_X1 17 (by decide) (hC.ts _ q341) (fun _ h9 => h9) rfl (by decide +kernel) rfl rfl (Nat.le_of_ble_eq_true rfl) hdg (fun H1 locs1 hP1 hD1 hS1 => ?_)
  rw [eO_17] at hP1 hD1
  exact kk _ rfl _ _ hP1 hD1 hS1
theorem gO_18 (hC : CX RX1 cc nL ret0 D gCl nwG Z Hb A p s m args meth c) (hP : va_P D gCl (wC D ad sc tw S) H) (hdg : decode cc pc = .ok (.getfield 64, 3)) (kk : W p l e R s m args below meth c H locs cells slots Q (F0 m (pc + 3) ls (.ref (ad 12) :: rest))) : W p l e R s m args below meth c H locs cells slots Q (F0 m pc ls (.ref (ad 0) :: rest)) :=
  va_get (D := D) (ci := 0) (fs := (obO ad tw S)) (v := .ref (ad 12)) (C := RX1) (T := TX1) (N := 30) hC.x hC.b hC.ts in_X1 hC.ow hC.K.1 hP 0 rfl gCl_X1 18 (by decide) (hC.ts _ q342) (fun _ h9 => h9) rfl hdg kk
theorem gO_19 (hC : CX RX1 cc nL ret0 D gCl nwG Z Hb A p s m args meth c) (hP : va_P D gCl (wC D ad sc tw S) H) (hdg : decode cc pc = .ok (.getfield 67, 3)) (kk : W p l e R s m args below meth c H locs cells slots Q (F0 m (pc + 3) ls (.ref (ad 13) :: rest))) : W p l e R s m args below meth c H locs cells slots Q (F0 m pc ls (.ref (ad 0) :: rest)) :=
  va_get (D := D) (ci := 0) (fs := (obO ad tw S)) (v := .ref (ad 13)) (C := RX1) (T := TX1) (N := 30) hC.x hC.b hC.ts in_X1 hC.ow hC.K.1 hP 0 rfl gCl_X1 19 (by decide) (hC.ts _ q343) (fun _ h9 => h9) rfl hdg kk
theorem gO_20 (hC : CX RX1 cc nL ret0 D gCl nwG Z Hb A p s m args meth c) (hP : va_P D gCl (wC D ad sc tw S) H) (hdg : decode cc pc = .ok (.getfield 285, 3)) (kk : W p l e R s m args below meth c H locs cells slots Q (F0 m (pc + 3) ls (.int (S.1.1 0 20) :: rest))) : W p l e R s m args below meth c H locs cells slots Q (F0 m pc ls (.ref (ad 0) :: rest)) :=
  va_get (D := D) (ci := 0) (fs := (obO ad tw S)) (v := .int (S.1.1 0 20)) (C := RX1) (T := TX1) (N := 30) hC.x hC.b hC.ts in_X1 hC.ow hC.K.1 hP 0 rfl gCl_X1 20 (by decide) (hC.ts _ q344) (fun _ h9 => h9) rfl hdg kk
theorem eO_20 {v : Int32} : (wC D ad sc tw S).set 0 (ad 0, .inr (0, (obO ad tw S).set 20 (.int v))) = wC D ad sc tw (sI S 0 20 v) := wC_setF (by omega) rfl (fun a h => sA_ne (by omega)) rfl
theorem pO_20 (hC : CX RX1 cc nL ret0 D gCl nwG Z Hb A p s m args meth c) (hP : va_P D gCl (wC D ad sc tw S) H) (hD : va_D A (wC D ad sc tw S)) (hS : va_S A s.heap H locs) {v : Int32} (hdg : decode cc pc = .ok (.putfield 285, 3)) (kk : ∀ S1 : CS, S1 = sI S 0 20 v → ∀ (H : Heap) (locs : List Loc), va_P D gCl (wC D ad sc tw S1) H → va_D A (wC D ad sc tw S1) → va_S A s.heap H locs → W p l e R s m args below meth c H locs cells slots Q (F0 m (pc + 3) ls (rest))) : W p l e R s m args below meth c H locs cells slots Q (F0 m pc ls (.int v :: .ref (ad 0) :: rest)) := by
  refine va_put (D := D) (ci := 0) (fs := (obO ad tw S)) (v := .int v) (ty := .int) (C := RX1) (T := TX1) (N := 30) hC.x hC.b hC.ts in_X1 tyX1 tyX1_ok nmX1 hC.ow hC.K.1 hP hD hS 0 rfl gCl_X1 20 (by decide) (hC.ts _ q344) (fun _ h9 => h9) rfl (by decide +kernel) rfl rfl (Nat.le_of_ble_eq_true rfl) hdg (fun H1 locs1 hP1 hD1 hS1 => ?_)
  rw [eO_20] at hP1 hD1
  exact kk _ rfl _ _ hP1 hD1 hS1
theorem gO_21 (hC : CX RX1 cc nL ret0 D gCl nwG Z Hb A p s m args meth c) (hP : va_P D gCl (wC D ad sc tw S) H) (hdg : decode cc pc = .ok (.getfield 288, 3)) (kk : W p l e R s m args below meth c H locs cells slots Q (F0 m (pc + 3) ls (.int (S.1.1 0 21) :: rest))) : W p l e R s m args below meth c H locs cells slots Q (F0 m pc ls (.ref (ad 0) :: rest)) :=
  va_get (D := D) (ci := 0) (fs := (obO ad tw S)) (v := .int (S.1.1 0 21)) (C := RX1) (T := TX1) (N := 30) hC.x hC.b hC.ts in_X1 hC.ow hC.K.1 hP 0 rfl gCl_X1 21 (by decide) (hC.ts _ q345) (fun _ h9 => h9) rfl hdg kk
theorem eO_21 {v : Int32} : (wC D ad sc tw S).set 0 (ad 0, .inr (0, (obO ad tw S).set 21 (.int v))) = wC D ad sc tw (sI S 0 21 v) := wC_setF (by omega) rfl (fun a h => sA_ne (by omega)) rfl
theorem pO_21 (hC : CX RX1 cc nL ret0 D gCl nwG Z Hb A p s m args meth c) (hP : va_P D gCl (wC D ad sc tw S) H) (hD : va_D A (wC D ad sc tw S)) (hS : va_S A s.heap H locs) {v : Int32} (hdg : decode cc pc = .ok (.putfield 288, 3)) (kk : ∀ S1 : CS, S1 = sI S 0 21 v → ∀ (H : Heap) (locs : List Loc), va_P D gCl (wC D ad sc tw S1) H → va_D A (wC D ad sc tw S1) → va_S A s.heap H locs → W p l e R s m args below meth c H locs cells slots Q (F0 m (pc + 3) ls (rest))) : W p l e R s m args below meth c H locs cells slots Q (F0 m pc ls (.int v :: .ref (ad 0) :: rest)) := by
  refine va_put (D := D) (ci := 0) (fs := (obO ad tw S)) (v := .int v) (ty := .int) (C := RX1) (T := TX1) (N := 30) hC.x hC.b hC.ts in_X1 tyX1 tyX1_ok nmX1 hC.ow hC.K.1 hP hD hS 0 rfl gCl_X1 21 (by decide) (hC.ts _ q345) (fun _ h9 => h9) rfl (by decide +kernel) rfl rfl (Nat.le_of_ble_eq_true rfl) hdg (fun H1 locs1 hP1 hD1 hS1 => ?_)
  rw [eO_21] at hP1 hD1
  exact kk _ rfl _ _ hP1 hD1 hS1
theorem gO_22 (hC : CX RX1 cc nL ret0 D gCl nwG Z Hb A p s m args meth c) (hP : va_P D gCl (wC D ad sc tw S) H) (hdg : decode cc pc = .ok (.getfield 291, 3)) (kk : W p l e R s m args below meth c H locs cells slots Q (F0 m (pc + 3) ls (.int (S.1.1 0 22) :: rest))) : W p l e R s m args below meth c H locs cells slots Q (F0 m pc ls (.ref (ad 0) :: rest)) :=
  va_get (D := D) (ci := 0) (fs := (obO ad tw S)) (v := .int (S.1.1 0 22)) (C := RX1) (T := TX1) (N := 30) hC.x hC.b hC.ts in_X1 hC.ow hC.K.1 hP 0 rfl gCl_X1 22 (by decide) (hC.ts _ q346) (fun _ h9 => h9) rfl hdg kk
theorem eO_22 {v : Int32} : (wC D ad sc tw S).set 0 (ad 0, .inr (0, (obO ad tw S).set 22 (.int v))) = wC D ad sc tw (sI S 0 22 v) := wC_setF (by omega) rfl (fun a h => sA_ne (by omega)) rfl
theorem pO_22 (hC : CX RX1 cc nL ret0 D gCl nwG Z Hb A p s m args meth c) (hP : va_P D gCl (wC D ad sc tw S) H) (hD : va_D A (wC D ad sc tw S)) (hS : va_S A s.heap H locs) {v : Int32} (hdg : decode cc pc = .ok (.putfield 291, 3)) (kk : ∀ S1 : CS, S1 = sI S 0 22 v → ∀ (H : Heap) (locs : List Loc), va_P D gCl (wC D ad sc tw S1) H → va_D A (wC D ad sc tw S1) → va_S A s.heap H locs → W p l e R s m args below meth c H locs cells slots Q (F0 m (pc + 3) ls (rest))) : W p l e R s m args below meth c H locs cells slots Q (F0 m pc ls (.int v :: .ref (ad 0) :: rest)) := by
  refine va_put (D := D) (ci := 0) (fs := (obO ad tw S)) (v := .int v) (ty := .int) (C := RX1) (T := TX1) (N := 30) hC.x hC.b hC.ts in_X1 tyX1 tyX1_ok nmX1 hC.ow hC.K.1 hP hD hS 0 rfl gCl_X1 22 (by decide) (hC.ts _ q346) (fun _ h9 => h9) rfl (by decide +kernel) rfl rfl (Nat.le_of_ble_eq_true rfl) hdg (fun H1 locs1 hP1 hD1 hS1 => ?_)
  rw [eO_22] at hP1 hD1
  exact kk _ rfl _ _ hP1 hD1 hS1
theorem gO_23 (hC : CX RX1 cc nL ret0 D gCl nwG Z Hb A p s m args meth c) (hP : va_P D gCl (wC D ad sc tw S) H) (hdg : decode cc pc = .ok (.getfield 294, 3)) (kk : W p l e R s m args below meth c H locs cells slots Q (F0 m (pc + 3) ls (.int (S.1.1 0 23) :: rest))) : W p l e R s m args below meth c H locs cells slots Q (F0 m pc ls (.ref (ad 0) :: rest)) :=
  va_get (D := D) (ci := 0) (fs := (obO ad tw S)) (v := .int (S.1.1 0 23)) (C := RX1) (T := TX1) (N := 30) hC.x hC.b hC.ts in_X1 hC.ow hC.K.1 hP 0 rfl gCl_X1 23 (by decide) (hC.ts _ q347) (fun _ h9 => h9) rfl hdg kk
theorem eO_23 {v : Int32} : (wC D ad sc tw S).set 0 (ad 0, .inr (0, (obO ad tw S).set 23 (.int v))) = wC D ad sc tw (sI S 0 23 v) := wC_setF (by omega) rfl (fun a h => sA_ne (by omega)) rfl
theorem pO_23 (hC : CX RX1 cc nL ret0 D gCl nwG Z Hb A p s m args meth c) (hP : va_P D gCl (wC D ad sc tw S) H) (hD : va_D A (wC D ad sc tw S)) (hS : va_S A s.heap H locs) {v : Int32} (hdg : decode cc pc = .ok (.putfield 294, 3)) (kk : ∀ S1 : CS, S1 = sI S 0 23 v → ∀ (H : Heap) (locs : List Loc), va_P D gCl (wC D ad sc tw S1) H → va_D A (wC D ad sc tw S1) → va_S A s.heap H locs → W p l e R s m args below meth c H locs cells slots Q (F0 m (pc + 3) ls (rest))) : W p l e R s m args below meth c H locs cells slots Q (F0 m pc ls (.int v :: .ref (ad 0) :: rest)) := by
  refine va_put (D := D) (ci := 0) (fs := (obO ad tw S)) (v := .int v) (ty := .int) (C := RX1) (T := TX1) (N := 30) hC.x hC.b hC.ts in_X1 tyX1 tyX1_ok nmX1 hC.ow hC.K.1 hP hD hS 0 rfl gCl_X1 23 (by decide) (hC.ts _ q347) (fun _ h9 => h9) rfl (by decide +kernel) rfl rfl (Nat.le_of_ble_eq_true rfl) hdg (fun H1 locs1 hP1 hD1 hS1 => ?_)
  rw [eO_23] at hP1 hD1
  exact kk _ rfl _ _ hP1 hD1 hS1
theorem gO_24 (hC : CX RX1 cc nL ret0 D gCl nwG Z Hb A p s m args meth c) (hP : va_P D gCl (wC D ad sc tw S) H) (hdg : decode cc pc = .ok (.getfield 318, 3)) (kk : W p l e R s m args below meth c H locs cells slots Q (F0 m (pc + 3) ls (.int (S.1.1 0 24) :: rest))) : W p l e R s m args below meth c H locs cells slots Q (F0 m pc ls (.ref (ad 0) :: rest)) :=
  va_get (D := D) (ci := 0) (fs := (obO ad tw S)) (v := .int (S.1.1 0 24)) (C := RX1) (T := TX1) (N := 30) hC.x hC.b hC.ts in_X1 hC.ow hC.K.1 hP 0 rfl gCl_X1 24 (by decide) (hC.ts _ q348) (fun _ h9 => h9) rfl hdg kk
theorem eO_24 {v : Int32} : (wC D ad sc tw S).set 0 (ad 0, .inr (0, (obO ad tw S).set 24 (.int v))) = wC D ad sc tw (sI S 0 24 v) := wC_setF (by omega) rfl (fun a h => sA_ne (by omega)) rfl
theorem pO_24 (hC : CX RX1 cc nL ret0 D gCl nwG Z Hb A p s m args meth c) (hP : va_P D gCl (wC D ad sc tw S) H) (hD : va_D A (wC D ad sc tw S)) (hS : va_S A s.heap H locs) {v : Int32} (hdg : decode cc pc = .ok (.putfield 318, 3)) (kk : ∀ S1 : CS, S1 = sI S 0 24 v → ∀ (H : Heap) (locs : List Loc), va_P D gCl (wC D ad sc tw S1) H → va_D A (wC D ad sc tw S1) → va_S A s.heap H locs → W p l e R s m args below meth c H locs cells slots Q (F0 m (pc + 3) ls (rest))) : W p l e R s m args below meth c H locs cells slots Q (F0 m pc ls (.int v :: .ref (ad 0) :: rest)) := by
  refine va_put (D := D) (ci := 0) (fs := (obO ad tw S)) (v := .int v) (ty := .int) (C := RX1) (T := TX1) (N := 30) hC.x hC.b hC.ts in_X1 tyX1 tyX1_ok nmX1 hC.ow hC.K.1 hP hD hS 0 rfl gCl_X1 24 (by decide) (hC.ts _ q348) (fun _ h9 => h9) rfl (by decide +kernel) rfl rfl (Nat.le_of_ble_eq_true rfl) hdg (fun H1 locs1 hP1 hD1 hS1 => ?_)
  rw [eO_24] at hP1 hD1
  exact kk _ rfl _ _ hP1 hD1 hS1
theorem gO_25 (hC : CX RX1 cc nL ret0 D gCl nwG Z Hb A p s m args meth c) (hP : va_P D gCl (wC D ad sc tw S) H) (hdg : decode cc pc = .ok (.getfield 337, 3)) (kk : W p l e R s m args below meth c H locs cells slots Q (F0 m (pc + 3) ls (.long (S.1.2 0 25) :: rest))) : W p l e R s m args below meth c H locs cells slots Q (F0 m pc ls (.ref (ad 0) :: rest)) :=
  va_get (D := D) (ci := 0) (fs := (obO ad tw S)) (v := .long (S.1.2 0 25)) (C := RX1) (T := TX1) (N := 30) hC.x hC.b hC.ts in_X1 hC.ow hC.K.1 hP 0 rfl gCl_X1 25 (by decide) (hC.ts _ q349) (fun _ h9 => h9) rfl hdg kk
theorem eO_25 {v : Int64} : (wC D ad sc tw S).set 0 (ad 0, .inr (0, (obO ad tw S).set 25 (.long v))) = wC D ad sc tw (sL S 0 25 v) := wC_setF (by omega) rfl (fun a h => rfl) rfl
theorem pO_25 (hC : CX RX1 cc nL ret0 D gCl nwG Z Hb A p s m args meth c) (hP : va_P D gCl (wC D ad sc tw S) H) (hD : va_D A (wC D ad sc tw S)) (hS : va_S A s.heap H locs) {v : Int64} (hdg : decode cc pc = .ok (.putfield 337, 3)) (kk : ∀ S1 : CS, S1 = sL S 0 25 v → ∀ (H : Heap) (locs : List Loc), va_P D gCl (wC D ad sc tw S1) H → va_D A (wC D ad sc tw S1) → va_S A s.heap H locs → W p l e R s m args below meth c H locs cells slots Q (F0 m (pc + 3) ls (rest))) : W p l e R s m args below meth c H locs cells slots Q (F0 m pc ls (.long v :: .ref (ad 0) :: rest)) := by
  refine va_put (D := D) (ci := 0) (fs := (obO ad tw S)) (v := .long v) (ty := .long) (C := RX1) (T := TX1) (N := 30) hC.x hC.b hC.ts in_X1 tyX1 tyX1_ok nmX1 hC.ow hC.K.1 hP hD hS 0 rfl gCl_X1 25 (by decide) (hC.ts _ q349) (fun _ h9 => h9) rfl (by decide +kernel) rfl rfl (Nat.le_of_ble_eq_true rfl) hdg (fun H1 locs1 hP1 hD1 hS1 => ?_)
  rw [eO_25] at hP1 hD1
  exact kk _ rfl _ _ hP1 hD1 hS1
theorem gO_26 (hC : CX RX1 cc nL ret0 D gCl nwG Z Hb A p s m args meth c) (hP : va_P D gCl (wC D ad sc tw S) H) (hdg : decode cc pc = .ok (.getfield 341, 3)) (kk : W p l e R s m args below meth c H locs cells slots Q (F0 m (pc + 3) ls (.long (S.1.2 0 26) :: rest))) : W p l e R s m args below meth c H locs cells slots Q (F0 m pc ls (.ref (ad 0) :: rest)) :=
  va_get (D := D) (ci := 0) (fs := (obO ad tw S)) (v := .long (S.1.2 0 26)) (C := RX1) (T := TX1) (N := 30) hC.x hC.b hC.ts in_X1 hC.ow hC.K.1 hP 0 rfl gCl_X1 26 (by decide) (hC.ts _ q350) (fun _ h9 => h9) rfl hdg kk
theorem eO_26 {v : Int64} : (wC D ad sc tw S).set 0 (ad 0, .inr (0, (obO ad tw S).set 26 (.long v))) = wC D ad sc tw (sL S 0 26 v) := wC_setF (by omega) rfl (fun a h => rfl) rfl
theorem pO_26 (hC : CX RX1 cc nL ret0 D gCl nwG Z Hb A p s m args meth c) (hP : va_P D gCl (wC D ad sc tw S) H) (hD : va_D A (wC D ad sc tw S)) (hS : va_S A s.heap H locs) {v : Int64} (hdg : decode cc pc = .ok (.putfield 341, 3)) (kk : ∀ S1 : CS, S1 = sL S 0 26 v → ∀ (H : Heap) (locs : List Loc), va_P D gCl (wC D ad sc tw S1) H → va_D A (wC D ad sc tw S1) → va_S A s.heap H locs → W p l e R s m args below meth c H locs cells slots Q (F0 m (pc + 3) ls (rest))) : W p l e R s m args below meth c H locs cells slots Q (F0 m pc ls (.long v :: .ref (ad 0) :: rest)) := by
  refine va_put (D := D) (ci := 0) (fs := (obO ad tw S)) (v := .long v) (ty := .long) (C := RX1) (T := TX1) (N := 30) hC.x hC.b hC.ts in_X1 tyX1 tyX1_ok nmX1 hC.ow hC.K.1 hP hD hS 0 rfl gCl_X1 26 (by decide) (hC.ts _ q350) (fun _ h9 => h9) rfl (by decide +kernel) rfl rfl (Nat.le_of_ble_eq_true rfl) hdg (fun H1 locs1 hP1 hD1 hS1 => ?_)
  rw [eO_26] at hP1 hD1
  exact kk _ rfl _ _ hP1 hD1 hS1
theorem gO_27 (hC : CX RX1 cc nL ret0 D gCl nwG Z Hb A p s m args meth c) (hP : va_P D gCl (wC D ad sc tw S) H) (hdg : decode cc pc = .ok (.getfield 344, 3)) (kk : W p l e R s m args below meth c H locs cells slots Q (F0 m (pc + 3) ls (.long (S.1.2 0 27) :: rest))) : W p l e R s m args below meth c H locs cells slots Q (F0 m pc ls (.ref (ad 0) :: rest)) :=
  va_get (D := D) (ci := 0) (fs := (obO ad tw S)) (v := .long (S.1.2 0 27)) (C := RX1) (T := TX1) (N := 30) hC.x hC.b hC.ts in_X1 hC.ow hC.K.1 hP 0 rfl gCl_X1 27 (by decide) (hC.ts _ q351) (fun _ h9 => h9) rfl hdg kk
theorem eO_27 {v : Int64} : (wC D ad sc tw S).set 0 (ad 0, .inr (0, (obO ad tw S).set 27 (.long v))) = wC D ad sc tw (sL S 0 27 v) := wC_setF (by omega) rfl (fun a h => rfl) rfl
theorem pO_27 (hC : CX RX1 cc nL ret0 D gCl nwG Z Hb A p s m args meth c) (hP : va_P D gCl (wC D ad sc tw S) H) (hD : va_D A (wC D ad sc tw S)) (hS : va_S A s.heap H locs) {v : Int64} (hdg : decode cc pc = .ok (.putfield 344, 3)) (kk : ∀ S1 : CS, S1 = sL S 0 27 v → ∀ (H : Heap) (locs : List Loc), va_P D gCl (wC D ad sc tw S1) H → va_D A (wC D ad sc tw S1) → va_S A s.heap H locs → W p l e R s m args below meth c H locs cells slots Q (F0 m (pc + 3) ls (rest))) : W p l e R s m args below meth c H locs cells slots Q (F0 m pc ls (.long v :: .ref (ad 0) :: rest)) := by
  refine va_put (D := D) (ci := 0) (fs := (obO ad tw S)) (v := .long v) (ty := .long) (C := RX1) (T := TX1) (N := 30) hC.x hC.b hC.ts in_X1 tyX1 tyX1_ok nmX1 hC.ow hC.K.1 hP hD hS 0 rfl gCl_X1 27 (by decide) (hC.ts _ q351) (fun _ h9 => h9) rfl (by decide +kernel) rfl rfl (Nat.le_of_ble_eq_true rfl) hdg (fun H1 locs1 hP1 hD1 hS1 => ?_)
  rw [eO_27] at hP1 hD1
  exact kk _ rfl _ _ hP1 hD1 hS1
theorem gO_28 (hC : CX RX1 cc nL ret0 D gCl nwG Z Hb A p s m args meth c) (hP : va_P D gCl (wC D ad sc tw S) H) (hdg : decode cc pc = .ok (.getfield 354, 3)) (kk : W p l e R s m args below meth c H locs cells slots Q (F0 m (pc + 3) ls (.int (S.1.1 0 28) :: rest))) : W p l e R s m args below meth c H locs cells slots Q (F0 m pc ls (.ref (ad 0) :: rest)) :=
  va_get (D := D) (ci := 0) (fs := (obO ad tw S)) (v := .int (S.1.1 0 28)) (C := RX1) (T := TX1) (N := 30) hC.x hC.b hC.ts in_X1 hC.ow hC.K.1 hP 0 rfl gCl_X1 28 (by decide) (hC.ts _ q352) (fun _ h9 => h9) rfl hdg kk
theorem eO_28 {v : Int32} : (wC D ad sc tw S).set 0 (ad 0, .inr (0, (obO ad tw S).set 28 (.int v))) = wC D ad sc tw (sI S 0 28 v) := wC_setF (by omega) rfl (fun a h => sA_ne (by omega)) rfl
theorem pO_28 (hC : CX RX1 cc nL ret0 D gCl nwG Z Hb A p s m args meth c) (hP : va_P D gCl (wC D ad sc tw S) H) (hD : va_D A (wC D ad sc tw S)) (hS : va_S A s.heap H locs) {v : Int32} (hdg : decode cc pc = .ok (.putfield 354, 3)) (kk : ∀ S1 : CS, S1 = sI S 0 28 v → ∀ (H : Heap) (locs : List Loc), va_P D gCl (wC D ad sc tw S1) H → va_D A (wC D ad sc tw S1) → va_S A s.heap H locs → W p l e R s m args below meth c H locs cells slots Q (F0 m (pc + 3) ls (rest))) : W p l e R s m args below meth c H locs cells slots Q (F0 m pc ls (.int v :: .ref (ad 0) :: rest)) := by
  refine va_put (D := D) (ci := 0) (fs := (obO ad tw S)) (v := .int v) (ty := .int) (C := RX1) (T := TX1) (N := 30) hC.x hC.b hC.ts in_X1 tyX1 tyX1_ok nmX1 hC.ow hC.K.1 hP hD hS 0 rfl gCl_X1 28 (by decide) (hC.ts _ q352) (fun _ h9 => h9) rfl (by decide +kernel) rfl rfl (Nat.le_of_ble_eq_true rfl) hdg (fun H1 locs1 hP1 hD1 hS1 => ?_)
  rw [eO_28] at hP1 hD1
  exact kk _ rfl _ _ hP1 hD1 hS1
theorem gO_29 (hC : CX RX1 cc nL ret0 D gCl nwG Z Hb A p s m args meth c) (hP : va_P D gCl (wC D ad sc tw S) H) (hdg : decode cc pc = .ok (.getfield 351, 3)) (kk : W p l e R s m args below meth c H locs cells slots Q (F0 m (pc + 3) ls (.int (S.1.1 0 29) :: rest))) : W p l e R s m args below meth c H locs cells slots Q (F0 m pc ls (.ref (ad 0) :: rest)) :=
  va_get (D := D) (ci := 0) (fs := (obO ad tw S)) (v := .int (S.1.1 0 29)) (C := RX1) (T := TX1) (N := 30) hC.x hC.b hC.ts in_X1 hC.ow hC.K.1 hP 0 rfl gCl_X1 29 (by decide) (hC.ts _ q353) (fun _ h9 => h9) rfl hdg kk
theorem eO_29 {v : Int32} : (wC D ad sc tw S).set 0 (ad 0, .inr (0, (obO ad tw S).set 29 (.int v))) = wC D ad sc tw (sI S 0 29 v) := wC_setF (by omega) rfl (fun a h => sA_ne (by omega)) rfl
theorem pO_29 (hC : CX RX1 cc nL ret0 D gCl nwG Z Hb A p s m args meth c) (hP : va_P D gCl (wC D ad sc tw S) H) (hD : va_D A (wC D ad sc tw S)) (hS : va_S A s.heap H locs) {v : Int32} (hdg : decode cc pc = .ok (.putfield 351, 3)) (kk : ∀ S1 : CS, S1 = sI S 0 29 v → ∀ (H : Heap) (locs : List Loc), va_P D gCl (wC D ad sc tw S1) H → va_D A (wC D ad sc tw S1) → va_S A s.heap H locs → W p l e R s m args below meth c H locs cells slots Q (F0 m (pc + 3) ls (rest))) : W p l e R s m args below meth c H locs cells slots Q (F0 m pc ls (.int v :: .ref (ad 0) :: rest)) := by
  refine va_put (D := D) (ci := 0) (fs := (obO ad tw S)) (v := .int v) (ty := .int) (C := RX1) (T := TX1) (N := 30) hC.x hC.b hC.ts in_X1 tyX1 tyX1_ok nmX1 hC.ow hC.K.1 hP hD hS 0 rfl gCl_X1 29 (by decide) (hC.ts _ q353) (fun _ h9 => h9) rfl (by decide +kernel) rfl rfl (Nat.le_of_ble_eq_true rfl) hdg (fun H1 locs1 hP1 hD1 hS1 => ?_)
  rw [eO_29] at hP1 hD1
  exact kk _ rfl _ _ hP1 hD1 hS1
theorem gW_0 (hC : CX RX5 cc nL ret0 D gCl nwG Z Hb A p s m args meth c) (hP : va_P D gCl (wC D ad sc tw S) H) (hdg : decode cc pc = .ok (.getfield 9, 3)) (kk : W p l e R s m args below meth c H locs cells slots Q (F0 m (pc + 3) ls (.ref (ad 5) :: rest))) : W p l e R s m args below meth c H locs cells slots Q (F0 m pc ls (.ref (ad 4) :: rest)) :=
  va_get (D := D) (ci := 4) (fs := (obW ad S)) (v := .ref (ad 5)) (C := RX5) (T := TX5) (N := 8) hC.x hC.b hC.ts in_X5 hC.ow hC.K.1 hP 4 rfl gCl_X5 0 (by decide) (hC.ts _ q298) (fun _ h9 => h9) rfl hdg kk
theorem gW_1 (hC : CX RX5 cc nL ret0 D gCl nwG Z Hb A p s m args meth c) (hP : va_P D gCl (wC D ad sc tw S) H) (hdg : decode cc pc = .ok (.getfield 15, 3)) (kk : W p l e R s m args below meth c H locs cells slots Q (F0 m (pc + 3) ls (.ref (ad 6) :: rest))) : W p l e R s m args below meth c H locs cells slots Q (F0 m pc ls (.ref (ad 4) :: rest)) :=
  va_get (D := D) (ci := 4) (fs := (obW ad S)) (v := .ref (ad 6)) (C := RX5) (T := TX5) (N := 8) hC.x hC.b hC.ts in_X5 hC.ow hC.K.1 hP 4 rfl gCl_X5 1 (by decide) (hC.ts _ q299) (fun _ h9 => h9) rfl hdg kk
theorem gW_2 (hC : CX RX5 cc nL ret0 D gCl nwG Z Hb A p s m args meth c) (hP : va_P D gCl (wC D ad sc tw S) H) (hdg : decode cc pc = .ok (.getfield 18, 3)) (kk : W p l e R s m args below meth c H locs cells slots Q (F0 m (pc + 3) ls (.ref (ad 7) :: rest))) : W p l e R s m args below meth c H locs cells slots Q (F0 m pc ls (.ref (ad 4) :: rest)) :=
  va_get (D := D) (ci := 4) (fs := (obW ad S)) (v := .ref (ad 7)) (C := RX5) (T := TX5) (N := 8) hC.x hC.b hC.ts in_X5 hC.ow hC.K.1 hP 4 rfl gCl_X5 2 (by decide) (hC.ts _ q300) (fun _ h9 => h9) rfl hdg kk
theorem gW_3 (hC : CX RX5 cc nL ret0 D gCl nwG Z Hb A p s m args meth c) (hP : va_P D gCl (wC D ad sc tw S) H) (hdg : decode cc pc = .ok (.getfield 21, 3)) (kk : W p l e R s m args below meth c H locs cells slots Q (F0 m (pc + 3) ls (.ref (ad 8) :: rest))) : W p l e R s m args below meth c H locs cells slots Q (F0 m pc ls (.ref (ad 4) :: rest)) :=
  va_get (D := D) (ci := 4) (fs := (obW ad S)) (v := .ref (ad 8)) (C := RX5) (T := TX5) (N := 8) hC.x hC.b hC.ts in_X5 hC.ow hC.K.1 hP 4 rfl gCl_X5 3 (by decide) (hC.ts _ q301) (fun _ h9 => h9) rfl hdg kk
theorem gW_4 (hC : CX RX5 cc nL ret0 D gCl nwG Z Hb A p s m args meth c) (hP : va_P D gCl (wC D ad sc tw S) H) (hdg : decode cc pc = .ok (.getfield 24, 3)) (kk : W p l e R s m args below meth c H locs cells slots Q (F0 m (pc + 3) ls (.ref (ad 9) :: rest))) : W p l e R s m args below meth c H locs cells slots Q (F0 m pc ls (.ref (ad 4) :: rest)) :=
  va_get (D := D) (ci := 4) (fs := (obW ad S)) (v := .ref (ad 9)) (C := RX5) (T := TX5) (N := 8) hC.x hC.b hC.ts in_X5 hC.ow hC.K.1 hP 4 rfl gCl_X5 4 (by decide) (hC.ts _ q302) (fun _ h9 => h9) rfl hdg kk
theorem gW_5 (hC : CX RX5 cc nL ret0 D gCl nwG Z Hb A p s m args meth c) (hP : va_P D gCl (wC D ad sc tw S) H) (hdg : decode cc pc = .ok (.getfield 61, 3)) (kk : W p l e R s m args below meth c H locs cells slots Q (F0 m (pc + 3) ls (.int (S.1.1 4 5) :: rest))) : W p l e R s m args below meth c H locs cells slots Q (F0 m pc ls (.ref (ad 4) :: rest)) :=
  va_get (D := D) (ci := 4) (fs := (obW ad S)) (v := .int (S.1.1 4 5)) (C := RX5) (T := TX5) (N := 8) hC.x hC.b hC.ts in_X5 hC.ow hC.K.1 hP 4 rfl gCl_X5 5 (by decide) (hC.ts _ q303) (fun _ h9 => h9) rfl hdg kk
theorem eW_5 {v : Int32} : (wC D ad sc tw S).set 4 (ad 4, .inr (4, (obW ad S).set 5 (.int v))) = wC D ad sc tw (sI S 4 5 v) := wC_setF (by omega) rfl (fun a h => sA_ne (by omega)) rfl
theorem pW_5 (hC : CX RX5 cc nL ret0 D gCl nwG Z Hb A p s m args meth c) (hP : va_P D gCl (wC D ad sc tw S) H) (hD : va_D A (wC D ad sc tw S)) (hS : va_S A s.heap H locs) {v : Int32} (hdg : decode cc pc = .ok (.putfield 61, 3)) (kk : ∀ S1 : CS, S1 = sI S 4 5 v → ∀ (H : Heap) (locs : List Loc), va_P D gCl (wC D ad sc tw S1) H → va_D A (wC D ad sc tw S1) → va_S A s.heap H locs → W p l e R s m args below meth c H locs cells slots Q (F0 m (pc + 3) ls (rest))) : W p l e R s m args below meth c H locs cells slots Q (F0 m pc ls (.int v :: .ref (ad 4) :: rest)) := by
  refine va_put (D := D) (ci := 4) (fs := (obW ad S)) (v := .int v) (ty := .int) (C := RX5) (T := TX5) (N := 8) hC.x hC.b hC.ts in_X5 tyX5 tyX5_ok nmX5 hC.ow hC.K.1 hP hD hS 4 rfl gCl_X5 5 (by decide) (hC.ts _ q303) (fun _ h9 => h9) rfl (by decide +kernel) rfl rfl (Nat.le_of_ble_eq_true rfl) hdg (fun H1 locs1 hP1 hD1 hS1 => ?_)
  rw [eW_5] at hP1 hD1
  exact kk _ rfl _ _ hP1 hD1 hS1
theorem gW_6 (hC : CX RX5 cc nL ret0 D gCl nwG Z Hb A p s m args meth c) (hP : va_P D gCl (wC D ad sc tw S) H) (hdg : decode cc pc = .ok (.getfield 27, 3)) (kk : W p l e R s m args below meth c H locs cells slots Q (F0 m (pc + 3) ls (.int (S.1.1 4 6) :: rest))) : W p l e R s m args below meth c H locs cells slots Q (F0 m pc ls (.ref (ad 4) :: rest)) :=
  va_get (D := D) (ci := 4) (fs := (obW ad S)) (v := .int (S.1.1 4 6)) (C := RX5) (T := TX5) (N := 8) hC.x hC.b hC.ts in_X5 hC.ow hC.K.1 hP 4 rfl gCl_X5 6 (by decide) (hC.ts _ q304) (fun _ h9 => h9) rfl hdg kk
theorem eW_6 {v : Int32} : (wC D ad sc tw S).set 4 (ad 4, .inr (4, (obW ad S).set 6 (.int v))) = wC D ad sc tw (sI S 4 6 v) := wC_setF (by omega) rfl (fun a h => sA_ne (by omega)) rfl
theorem pW_6 (hC : CX RX5 cc nL ret0 D gCl nwG Z Hb A p s m args meth c) (hP : va_P D gCl (wC D ad sc tw S) H) (hD : va_D A (wC D ad sc tw S)) (hS : va_S A s.heap H locs) {v : Int32} (hdg : decode cc pc = .ok (.putfield 27, 3)) (kk : ∀ S1 : CS, S1 = sI S 4 6 v → ∀ (H : Heap) (locs : List Loc), va_P D gCl (wC D ad sc tw S1) H → va_D A (wC D ad sc tw S1) → va_S A s.heap H locs → W p l e R s m args below meth c H locs cells slots Q (F0 m (pc + 3) ls (rest))) : W p l e R s m args below meth c H locs cells slots Q (F0 m pc ls (.int v :: .ref (ad 4) :: rest)) := by
  refine va_put (D := D) (ci := 4) (fs := (obW ad S)) (v := .int v) (ty := .int) (C := RX5) (T := TX5) (N := 8) hC.x hC.b hC.ts in_X5 tyX5 tyX5_ok nmX5 hC.ow hC.K.1 hP hD hS 4 rfl gCl_X5 6 (by decide) (hC.ts _ q304) (fun _ h9 => h9) rfl (by decide +kernel) rfl rfl (Nat.le_of_ble_eq_true rfl) hdg (fun H1 locs1 hP1 hD1 hS1 => ?_)
  rw [eW_6] at hP1 hD1
  exact kk _ rfl _ _ hP1 hD1 hS1
theorem gW_7 (hC : CX RX5 cc nL ret0 D gCl nwG Z Hb A p s m args meth c) (hP : va_P D gCl (wC D ad sc tw S) H) (hdg : decode cc pc = .ok (.getfield 31, 3)) (kk : W p l e R s m args below meth c H locs cells slots Q (F0 m (pc + 3) ls (.int (S.1.1 4 7) :: rest))) : W p l e R s m args below meth c H locs cells slots Q (F0 m pc ls (.ref (ad 4) :: rest)) :=
  va_get (D := D) (ci := 4) (fs := (obW ad S)) (v := .int (S.1.1 4 7)) (C := RX5) (T := TX5) (N := 8) hC.x hC.b hC.ts in_X5 hC.ow hC.K.1 hP 4 rfl gCl_X5 7 (by decide) (hC.ts _ q305) (fun _ h9 => h9) rfl hdg kk
theorem eW_7 {v : Int32} : (wC D ad sc tw S).set 4 (ad 4, .inr (4, (obW ad S).set 7 (.int v))) = wC D ad sc tw (sI S 4 7 v) := wC_setF (by omega) rfl (fun a h => sA_ne (by omega)) rfl
theorem pW_7 (hC : CX RX5 cc nL ret0 D gCl nwG Z Hb A p s m args meth c) (hP : va_P D gCl (wC D ad sc tw S) H) (hD : va_D A (wC D ad sc tw S)) (hS : va_S A s.heap H locs) {v : Int32} (hdg : decode cc pc = .ok (.putfield 31, 3)) (kk : ∀ S1 : CS, S1 = sI S 4 7 v → ∀ (H : Heap) (locs : List Loc), va_P D gCl (wC D ad sc tw S1) H → va_D A (wC D ad sc tw S1) → va_S A s.heap H locs → W p l e R s m args below meth c H locs cells slots Q (F0 m (pc + 3) ls (rest))) : W p l e R s m args below meth c H locs cells slots Q (F0 m pc ls (.int v :: .ref (ad 4) :: rest)) := by
  refine va_put (D := D) (ci := 4) (fs := (obW ad S)) (v := .int v) (ty := .int) (C := RX5) (T := TX5) (N := 8) hC.x hC.b hC.ts in_X5 tyX5 tyX5_ok nmX5 hC.ow hC.K.1 hP hD hS 4 rfl gCl_X5 7 (by decide) (hC.ts _ q305) (fun _ h9 => h9) rfl (by decide +kernel) rfl rfl (Nat.le_of_ble_eq_true rfl) hdg (fun H1 locs1 hP1 hD1 hS1 => ?_)
  rw [eW_7] at hP1 hD1
  exact kk _ rfl _ _ hP1 hD1 hS1
theorem gX1S_0 (hr : r < 22) (hC : CX RX1 cc nL ret0 D gCl nwG Z Hb A p s m args meth c) (hP : va_P D gCl (wC D ad sc tw S) H) (hdg : decode cc pc = .ok (.getfield 137, 3)) (kk : W p l e R s m args below meth c H locs cells slots Q (F0 m (pc + 3) ls (.ref (ad (20 + 4 * r + 1)) :: rest))) : W p l e R s m args below meth c H locs cells slots Q (F0 m pc ls (.ref (ad (20 + 4 * r)) :: rest)) :=
  va_get (D := D) (ci := 3) (fs := (obX ad S r)) (v := .ref (ad (20 + 4 * r + 1))) (C := RX4) (T := TX4) (N := 5) hC.x hC.b hC.ts in_X4 hC.ow hC.K.1 hP (17 + 4 * r) (wC_so hr) gCl_X4 0 (by decide) (hC.ts _ q272) (fun _ h9 => h9) rfl hdg kk
theorem gX1S_1 (hr : r < 22) (hC : CX RX1 cc nL ret0 D gCl nwG Z Hb A p s m args meth c) (hP : va_P D gCl (wC D ad sc tw S) H) (hdg : decode cc pc = .ok (.getfield 169, 3)) (kk : W p l e R s m args below meth c H locs cells slots Q (F0 m (pc + 3) ls (.ref (ad (20 + 4 * r + 2)) :: rest))) : W p l e R s m args below meth c H locs cells slots Q (F0 m pc ls (.ref (ad (20 + 4 * r)) :: rest)) :=
  va_get (D := D) (ci := 3) (fs := (obX ad S r)) (v := .ref (ad (20 + 4 * r + 2))) (C := RX4) (T := TX4) (N := 5) hC.x hC.b hC.ts in_X4 hC.ow hC.K.1 hP (17 + 4 * r) (wC_so hr) gCl_X4 1 (by decide) (hC.ts _ q274) (fun _ h9 => h9) rfl hdg kk
theorem gX1S_2 (hr : r < 22) (hC : CX RX1 cc nL ret0 D gCl nwG Z Hb A p s m args meth c) (hP : va_P D gCl (wC D ad sc tw S) H) (hdg : decode cc pc = .ok (.getfield 163, 3)) (kk : W p l e R s m args below meth c H locs cells slots Q (F0 m (pc + 3) ls (.ref (ad (20 + 4 * r + 3)) :: rest))) : W p l e R s m args below meth c H locs cells slots Q (F0 m pc ls (.ref (ad (20 + 4 * r)) :: rest)) :=
  va_get (D := D) (ci := 3) (fs := (obX ad S r)) (v := .ref (ad (20 + 4 * r + 3))) (C := RX4) (T := TX4) (N := 5) hC.x hC.b hC.ts in_X4 hC.ow hC.K.1 hP (17 + 4 * r) (wC_so hr) gCl_X4 2 (by decide) (hC.ts _ q276) (fun _ h9 => h9) rfl hdg kk
theorem gX1S_4 (hr : r < 22) (hC : CX RX1 cc nL ret0 D gCl nwG Z Hb A p s m args meth c) (hP : va_P D gCl (wC D ad sc tw S) H) (hdg : decode cc pc = .ok (.getfield 143, 3)) (kk : W p l e R s m args below meth c H locs cells slots Q (F0 m (pc + 3) ls (.int (S.1.1 (300 + 4 * r) 4) :: rest))) : W p l e R s m args below meth c H locs cells slots Q (F0 m pc ls (.ref (ad (20 + 4 * r)) :: rest)) :=
  va_get (D := D) (ci := 3) (fs := (obX ad S r)) (v := .int (S.1.1 (300 + 4 * r) 4)) (C := RX4) (T := TX4) (N := 5) hC.x hC.b hC.ts in_X4 hC.ow hC.K.1 hP (17 + 4 * r) (wC_so hr) gCl_X4 4 (by decide) (hC.ts _ q279) (fun _ h9 => h9) rfl hdg kk
theorem pX1S_4 (hr : r < 22) (hC : CX RX1 cc nL ret0 D gCl nwG Z Hb A p s m args meth c) (hP : va_P D gCl (wC D ad sc tw S) H) (hD : va_D A (wC D ad sc tw S)) (hS : va_S A s.heap H locs) {v : Int32} (hdg : decode cc pc = .ok (.putfield 143, 3)) (kk : ∀ S1 : CS, S1 = sI S (300 + 4 * r) 4 v → ∀ (H : Heap) (locs : List Loc), va_P D gCl (wC D ad sc tw S1) H → va_D A (wC D ad sc tw S1) → va_S A s.heap H locs → W p l e R s m args below meth c H locs cells slots Q (F0 m (pc + 3) ls (rest))) : W p l e R s m args below meth c H locs cells slots Q (F0 m pc ls (.int v :: .ref (ad (20 + 4 * r)) :: rest)) := by
  refine va_put (D := D) (ci := 3) (fs := (obX ad S r)) (v := .int v) (ty := .int) (C := RX4) (T := TX4) (N := 5) hC.x hC.b hC.ts in_X4 tyX4 tyX4_ok nmX4 hC.ow hC.K.1 hP hD hS (17 + 4 * r) (wC_so hr) gCl_X4 4 (by decide) (hC.ts _ q279) (fun _ h9 => h9) rfl (by decide +kernel) rfl rfl (Nat.le_of_ble_eq_true rfl) hdg (fun H1 locs1 hP1 hD1 hS1 => ?_)
  rw [wC_setN hr] at hP1 hD1
  exact kk _ rfl _ _ hP1 hD1 hS1
theorem gX4S_0 (hr : r < 22) (hC : CX RX4 cc nL ret0 D gCl nwG Z Hb A p s m args meth c) (hP : va_P D gCl (wC D ad sc tw S) H) (hdg : decode cc pc = .ok (.getfield 9, 3)) (kk : W p l e R s m args below meth c H locs cells slots Q (F0 m (pc + 3) ls (.ref (ad (20 + 4 * r + 1)) :: rest))) : W p l e R s m args below meth c H locs cells slots Q (F0 m pc ls (.ref (ad (20 + 4 * r)) :: rest)) :=
  va_get (D := D) (ci := 3) (fs := (obX ad S r)) (v := .ref (ad (20 + 4 * r + 1))) (C := RX4) (T := TX4) (N := 5) hC.x hC.b hC.ts in_X4 hC.ow hC.K.1 hP (17 + 4 * r) (wC_so hr) gCl_X4 0 (by decide) (hC.ts _ q270) (fun _ h9 => h9) rfl hdg kk
theorem gX4S_1 (hr : r < 22) (hC : CX RX4 cc nL ret0 D gCl nwG Z Hb A p s m args meth c) (hP : va_P D gCl (wC D ad sc tw S) H) (hdg : decode cc pc = .ok (.getfield 15, 3)) (kk : W p l e R s m args below meth c H locs cells slots Q (F0 m (pc + 3) ls (.ref (ad (20 + 4 * r + 2)) :: rest))) : W p l e R s m args below meth c H locs cells slots Q (F0 m pc ls (.ref (ad (20 + 4 * r)) :: rest)) :=
  va_get (D := D) (ci := 3) (fs := (obX ad S r)) (v := .ref (ad (20 + 4 * r + 2))) (C := RX4) (T := TX4) (N := 5) hC.x hC.b hC.ts in_X4 hC.ow hC.K.1 hP (17 + 4 * r) (wC_so hr) gCl_X4 1 (by decide) (hC.ts _ q273) (fun _ h9 => h9) rfl hdg kk
theorem gX4S_2 (hr : r < 22) (hC : CX RX4 cc nL ret0 D gCl nwG Z Hb A p s m args meth c) (hP : va_P D gCl (wC D ad sc tw S) H) (hdg : decode cc pc = .ok (.getfield 18, 3)) (kk : W p l e R s m args below meth c H locs cells slots Q (F0 m (pc + 3) ls (.ref (ad (20 + 4 * r + 3)) :: rest))) : W p l e R s m args below meth c H locs cells slots Q (F0 m pc ls (.ref (ad (20 + 4 * r)) :: rest)) :=
  va_get (D := D) (ci := 3) (fs := (obX ad S r)) (v := .ref (ad (20 + 4 * r + 3))) (C := RX4) (T := TX4) (N := 5) hC.x hC.b hC.ts in_X4 hC.ow hC.K.1 hP (17 + 4 * r) (wC_so hr) gCl_X4 2 (by decide) (hC.ts _ q275) (fun _ h9 => h9) rfl hdg kk
theorem gX4S_3 (hr : r < 22) (hC : CX RX4 cc nL ret0 D gCl nwG Z Hb A p s m args meth c) (hP : va_P D gCl (wC D ad sc tw S) H) (hdg : decode cc pc = .ok (.getfield 21, 3)) (kk : W p l e R s m args below meth c H locs cells slots Q (F0 m (pc + 3) ls (va_rf (S.2.1 r) :: rest))) : W p l e R s m args below meth c H locs cells slots Q (F0 m pc ls (.ref (ad (20 + 4 * r)) :: rest)) :=
  va_get (D := D) (ci := 3) (fs := (obX ad S r)) (v := va_rf (S.2.1 r)) (C := RX4) (T := TX4) (N := 5) hC.x hC.b hC.ts in_X4 hC.ow hC.K.1 hP (17 + 4 * r) (wC_so hr) gCl_X4 3 (by decide) (hC.ts _ q277) (fun _ h9 => h9) rfl hdg kk
theorem pX4S_3 (hr : r < 22) (hC : CX RX4 cc nL ret0 D gCl nwG Z Hb A p s m args meth c) (hP : va_P D gCl (wC D ad sc tw S) H) (hD : va_D A (wC D ad sc tw S)) (hS : va_S A s.heap H locs) {v : Option Nat} (hdg : decode cc pc = .ok (.putfield 21, 3)) (kk : ∀ S1 : CS, S1 = sT S r v → ∀ (H : Heap) (locs : List Loc), va_P D gCl (wC D ad sc tw S1) H → va_D A (wC D ad sc tw S1) → va_S A s.heap H locs → W p l e R s m args below meth c H locs cells slots Q (F0 m (pc + 3) ls (rest))) : W p l e R s m args below meth c H locs cells slots Q (F0 m pc ls (va_rf v :: .ref (ad (20 + 4 * r)) :: rest)) := by
  refine va_put (D := D) (ci := 3) (fs := (obX ad S r)) (v := va_rf v) (ty := (.object "SeanceStreet$Town")) (C := RX4) (T := TX4) (N := 5) hC.x hC.b hC.ts in_X4 tyX4 tyX4_ok nmX4 hC.ow hC.K.1 hP hD hS (17 + 4 * r) (wC_so hr) gCl_X4 3 (by decide) (hC.ts _ q277) (fun _ h9 => h9) rfl (by decide +kernel) (by cases v <;> rfl) (by cases v <;> rfl) (Nat.le_of_ble_eq_true rfl) hdg (fun H1 locs1 hP1 hD1 hS1 => ?_)
  rw [wC_setW hr] at hP1 hD1
  exact kk _ rfl _ _ hP1 hD1 hS1
theorem gX4S_4 (hr : r < 22) (hC : CX RX4 cc nL ret0 D gCl nwG Z Hb A p s m args meth c) (hP : va_P D gCl (wC D ad sc tw S) H) (hdg : decode cc pc = .ok (.getfield 25, 3)) (kk : W p l e R s m args below meth c H locs cells slots Q (F0 m (pc + 3) ls (.int (S.1.1 (300 + 4 * r) 4) :: rest))) : W p l e R s m args below meth c H locs cells slots Q (F0 m pc ls (.ref (ad (20 + 4 * r)) :: rest)) :=
  va_get (D := D) (ci := 3) (fs := (obX ad S r)) (v := .int (S.1.1 (300 + 4 * r) 4)) (C := RX4) (T := TX4) (N := 5) hC.x hC.b hC.ts in_X4 hC.ow hC.K.1 hP (17 + 4 * r) (wC_so hr) gCl_X4 4 (by decide) (hC.ts _ q278) (fun _ h9 => h9) rfl hdg kk
theorem pX4S_4 (hr : r < 22) (hC : CX RX4 cc nL ret0 D gCl nwG Z Hb A p s m args meth c) (hP : va_P D gCl (wC D ad sc tw S) H) (hD : va_D A (wC D ad sc tw S)) (hS : va_S A s.heap H locs) {v : Int32} (hdg : decode cc pc = .ok (.putfield 25, 3)) (kk : ∀ S1 : CS, S1 = sI S (300 + 4 * r) 4 v → ∀ (H : Heap) (locs : List Loc), va_P D gCl (wC D ad sc tw S1) H → va_D A (wC D ad sc tw S1) → va_S A s.heap H locs → W p l e R s m args below meth c H locs cells slots Q (F0 m (pc + 3) ls (rest))) : W p l e R s m args below meth c H locs cells slots Q (F0 m pc ls (.int v :: .ref (ad (20 + 4 * r)) :: rest)) := by
  refine va_put (D := D) (ci := 3) (fs := (obX ad S r)) (v := .int v) (ty := .int) (C := RX4) (T := TX4) (N := 5) hC.x hC.b hC.ts in_X4 tyX4 tyX4_ok nmX4 hC.ow hC.K.1 hP hD hS (17 + 4 * r) (wC_so hr) gCl_X4 4 (by decide) (hC.ts _ q278) (fun _ h9 => h9) rfl (by decide +kernel) rfl rfl (Nat.le_of_ble_eq_true rfl) hdg (fun H1 locs1 hP1 hD1 hS1 => ?_)
  rw [wC_setN hr] at hP1 hD1
  exact kk _ rfl _ _ hP1 hD1 hS1
theorem gX5S_0 (hr : r < 22) (hC : CX RX5 cc nL ret0 D gCl nwG Z Hb A p s m args meth c) (hP : va_P D gCl (wC D ad sc tw S) H) (hdg : decode cc pc = .ok (.getfield 54, 3)) (kk : W p l e R s m args below meth c H locs cells slots Q (F0 m (pc + 3) ls (.ref (ad (20 + 4 * r + 1)) :: rest))) : W p l e R s m args below meth c H locs cells slots Q (F0 m pc ls (.ref (ad (20 + 4 * r)) :: rest)) :=
  va_get (D := D) (ci := 3) (fs := (obX ad S r)) (v := .ref (ad (20 + 4 * r + 1))) (C := RX4) (T := TX4) (N := 5) hC.x hC.b hC.ts in_X4 hC.ow hC.K.1 hP (17 + 4 * r) (wC_so hr) gCl_X4 0 (by decide) (hC.ts _ q271) (fun _ h9 => h9) rfl hdg kk
theorem gX1T_1 (hC : CX RX1 cc nL ret0 D gCl nwG Z Hb A p s m args meth c) (hP : va_P D gCl (wC D ad sc (some τ) S) H) (hdg : decode cc pc = .ok (.getfield 153, 3)) (kk : W p l e R s m args below meth c H locs cells slots Q (F0 m (pc + 3) ls (.ref (τ.1 2) :: rest))) : W p l e R s m args below meth c H locs cells slots Q (F0 m pc ls (.ref (τ.1 0) :: rest)) :=
  va_get (D := D) (ci := 6) (fs := (obT τ S)) (v := .ref (τ.1 2)) (C := RX7) (T := TX7) (N := 12) hC.x hC.b hC.ts in_X7 hC.ow hC.K.1 hP 105 (wC_t (j := 0) (by omega) rfl) gCl_X7 1 (by decide) (hC.ts _ q459) (fun _ h9 => h9) rfl hdg kk
theorem gX1T_2 (hC : CX RX1 cc nL ret0 D gCl nwG Z Hb A p s m args meth c) (hP : va_P D gCl (wC D ad sc (some τ) S) H) (hdg : decode cc pc = .ok (.getfield 267, 3)) (kk : W p l e R s m args below meth c H locs cells slots Q (F0 m (pc + 3) ls (.ref (τ.1 3) :: rest))) : W p l e R s m args below meth c H locs cells slots Q (F0 m pc ls (.ref (τ.1 0) :: rest)) :=
  va_get (D := D) (ci := 6) (fs := (obT τ S)) (v := .ref (τ.1 3)) (C := RX7) (T := TX7) (N := 12) hC.x hC.b hC.ts in_X7 hC.ow hC.K.1 hP 105 (wC_t (j := 0) (by omega) rfl) gCl_X7 2 (by decide) (hC.ts _ q463) (fun _ h9 => h9) rfl hdg kk
theorem gX1T_3 (hC : CX RX1 cc nL ret0 D gCl nwG Z Hb A p s m args meth c) (hP : va_P D gCl (wC D ad sc (some τ) S) H) (hdg : decode cc pc = .ok (.getfield 282, 3)) (kk : W p l e R s m args below meth c H locs cells slots Q (F0 m (pc + 3) ls (.ref (τ.1 4) :: rest))) : W p l e R s m args below meth c H locs cells slots Q (F0 m pc ls (.ref (τ.1 0) :: rest)) :=
  va_get (D := D) (ci := 6) (fs := (obT τ S)) (v := .ref (τ.1 4)) (C := RX7) (T := TX7) (N := 12) hC.x hC.b hC.ts in_X7 hC.ow hC.K.1 hP 105 (wC_t (j := 0) (by omega) rfl) gCl_X7 3 (by decide) (hC.ts _ q466) (fun _ h9 => h9) rfl hdg kk
theorem gX1T_4 (hC : CX RX1 cc nL ret0 D gCl nwG Z Hb A p s m args meth c) (hP : va_P D gCl (wC D ad sc (some τ) S) H) (hdg : decode cc pc = .ok (.getfield 276, 3)) (kk : W p l e R s m args below meth c H locs cells slots Q (F0 m (pc + 3) ls (.ref (τ.1 5) :: rest))) : W p l e R s m args below meth c H locs cells slots Q (F0 m pc ls (.ref (τ.1 0) :: rest)) :=
  va_get (D := D) (ci := 6) (fs := (obT τ S)) (v := .ref (τ.1 5)) (C := RX7) (T := TX7) (N := 12) hC.x hC.b hC.ts in_X7 hC.ow hC.K.1 hP 105 (wC_t (j := 0) (by omega) rfl) gCl_X7 4 (by decide) (hC.ts _ q469) (fun _ h9 => h9) rfl hdg kk
theorem gX1T_5 (hC : CX RX1 cc nL ret0 D gCl nwG Z Hb A p s m args meth c) (hP : va_P D gCl (wC D ad sc (some τ) S) H) (hdg : decode cc pc = .ok (.getfield 279, 3)) (kk : W p l e R s m args below meth c H locs cells slots Q (F0 m (pc + 3) ls (.ref (τ.1 6) :: rest))) : W p l e R s m args below meth c H locs cells slots Q (F0 m pc ls (.ref (τ.1 0) :: rest)) :=
  va_get (D := D) (ci := 6) (fs := (obT τ S)) (v := .ref (τ.1 6)) (C := RX7) (T := TX7) (N := 12) hC.x hC.b hC.ts in_X7 hC.ow hC.K.1 hP 105 (wC_t (j := 0) (by omega) rfl) gCl_X7 5 (by decide) (hC.ts _ q472) (fun _ h9 => h9) rfl hdg kk
theorem gX1T_6 (hC : CX RX1 cc nL ret0 D gCl nwG Z Hb A p s m args meth c) (hP : va_P D gCl (wC D ad sc (some τ) S) H) (hdg : decode cc pc = .ok (.getfield 126, 3)) (kk : W p l e R s m args below meth c H locs cells slots Q (F0 m (pc + 3) ls (.int (S.1.1 50 6) :: rest))) : W p l e R s m args below meth c H locs cells slots Q (F0 m pc ls (.ref (τ.1 0) :: rest)) :=
  va_get (D := D) (ci := 6) (fs := (obT τ S)) (v := .int (S.1.1 50 6)) (C := RX7) (T := TX7) (N := 12) hC.x hC.b hC.ts in_X7 hC.ow hC.K.1 hP 105 (wC_t (j := 0) (by omega) rfl) gCl_X7 6 (by decide) (hC.ts _ q476) (fun _ h9 => h9) rfl hdg kk
theorem gX1T_7 (hC : CX RX1 cc nL ret0 D gCl nwG Z Hb A p s m args meth c) (hP : va_P D gCl (wC D ad sc (some τ) S) H) (hdg : decode cc pc = .ok (.getfield 328, 3)) (kk : W p l e R s m args below meth c H locs cells slots Q (F0 m (pc + 3) ls (.int (S.1.1 50 7) :: rest))) : W p l e R s m args below meth c H locs cells slots Q (F0 m pc ls (.ref (τ.1 0) :: rest)) :=
  va_get (D := D) (ci := 6) (fs := (obT τ S)) (v := .int (S.1.1 50 7)) (C := RX7) (T := TX7) (N := 12) hC.x hC.b hC.ts in_X7 hC.ow hC.K.1 hP 105 (wC_t (j := 0) (by omega) rfl) gCl_X7 7 (by decide) (hC.ts _ q478) (fun _ h9 => h9) rfl hdg kk
theorem gX1T_8 (hC : CX RX1 cc nL ret0 D gCl nwG Z Hb A p s m args meth c) (hP : va_P D gCl (wC D ad sc (some τ) S) H) (hdg : decode cc pc = .ok (.getfield 118, 3)) (kk : W p l e R s m args below meth c H locs cells slots Q (F0 m (pc + 3) ls (.int (S.1.1 50 8) :: rest))) : W p l e R s m args below meth c H locs cells slots Q (F0 m pc ls (.ref (τ.1 0) :: rest)) :=
  va_get (D := D) (ci := 6) (fs := (obT τ S)) (v := .int (S.1.1 50 8)) (C := RX7) (T := TX7) (N := 12) hC.x hC.b hC.ts in_X7 hC.ow hC.K.1 hP 105 (wC_t (j := 0) (by omega) rfl) gCl_X7 8 (by decide) (hC.ts _ q481) (fun _ h9 => h9) rfl hdg kk
theorem gX1T_9 (hC : CX RX1 cc nL ret0 D gCl nwG Z Hb A p s m args meth c) (hP : va_P D gCl (wC D ad sc (some τ) S) H) (hdg : decode cc pc = .ok (.getfield 123, 3)) (kk : W p l e R s m args below meth c H locs cells slots Q (F0 m (pc + 3) ls (.int (S.1.1 50 9) :: rest))) : W p l e R s m args below meth c H locs cells slots Q (F0 m pc ls (.ref (τ.1 0) :: rest)) :=
  va_get (D := D) (ci := 6) (fs := (obT τ S)) (v := .int (S.1.1 50 9)) (C := RX7) (T := TX7) (N := 12) hC.x hC.b hC.ts in_X7 hC.ow hC.K.1 hP 105 (wC_t (j := 0) (by omega) rfl) gCl_X7 9 (by decide) (hC.ts _ q486) (fun _ h9 => h9) rfl hdg kk
theorem gX1T_10 (hC : CX RX1 cc nL ret0 D gCl nwG Z Hb A p s m args meth c) (hP : va_P D gCl (wC D ad sc (some τ) S) H) (hdg : decode cc pc = .ok (.getfield 264, 3)) (kk : W p l e R s m args below meth c H locs cells slots Q (F0 m (pc + 3) ls (.int (S.1.1 50 10) :: rest))) : W p l e R s m args below meth c H locs cells slots Q (F0 m pc ls (.ref (τ.1 0) :: rest)) :=
  va_get (D := D) (ci := 6) (fs := (obT τ S)) (v := .int (S.1.1 50 10)) (C := RX7) (T := TX7) (N := 12) hC.x hC.b hC.ts in_X7 hC.ow hC.K.1 hP 105 (wC_t (j := 0) (by omega) rfl) gCl_X7 10 (by decide) (hC.ts _ q489) (fun _ h9 => h9) rfl hdg kk
theorem gX1T_11 (hC : CX RX1 cc nL ret0 D gCl nwG Z Hb A p s m args meth c) (hP : va_P D gCl (wC D ad sc (some τ) S) H) (hdg : decode cc pc = .ok (.getfield 273, 3)) (kk : W p l e R s m args below meth c H locs cells slots Q (F0 m (pc + 3) ls (.int (S.1.1 50 11) :: rest))) : W p l e R s m args below meth c H locs cells slots Q (F0 m pc ls (.ref (τ.1 0) :: rest)) :=
  va_get (D := D) (ci := 6) (fs := (obT τ S)) (v := .int (S.1.1 50 11)) (C := RX7) (T := TX7) (N := 12) hC.x hC.b hC.ts in_X7 hC.ow hC.K.1 hP 105 (wC_t (j := 0) (by omega) rfl) gCl_X7 11 (by decide) (hC.ts _ q491) (fun _ h9 => h9) rfl hdg kk
theorem gX4T_0 (hC : CX RX4 cc nL ret0 D gCl nwG Z Hb A p s m args meth c) (hP : va_P D gCl (wC D ad sc (some τ) S) H) (hdg : decode cc pc = .ok (.getfield 34, 3)) (kk : W p l e R s m args below meth c H locs cells slots Q (F0 m (pc + 3) ls (.ref (τ.1 1) :: rest))) : W p l e R s m args below meth c H locs cells slots Q (F0 m pc ls (.ref (τ.1 0) :: rest)) :=
  va_get (D := D) (ci := 6) (fs := (obT τ S)) (v := .ref (τ.1 1)) (C := RX7) (T := TX7) (N := 12) hC.x hC.b hC.ts in_X7 hC.ow hC.K.1 hP 105 (wC_t (j := 0) (by omega) rfl) gCl_X7 0 (by decide) (hC.ts _ q454) (fun _ h9 => h9) rfl hdg kk
theorem gX4T_1 (hC : CX RX4 cc nL ret0 D gCl nwG Z Hb A p s m args meth c) (hP : va_P D gCl (wC D ad sc (some τ) S) H) (hdg : decode cc pc = .ok (.getfield 46, 3)) (kk : W p l e R s m args below meth c H locs cells slots Q (F0 m (pc + 3) ls (.ref (τ.1 2) :: rest))) : W p l e R s m args below meth c H locs cells slots Q (F0 m pc ls (.ref (τ.1 0) :: rest)) :=
  va_get (D := D) (ci := 6) (fs := (obT τ S)) (v := .ref (τ.1 2)) (C := RX7) (T := TX7) (N := 12) hC.x hC.b hC.ts in_X7 hC.ow hC.K.1 hP 105 (wC_t (j := 0) (by omega) rfl) gCl_X7 1 (by decide) (hC.ts _ q458) (fun _ h9 => h9) rfl hdg kk
theorem gX4T_6 (hC : CX RX4 cc nL ret0 D gCl nwG Z Hb A p s m args meth c) (hP : va_P D gCl (wC D ad sc (some τ) S) H) (hdg : decode cc pc = .ok (.getfield 67, 3)) (kk : W p l e R s m args below meth c H locs cells slots Q (F0 m (pc + 3) ls (.int (S.1.1 50 6) :: rest))) : W p l e R s m args below meth c H locs cells slots Q (F0 m pc ls (.ref (τ.1 0) :: rest)) :=
  va_get (D := D) (ci := 6) (fs := (obT τ S)) (v := .int (S.1.1 50 6)) (C := RX7) (T := TX7) (N := 12) hC.x hC.b hC.ts in_X7 hC.ow hC.K.1 hP 105 (wC_t (j := 0) (by omega) rfl) gCl_X7 6 (by decide) (hC.ts _ q474) (fun _ h9 => h9) rfl hdg kk
theorem gX4T_8 (hC : CX RX4 cc nL ret0 D gCl nwG Z Hb A p s m args meth c) (hP : va_P D gCl (wC D ad sc (some τ) S) H) (hdg : decode cc pc = .ok (.getfield 29, 3)) (kk : W p l e R s m args below meth c H locs cells slots Q (F0 m (pc + 3) ls (.int (S.1.1 50 8) :: rest))) : W p l e R s m args below meth c H locs cells slots Q (F0 m pc ls (.ref (τ.1 0) :: rest)) :=
  va_get (D := D) (ci := 6) (fs := (obT τ S)) (v := .int (S.1.1 50 8)) (C := RX7) (T := TX7) (N := 12) hC.x hC.b hC.ts in_X7 hC.ow hC.K.1 hP 105 (wC_t (j := 0) (by omega) rfl) gCl_X7 8 (by decide) (hC.ts _ q479) (fun _ h9 => h9) rfl hdg kk
theorem gX4T_9 (hC : CX RX4 cc nL ret0 D gCl nwG Z Hb A p s m args meth c) (hP : va_P D gCl (wC D ad sc (some τ) S) H) (hdg : decode cc pc = .ok (.getfield 43, 3)) (kk : W p l e R s m args below meth c H locs cells slots Q (F0 m (pc + 3) ls (.int (S.1.1 50 9) :: rest))) : W p l e R s m args below meth c H locs cells slots Q (F0 m pc ls (.ref (τ.1 0) :: rest)) :=
  va_get (D := D) (ci := 6) (fs := (obT τ S)) (v := .int (S.1.1 50 9)) (C := RX7) (T := TX7) (N := 12) hC.x hC.b hC.ts in_X7 hC.ow hC.K.1 hP 105 (wC_t (j := 0) (by omega) rfl) gCl_X7 9 (by decide) (hC.ts _ q484) (fun _ h9 => h9) rfl hdg kk
theorem gX5T_1 (hC : CX RX5 cc nL ret0 D gCl nwG Z Hb A p s m args meth c) (hP : va_P D gCl (wC D ad sc (some τ) S) H) (hdg : decode cc pc = .ok (.getfield 45, 3)) (kk : W p l e R s m args below meth c H locs cells slots Q (F0 m (pc + 3) ls (.ref (τ.1 2) :: rest))) : W p l e R s m args below meth c H locs cells slots Q (F0 m pc ls (.ref (τ.1 0) :: rest)) :=
  va_get (D := D) (ci := 6) (fs := (obT τ S)) (v := .ref (τ.1 2)) (C := RX7) (T := TX7) (N := 12) hC.x hC.b hC.ts in_X7 hC.ow hC.K.1 hP 105 (wC_t (j := 0) (by omega) rfl) gCl_X7 1 (by decide) (hC.ts _ q457) (fun _ h9 => h9) rfl hdg kk
theorem gX5T_9 (hC : CX RX5 cc nL ret0 D gCl nwG Z Hb A p s m args meth c) (hP : va_P D gCl (wC D ad sc (some τ) S) H) (hdg : decode cc pc = .ok (.getfield 34, 3)) (kk : W p l e R s m args below meth c H locs cells slots Q (F0 m (pc + 3) ls (.int (S.1.1 50 9) :: rest))) : W p l e R s m args below meth c H locs cells slots Q (F0 m pc ls (.ref (τ.1 0) :: rest)) :=
  va_get (D := D) (ci := 6) (fs := (obT τ S)) (v := .int (S.1.1 50 9)) (C := RX7) (T := TX7) (N := 12) hC.x hC.b hC.ts in_X7 hC.ow hC.K.1 hP 105 (wC_t (j := 0) (by omega) rfl) gCl_X7 9 (by decide) (hC.ts _ q483) (fun _ h9 => h9) rfl hdg kk
theorem gX7T_0 (hC : CX RX7 cc nL ret0 D gCl nwG Z Hb A p s m args meth c) (hP : va_P D gCl (wC D ad sc (some τ) S) H) (hdg : decode cc pc = .ok (.getfield 11, 3)) (kk : W p l e R s m args below meth c H locs cells slots Q (F0 m (pc + 3) ls (.ref (τ.1 1) :: rest))) : W p l e R s m args below meth c H locs cells slots Q (F0 m pc ls (.ref (τ.1 0) :: rest)) :=
  va_get (D := D) (ci := 6) (fs := (obT τ S)) (v := .ref (τ.1 1)) (C := RX7) (T := TX7) (N := 12) hC.x hC.b hC.ts in_X7 hC.ow hC.K.1 hP 105 (wC_t (j := 0) (by omega) rfl) gCl_X7 0 (by decide) (hC.ts _ q453) (fun _ h9 => h9) rfl hdg kk
theorem gX7T_1 (hC : CX RX7 cc nL ret0 D gCl nwG Z Hb A p s m args meth c) (hP : va_P D gCl (wC D ad sc (some τ) S) H) (hdg : decode cc pc = .ok (.getfield 19, 3)) (kk : W p l e R s m args below meth c H locs cells slots Q (F0 m (pc + 3) ls (.ref (τ.1 2) :: rest))) : W p l e R s m args below meth c H locs cells slots Q (F0 m pc ls (.ref (τ.1 0) :: rest)) :=
  va_get (D := D) (ci := 6) (fs := (obT τ S)) (v := .ref (τ.1 2)) (C := RX7) (T := TX7) (N := 12) hC.x hC.b hC.ts in_X7 hC.ow hC.K.1 hP 105 (wC_t (j := 0) (by omega) rfl) gCl_X7 1 (by decide) (hC.ts _ q456) (fun _ h9 => h9) rfl hdg kk
theorem gX7T_2 (hC : CX RX7 cc nL ret0 D gCl nwG Z Hb A p s m args meth c) (hP : va_P D gCl (wC D ad sc (some τ) S) H) (hdg : decode cc pc = .ok (.getfield 23, 3)) (kk : W p l e R s m args below meth c H locs cells slots Q (F0 m (pc + 3) ls (.ref (τ.1 3) :: rest))) : W p l e R s m args below meth c H locs cells slots Q (F0 m pc ls (.ref (τ.1 0) :: rest)) :=
  va_get (D := D) (ci := 6) (fs := (obT τ S)) (v := .ref (τ.1 3)) (C := RX7) (T := TX7) (N := 12) hC.x hC.b hC.ts in_X7 hC.ow hC.K.1 hP 105 (wC_t (j := 0) (by omega) rfl) gCl_X7 2 (by decide) (hC.ts _ q461) (fun _ h9 => h9) rfl hdg kk
theorem gX7T_3 (hC : CX RX7 cc nL ret0 D gCl nwG Z Hb A p s m args meth c) (hP : va_P D gCl (wC D ad sc (some τ) S) H) (hdg : decode cc pc = .ok (.getfield 27, 3)) (kk : W p l e R s m args below meth c H locs cells slots Q (F0 m (pc + 3) ls (.ref (τ.1 4) :: rest))) : W p l e R s m args below meth c H locs cells slots Q (F0 m pc ls (.ref (τ.1 0) :: rest)) :=
  va_get (D := D) (ci := 6) (fs := (obT τ S)) (v := .ref (τ.1 4)) (C := RX7) (T := TX7) (N := 12) hC.x hC.b hC.ts in_X7 hC.ow hC.K.1 hP 105 (wC_t (j := 0) (by omega) rfl) gCl_X7 3 (by decide) (hC.ts _ q464) (fun _ h9 => h9) rfl hdg kk
theorem gX7T_4 (hC : CX RX7 cc nL ret0 D gCl nwG Z Hb A p s m args meth c) (hP : va_P D gCl (wC D ad sc (some τ) S) H) (hdg : decode cc pc = .ok (.getfield 30, 3)) (kk : W p l e R s m args below meth c H locs cells slots Q (F0 m (pc + 3) ls (.ref (τ.1 5) :: rest))) : W p l e R s m args below meth c H locs cells slots Q (F0 m pc ls (.ref (τ.1 0) :: rest)) :=
  va_get (D := D) (ci := 6) (fs := (obT τ S)) (v := .ref (τ.1 5)) (C := RX7) (T := TX7) (N := 12) hC.x hC.b hC.ts in_X7 hC.ow hC.K.1 hP 105 (wC_t (j := 0) (by omega) rfl) gCl_X7 4 (by decide) (hC.ts _ q467) (fun _ h9 => h9) rfl hdg kk
theorem gX7T_5 (hC : CX RX7 cc nL ret0 D gCl nwG Z Hb A p s m args meth c) (hP : va_P D gCl (wC D ad sc (some τ) S) H) (hdg : decode cc pc = .ok (.getfield 33, 3)) (kk : W p l e R s m args below meth c H locs cells slots Q (F0 m (pc + 3) ls (.ref (τ.1 6) :: rest))) : W p l e R s m args below meth c H locs cells slots Q (F0 m pc ls (.ref (τ.1 0) :: rest)) :=
  va_get (D := D) (ci := 6) (fs := (obT τ S)) (v := .ref (τ.1 6)) (C := RX7) (T := TX7) (N := 12) hC.x hC.b hC.ts in_X7 hC.ow hC.K.1 hP 105 (wC_t (j := 0) (by omega) rfl) gCl_X7 5 (by decide) (hC.ts _ q470) (fun _ h9 => h9) rfl hdg kk
theorem gX7T_6 (hC : CX RX7 cc nL ret0 D gCl nwG Z Hb A p s m args meth c) (hP : va_P D gCl (wC D ad sc (some τ) S) H) (hdg : decode cc pc = .ok (.getfield 65, 3)) (kk : W p l e R s m args below meth c H locs cells slots Q (F0 m (pc + 3) ls (.int (S.1.1 50 6) :: rest))) : W p l e R s m args below meth c H locs cells slots Q (F0 m pc ls (.ref (τ.1 0) :: rest)) :=
  va_get (D := D) (ci := 6) (fs := (obT τ S)) (v := .int (S.1.1 50 6)) (C := RX7) (T := TX7) (N := 12) hC.x hC.b hC.ts in_X7 hC.ow hC.K.1 hP 105 (wC_t (j := 0) (by omega) rfl) gCl_X7 6 (by decide) (hC.ts _ q473) (fun _ h9 => h9) rfl hdg kk
theorem gX7T_8 (hC : CX RX7 cc nL ret0 D gCl nwG Z Hb A p s m args meth c) (hP : va_P D gCl (wC D ad sc (some τ) S) H) (hdg : decode cc pc = .ok (.getfield 48, 3)) (kk : W p l e R s m args below meth c H locs cells slots Q (F0 m (pc + 3) ls (.int (S.1.1 50 8) :: rest))) : W p l e R s m args below meth c H locs cells slots Q (F0 m pc ls (.ref (τ.1 0) :: rest)) :=
  va_get (D := D) (ci := 6) (fs := (obT τ S)) (v := .int (S.1.1 50 8)) (C := RX7) (T := TX7) (N := 12) hC.x hC.b hC.ts in_X7 hC.ow hC.K.1 hP 105 (wC_t (j := 0) (by omega) rfl) gCl_X7 8 (by decide) (hC.ts _ q480) (fun _ h9 => h9) rfl hdg kk
theorem gX7T_9 (hC : CX RX7 cc nL ret0 D gCl nwG Z Hb A p s m args meth c) (hP : va_P D gCl (wC D ad sc (some τ) S) H) (hdg : decode cc pc = .ok (.getfield 56, 3)) (kk : W p l e R s m args below meth c H locs cells slots Q (F0 m (pc + 3) ls (.int (S.1.1 50 9) :: rest))) : W p l e R s m args below meth c H locs cells slots Q (F0 m pc ls (.ref (τ.1 0) :: rest)) :=
  va_get (D := D) (ci := 6) (fs := (obT τ S)) (v := .int (S.1.1 50 9)) (C := RX7) (T := TX7) (N := 12) hC.x hC.b hC.ts in_X7 hC.ow hC.K.1 hP 105 (wC_t (j := 0) (by omega) rfl) gCl_X7 9 (by decide) (hC.ts _ q485) (fun _ h9 => h9) rfl hdg kk
theorem gX2T_0 (hC : CX RX2 cc nL ret0 D gCl nwG Z Hb A p s m args meth c) (hP : va_P D gCl (wC D ad sc (some τ) S) H) (hdg : decode cc pc = .ok (.getfield 182, 3)) (kk : W p l e R s m args below meth c H locs cells slots Q (F0 m (pc + 3) ls (.ref (τ.1 1) :: rest))) : W p l e R s m args below meth c H locs cells slots Q (F0 m pc ls (.ref (τ.1 0) :: rest)) :=
  va_get (D := D) (ci := 6) (fs := (obT τ S)) (v := .ref (τ.1 1)) (C := RX7) (T := TX7) (N := 12) hC.x hC.b hC.ts in_X7 hC.ow hC.K.1 hP 105 (wC_t (j := 0) (by omega) rfl) gCl_X7 0 (by decide) (hC.ts _ q455) (fun _ h9 => h9) rfl hdg kk
theorem gX2T_1 (hC : CX RX2 cc nL ret0 D gCl nwG Z Hb A p s m args meth c) (hP : va_P D gCl (wC D ad sc (some τ) S) H) (hdg : decode cc pc = .ok (.getfield 228, 3)) (kk : W p l e R s m args below meth c H locs cells slots Q (F0 m (pc + 3) ls (.ref (τ.1 2) :: rest))) : W p l e R s m args below meth c H locs cells slots Q (F0 m pc ls (.ref (τ.1 0) :: rest)) :=
  va_get (D := D) (ci := 6) (fs := (obT τ S)) (v := .ref (τ.1 2)) (C := RX7) (T := TX7) (N := 12) hC.x hC.b hC.ts in_X7 hC.ow hC.K.1 hP 105 (wC_t (j := 0) (by omega) rfl) gCl_X7 1 (by decide) (hC.ts _ q460) (fun _ h9 => h9) rfl hdg kk
theorem gX2T_2 (hC : CX RX2 cc nL ret0 D gCl nwG Z Hb A p s m args meth c) (hP : va_P D gCl (wC D ad sc (some τ) S) H) (hdg : decode cc pc = .ok (.getfield 244, 3)) (kk : W p l e R s m args below meth c H locs cells slots Q (F0 m (pc + 3) ls (.ref (τ.1 3) :: rest))) : W p l e R s m args below meth c H locs cells slots Q (F0 m pc ls (.ref (τ.1 0) :: rest)) :=
  va_get (D := D) (ci := 6) (fs := (obT τ S)) (v := .ref (τ.1 3)) (C := RX7) (T := TX7) (N := 12) hC.x hC.b hC.ts in_X7 hC.ow hC.K.1 hP 105 (wC_t (j := 0) (by omega) rfl) gCl_X7 2 (by decide) (hC.ts _ q462) (fun _ h9 => h9) rfl hdg kk
theorem gX2T_3 (hC : CX RX2 cc nL ret0 D gCl nwG Z Hb A p s m args meth c) (hP : va_P D gCl (wC D ad sc (some τ) S) H) (hdg : decode cc pc = .ok (.getfield 251, 3)) (kk : W p l e R s m args below meth c H locs cells slots Q (F0 m (pc + 3) ls (.ref (τ.1 4) :: rest))) : W p l e R s m args below meth c H locs cells slots Q (F0 m pc ls (.ref (τ.1 0) :: rest)) :=
  va_get (D := D) (ci := 6) (fs := (obT τ S)) (v := .ref (τ.1 4)) (C := RX7) (T := TX7) (N := 12) hC.x hC.b hC.ts in_X7 hC.ow hC.K.1 hP 105 (wC_t (j := 0) (by omega) rfl) gCl_X7 3 (by decide) (hC.ts _ q465) (fun _ h9 => h9) rfl hdg kk
theorem gX2T_4 (hC : CX RX2 cc nL ret0 D gCl nwG Z Hb A p s m args meth c) (hP : va_P D gCl (wC D ad sc (some τ) S) H) (hdg : decode cc pc = .ok (.getfield 254, 3)) (kk : W p l e R s m args below meth c H locs cells slots Q (F0 m (pc + 3) ls (.ref (τ.1 5) :: rest))) : W p l e R s m args below meth c H locs cells slots Q (F0 m pc ls (.ref (τ.1 0) :: rest)) :=
  va_get (D := D) (ci := 6) (fs := (obT τ S)) (v := .ref (τ.1 5)) (C := RX7) (T := TX7) (N := 12) hC.x hC.b hC.ts in_X7 hC.ow hC.K.1 hP 105 (wC_t (j := 0) (by omega) rfl) gCl_X7 4 (by decide) (hC.ts _ q468) (fun _ h9 => h9) rfl hdg kk
theorem gX2T_5 (hC : CX RX2 cc nL ret0 D gCl nwG Z Hb A p s m args meth c) (hP : va_P D gCl (wC D ad sc (some τ) S) H) (hdg : decode cc pc = .ok (.getfield 259, 3)) (kk : W p l e R s m args below meth c H locs cells slots Q (F0 m (pc + 3) ls (.ref (τ.1 6) :: rest))) : W p l e R s m args below meth c H locs cells slots Q (F0 m pc ls (.ref (τ.1 0) :: rest)) :=
  va_get (D := D) (ci := 6) (fs := (obT τ S)) (v := .ref (τ.1 6)) (C := RX7) (T := TX7) (N := 12) hC.x hC.b hC.ts in_X7 hC.ow hC.K.1 hP 105 (wC_t (j := 0) (by omega) rfl) gCl_X7 5 (by decide) (hC.ts _ q471) (fun _ h9 => h9) rfl hdg kk
theorem gX2T_6 (hC : CX RX2 cc nL ret0 D gCl nwG Z Hb A p s m args meth c) (hP : va_P D gCl (wC D ad sc (some τ) S) H) (hdg : decode cc pc = .ok (.getfield 129, 3)) (kk : W p l e R s m args below meth c H locs cells slots Q (F0 m (pc + 3) ls (.int (S.1.1 50 6) :: rest))) : W p l e R s m args below meth c H locs cells slots Q (F0 m pc ls (.ref (τ.1 0) :: rest)) :=
  va_get (D := D) (ci := 6) (fs := (obT τ S)) (v := .int (S.1.1 50 6)) (C := RX7) (T := TX7) (N := 12) hC.x hC.b hC.ts in_X7 hC.ow hC.K.1 hP 105 (wC_t (j := 0) (by omega) rfl) gCl_X7 6 (by decide) (hC.ts _ q475) (fun _ h9 => h9) rfl hdg kk
theorem gX2T_7 (hC : CX RX2 cc nL ret0 D gCl nwG Z Hb A p s m args meth c) (hP : va_P D gCl (wC D ad sc (some τ) S) H) (hdg : decode cc pc = .ok (.getfield 164, 3)) (kk : W p l e R s m args below meth c H locs cells slots Q (F0 m (pc + 3) ls (.int (S.1.1 50 7) :: rest))) : W p l e R s m args below meth c H locs cells slots Q (F0 m pc ls (.ref (τ.1 0) :: rest)) :=
  va_get (D := D) (ci := 6) (fs := (obT τ S)) (v := .int (S.1.1 50 7)) (C := RX7) (T := TX7) (N := 12) hC.x hC.b hC.ts in_X7 hC.ow hC.K.1 hP 105 (wC_t (j := 0) (by omega) rfl) gCl_X7 7 (by decide) (hC.ts _ q477) (fun _ h9 => h9) rfl hdg kk
theorem gX2T_8 (hC : CX RX2 cc nL ret0 D gCl nwG Z Hb A p s m args meth c) (hP : va_P D gCl (wC D ad sc (some τ) S) H) (hdg : decode cc pc = .ok (.getfield 136, 3)) (kk : W p l e R s m args below meth c H locs cells slots Q (F0 m (pc + 3) ls (.int (S.1.1 50 8) :: rest))) : W p l e R s m args below meth c H locs cells slots Q (F0 m pc ls (.ref (τ.1 0) :: rest)) :=
  va_get (D := D) (ci := 6) (fs := (obT τ S)) (v := .int (S.1.1 50 8)) (C := RX7) (T := TX7) (N := 12) hC.x hC.b hC.ts in_X7 hC.ow hC.K.1 hP 105 (wC_t (j := 0) (by omega) rfl) gCl_X7 8 (by decide) (hC.ts _ q482) (fun _ h9 => h9) rfl hdg kk
theorem gX2T_9 (hC : CX RX2 cc nL ret0 D gCl nwG Z Hb A p s m args meth c) (hP : va_P D gCl (wC D ad sc (some τ) S) H) (hdg : decode cc pc = .ok (.getfield 206, 3)) (kk : W p l e R s m args below meth c H locs cells slots Q (F0 m (pc + 3) ls (.int (S.1.1 50 9) :: rest))) : W p l e R s m args below meth c H locs cells slots Q (F0 m pc ls (.ref (τ.1 0) :: rest)) :=
  va_get (D := D) (ci := 6) (fs := (obT τ S)) (v := .int (S.1.1 50 9)) (C := RX7) (T := TX7) (N := 12) hC.x hC.b hC.ts in_X7 hC.ow hC.K.1 hP 105 (wC_t (j := 0) (by omega) rfl) gCl_X7 9 (by decide) (hC.ts _ q487) (fun _ h9 => h9) rfl hdg kk
theorem gX2T_10 (hC : CX RX2 cc nL ret0 D gCl nwG Z Hb A p s m args meth c) (hP : va_P D gCl (wC D ad sc (some τ) S) H) (hdg : decode cc pc = .ok (.getfield 238, 3)) (kk : W p l e R s m args below meth c H locs cells slots Q (F0 m (pc + 3) ls (.int (S.1.1 50 10) :: rest))) : W p l e R s m args below meth c H locs cells slots Q (F0 m pc ls (.ref (τ.1 0) :: rest)) :=
  va_get (D := D) (ci := 6) (fs := (obT τ S)) (v := .int (S.1.1 50 10)) (C := RX7) (T := TX7) (N := 12) hC.x hC.b hC.ts in_X7 hC.ow hC.K.1 hP 105 (wC_t (j := 0) (by omega) rfl) gCl_X7 10 (by decide) (hC.ts _ q488) (fun _ h9 => h9) rfl hdg kk
theorem gX2T_11 (hC : CX RX2 cc nL ret0 D gCl nwG Z Hb A p s m args meth c) (hP : va_P D gCl (wC D ad sc (some τ) S) H) (hdg : decode cc pc = .ok (.getfield 248, 3)) (kk : W p l e R s m args below meth c H locs cells slots Q (F0 m (pc + 3) ls (.int (S.1.1 50 11) :: rest))) : W p l e R s m args below meth c H locs cells slots Q (F0 m pc ls (.ref (τ.1 0) :: rest)) :=
  va_get (D := D) (ci := 6) (fs := (obT τ S)) (v := .int (S.1.1 50 11)) (C := RX7) (T := TX7) (N := 12) hC.x hC.b hC.ts in_X7 hC.ow hC.K.1 hP 105 (wC_t (j := 0) (by omega) rfl) gCl_X7 11 (by decide) (hC.ts _ q490) (fun _ h9 => h9) rfl hdg kk
theorem gX4P_2 {i : Nat} (hi : i < τ.2.2.1) (hC : CX RX4 cc nL ret0 D gCl nwG Z Hb A p s m args meth c) (hP : va_P D gCl (wC D ad sc (some τ) S) H) (hdg : decode cc pc = .ok (.getfield 38, 3)) (kk : W p l e R s m args below meth c H locs cells slots Q (F0 m (pc + 3) ls (.int (S.1.1 (1000 + 2 * i) 2) :: rest))) : W p l e R s m args below meth c H locs cells slots Q (F0 m pc ls (.ref (τ.1 (10 + i)) :: rest)) :=
  va_get (D := D) (ci := 7) (fs := (obP τ S i)) (v := .int (S.1.1 (1000 + 2 * i) 2)) (C := RX9) (T := TX9) (N := 3) hC.x hC.b hC.ts in_X9 hC.ow hC.K.1 hP (112 + i) (wC_p hi) gCl_X9 2 (by decide) (hC.ts _ q749) (fun _ h9 => h9) rfl hdg kk
theorem gX1G_1 {i : Nat} (hi : i < τ.2.2.2.1) (hl : τ.2.2.2.2 i < 4) (hC : CX RX1 cc nL ret0 D gCl nwG Z Hb A p s m args meth c) (hP : va_P D gCl (wC D ad sc (some τ) S) H) (hdg : decode cc pc = .ok (.getfield 166, 3)) (kk : W p l e R s m args below meth c H locs cells slots Q (F0 m (pc + 3) ls (.int (S.1.1 (1001 + 2 * i) 1) :: rest))) : W p l e R s m args below meth c H locs cells slots Q (F0 m pc ls (.ref (τ.1 (20 + i)) :: rest)) := by
  have he := wC_g (D := D) (ad := ad) (sc := sc) (S := S) hi
  generalize τ.2.2.2.2 i = x at he hl
  match x, hl, he with
  | 0, _, he => exact va_get (D := D) (ci := 8) (fs := (obG τ S i)) (v := .int (S.1.1 (1001 + 2 * i) 1)) (C := RX11) (T := TX11) (N := 6) hC.x hC.b hC.ts in_X11 hC.ow hC.K.1 hP (112 + τ.2.2.1 + i) he gCl_X11 1 (by decide) (hC.ts _ q789) (fun _ h9 => h9) rfl hdg kk
  | 1, _, he => exact va_get (D := D) (ci := 9) (fs := (obG τ S i)) (v := .int (S.1.1 (1001 + 2 * i) 1)) (C := RX12) (T := TX12) (N := 6) hC.x hC.b hC.ts in_X12 hC.ow hC.K.1 hP (112 + τ.2.2.1 + i) he gCl_X12 1 (by decide) (hC.ts _ q789) (fun _ h9 => h9) rfl hdg kk
  | 2, _, he => exact va_get (D := D) (ci := 10) (fs := (obG τ S i)) (v := .int (S.1.1 (1001 + 2 * i) 1)) (C := RX13) (T := TX13) (N := 6) hC.x hC.b hC.ts in_X13 hC.ow hC.K.1 hP (112 + τ.2.2.1 + i) he gCl_X13 1 (by decide) (hC.ts _ q789) (fun _ h9 => h9) rfl hdg kk
  | 3, _, he => exact va_get (D := D) (ci := 11) (fs := (obG τ S i)) (v := .int (S.1.1 (1001 + 2 * i) 1)) (C := RX14) (T := TX14) (N := 6) hC.x hC.b hC.ts in_X14 hC.ow hC.K.1 hP (112 + τ.2.2.1 + i) he gCl_X14 1 (by decide) (hC.ts _ q789) (fun _ h9 => h9) rfl hdg kk
theorem gX1G_3 {i : Nat} (hi : i < τ.2.2.2.1) (hl : τ.2.2.2.2 i < 4) (hC : CX RX1 cc nL ret0 D gCl nwG Z Hb A p s m args meth c) (hP : va_P D gCl (wC D ad sc (some τ) S) H) (hdg : decode cc pc = .ok (.getfield 270, 3)) (kk : W p l e R s m args below meth c H locs cells slots Q (F0 m (pc + 3) ls (.int (S.1.1 (1001 + 2 * i) 3) :: rest))) : W p l e R s m args below meth c H locs cells slots Q (F0 m pc ls (.ref (τ.1 (20 + i)) :: rest)) := by
  have he := wC_g (D := D) (ad := ad) (sc := sc) (S := S) hi
  generalize τ.2.2.2.2 i = x at he hl
  match x, hl, he with
  | 0, _, he => exact va_get (D := D) (ci := 8) (fs := (obG τ S i)) (v := .int (S.1.1 (1001 + 2 * i) 3)) (C := RX11) (T := TX11) (N := 6) hC.x hC.b hC.ts in_X11 hC.ow hC.K.1 hP (112 + τ.2.2.1 + i) he gCl_X11 3 (by decide) (hC.ts _ q795) (fun _ h9 => h9) rfl hdg kk
  | 1, _, he => exact va_get (D := D) (ci := 9) (fs := (obG τ S i)) (v := .int (S.1.1 (1001 + 2 * i) 3)) (C := RX12) (T := TX12) (N := 6) hC.x hC.b hC.ts in_X12 hC.ow hC.K.1 hP (112 + τ.2.2.1 + i) he gCl_X12 3 (by decide) (hC.ts _ q795) (fun _ h9 => h9) rfl hdg kk
  | 2, _, he => exact va_get (D := D) (ci := 10) (fs := (obG τ S i)) (v := .int (S.1.1 (1001 + 2 * i) 3)) (C := RX13) (T := TX13) (N := 6) hC.x hC.b hC.ts in_X13 hC.ow hC.K.1 hP (112 + τ.2.2.1 + i) he gCl_X13 3 (by decide) (hC.ts _ q795) (fun _ h9 => h9) rfl hdg kk
  | 3, _, he => exact va_get (D := D) (ci := 11) (fs := (obG τ S i)) (v := .int (S.1.1 (1001 + 2 * i) 3)) (C := RX14) (T := TX14) (N := 6) hC.x hC.b hC.ts in_X14 hC.ow hC.K.1 hP (112 + τ.2.2.1 + i) he gCl_X14 3 (by decide) (hC.ts _ q795) (fun _ h9 => h9) rfl hdg kk
theorem gX4G_0 {i : Nat} (hi : i < τ.2.2.2.1) (hl : τ.2.2.2.2 i < 4) (hC : CX RX4 cc nL ret0 D gCl nwG Z Hb A p s m args meth c) (hP : va_P D gCl (wC D ad sc (some τ) S) H) (hdg : decode cc pc = .ok (.getfield 55, 3)) (kk : W p l e R s m args below meth c H locs cells slots Q (F0 m (pc + 3) ls (.int (S.1.1 (1001 + 2 * i) 0) :: rest))) : W p l e R s m args below meth c H locs cells slots Q (F0 m pc ls (.ref (τ.1 (20 + i)) :: rest)) := by
  have he := wC_g (D := D) (ad := ad) (sc := sc) (S := S) hi
  generalize τ.2.2.2.2 i = x at he hl
  match x, hl, he with
  | 0, _, he => exact va_get (D := D) (ci := 8) (fs := (obG τ S i)) (v := .int (S.1.1 (1001 + 2 * i) 0)) (C := RX11) (T := TX11) (N := 6) hC.x hC.b hC.ts in_X11 hC.ow hC.K.1 hP (112 + τ.2.2.1 + i) he gCl_X11 0 (by decide) (hC.ts _ q784) (fun _ h9 => h9) rfl hdg kk
  | 1, _, he => exact va_get (D := D) (ci := 9) (fs := (obG τ S i)) (v := .int (S.1.1 (1001 + 2 * i) 0)) (C := RX12) (T := TX12) (N := 6) hC.x hC.b hC.ts in_X12 hC.ow hC.K.1 hP (112 + τ.2.2.1 + i) he gCl_X12 0 (by decide) (hC.ts _ q784) (fun _ h9 => h9) rfl hdg kk
  | 2, _, he => exact va_get (D := D) (ci := 10) (fs := (obG τ S i)) (v := .int (S.1.1 (1001 + 2 * i) 0)) (C := RX13) (T := TX13) (N := 6) hC.x hC.b hC.ts in_X13 hC.ow hC.K.1 hP (112 + τ.2.2.1 + i) he gCl_X13 0 (by decide) (hC.ts _ q784) (fun _ h9 => h9) rfl hdg kk
  | 3, _, he => exact va_get (D := D) (ci := 11) (fs := (obG τ S i)) (v := .int (S.1.1 (1001 + 2 * i) 0)) (C := RX14) (T := TX14) (N := 6) hC.x hC.b hC.ts in_X14 hC.ow hC.K.1 hP (112 + τ.2.2.1 + i) he gCl_X14 0 (by decide) (hC.ts _ q784) (fun _ h9 => h9) rfl hdg kk
theorem gX4G_1 {i : Nat} (hi : i < τ.2.2.2.1) (hl : τ.2.2.2.2 i < 4) (hC : CX RX4 cc nL ret0 D gCl nwG Z Hb A p s m args meth c) (hP : va_P D gCl (wC D ad sc (some τ) S) H) (hdg : decode cc pc = .ok (.getfield 76, 3)) (kk : W p l e R s m args below meth c H locs cells slots Q (F0 m (pc + 3) ls (.int (S.1.1 (1001 + 2 * i) 1) :: rest))) : W p l e R s m args below meth c H locs cells slots Q (F0 m pc ls (.ref (τ.1 (20 + i)) :: rest)) := by
  have he := wC_g (D := D) (ad := ad) (sc := sc) (S := S) hi
  generalize τ.2.2.2.2 i = x at he hl
  match x, hl, he with
  | 0, _, he => exact va_get (D := D) (ci := 8) (fs := (obG τ S i)) (v := .int (S.1.1 (1001 + 2 * i) 1)) (C := RX11) (T := TX11) (N := 6) hC.x hC.b hC.ts in_X11 hC.ow hC.K.1 hP (112 + τ.2.2.1 + i) he gCl_X11 1 (by decide) (hC.ts _ q787) (fun _ h9 => h9) rfl hdg kk
  | 1, _, he => exact va_get (D := D) (ci := 9) (fs := (obG τ S i)) (v := .int (S.1.1 (1001 + 2 * i) 1)) (C := RX12) (T := TX12) (N := 6) hC.x hC.b hC.ts in_X12 hC.ow hC.K.1 hP (112 + τ.2.2.1 + i) he gCl_X12 1 (by decide) (hC.ts _ q787) (fun _ h9 => h9) rfl hdg kk
  | 2, _, he => exact va_get (D := D) (ci := 10) (fs := (obG τ S i)) (v := .int (S.1.1 (1001 + 2 * i) 1)) (C := RX13) (T := TX13) (N := 6) hC.x hC.b hC.ts in_X13 hC.ow hC.K.1 hP (112 + τ.2.2.1 + i) he gCl_X13 1 (by decide) (hC.ts _ q787) (fun _ h9 => h9) rfl hdg kk
  | 3, _, he => exact va_get (D := D) (ci := 11) (fs := (obG τ S i)) (v := .int (S.1.1 (1001 + 2 * i) 1)) (C := RX14) (T := TX14) (N := 6) hC.x hC.b hC.ts in_X14 hC.ow hC.K.1 hP (112 + τ.2.2.1 + i) he gCl_X14 1 (by decide) (hC.ts _ q787) (fun _ h9 => h9) rfl hdg kk
theorem gX4G_2 {i : Nat} (hi : i < τ.2.2.2.1) (hl : τ.2.2.2.2 i < 4) (hC : CX RX4 cc nL ret0 D gCl nwG Z Hb A p s m args meth c) (hP : va_P D gCl (wC D ad sc (some τ) S) H) (hdg : decode cc pc = .ok (.getfield 50, 3)) (kk : W p l e R s m args below meth c H locs cells slots Q (F0 m (pc + 3) ls (.int (S.1.1 (1001 + 2 * i) 2) :: rest))) : W p l e R s m args below meth c H locs cells slots Q (F0 m pc ls (.ref (τ.1 (20 + i)) :: rest)) := by
  have he := wC_g (D := D) (ad := ad) (sc := sc) (S := S) hi
  generalize τ.2.2.2.2 i = x at he hl
  match x, hl, he with
  | 0, _, he => exact va_get (D := D) (ci := 8) (fs := (obG τ S i)) (v := .int (S.1.1 (1001 + 2 * i) 2)) (C := RX11) (T := TX11) (N := 6) hC.x hC.b hC.ts in_X11 hC.ow hC.K.1 hP (112 + τ.2.2.1 + i) he gCl_X11 2 (by decide) (hC.ts _ q791) (fun _ h9 => h9) rfl hdg kk
  | 1, _, he => exact va_get (D := D) (ci := 9) (fs := (obG τ S i)) (v := .int (S.1.1 (1001 + 2 * i) 2)) (C := RX12) (T := TX12) (N := 6) hC.x hC.b hC.ts in_X12 hC.ow hC.K.1 hP (112 + τ.2.2.1 + i) he gCl_X12 2 (by decide) (hC.ts _ q791) (fun _ h9 => h9) rfl hdg kk
  | 2, _, he => exact va_get (D := D) (ci := 10) (fs := (obG τ S i)) (v := .int (S.1.1 (1001 + 2 * i) 2)) (C := RX13) (T := TX13) (N := 6) hC.x hC.b hC.ts in_X13 hC.ow hC.K.1 hP (112 + τ.2.2.1 + i) he gCl_X13 2 (by decide) (hC.ts _ q791) (fun _ h9 => h9) rfl hdg kk
  | 3, _, he => exact va_get (D := D) (ci := 11) (fs := (obG τ S i)) (v := .int (S.1.1 (1001 + 2 * i) 2)) (C := RX14) (T := TX14) (N := 6) hC.x hC.b hC.ts in_X14 hC.ow hC.K.1 hP (112 + τ.2.2.1 + i) he gCl_X14 2 (by decide) (hC.ts _ q791) (fun _ h9 => h9) rfl hdg kk
theorem gX5G_1 {i : Nat} (hi : i < τ.2.2.2.1) (hl : τ.2.2.2.2 i < 4) (hC : CX RX5 cc nL ret0 D gCl nwG Z Hb A p s m args meth c) (hP : va_P D gCl (wC D ad sc (some τ) S) H) (hdg : decode cc pc = .ok (.getfield 49, 3)) (kk : W p l e R s m args below meth c H locs cells slots Q (F0 m (pc + 3) ls (.int (S.1.1 (1001 + 2 * i) 1) :: rest))) : W p l e R s m args below meth c H locs cells slots Q (F0 m pc ls (.ref (τ.1 (20 + i)) :: rest)) := by
  have he := wC_g (D := D) (ad := ad) (sc := sc) (S := S) hi
  generalize τ.2.2.2.2 i = x at he hl
  match x, hl, he with
  | 0, _, he => exact va_get (D := D) (ci := 8) (fs := (obG τ S i)) (v := .int (S.1.1 (1001 + 2 * i) 1)) (C := RX11) (T := TX11) (N := 6) hC.x hC.b hC.ts in_X11 hC.ow hC.K.1 hP (112 + τ.2.2.1 + i) he gCl_X11 1 (by decide) (hC.ts _ q786) (fun _ h9 => h9) rfl hdg kk
  | 1, _, he => exact va_get (D := D) (ci := 9) (fs := (obG τ S i)) (v := .int (S.1.1 (1001 + 2 * i) 1)) (C := RX12) (T := TX12) (N := 6) hC.x hC.b hC.ts in_X12 hC.ow hC.K.1 hP (112 + τ.2.2.1 + i) he gCl_X12 1 (by decide) (hC.ts _ q786) (fun _ h9 => h9) rfl hdg kk
  | 2, _, he => exact va_get (D := D) (ci := 10) (fs := (obG τ S i)) (v := .int (S.1.1 (1001 + 2 * i) 1)) (C := RX13) (T := TX13) (N := 6) hC.x hC.b hC.ts in_X13 hC.ow hC.K.1 hP (112 + τ.2.2.1 + i) he gCl_X13 1 (by decide) (hC.ts _ q786) (fun _ h9 => h9) rfl hdg kk
  | 3, _, he => exact va_get (D := D) (ci := 11) (fs := (obG τ S i)) (v := .int (S.1.1 (1001 + 2 * i) 1)) (C := RX14) (T := TX14) (N := 6) hC.x hC.b hC.ts in_X14 hC.ow hC.K.1 hP (112 + τ.2.2.1 + i) he gCl_X14 1 (by decide) (hC.ts _ q786) (fun _ h9 => h9) rfl hdg kk
theorem lF_1 (hC : CX own cc nL ret0 D gCl nwG Z Hb A p s m args meth c) (hP : va_P D gCl (wC D ad sc tw S) H) {i : Int32} (hin : vp_in i 800) {k : Nat} (hk : i.toNatClampNeg = k) (hdg : decode cc pc = .ok (.baload, 1)) (kk : W p l e R s m args below meth c H locs cells slots Q (F0 m (pc + 1) ls (.int (S.1.1 1 k) :: rest))) : W p l e R s m args below meth c H locs cells slots Q (F0 m pc ls (.int i :: .ref (ad 1) :: rest)) := by
  subst hk
  exact va_bald hC.x hC.b hC.K.1 hP 1 2 rfl rfl hin hdg kk
theorem eF_1 {f : Nat → Int32} : (wC D ad sc tw S).set 1 (ad 1, .inl ((D.1 102), 800, .inl f)) = wC D ad sc tw (sA S 1 f) := wC_setF (by omega) rfl (fun a h => sA_ne (by omega)) rfl
theorem sF_1 (hC : CX own cc nL ret0 D gCl nwG Z Hb A p s m args meth c) (hP : va_P D gCl (wC D ad sc tw S) H) (hD : va_D A (wC D ad sc tw S)) (hS : va_S A s.heap H locs) {i v : Int32} (hin : vp_in i 800) {k : Nat} (hk : i.toNatClampNeg = k) (hdg : decode cc pc = .ok (.bastore, 1)) (kk : ∀ S1 : CS, S1 = sI S 1 k (vp_nar .byte v) → ∀ (H : Heap) (locs : List Loc), va_P D gCl (wC D ad sc tw S1) H → va_D A (wC D ad sc tw S1) → va_S A s.heap H locs → W p l e R s m args below meth c H locs cells slots Q (F0 m (pc + 1) ls (rest))) : W p l e R s m args below meth c H locs cells slots Q (F0 m pc ls (.int v :: .int i :: .ref (ad 1) :: rest)) := by
  subst hk
  refine va_bast hC.x hC.b hC.K.1 hP hD hS 1 2 rfl rfl hin hdg (fun H1 locs1 hP1 hD1 hS1 => ?_)
  rw [eF_1] at hP1 hD1
  exact kk _ rfl _ _ hP1 hD1 hS1
theorem lF_5 (hC : CX own cc nL ret0 D gCl nwG Z Hb A p s m args meth c) (hP : va_P D gCl (wC D ad sc tw S) H) {i : Int32} (hin : vp_in i 29160) {k : Nat} (hk : i.toNatClampNeg = k) (hdg : decode cc pc = .ok (.iaload, 1)) (kk : W p l e R s m args below meth c H locs cells slots Q (F0 m (pc + 1) ls (.int (S.1.1 5 k) :: rest))) : W p l e R s m args below meth c H locs cells slots Q (F0 m pc ls (.int i :: .ref (ad 5) :: rest)) := by
  subst hk
  exact va_iald hC.x hC.b hC.K.1 hP 5 0 rfl rfl hin hdg kk
theorem eF_5 {f : Nat → Int32} : (wC D ad sc tw S).set 5 (ad 5, .inl ((D.1 100), 29160, .inl f)) = wC D ad sc tw (sA S 5 f) := wC_setF (by omega) rfl (fun a h => sA_ne (by omega)) rfl
theorem sF_5 (hC : CX own cc nL ret0 D gCl nwG Z Hb A p s m args meth c) (hP : va_P D gCl (wC D ad sc tw S) H) (hD : va_D A (wC D ad sc tw S)) (hS : va_S A s.heap H locs) {i v : Int32} (hin : vp_in i 29160) {k : Nat} (hk : i.toNatClampNeg = k) (hdg : decode cc pc = .ok (.iastore, 1)) (kk : ∀ S1 : CS, S1 = sI S 5 k v → ∀ (H : Heap) (locs : List Loc), va_P D gCl (wC D ad sc tw S1) H → va_D A (wC D ad sc tw S1) → va_S A s.heap H locs → W p l e R s m args below meth c H locs cells slots Q (F0 m (pc + 1) ls (rest))) : W p l e R s m args below meth c H locs cells slots Q (F0 m pc ls (.int v :: .int i :: .ref (ad 5) :: rest)) := by
  subst hk
  refine va_iast hC.x hC.b hC.K.1 hP hD hS 5 0 rfl rfl hin hdg (fun H1 locs1 hP1 hD1 hS1 => ?_)
  rw [eF_5] at hP1 hD1
  exact kk _ rfl _ _ hP1 hD1 hS1
theorem lF_6 (hC : CX own cc nL ret0 D gCl nwG Z Hb A p s m args meth c) (hP : va_P D gCl (wC D ad sc tw S) H) {i : Int32} (hin : vp_in i 29160) {k : Nat} (hk : i.toNatClampNeg = k) (hdg : decode cc pc = .ok (.iaload, 1)) (kk : W p l e R s m args below meth c H locs cells slots Q (F0 m (pc + 1) ls (.int (S.1.1 6 k) :: rest))) : W p l e R s m args below meth c H locs cells slots Q (F0 m pc ls (.int i :: .ref (ad 6) :: rest)) := by
  subst hk
  exact va_iald hC.x hC.b hC.K.1 hP 6 0 rfl rfl hin hdg kk
theorem eF_6 {f : Nat → Int32} : (wC D ad sc tw S).set 6 (ad 6, .inl ((D.1 100), 29160, .inl f)) = wC D ad sc tw (sA S 6 f) := wC_setF (by omega) rfl (fun a h => sA_ne (by omega)) rfl
theorem sF_6 (hC : CX own cc nL ret0 D gCl nwG Z Hb A p s m args meth c) (hP : va_P D gCl (wC D ad sc tw S) H) (hD : va_D A (wC D ad sc tw S)) (hS : va_S A s.heap H locs) {i v : Int32} (hin : vp_in i 29160) {k : Nat} (hk : i.toNatClampNeg = k) (hdg : decode cc pc = .ok (.iastore, 1)) (kk : ∀ S1 : CS, S1 = sI S 6 k v → ∀ (H : Heap) (locs : List Loc), va_P D gCl (wC D ad sc tw S1) H → va_D A (wC D ad sc tw S1) → va_S A s.heap H locs → W p l e R s m args below meth c H locs cells slots Q (F0 m (pc + 1) ls (rest))) : W p l e R s m args below meth c H locs cells slots Q (F0 m pc ls (.int v :: .int i :: .ref (ad 6) :: rest)) := by
  subst hk
  refine va_iast hC.x hC.b hC.K.1 hP hD hS 6 0 rfl rfl hin hdg (fun H1 locs1 hP1 hD1 hS1 => ?_)
  rw [eF_6] at hP1 hD1
  exact kk _ rfl _ _ hP1 hD1 hS1
theorem lF_7 (hC : CX own cc nL ret0 D gCl nwG Z Hb A p s m args meth c) (hP : va_P D gCl (wC D ad sc tw S) H) {i : Int32} (hin : vp_in i 6) {k : Nat} (hk : i.toNatClampNeg = k) (hdg : decode cc pc = .ok (.iaload, 1)) (kk : W p l e R s m args below meth c H locs cells slots Q (F0 m (pc + 1) ls (.int (S.1.1 7 k) :: rest))) : W p l e R s m args below meth c H locs cells slots Q (F0 m pc ls (.int i :: .ref (ad 7) :: rest)) := by
  subst hk
  exact va_iald hC.x hC.b hC.K.1 hP 7 0 rfl rfl hin hdg kk
theorem eF_7 {f : Nat → Int32} : (wC D ad sc tw S).set 7 (ad 7, .inl ((D.1 100), 6, .inl f)) = wC D ad sc tw (sA S 7 f) := wC_setF (by omega) rfl (fun a h => sA_ne (by omega)) rfl
theorem sF_7 (hC : CX own cc nL ret0 D gCl nwG Z Hb A p s m args meth c) (hP : va_P D gCl (wC D ad sc tw S) H) (hD : va_D A (wC D ad sc tw S)) (hS : va_S A s.heap H locs) {i v : Int32} (hin : vp_in i 6) {k : Nat} (hk : i.toNatClampNeg = k) (hdg : decode cc pc = .ok (.iastore, 1)) (kk : ∀ S1 : CS, S1 = sI S 7 k v → ∀ (H : Heap) (locs : List Loc), va_P D gCl (wC D ad sc tw S1) H → va_D A (wC D ad sc tw S1) → va_S A s.heap H locs → W p l e R s m args below meth c H locs cells slots Q (F0 m (pc + 1) ls (rest))) : W p l e R s m args below meth c H locs cells slots Q (F0 m pc ls (.int v :: .int i :: .ref (ad 7) :: rest)) := by
  subst hk
  refine va_iast hC.x hC.b hC.K.1 hP hD hS 7 0 rfl rfl hin hdg (fun H1 locs1 hP1 hD1 hS1 => ?_)
  rw [eF_7] at hP1 hD1
  exact kk _ rfl _ _ hP1 hD1 hS1
theorem lF_8 (hC : CX own cc nL ret0 D gCl nwG Z Hb A p s m args meth c) (hP : va_P D gCl (wC D ad sc tw S) H) {i : Int32} (hin : vp_in i 6) {k : Nat} (hk : i.toNatClampNeg = k) (hdg : decode cc pc = .ok (.iaload, 1)) (kk : W p l e R s m args below meth c H locs cells slots Q (F0 m (pc + 1) ls (.int (S.1.1 8 k) :: rest))) : W p l e R s m args below meth c H locs cells slots Q (F0 m pc ls (.int i :: .ref (ad 8) :: rest)) := by
  subst hk
  exact va_iald hC.x hC.b hC.K.1 hP 8 0 rfl rfl hin hdg kk
theorem eF_8 {f : Nat → Int32} : (wC D ad sc tw S).set 8 (ad 8, .inl ((D.1 100), 6, .inl f)) = wC D ad sc tw (sA S 8 f) := wC_setF (by omega) rfl (fun a h => sA_ne (by omega)) rfl
theorem sF_8 (hC : CX own cc nL ret0 D gCl nwG Z Hb A p s m args meth c) (hP : va_P D gCl (wC D ad sc tw S) H) (hD : va_D A (wC D ad sc tw S)) (hS : va_S A s.heap H locs) {i v : Int32} (hin : vp_in i 6) {k : Nat} (hk : i.toNatClampNeg = k) (hdg : decode cc pc = .ok (.iastore, 1)) (kk : ∀ S1 : CS, S1 = sI S 8 k v → ∀ (H : Heap) (locs : List Loc), va_P D gCl (wC D ad sc tw S1) H → va_D A (wC D ad sc tw S1) → va_S A s.heap H locs → W p l e R s m args below meth c H locs cells slots Q (F0 m (pc + 1) ls (rest))) : W p l e R s m args below meth c H locs cells slots Q (F0 m pc ls (.int v :: .int i :: .ref (ad 8) :: rest)) := by
  subst hk
  refine va_iast hC.x hC.b hC.K.1 hP hD hS 8 0 rfl rfl hin hdg (fun H1 locs1 hP1 hD1 hS1 => ?_)
  rw [eF_8] at hP1 hD1
  exact kk _ rfl _ _ hP1 hD1 hS1
theorem lF_9 (hC : CX own cc nL ret0 D gCl nwG Z Hb A p s m args meth c) (hP : va_P D gCl (wC D ad sc tw S) H) {i : Int32} (hin : vp_in i 6) {k : Nat} (hk : i.toNatClampNeg = k) (hdg : decode cc pc = .ok (.iaload, 1)) (kk : W p l e R s m args below meth c H locs cells slots Q (F0 m (pc + 1) ls (.int (S.1.1 9 k) :: rest))) : W p l e R s m args below meth c H locs cells slots Q (F0 m pc ls (.int i :: .ref (ad 9) :: rest)) := by
  subst hk
  exact va_iald hC.x hC.b hC.K.1 hP 9 0 rfl rfl hin hdg kk
theorem eF_9 {f : Nat → Int32} : (wC D ad sc tw S).set 9 (ad 9, .inl ((D.1 100), 6, .inl f)) = wC D ad sc tw (sA S 9 f) := wC_setF (by omega) rfl (fun a h => sA_ne (by omega)) rfl
theorem sF_9 (hC : CX own cc nL ret0 D gCl nwG Z Hb A p s m args meth c) (hP : va_P D gCl (wC D ad sc tw S) H) (hD : va_D A (wC D ad sc tw S)) (hS : va_S A s.heap H locs) {i v : Int32} (hin : vp_in i 6) {k : Nat} (hk : i.toNatClampNeg = k) (hdg : decode cc pc = .ok (.iastore, 1)) (kk : ∀ S1 : CS, S1 = sI S 9 k v → ∀ (H : Heap) (locs : List Loc), va_P D gCl (wC D ad sc tw S1) H → va_D A (wC D ad sc tw S1) → va_S A s.heap H locs → W p l e R s m args below meth c H locs cells slots Q (F0 m (pc + 1) ls (rest))) : W p l e R s m args below meth c H locs cells slots Q (F0 m pc ls (.int v :: .int i :: .ref (ad 9) :: rest)) := by
  subst hk
  refine va_iast hC.x hC.b hC.K.1 hP hD hS 9 0 rfl rfl hin hdg (fun H1 locs1 hP1 hD1 hS1 => ?_)
  rw [eF_9] at hP1 hD1
  exact kk _ rfl _ _ hP1 hD1 hS1
theorem lF_10 (hC : CX own cc nL ret0 D gCl nwG Z Hb A p s m args meth c) (hP : va_P D gCl (wC D ad sc tw S) H) {i : Int32} (hin : vp_in i 6) {k : Nat} (hk : i.toNatClampNeg = k) (hdg : decode cc pc = .ok (.iaload, 1)) (kk : W p l e R s m args below meth c H locs cells slots Q (F0 m (pc + 1) ls (.int (S.1.1 10 k) :: rest))) : W p l e R s m args below meth c H locs cells slots Q (F0 m pc ls (.int i :: .ref (ad 10) :: rest)) := by
  subst hk
  exact va_iald hC.x hC.b hC.K.1 hP 10 0 rfl rfl hin hdg kk
theorem eF_10 {f : Nat → Int32} : (wC D ad sc tw S).set 10 (ad 10, .inl ((D.1 100), 6, .inl f)) = wC D ad sc tw (sA S 10 f) := wC_setF (by omega) rfl (fun a h => sA_ne (by omega)) rfl
theorem sF_10 (hC : CX own cc nL ret0 D gCl nwG Z Hb A p s m args meth c) (hP : va_P D gCl (wC D ad sc tw S) H) (hD : va_D A (wC D ad sc tw S)) (hS : va_S A s.heap H locs) {i v : Int32} (hin : vp_in i 6) {k : Nat} (hk : i.toNatClampNeg = k) (hdg : decode cc pc = .ok (.iastore, 1)) (kk : ∀ S1 : CS, S1 = sI S 10 k v → ∀ (H : Heap) (locs : List Loc), va_P D gCl (wC D ad sc tw S1) H → va_D A (wC D ad sc tw S1) → va_S A s.heap H locs → W p l e R s m args below meth c H locs cells slots Q (F0 m (pc + 1) ls (rest))) : W p l e R s m args below meth c H locs cells slots Q (F0 m pc ls (.int v :: .int i :: .ref (ad 10) :: rest)) := by
  subst hk
  refine va_iast hC.x hC.b hC.K.1 hP hD hS 10 0 rfl rfl hin hdg (fun H1 locs1 hP1 hD1 hS1 => ?_)
  rw [eF_10] at hP1 hD1
  exact kk _ rfl _ _ hP1 hD1 hS1
theorem lF_11 (hC : CX own cc nL ret0 D gCl nwG Z Hb A p s m args meth c) (hP : va_P D gCl (wC D ad sc tw S) H) {i : Int32} (hin : vp_in i 6) {k : Nat} (hk : i.toNatClampNeg = k) (hdg : decode cc pc = .ok (.iaload, 1)) (kk : W p l e R s m args below meth c H locs cells slots Q (F0 m (pc + 1) ls (.int (S.1.1 11 k) :: rest))) : W p l e R s m args below meth c H locs cells slots Q (F0 m pc ls (.int i :: .ref (ad 11) :: rest)) := by
  subst hk
  exact va_iald hC.x hC.b hC.K.1 hP 11 0 rfl rfl hin hdg kk
theorem eF_11 {f : Nat → Int32} : (wC D ad sc tw S).set 11 (ad 11, .inl ((D.1 100), 6, .inl f)) = wC D ad sc tw (sA S 11 f) := wC_setF (by omega) rfl (fun a h => sA_ne (by omega)) rfl
theorem sF_11 (hC : CX own cc nL ret0 D gCl nwG Z Hb A p s m args meth c) (hP : va_P D gCl (wC D ad sc tw S) H) (hD : va_D A (wC D ad sc tw S)) (hS : va_S A s.heap H locs) {i v : Int32} (hin : vp_in i 6) {k : Nat} (hk : i.toNatClampNeg = k) (hdg : decode cc pc = .ok (.iastore, 1)) (kk : ∀ S1 : CS, S1 = sI S 11 k v → ∀ (H : Heap) (locs : List Loc), va_P D gCl (wC D ad sc tw S1) H → va_D A (wC D ad sc tw S1) → va_S A s.heap H locs → W p l e R s m args below meth c H locs cells slots Q (F0 m (pc + 1) ls (rest))) : W p l e R s m args below meth c H locs cells slots Q (F0 m pc ls (.int v :: .int i :: .ref (ad 11) :: rest)) := by
  subst hk
  refine va_iast hC.x hC.b hC.K.1 hP hD hS 11 0 rfl rfl hin hdg (fun H1 locs1 hP1 hD1 hS1 => ?_)
  rw [eF_11] at hP1 hD1
  exact kk _ rfl _ _ hP1 hD1 hS1
theorem lF_12 (hC : CX own cc nL ret0 D gCl nwG Z Hb A p s m args meth c) (hP : va_P D gCl (wC D ad sc tw S) H) {i : Int32} (hin : vp_in i 7) {k : Nat} (hk : i.toNatClampNeg = k) (hdg : decode cc pc = .ok (.iaload, 1)) (kk : W p l e R s m args below meth c H locs cells slots Q (F0 m (pc + 1) ls (.int (S.1.1 12 k) :: rest))) : W p l e R s m args below meth c H locs cells slots Q (F0 m pc ls (.int i :: .ref (ad 12) :: rest)) := by
  subst hk
  exact va_iald hC.x hC.b hC.K.1 hP 12 0 rfl rfl hin hdg kk
theorem eF_12 {f : Nat → Int32} : (wC D ad sc tw S).set 12 (ad 12, .inl ((D.1 100), 7, .inl f)) = wC D ad sc tw (sA S 12 f) := wC_setF (by omega) rfl (fun a h => sA_ne (by omega)) rfl
theorem sF_12 (hC : CX own cc nL ret0 D gCl nwG Z Hb A p s m args meth c) (hP : va_P D gCl (wC D ad sc tw S) H) (hD : va_D A (wC D ad sc tw S)) (hS : va_S A s.heap H locs) {i v : Int32} (hin : vp_in i 7) {k : Nat} (hk : i.toNatClampNeg = k) (hdg : decode cc pc = .ok (.iastore, 1)) (kk : ∀ S1 : CS, S1 = sI S 12 k v → ∀ (H : Heap) (locs : List Loc), va_P D gCl (wC D ad sc tw S1) H → va_D A (wC D ad sc tw S1) → va_S A s.heap H locs → W p l e R s m args below meth c H locs cells slots Q (F0 m (pc + 1) ls (rest))) : W p l e R s m args below meth c H locs cells slots Q (F0 m pc ls (.int v :: .int i :: .ref (ad 12) :: rest)) := by
  subst hk
  refine va_iast hC.x hC.b hC.K.1 hP hD hS 12 0 rfl rfl hin hdg (fun H1 locs1 hP1 hD1 hS1 => ?_)
  rw [eF_12] at hP1 hD1
  exact kk _ rfl _ _ hP1 hD1 hS1
theorem lF_13 (hC : CX own cc nL ret0 D gCl nwG Z Hb A p s m args meth c) (hP : va_P D gCl (wC D ad sc tw S) H) {i : Int32} (hin : vp_in i 4) {k : Nat} (hk : i.toNatClampNeg = k) (hdg : decode cc pc = .ok (.iaload, 1)) (kk : W p l e R s m args below meth c H locs cells slots Q (F0 m (pc + 1) ls (.int (S.1.1 13 k) :: rest))) : W p l e R s m args below meth c H locs cells slots Q (F0 m pc ls (.int i :: .ref (ad 13) :: rest)) := by
  subst hk
  exact va_iald hC.x hC.b hC.K.1 hP 13 0 rfl rfl hin hdg kk
theorem eF_13 {f : Nat → Int32} : (wC D ad sc tw S).set 13 (ad 13, .inl ((D.1 100), 4, .inl f)) = wC D ad sc tw (sA S 13 f) := wC_setF (by omega) rfl (fun a h => sA_ne (by omega)) rfl
theorem sF_13 (hC : CX own cc nL ret0 D gCl nwG Z Hb A p s m args meth c) (hP : va_P D gCl (wC D ad sc tw S) H) (hD : va_D A (wC D ad sc tw S)) (hS : va_S A s.heap H locs) {i v : Int32} (hin : vp_in i 4) {k : Nat} (hk : i.toNatClampNeg = k) (hdg : decode cc pc = .ok (.iastore, 1)) (kk : ∀ S1 : CS, S1 = sI S 13 k v → ∀ (H : Heap) (locs : List Loc), va_P D gCl (wC D ad sc tw S1) H → va_D A (wC D ad sc tw S1) → va_S A s.heap H locs → W p l e R s m args below meth c H locs cells slots Q (F0 m (pc + 1) ls (rest))) : W p l e R s m args below meth c H locs cells slots Q (F0 m pc ls (.int v :: .int i :: .ref (ad 13) :: rest)) := by
  subst hk
  refine va_iast hC.x hC.b hC.K.1 hP hD hS 13 0 rfl rfl hin hdg (fun H1 locs1 hP1 hD1 hS1 => ?_)
  rw [eF_13] at hP1 hD1
  exact kk _ rfl _ _ hP1 hD1 hS1
theorem lF_16 (hC : CX own cc nL ret0 D gCl nwG Z Hb A p s m args meth c) (hP : va_P D gCl (wC D ad sc tw S) H) {i : Int32} (hin : vp_in i 8) {k : Nat} (hk : i.toNatClampNeg = k) (hdg : decode cc pc = .ok (.caload, 1)) (kk : W p l e R s m args below meth c H locs cells slots Q (F0 m (pc + 1) ls (.int (S.1.1 16 k) :: rest))) : W p l e R s m args below meth c H locs cells slots Q (F0 m pc ls (.int i :: .ref (ad 16) :: rest)) := by
  subst hk
  exact va_cald hC.x hC.b hC.K.1 hP 16 3 rfl rfl hin hdg kk
theorem eF_16 {f : Nat → Int32} : (wC D ad sc tw S).set 16 (ad 16, .inl ((D.1 103), 8, .inl f)) = wC D ad sc tw (sA S 16 f) := wC_setF (by omega) rfl (fun a h => sA_ne (by omega)) rfl
theorem sF_16 (hC : CX own cc nL ret0 D gCl nwG Z Hb A p s m args meth c) (hP : va_P D gCl (wC D ad sc tw S) H) (hD : va_D A (wC D ad sc tw S)) (hS : va_S A s.heap H locs) {i v : Int32} (hin : vp_in i 8) {k : Nat} (hk : i.toNatClampNeg = k) (hdg : decode cc pc = .ok (.castore, 1)) (kk : ∀ S1 : CS, S1 = sI S 16 k (vp_nar .char v) → ∀ (H : Heap) (locs : List Loc), va_P D gCl (wC D ad sc tw S1) H → va_D A (wC D ad sc tw S1) → va_S A s.heap H locs → W p l e R s m args below meth c H locs cells slots Q (F0 m (pc + 1) ls (rest))) : W p l e R s m args below meth c H locs cells slots Q (F0 m pc ls (.int v :: .int i :: .ref (ad 16) :: rest)) := by
  subst hk
  refine va_cast hC.x hC.b hC.K.1 hP hD hS 16 3 rfl rfl hin hdg (fun H1 locs1 hP1 hD1 hS1 => ?_)
  rw [eF_16] at hP1 hD1
  exact kk _ rfl _ _ hP1 hD1 hS1
theorem lS_1 (hr : r < 22) (hC : CX own cc nL ret0 D gCl nwG Z Hb A p s m args meth c) (hP : va_P D gCl (wC D ad sc tw S) H) {i : Int32} (hin : vp_in i 6) {k : Nat} (hk : i.toNatClampNeg = k) (hdg : decode cc pc = .ok (.iaload, 1)) (kk : W p l e R s m args below meth c H locs cells slots Q (F0 m (pc + 1) ls (.int (S.1.1 (300 + 4 * r + 1) k) :: rest))) : W p l e R s m args below meth c H locs cells slots Q (F0 m pc ls (.int i :: .ref (ad (20 + 4 * r + 1)) :: rest)) := by
  subst hk
  exact va_iald hC.x hC.b hC.K.1 hP (17 + 4 * r + 1) 0 (wC_sa 1 (by omega) (by omega) hr) rfl hin hdg kk
theorem sS_1 (hr : r < 22) (hC : CX own cc nL ret0 D gCl nwG Z Hb A p s m args meth c) (hP : va_P D gCl (wC D ad sc tw S) H) (hD : va_D A (wC D ad sc tw S)) (hS : va_S A s.heap H locs) {i v : Int32} (hin : vp_in i 6) {k : Nat} (hk : i.toNatClampNeg = k) (hdg : decode cc pc = .ok (.iastore, 1)) (kk : ∀ S1 : CS, S1 = sI S (300 + 4 * r + 1) k v → ∀ (H : Heap) (locs : List Loc), va_P D gCl (wC D ad sc tw S1) H → va_D A (wC D ad sc tw S1) → va_S A s.heap H locs → W p l e R s m args below meth c H locs cells slots Q (F0 m (pc + 1) ls (rest))) : W p l e R s m args below meth c H locs cells slots Q (F0 m pc ls (.int v :: .int i :: .ref (ad (20 + 4 * r + 1)) :: rest)) := by
  subst hk
  refine va_iast hC.x hC.b hC.K.1 hP hD hS (17 + 4 * r + 1) 0 (wC_sa 1 (by omega) (by omega) hr) rfl hin hdg (fun H1 locs1 hP1 hD1 hS1 => ?_)
  rw [wC_setA 1 (by omega) (by omega) hr] at hP1 hD1
  exact kk _ rfl _ _ hP1 hD1 hS1
theorem lS_2 (hr : r < 22) (hC : CX own cc nL ret0 D gCl nwG Z Hb A p s m args meth c) (hP : va_P D gCl (wC D ad sc tw S) H) {i : Int32} (hin : vp_in i 6) {k : Nat} (hk : i.toNatClampNeg = k) (hdg : decode cc pc = .ok (.iaload, 1)) (kk : W p l e R s m args below meth c H locs cells slots Q (F0 m (pc + 1) ls (.int (S.1.1 (300 + 4 * r + 2) k) :: rest))) : W p l e R s m args below meth c H locs cells slots Q (F0 m pc ls (.int i :: .ref (ad (20 + 4 * r + 2)) :: rest)) := by
  subst hk
  exact va_iald hC.x hC.b hC.K.1 hP (17 + 4 * r + 2) 0 (wC_sa 2 (by omega) (by omega) hr) rfl hin hdg kk
theorem sS_2 (hr : r < 22) (hC : CX own cc nL ret0 D gCl nwG Z Hb A p s m args meth c) (hP : va_P D gCl (wC D ad sc tw S) H) (hD : va_D A (wC D ad sc tw S)) (hS : va_S A s.heap H locs) {i v : Int32} (hin : vp_in i 6) {k : Nat} (hk : i.toNatClampNeg = k) (hdg : decode cc pc = .ok (.iastore, 1)) (kk : ∀ S1 : CS, S1 = sI S (300 + 4 * r + 2) k v → ∀ (H : Heap) (locs : List Loc), va_P D gCl (wC D ad sc tw S1) H → va_D A (wC D ad sc tw S1) → va_S A s.heap H locs → W p l e R s m args below meth c H locs cells slots Q (F0 m (pc + 1) ls (rest))) : W p l e R s m args below meth c H locs cells slots Q (F0 m pc ls (.int v :: .int i :: .ref (ad (20 + 4 * r + 2)) :: rest)) := by
  subst hk
  refine va_iast hC.x hC.b hC.K.1 hP hD hS (17 + 4 * r + 2) 0 (wC_sa 2 (by omega) (by omega) hr) rfl hin hdg (fun H1 locs1 hP1 hD1 hS1 => ?_)
  rw [wC_setA 2 (by omega) (by omega) hr] at hP1 hD1
  exact kk _ rfl _ _ hP1 hD1 hS1
theorem lS_3 (hr : r < 22) (hC : CX own cc nL ret0 D gCl nwG Z Hb A p s m args meth c) (hP : va_P D gCl (wC D ad sc tw S) H) {i : Int32} (hin : vp_in i 6) {k : Nat} (hk : i.toNatClampNeg = k) (hdg : decode cc pc = .ok (.iaload, 1)) (kk : W p l e R s m args below meth c H locs cells slots Q (F0 m (pc + 1) ls (.int (S.1.1 (300 + 4 * r + 3) k) :: rest))) : W p l e R s m args below meth c H locs cells slots Q (F0 m pc ls (.int i :: .ref (ad (20 + 4 * r + 3)) :: rest)) := by
  subst hk
  exact va_iald hC.x hC.b hC.K.1 hP (17 + 4 * r + 3) 0 (wC_sa 3 (by omega) (by omega) hr) rfl hin hdg kk
theorem sS_3 (hr : r < 22) (hC : CX own cc nL ret0 D gCl nwG Z Hb A p s m args meth c) (hP : va_P D gCl (wC D ad sc tw S) H) (hD : va_D A (wC D ad sc tw S)) (hS : va_S A s.heap H locs) {i v : Int32} (hin : vp_in i 6) {k : Nat} (hk : i.toNatClampNeg = k) (hdg : decode cc pc = .ok (.iastore, 1)) (kk : ∀ S1 : CS, S1 = sI S (300 + 4 * r + 3) k v → ∀ (H : Heap) (locs : List Loc), va_P D gCl (wC D ad sc tw S1) H → va_D A (wC D ad sc tw S1) → va_S A s.heap H locs → W p l e R s m args below meth c H locs cells slots Q (F0 m (pc + 1) ls (rest))) : W p l e R s m args below meth c H locs cells slots Q (F0 m pc ls (.int v :: .int i :: .ref (ad (20 + 4 * r + 3)) :: rest)) := by
  subst hk
  refine va_iast hC.x hC.b hC.K.1 hP hD hS (17 + 4 * r + 3) 0 (wC_sa 3 (by omega) (by omega) hr) rfl hin hdg (fun H1 locs1 hP1 hD1 hS1 => ?_)
  rw [wC_setA 3 (by omega) (by omega) hr] at hP1 hD1
  exact kk _ rfl _ _ hP1 hD1 hS1
theorem lT7_3 (hC : CX own cc nL ret0 D gCl nwG Z Hb A p s m args meth c) (hP : va_P D gCl (wC D ad sc (some τ) S) H) {i : Int32} (hin : vp_in i 4) {k : Nat} (hk : i.toNatClampNeg = k) (hdg : decode cc pc = .ok (.iaload, 1)) (kk : W p l e R s m args below meth c H locs cells slots Q (F0 m (pc + 1) ls (.int (S.1.1 53 k) :: rest))) : W p l e R s m args below meth c H locs cells slots Q (F0 m pc ls (.int i :: .ref (τ.1 3) :: rest)) := by
  subst hk
  exact va_iald hC.x hC.b hC.K.1 hP 108 0 (wC_t (j := 3) (by omega) rfl) rfl hin hdg kk
theorem lT7_4 (hC : CX own cc nL ret0 D gCl nwG Z Hb A p s m args meth c) (hP : va_P D gCl (wC D ad sc (some τ) S) H) {i : Int32} (hin : vp_in i 8) {k : Nat} (hk : i.toNatClampNeg = k) (hdg : decode cc pc = .ok (.iaload, 1)) (kk : W p l e R s m args below meth c H locs cells slots Q (F0 m (pc + 1) ls (.int (S.1.1 54 k) :: rest))) : W p l e R s m args below meth c H locs cells slots Q (F0 m pc ls (.int i :: .ref (τ.1 4) :: rest)) := by
  subst hk
  exact va_iald hC.x hC.b hC.K.1 hP 109 0 (wC_t (j := 4) (by omega) rfl) rfl hin hdg kk
theorem lT7_5 (hC : CX own cc nL ret0 D gCl nwG Z Hb A p s m args meth c) (hP : va_P D gCl (wC D ad sc (some τ) S) H) {i : Int32} (hin : vp_in i 8) {k : Nat} (hk : i.toNatClampNeg = k) (hdg : decode cc pc = .ok (.iaload, 1)) (kk : W p l e R s m args below meth c H locs cells slots Q (F0 m (pc + 1) ls (.int (S.1.1 55 k) :: rest))) : W p l e R s m args below meth c H locs cells slots Q (F0 m pc ls (.int i :: .ref (τ.1 5) :: rest)) := by
  subst hk
  exact va_iald hC.x hC.b hC.K.1 hP 110 0 (wC_t (j := 5) (by omega) rfl) rfl hin hdg kk
theorem lT7_6 (hC : CX own cc nL ret0 D gCl nwG Z Hb A p s m args meth c) (hP : va_P D gCl (wC D ad sc (some τ) S) H) {i : Int32} (hin : vp_in i 8) {k : Nat} (hk : i.toNatClampNeg = k) (hdg : decode cc pc = .ok (.iaload, 1)) (kk : W p l e R s m args below meth c H locs cells slots Q (F0 m (pc + 1) ls (.int (S.1.1 56 k) :: rest))) : W p l e R s m args below meth c H locs cells slots Q (F0 m pc ls (.int i :: .ref (τ.1 6) :: rest)) := by
  subst hk
  exact va_iald hC.x hC.b hC.K.1 hP 111 0 (wC_t (j := 6) (by omega) rfl) rfl hin hdg kk
theorem lGh (hC : CX own cc nL ret0 D gCl nwG Z Hb A p s m args meth c) (hP : va_P D gCl (wC D ad sc (some τ) S) H) {i : Int32} (hin : vp_in i 6) {k : Nat} (hk : i.toNatClampNeg = k) (hg : k < τ.2.2.2.1) (hdg : decode cc pc = .ok (.aaload, 1)) (kk : W p l e R s m args below meth c H locs cells slots Q (F0 m (pc + 1) ls (.ref (τ.1 (20 + k)) :: rest))) : W p l e R s m args below meth c H locs cells slots Q (F0 m pc ls (.int i :: .ref (τ.1 2) :: rest)) := by
  subst hk
  refine va_aldq hC.x hC.b hC.K.1 hP 107 5 (wC_t (j := 2) (by omega) rfl) rfl hin hdg ?_
  rw [if_pos hg]
  exact kk
theorem lPe (hC : CX own cc nL ret0 D gCl nwG Z Hb A p s m args meth c) (hP : va_P D gCl (wC D ad sc (some τ) S) H) {i : Int32} (hin : vp_in i 6) {k : Nat} (hk : i.toNatClampNeg = k) (hg : k < τ.2.2.1) (hdg : decode cc pc = .ok (.aaload, 1)) (kk : W p l e R s m args below meth c H locs cells slots Q (F0 m (pc + 1) ls (.ref (τ.1 (10 + k)) :: rest))) : W p l e R s m args below meth c H locs cells slots Q (F0 m pc ls (.int i :: .ref (τ.1 1) :: rest)) := by
  subst hk
  refine va_aldq hC.x hC.b hC.K.1 hP 106 4 (wC_t (j := 1) (by omega) rfl) rfl hin hdg ?_
  rw [if_pos hg]
  exact kk
theorem lUn (hC : CX own cc nL ret0 D gCl nwG Z Hb A p s m args meth c) (hP : va_P D gCl (wC D ad sc tw S) H) {i : Int32} (hin : vp_in i 16) {k : Nat} (hk : i.toNatClampNeg = k) (hdg : decode cc pc = .ok (.aaload, 1)) (kk : W p l e R s m args below meth c H locs cells slots Q (F0 m (pc + 1) ls (.ref (ad (20 + 4 * S.2.2 k)) :: rest))) : W p l e R s m args below meth c H locs cells slots Q (F0 m pc ls (.int i :: .ref (ad 2) :: rest)) := by
  subst hk
  exact va_aldq hC.x hC.b hC.K.1 hP 2 6 rfl rfl hin hdg kk
theorem lIm (hC : CX own cc nL ret0 D gCl nwG Z Hb A p s m args meth c) (hP : va_P D gCl (wC D ad sc tw S) H) {i : Int32} (hin : vp_in i 3) {k : Nat} (hk : i.toNatClampNeg = k) (hdg : decode cc pc = .ok (.aaload, 1)) (kk : W p l e R s m args below meth c H locs cells slots Q (F0 m (pc + 1) ls (.ref (ad (20 + 4 * (19 + k))) :: rest))) : W p l e R s m args below meth c H locs cells slots Q (F0 m pc ls (.int i :: .ref (ad 3) :: rest)) := by
  subst hk
  exact va_aldq hC.x hC.b hC.K.1 hP 3 6 rfl rfl hin hdg kk
theorem eUn {k v : Nat} : (wC D ad sc tw S).set 2 (ad 2, .inl (D.1 106, 16, .inr (.inr (.inr (.inr (va_up (fun k => some (ad (20 + 4 * S.2.2 k))) k (some (ad (20 + 4 * v))))))))) = wC D ad sc tw (sU S k v) := by
  refine wC_setF (by omega) ?_ (fun a h => rfl) rfl
  have e : va_up (fun k => some (ad (20 + 4 * S.2.2 k))) k (some (ad (20 + 4 * v))) = fun j => some (ad (20 + 4 * (sU S k v).2.2 j)) := by
    funext j
    by_cases q : j = k <;> simp [va_up, sU, q]
  rw [e]
  rfl
theorem sUn (hr : r < 22) (hC : CX own cc nL ret0 D gCl nwG Z Hb A p s m args meth c) (hP : va_P D gCl (wC D ad sc tw S) H) (hD : va_D A (wC D ad sc tw S)) (hS : va_S A s.heap H locs) {i : Int32} (hin : vp_in i 16) {k : Nat} (hk : i.toNatClampNeg = k) (hdg : decode cc pc = .ok (.aastore, 1)) (kk : ∀ S1 : CS, S1 = sU S k r → ∀ (H : Heap) (locs : List Loc), va_P D gCl (wC D ad sc tw S1) H → va_D A (wC D ad sc tw S1) → va_S A s.heap H locs → W p l e R s m args below meth c H locs cells slots Q (F0 m (pc + 1) ls (rest))) : W p l e R s m args below meth c H locs cells slots Q (F0 m pc ls (.ref (ad (20 + 4 * r)) :: .int i :: .ref (ad 2) :: rest)) := by
  subst hk
  refine va_astq (r := (RX4, TX4, 5)) hC.x hC.b hC.K.1 hP hD hS 2 6 (17 + 4 * r) 3 rfl rfl (wC_so hr) gCl_X4 hin hdg (fun H1 locs1 hP1 hD1 hS1 => ?_)
  rw [eUn] at hP1 hD1
  exact kk _ rfl _ _ hP1 hD1 hS1
theorem cS_1 {r2 : Nat} (hr : r < 22) (hr2 : r2 < 22) (hC : CX RX4 cc nL ret0 D gCl nwG Z Hb A p s m args meth c) (hP : va_P D gCl (wC D ad sc tw S) H) (hD : va_D A (wC D ad sc tw S)) (hS : va_S A s.heap H locs) (hl : ls.size = nL) (hf : 1 ≤ R.frames) (hlo : (rest.map fun v => v.category).sum + (nativeFrameWords "java/lang/System" "arraycopy" 5 + 11) ≤ R.locals) (hdg : decode cc pc = .ok (.invokestatic 58, 3)) (kk : ∀ S1 : CS, S1 = sA S (300 + 4 * r + 1) (va_cpy (S.1.1 (300 + 4 * r2 + 1)) (S.1.1 (300 + 4 * r + 1)) 0 0 6) → ∀ (H : Heap) (locs : List Loc), va_P D gCl (wC D ad sc tw S1) H → va_D A (wC D ad sc tw S1) → va_S A s.heap H locs → W p l e R s m args below meth c H locs cells slots Q (F0 m (pc + 3) ls (rest))) : W p l e R s m args below meth c H locs cells slots Q (F0 m pc ls (.int 6 :: .int 0 :: .ref (ad (20 + 4 * r + 1)) :: .int 0 :: .ref (ad (20 + 4 * r2 + 1)) :: rest)) := by
  refine va_copyi hC.x hC.b (hC.ml.trans hl.symm) hC.ow (hC.ts _ q1092) (hC.ts _ q1094) (hC.ts _ q1093) (hC.ts _ q141) hC.K.1 hP hD hS (17 + 4 * r2 + 1) (17 + 4 * r + 1) 0 0 (wC_sa 1 (by omega) (by omega) hr2) (wC_sa 1 (by omega) (by omega) hr) rfl rfl rfl (by decide) (by decide) (by decide) (by decide) (by decide) (fun i hi => rfl) hf hlo hdg (fun H1 locs1 hP1 hD1 hS1 => ?_)
  have hP1 : va_P D gCl ((wC D ad sc tw S).set (17 + 4 * r + 1) ((ad (20 + 4 * r + 1)), .inl (D.1 100, 6, .inl (va_cpy (S.1.1 (300 + 4 * r2 + 1)) (S.1.1 (300 + 4 * r + 1)) 0 0 6)))) H1 := hP1
  have hD1 : va_D A ((wC D ad sc tw S).set (17 + 4 * r + 1) ((ad (20 + 4 * r + 1)), .inl (D.1 100, 6, .inl (va_cpy (S.1.1 (300 + 4 * r2 + 1)) (S.1.1 (300 + 4 * r + 1)) 0 0 6)))) := hD1
  rw [wC_setA 1 (by omega) (by omega) hr] at hP1 hD1
  exact kk _ rfl _ _ hP1 hD1 hS1
theorem cS_2 {r2 : Nat} (hr : r < 22) (hr2 : r2 < 22) (hC : CX RX4 cc nL ret0 D gCl nwG Z Hb A p s m args meth c) (hP : va_P D gCl (wC D ad sc tw S) H) (hD : va_D A (wC D ad sc tw S)) (hS : va_S A s.heap H locs) (hl : ls.size = nL) (hf : 1 ≤ R.frames) (hlo : (rest.map fun v => v.category).sum + (nativeFrameWords "java/lang/System" "arraycopy" 5 + 11) ≤ R.locals) (hdg : decode cc pc = .ok (.invokestatic 58, 3)) (kk : ∀ S1 : CS, S1 = sA S (300 + 4 * r + 2) (va_cpy (S.1.1 (300 + 4 * r2 + 2)) (S.1.1 (300 + 4 * r + 2)) 0 0 6) → ∀ (H : Heap) (locs : List Loc), va_P D gCl (wC D ad sc tw S1) H → va_D A (wC D ad sc tw S1) → va_S A s.heap H locs → W p l e R s m args below meth c H locs cells slots Q (F0 m (pc + 3) ls (rest))) : W p l e R s m args below meth c H locs cells slots Q (F0 m pc ls (.int 6 :: .int 0 :: .ref (ad (20 + 4 * r + 2)) :: .int 0 :: .ref (ad (20 + 4 * r2 + 2)) :: rest)) := by
  refine va_copyi hC.x hC.b (hC.ml.trans hl.symm) hC.ow (hC.ts _ q1092) (hC.ts _ q1094) (hC.ts _ q1093) (hC.ts _ q141) hC.K.1 hP hD hS (17 + 4 * r2 + 2) (17 + 4 * r + 2) 0 0 (wC_sa 2 (by omega) (by omega) hr2) (wC_sa 2 (by omega) (by omega) hr) rfl rfl rfl (by decide) (by decide) (by decide) (by decide) (by decide) (fun i hi => rfl) hf hlo hdg (fun H1 locs1 hP1 hD1 hS1 => ?_)
  have hP1 : va_P D gCl ((wC D ad sc tw S).set (17 + 4 * r + 2) ((ad (20 + 4 * r + 2)), .inl (D.1 100, 6, .inl (va_cpy (S.1.1 (300 + 4 * r2 + 2)) (S.1.1 (300 + 4 * r + 2)) 0 0 6)))) H1 := hP1
  have hD1 : va_D A ((wC D ad sc tw S).set (17 + 4 * r + 2) ((ad (20 + 4 * r + 2)), .inl (D.1 100, 6, .inl (va_cpy (S.1.1 (300 + 4 * r2 + 2)) (S.1.1 (300 + 4 * r + 2)) 0 0 6)))) := hD1
  rw [wC_setA 2 (by omega) (by omega) hr] at hP1 hD1
  exact kk _ rfl _ _ hP1 hD1 hS1
theorem cS_3 {r2 : Nat} (hr : r < 22) (hr2 : r2 < 22) (hC : CX RX4 cc nL ret0 D gCl nwG Z Hb A p s m args meth c) (hP : va_P D gCl (wC D ad sc tw S) H) (hD : va_D A (wC D ad sc tw S)) (hS : va_S A s.heap H locs) (hl : ls.size = nL) (hf : 1 ≤ R.frames) (hlo : (rest.map fun v => v.category).sum + (nativeFrameWords "java/lang/System" "arraycopy" 5 + 11) ≤ R.locals) (hdg : decode cc pc = .ok (.invokestatic 58, 3)) (kk : ∀ S1 : CS, S1 = sA S (300 + 4 * r + 3) (va_cpy (S.1.1 (300 + 4 * r2 + 3)) (S.1.1 (300 + 4 * r + 3)) 0 0 6) → ∀ (H : Heap) (locs : List Loc), va_P D gCl (wC D ad sc tw S1) H → va_D A (wC D ad sc tw S1) → va_S A s.heap H locs → W p l e R s m args below meth c H locs cells slots Q (F0 m (pc + 3) ls (rest))) : W p l e R s m args below meth c H locs cells slots Q (F0 m pc ls (.int 6 :: .int 0 :: .ref (ad (20 + 4 * r + 3)) :: .int 0 :: .ref (ad (20 + 4 * r2 + 3)) :: rest)) := by
  refine va_copyi hC.x hC.b (hC.ml.trans hl.symm) hC.ow (hC.ts _ q1092) (hC.ts _ q1094) (hC.ts _ q1093) (hC.ts _ q141) hC.K.1 hP hD hS (17 + 4 * r2 + 3) (17 + 4 * r + 3) 0 0 (wC_sa 3 (by omega) (by omega) hr2) (wC_sa 3 (by omega) (by omega) hr) rfl rfl rfl (by decide) (by decide) (by decide) (by decide) (by decide) (fun i hi => rfl) hf hlo hdg (fun H1 locs1 hP1 hD1 hS1 => ?_)
  have hP1 : va_P D gCl ((wC D ad sc tw S).set (17 + 4 * r + 3) ((ad (20 + 4 * r + 3)), .inl (D.1 100, 6, .inl (va_cpy (S.1.1 (300 + 4 * r2 + 3)) (S.1.1 (300 + 4 * r + 3)) 0 0 6)))) H1 := hP1
  have hD1 : va_D A ((wC D ad sc tw S).set (17 + 4 * r + 3) ((ad (20 + 4 * r + 3)), .inl (D.1 100, 6, .inl (va_cpy (S.1.1 (300 + 4 * r2 + 3)) (S.1.1 (300 + 4 * r + 3)) 0 0 6)))) := hD1
  rw [wC_setA 3 (by omega) (by omega) hr] at hP1 hD1
  exact kk _ rfl _ _ hP1 hD1 hS1
theorem cSe {r2 : Nat} (hr2 : r2 < 22) (hC : CX RX1 cc nL ret0 D gCl nwG Z Hb A p s m args meth c) (hP : va_P D gCl (wC D ad sc tw S) H) (hD : va_D A (wC D ad sc tw S)) (hS : va_S A s.heap H locs) (hl : ls.size = nL) (hf : 1 ≤ R.frames) (hlo : (rest.map fun v => v.category).sum + (nativeFrameWords "java/lang/System" "arraycopy" 5 + 11) ≤ R.locals) (hdg : decode cc pc = .ok (.invokestatic 226, 3)) (kk : ∀ S1 : CS, S1 = sA S 11 (va_cpy (S.1.1 (300 + 4 * r2 + 1)) (S.1.1 11) 0 0 6) → ∀ (H : Heap) (locs : List Loc), va_P D gCl (wC D ad sc tw S1) H → va_D A (wC D ad sc tw S1) → va_S A s.heap H locs → W p l e R s m args below meth c H locs cells slots Q (F0 m (pc + 3) ls (rest))) : W p l e R s m args below meth c H locs cells slots Q (F0 m pc ls (.int 6 :: .int 0 :: .ref (ad 11) :: .int 0 :: .ref (ad (20 + 4 * r2 + 1)) :: rest)) := by
  refine va_copyi hC.x hC.b (hC.ml.trans hl.symm) hC.ow (hC.ts _ q1115) (hC.ts _ q1094) (hC.ts _ q1093) (hC.ts _ q141) hC.K.1 hP hD hS (17 + 4 * r2 + 1) 11 0 0 (wC_sa 1 (by omega) (by omega) hr2) rfl rfl rfl rfl (by decide) (by decide) (by decide) (by decide) (by decide) (fun i hi => rfl) hf hlo hdg (fun H1 locs1 hP1 hD1 hS1 => ?_)
  have hP1 : va_P D gCl ((wC D ad sc tw S).set 11 ((ad 11), .inl (D.1 100, 6, .inl (va_cpy (S.1.1 (300 + 4 * r2 + 1)) (S.1.1 11) 0 0 6)))) H1 := hP1
  have hD1 : va_D A ((wC D ad sc tw S).set 11 ((ad 11), .inl (D.1 100, 6, .inl (va_cpy (S.1.1 (300 + 4 * r2 + 1)) (S.1.1 11) 0 0 6)))) := hD1
  rw [eF_11] at hP1 hD1
  exact kk _ rfl _ _ hP1 hD1 hS1
end CROWS
