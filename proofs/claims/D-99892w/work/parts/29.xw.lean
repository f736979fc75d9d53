set_option maxRecDepth 100000
/-! THE SCANNER'S WORLD -/
abbrev SX : Type := Nat × Nat × List Int32 × Bool
/-- the component; the word's address; the new town's numbers; texts -/
abbrev XS : Type := CS × Option Nat × CS × List SX
def xC (S : XS) (r k : Nat) (v : Int32) : XS := (sI S.1 r k v, S.2)
def xN (S : XS) (r k : Nat) (v : Int32) : XS := (S.1, S.2.1, sI S.2.2.1 r k v, S.2.2.2)
def xW (S : XS) (o : Option Nat) : XS := (S.1, o, S.2.2)
def xL (S : XS) (L : List SX) : XS := (S.1, S.2.1, S.2.2.1, L)
def plC (D : va_G) (L : List SX) : va_W := L.flatMap (fun x => [(x.1, sO x.2.1 x.2.2.1 x.2.2.2), (x.2.1, sB D x.2.2.1)])
def xc (D : va_G) (ad : Nat → Nat) (rf : Nat → Value) (tw : Option TD) (τ : TD) (S : XS) : va_W := wC D ad (S.2.1, some (τ.1 0), rf) tw S.1
def xt (D : va_G) (τ : TD) (S : XS) : va_W := tbC D (some τ) S.2.2.1
def wX (D : va_G) (ad : Nat → Nat) (rf : Nat → Value) (tw : Option TD) (F : va_W) (τ : TD) (S : XS) : va_W := F ++ (xc D ad rf tw τ S ++ (xt D τ S ++ plC D S.2.2.2))
/-- the text at an address -/
def strAt (S : XS) (a : Nat) (bs : List Int32) : Prop := ∃ (i : Nat) (x : SX), S.2.2.2[i]? = some x ∧ x.1 = a ∧ x.2.2.1 = bs ∧ bs.length < 1000
def xH (S : XS) (i : Nat) (x : SX) : XS := xL S (S.2.2.2.set i (x.1, x.2.1, x.2.2.1, true))
/-- a person, a dead more -/
def tAP (τ : TD) (a nm : Nat) : TD := (fun j => if j = 10 + τ.2.2.1 then a else τ.1 j, fun j => if j = 10 + τ.2.2.1 then nm else τ.2.1 j, τ.2.2.1 + 1, τ.2.2.2.1, τ.2.2.2.2)
def tAG (τ : TD) (a nm lw : Nat) : TD := (fun j => if j = 20 + τ.2.2.2.1 then a else τ.1 j, fun j => if j = 20 + τ.2.2.2.1 then nm else τ.2.1 j, τ.2.2.1, τ.2.2.2.1 + 1, fun j => if j = τ.2.2.2.1 then lw else τ.2.2.2.2 j)
/-- who is found: a person (true), a dead, nobody -/
def fA (τ : TD) (r : Option (Bool × Nat)) : Option Nat := match r with
  | none => none
  | some (true, i) => some (τ.1 (10 + i))
  | some (false, d) => some (τ.1 (20 + d))
theorem idx_P {D : va_G} {cl : List vw_C} {w w' : va_W} {H : Heap} (φ : Nat → Nat) (h : ∀ k q, w'[k]? = some q → w[φ k]? = some q) (hP : va_P D cl w H) : va_P D cl w' H := fun k q hk => hP (φ k) q (h k q hk)
theorem idx_D {A : Nat → Prop} {w w' : va_W} (φ : Nat → Nat) (h : ∀ k q, w'[k]? = some q → w[φ k]? = some q) (hφ : ∀ i j, i < w'.length → j < w'.length → φ i = φ j → i = j) (hD : va_D A w) : va_D A w' :=
  ⟨fun i j p q hi hj e => hφ i j (List.getElem?_eq_some_iff.mp hi).1 (List.getElem?_eq_some_iff.mp hj).1 (hD.1 _ _ p q (h i p hi) (h j q hj) e), fun k q hk => hD.2 _ q (h k q hk)⟩
/-- the last comes to the head -/
theorem rot_at {w : va_W} {x : Nat × va_E} : ∀ k q, (x :: w)[k]? = some q → (w ++ [x])[if k = 0 then w.length else k - 1]? = some q := by
  intro k q h
  cases k with
  | zero =>
    rw [if_pos rfl, List.getElem?_append_right (Nat.le_refl _), Nat.sub_self]
    exact h
  | succ k =>
    rw [if_neg (Nat.succ_ne_zero k)]
    have h : w[k]? = some q := h
    show (w ++ [x])[k]? = some q
    rw [List.getElem?_append_left (List.getElem?_eq_some_iff.mp h).1]
    exact h
theorem rot_P {D : va_G} {cl : List vw_C} {w : va_W} {x : Nat × va_E} {H : Heap} (h : va_P D cl (w ++ [x]) H) : va_P D cl (x :: w) H := idx_P _ rot_at h
theorem rot_D {A : Nat → Prop} {w : va_W} {x : Nat × va_E} (h : va_D A (w ++ [x])) : va_D A (x :: w) := by
  refine idx_D _ rot_at (fun i j hi hj e => ?_) h
  have hi : i < w.length + 1 := hi
  have hj : j < w.length + 1 := hj
  by_cases a : i = 0 <;> by_cases b : j = 0 <;> simp only [a, b, if_true, if_false] at e ⊢ <;> omega
/-- the head goes behind the first n -/
theorem mv_at {a b : va_W} {x : Nat × va_E} : ∀ k q, (a ++ x :: b)[k]? = some q → (x :: (a ++ b))[if k < a.length then k + 1 else if k = a.length then 0 else k]? = some q := by
  intro k q h
  by_cases h1 : k < a.length
  · rw [if_pos h1]
    rw [List.getElem?_append_left h1] at h
    show (a ++ b)[k]? = some q
    rw [List.getElem?_append_left h1]
    exact h
  · rw [if_neg h1]
    rw [List.getElem?_append_right (Nat.not_lt.mp h1)] at h
    by_cases h2 : k = a.length
    · rw [if_pos h2]
      subst h2
      rw [Nat.sub_self] at h
      exact h
    · rw [if_neg h2]
      obtain ⟨j, hj⟩ : ∃ j, k = a.length + 1 + j := ⟨k - a.length - 1, by omega⟩
      subst hj
      rw [show a.length + 1 + j - a.length = j + 1 by omega] at h
      have h : b[j]? = some q := h
      rw [show a.length + 1 + j = (a.length + j) + 1 by omega]
      show (a ++ b)[a.length + j]? = some q
      rw [List.getElem?_append_right (by omega), Nat.add_sub_cancel_left]
      exact h
theorem mv_P {D : va_G} {cl : List vw_C} {a b : va_W} {x : Nat × va_E} {H : Heap} (h : va_P D cl (x :: (a ++ b)) H) : va_P D cl (a ++ x :: b) H := idx_P _ mv_at h
theorem mv_D {A : Nat → Prop} {a b : va_W} {x : Nat × va_E} (h : va_D A (x :: (a ++ b))) : va_D A (a ++ x :: b) := by
  refine idx_D _ mv_at (fun i j hi hj e => ?_) h
  by_cases h1 : i < a.length <;> by_cases h2 : j < a.length <;> by_cases h3 : i = a.length <;> by_cases h4 : j = a.length <;> simp only [h1, h2, h3, h4, if_true, if_false, Nat.lt_irrefl] at e ⊢ <;> omega
section XROWS
variable {p : Program} {l : Launch} {e : Env} {R : Room} {s : State} {m : MethodId} {args : Array Value} {below : List Frame} {meth : Method} {c : Code} {H : Heap} {locs : List Loc} {cells slots : Nat} {Q : State → Prop} {cc : ByteArray} {nL pc : Nat} {ret0 : Option FieldType} {D : va_G} {Z : State → Prop} {Hb : Heap} {A : Nat → Prop} {ls : Array Slot} {rest : List Value} {ad : Nat → Nat} {rf : Nat → Value} {tw : Option TD} {τ : TD} {F : va_W} {S : XS} {own : String}
theorem wX_c {j : Nat} {x : Nat × va_E} (h : (xc D ad rf tw τ S)[j]? = some x) : (wX D ad rf tw F τ S)[F.length + j]? = some x := by
  unfold wX
  rw [List.getElem?_append_right (Nat.le_add_right _ _), Nat.add_sub_cancel_left, List.getElem?_append_left (List.getElem?_eq_some_iff.mp h).1]
  exact h
theorem wX_t {j : Nat} {x : Nat × va_E} (h : (xt D τ S)[j]? = some x) : (wX D ad rf tw F τ S)[F.length + ((xc D ad rf tw τ S).length + j)]? = some x := by
  unfold wX
  rw [List.getElem?_append_right (Nat.le_add_right _ _), Nat.add_sub_cancel_left, List.getElem?_append_right (Nat.le_add_right _ _), Nat.add_sub_cancel_left, List.getElem?_append_left (List.getElem?_eq_some_iff.mp h).1]
  exact h
theorem wX_p {j : Nat} {x : Nat × va_E} (h : (plC D S.2.2.2)[j]? = some x) : (wX D ad rf tw F τ S)[F.length + ((xc D ad rf tw τ S).length + ((xt D τ S).length + j))]? = some x := by
  unfold wX
  rw [List.getElem?_append_right (Nat.le_add_right _ _), Nat.add_sub_cancel_left, List.getElem?_append_right (Nat.le_add_right _ _), Nat.add_sub_cancel_left, List.getElem?_append_right (Nat.le_add_right _ _), Nat.add_sub_cancel_left]
  exact h
theorem wX_sc {S' : XS} {j : Nat} {x : Nat × va_E} (hj : j < (xc D ad rf tw τ S).length) (h : (xc D ad rf tw τ S).set j x = xc D ad rf tw τ S') (e : S'.2.2 = S.2.2) : (wX D ad rf tw F τ S).set (F.length + j) x = wX D ad rf tw F τ S' := by
  unfold wX
  rw [List.set_append_right _ _ (Nat.le_add_right _ _), Nat.add_sub_cancel_left, List.set_append_left _ _ hj, h]
  unfold xt
  rw [e]
theorem wX_st {S' : XS} {j : Nat} {x : Nat × va_E} (hj : j < (xt D τ S).length) (h : (xt D τ S).set j x = xt D τ S') (e1 : S'.1 = S.1) (e2 : S'.2.1 = S.2.1) (e3 : S'.2.2.2 = S.2.2.2) : (wX D ad rf tw F τ S).set (F.length + ((xc D ad rf tw τ S).length + j)) x = wX D ad rf tw F τ S' := by
  unfold wX
  rw [List.set_append_right _ _ (Nat.le_add_right _ _), Nat.add_sub_cancel_left, List.set_append_right _ _ (Nat.le_add_right _ _), Nat.add_sub_cancel_left, List.set_append_left _ _ hj, h, e3]
  unfold xc
  rw [e1, e2]
theorem wX_sp {S' : XS} {j : Nat} {x : Nat × va_E} (h : (plC D S.2.2.2).set j x = plC D S'.2.2.2) (e1 : S'.1 = S.1) (e2 : S'.2.1 = S.2.1) (e3 : S'.2.2.1 = S.2.2.1) : (wX D ad rf tw F τ S).set (F.length + ((xc D ad rf tw τ S).length + ((xt D τ S).length + j))) x = wX D ad rf tw F τ S' := by
  unfold wX
  rw [List.set_append_right _ _ (Nat.le_add_right _ _), Nat.add_sub_cancel_left, List.set_append_right _ _ (Nat.le_add_right _ _), Nat.add_sub_cancel_left, List.set_append_right _ _ (Nat.le_add_right _ _), Nat.add_sub_cancel_left, h]
  unfold xc xt
  rw [e1, e2, e3]
theorem xc_len17 : 17 ≤ (xc D ad rf tw τ S).length := by
  unfold xc wC
  rw [List.length_append, fx_len]
  omega
theorem xc_f {j : Nat} {x : Nat × va_E} (hj : j < 17) (h : (fxC D ad (S.2.1, some (τ.1 0), rf) tw S.1)[j]? = some x) : (xc D ad rf tw τ S)[j]? = some x := wC_f hj h
theorem pl_at {L : List SX} {i : Nat} {x : SX} (h : L[i]? = some x) : (plC D L)[2 * i]? = some (x.1, sO x.2.1 x.2.2.1 x.2.2.2) ∧ (plC D L)[2 * i + 1]? = some (x.2.1, sB D x.2.2.1) := by
  induction L generalizing i with
  | nil => cases h
  | cons y L ih =>
    cases i with
    | zero =>
      have h : y = x := Option.some.inj h
      subst h
      exact ⟨rfl, rfl⟩
    | succ i =>
      have h : L[i]? = some x := h
      obtain ⟨h1, h2⟩ := ih h
      have e : plC D (y :: L) = [(y.1, sO y.2.1 y.2.2.1 y.2.2.2), (y.2.1, sB D y.2.2.1)] ++ plC D L := rfl
      rw [e]
      refine ⟨?_, ?_⟩
      · rw [show 2 * (i + 1) = 2 + 2 * i by omega, List.getElem?_append_right (by show 2 ≤ _; omega)]
        rw [show 2 + 2 * i - [(y.1, sO y.2.1 y.2.2.1 y.2.2.2), (y.2.1, sB D y.2.2.1)].length = 2 * i by show 2 + 2 * i - 2 = _; omega]
        exact h1
      · rw [show 2 * (i + 1) + 1 = 2 + (2 * i + 1) by omega, List.getElem?_append_right (by show 2 ≤ _; omega)]
        rw [show 2 + (2 * i + 1) - [(y.1, sO y.2.1 y.2.2.1 y.2.2.2), (y.2.1, sB D y.2.2.1)].length = 2 * i + 1 by show 2 + (2 * i + 1) - 2 = _; omega]
        exact h2
theorem pl_set {L : List SX} {i : Nat} {x : SX} (h : L[i]? = some x) : (plC D L).set (2 * i) (x.1, sO x.2.1 x.2.2.1 true) = plC D (L.set i (x.1, x.2.1, x.2.2.1, true)) := by
  induction L generalizing i with
  | nil => cases h
  | cons y L ih =>
    have e : plC D (y :: L) = [(y.1, sO y.2.1 y.2.2.1 y.2.2.2), (y.2.1, sB D y.2.2.1)] ++ plC D L := rfl
    cases i with
    | zero =>
      have h : y = x := Option.some.inj h
      subst h
      rfl
    | succ i =>
      have h : L[i]? = some x := h
      rw [e, show 2 * (i + 1) = 2 + 2 * i by omega, List.set_append_right _ _ (by show 2 ≤ _; omega)]
      rw [show 2 + 2 * i - [(y.1, sO y.2.1 y.2.2.1 y.2.2.2), (y.2.1, sB D y.2.2.1)].length = 2 * i by show 2 + 2 * i - 2 = _; omega, ih h]
      rfl
theorem pl_app {L : List SX} {x : SX} : plC D (L ++ [x]) = plC D L ++ [(x.1, sO x.2.1 x.2.2.1 x.2.2.2), (x.2.1, sB D x.2.2.1)] := by
  unfold plC
  rw [List.flatMap_append]
  rfl
theorem strP {a : Nat} {bs : List Int32} (h : strAt S a bs) : PStr D (wX D ad rf tw F τ S) a bs := by
  obtain ⟨i, x, h1, rfl, rfl, h2⟩ := h
  exact ⟨h2, _, x.2.1, _, _, wX_p (pl_at h1).1, _, wX_p (pl_at h1).2⟩
theorem tb_set {S0 S' : CS} {j : Nat} {x : Nat × va_E} (hj : j < 7) (h : (tb7 D τ S0).set j x = tb7 D τ S') (h1 : ∀ a, 1000 ≤ a → S'.1.1 a = S0.1.1 a) : (tbC D (some τ) S0).set j x = tbC D (some τ) S' := by
  show (tb7 D τ S0 ++ (tbP τ S0 ++ tbG τ S0)).set j x = tb7 D τ S' ++ (tbP τ S' ++ tbG τ S')
  rw [List.set_append_left _ _ (by show j < 7; exact hj), h]
  have e2 : tbP τ S' = tbP τ S0 := by
    unfold tbP obP
    apply List.map_congr_left
    intro j _
    rw [h1 (1000 + 2 * j) (by omega)]
  have e3 : tbG τ S' = tbG τ S0 := by
    unfold tbG obG
    apply List.map_congr_left
    intro j _
    rw [h1 (1001 + 2 * j) (by omega)]
  rw [e2, e3]
theorem xt_f {j : Nat} {x : Nat × va_E} (hj : j < 7) (h : (tb7 D τ S.2.2.1)[j]? = some x) : (xt D τ S)[j]? = some x := by
  show (tb7 D τ S.2.2.1 ++ (tbP τ S.2.2.1 ++ tbG τ S.2.2.1))[j]? = some x
  rw [List.getElem?_append_left (by show j < 7; exact hj)]
  exact h
theorem xt_p {i : Nat} (hi : i < τ.2.2.1) : (xt D τ S)[7 + i]? = some (τ.1 (10 + i), .inr (7, obP τ S.2.2.1 i)) := by
  show (tb7 D τ S.2.2.1 ++ (tbP τ S.2.2.1 ++ tbG τ S.2.2.1))[7 + i]? = _
  rw [List.getElem?_append_right (by show 7 ≤ _; omega), show 7 + i - (tb7 D τ S.2.2.1).length = i by show 7 + i - 7 = i; omega, List.getElem?_append_left (by simp [tbP]; exact hi)]
  simp [tbP, hi]
theorem xt_g {i : Nat} (hi : i < τ.2.2.2.1) : (xt D τ S)[7 + τ.2.2.1 + i]? = some (τ.1 (20 + i), .inr (8 + τ.2.2.2.2 i, obG τ S.2.2.1 i)) := by
  show (tb7 D τ S.2.2.1 ++ (tbP τ S.2.2.1 ++ tbG τ S.2.2.1))[7 + τ.2.2.1 + i]? = _
  rw [List.getElem?_append_right (by show 7 ≤ _; omega), show 7 + τ.2.2.1 + i - (tb7 D τ S.2.2.1).length = τ.2.2.1 + i by show 7 + τ.2.2.1 + i - 7 = τ.2.2.1 + i; omega, List.getElem?_append_right (by simp [tbP])]
  simp [tbP, tbG, hi]
theorem xt_len : (xt D τ S).length = 7 + (τ.2.2.1 + τ.2.2.2.1) := by
  show (tb7 D τ S.2.2.1 ++ (tbP τ S.2.2.1 ++ tbG τ S.2.2.1)).length = _
  simp [tb7, tbP, tbG]
  omega
theorem eG_set {S0 : CS} {i k : Nat} {v : Int32} (hi : i < τ.2.2.2.1) (hk : (obG τ S0 i).set k (.int v) = obG τ (sI S0 (1001 + 2 * i) k v) i) : (tbC D (some τ) S0).set (7 + τ.2.2.1 + i) (τ.1 (20 + i), .inr (8 + τ.2.2.2.2 i, (obG τ S0 i).set k (.int v))) = tbC D (some τ) (sI S0 (1001 + 2 * i) k v) := by
  show (tb7 D τ S0 ++ (tbP τ S0 ++ tbG τ S0)).set _ _ = tb7 D τ _ ++ (tbP τ _ ++ tbG τ _)
  rw [List.set_append_right _ _ (by show 7 ≤ _; omega), show 7 + τ.2.2.1 + i - (tb7 D τ S0).length = τ.2.2.1 + i by show 7 + τ.2.2.1 + i - 7 = τ.2.2.1 + i; omega, List.set_append_right _ _ (by simp [tbP])]
  have e1 : tb7 D τ (sI S0 (1001 + 2 * i) k v) = tb7 D τ S0 := by
    unfold tb7 obT sI
    rw [sA_ne (by omega), sA_ne (by omega), sA_ne (by omega), sA_ne (by omega), sA_ne (by omega)]
  have e2 : tbP τ (sI S0 (1001 + 2 * i) k v) = tbP τ S0 := by
    unfold tbP obP sI
    apply List.map_congr_left
    intro j _
    rw [sA_ne (by omega)]
  rw [e1, e2, show τ.2.2.1 + i - (tbP τ S0).length = i by simp [tbP]]
  congr 2
  unfold tbG
  refine map_set _ _ _ i _ (by rw [hk]) (fun j hj hn => ?_)
  unfold obG sI
  rw [sA_ne (by omega)]
theorem gXS_0 (hC : CX RX2 cc nL ret0 D gCl nwG Z Hb A p s m args meth c) (hP : va_P D gCl (wX D ad rf tw F τ S) H) (hdg : decode cc pc = .ok (.getfield 12, 3)) (kk : W p l e R s m args below meth c H locs cells slots Q (F0 m (pc + 3) ls (.ref (ad 15) :: rest))) : W p l e R s m args below meth c H locs cells slots Q (F0 m pc ls (.ref (ad 14) :: rest)) :=
  va_get (D := D) (ci := 1) (fs := (obS ad (S.2.1, some (τ.1 0), rf) S.1)) (v := .ref (ad 15)) (C := RX2) (T := TX2) (N := 10) hC.x hC.b hC.ts in_X2 hC.ow hC.K.1 hP (F.length + 14) (wX_c (xc_f (by omega) rfl)) gCl_X2 0 (by decide) (hC.ts _ q232) (fun _ h9 => h9) rfl hdg kk
theorem gXS_1 (hC : CX RX2 cc nL ret0 D gCl nwG Z Hb A p s m args meth c) (hP : va_P D gCl (wX D ad rf tw F τ S) H) (hdg : decode cc pc = .ok (.getfield 22, 3)) (kk : W p l e R s m args below meth c H locs cells slots Q (F0 m (pc + 3) ls (.ref (ad 1) :: rest))) : W p l e R s m args below meth c H locs cells slots Q (F0 m pc ls (.ref (ad 14) :: rest)) :=
  va_get (D := D) (ci := 1) (fs := (obS ad (S.2.1, some (τ.1 0), rf) S.1)) (v := .ref (ad 1)) (C := RX2) (T := TX2) (N := 10) hC.x hC.b hC.ts in_X2 hC.ow hC.K.1 hP (F.length + 14) (wX_c (xc_f (by omega) rfl)) gCl_X2 1 (by decide) (hC.ts _ q233) (fun _ h9 => h9) rfl hdg kk
theorem gXS_2 (hC : CX RX2 cc nL ret0 D gCl nwG Z Hb A p s m args meth c) (hP : va_P D gCl (wX D ad rf tw F τ S) H) (hdg : decode cc pc = .ok (.getfield 18, 3)) (kk : W p l e R s m args below meth c H locs cells slots Q (F0 m (pc + 3) ls (.ref (ad 16) :: rest))) : W p l e R s m args below meth c H locs cells slots Q (F0 m pc ls (.ref (ad 14) :: rest)) :=
  va_get (D := D) (ci := 1) (fs := (obS ad (S.2.1, some (τ.1 0), rf) S.1)) (v := .ref (ad 16)) (C := RX2) (T := TX2) (N := 10) hC.x hC.b hC.ts in_X2 hC.ow hC.K.1 hP (F.length + 14) (wX_c (xc_f (by omega) rfl)) gCl_X2 2 (by decide) (hC.ts _ q234) (fun _ h9 => h9) rfl hdg kk
theorem gXS_3 (hC : CX RX2 cc nL ret0 D gCl nwG Z Hb A p s m args meth c) (hP : va_P D gCl (wX D ad rf tw F τ S) H) (hdg : decode cc pc = .ok (.getfield 33, 3)) (kk : W p l e R s m args below meth c H locs cells slots Q (F0 m (pc + 3) ls (.int (S.1.1.1 14 3) :: rest))) : W p l e R s m args below meth c H locs cells slots Q (F0 m pc ls (.ref (ad 14) :: rest)) :=
  va_get (D := D) (ci := 1) (fs := (obS ad (S.2.1, some (τ.1 0), rf) S.1)) (v := .int (S.1.1.1 14 3)) (C := RX2) (T := TX2) (N := 10) hC.x hC.b hC.ts in_X2 hC.ow hC.K.1 hP (F.length + 14) (wX_c (xc_f (by omega) rfl)) gCl_X2 3 (by decide) (hC.ts _ q235) (fun _ h9 => h9) rfl hdg kk
theorem eXS_3 {v : Int32} : (wX D ad rf tw F τ S).set (F.length + 14) (ad 14, .inr (1, ((obS ad (S.2.1, some (τ.1 0), rf) S.1)).set 3 (.int v))) = wX D ad rf tw F τ (xC S 14 3 v) := wX_sc (by have := xc_len17 (D := D) (ad := ad) (rf := rf) (tw := tw) (τ := τ) (S := S); omega) (wC_setF (by omega) rfl (fun a h => sA_ne (by omega)) rfl) rfl
theorem pXS_3 (hC : CX RX2 cc nL ret0 D gCl nwG Z Hb A p s m args meth c) (hP : va_P D gCl (wX D ad rf tw F τ S) H) (hD : va_D A (wX D ad rf tw F τ S)) (hS : va_S A s.heap H locs) {v : Int32} (hdg : decode cc pc = .ok (.putfield 33, 3)) (kk : ∀ S1 : XS, S1 = xC S 14 3 v → ∀ (H : Heap) (locs : List Loc), va_P D gCl (wX D ad rf tw F τ S1) H → va_D A (wX D ad rf tw F τ S1) → va_S A s.heap H locs → W p l e R s m args below meth c H locs cells slots Q (F0 m (pc + 3) ls (rest))) : W p l e R s m args below meth c H locs cells slots Q (F0 m pc ls (.int v :: .ref (ad 14) :: rest)) := by
  refine va_put (D := D) (ci := 1) (fs := (obS ad (S.2.1, some (τ.1 0), rf) S.1)) (v := .int v) (ty := .int) (C := RX2) (T := TX2) (N := 10) hC.x hC.b hC.ts in_X2 tyX2 tyX2_ok nmX2 hC.ow hC.K.1 hP hD hS (F.length + 14) (wX_c (xc_f (by omega) rfl)) gCl_X2 3 (by decide) (hC.ts _ q235) (fun _ h9 => h9) rfl (by decide +kernel) rfl rfl (Nat.le_of_ble_eq_true rfl) hdg (fun H1 locs1 hP1 hD1 hS1 => ?_)
  rw [eXS_3] at hP1 hD1
  exact kk _ rfl _ _ hP1 hD1 hS1
theorem gXS_4 (hC : CX RX2 cc nL ret0 D gCl nwG Z Hb A p s m args meth c) (hP : va_P D gCl (wX D ad rf tw F τ S) H) (hdg : decode cc pc = .ok (.getfield 40, 3)) (kk : W p l e R s m args below meth c H locs cells slots Q (F0 m (pc + 3) ls (.int (S.1.1.1 14 4) :: rest))) : W p l e R s m args below meth c H locs cells slots Q (F0 m pc ls (.ref (ad 14) :: rest)) :=
  va_get (D := D) (ci := 1) (fs := (obS ad (S.2.1, some (τ.1 0), rf) S.1)) (v := .int (S.1.1.1 14 4)) (C := RX2) (T := TX2) (N := 10) hC.x hC.b hC.ts in_X2 hC.ow hC.K.1 hP (F.length + 14) (wX_c (xc_f (by omega) rfl)) gCl_X2 4 (by decide) (hC.ts _ q236) (fun _ h9 => h9) rfl hdg kk
theorem eXS_4 {v : Int32} : (wX D ad rf tw F τ S).set (F.length + 14) (ad 14, .inr (1, ((obS ad (S.2.1, some (τ.1 0), rf) S.1)).set 4 (.int v))) = wX D ad rf tw F τ (xC S 14 4 v) := wX_sc (by have := xc_len17 (D := D) (ad := ad) (rf := rf) (tw := tw) (τ := τ) (S := S); omega) (wC_setF (by omega) rfl (fun a h => sA_ne (by omega)) rfl) rfl
theorem pXS_4 (hC : CX RX2 cc nL ret0 D gCl nwG Z Hb A p s m args meth c) (hP : va_P D gCl (wX D ad rf tw F τ S) H) (hD : va_D A (wX D ad rf tw F τ S)) (hS : va_S A s.heap H locs) {v : Int32} (hdg : decode cc pc = .ok (.putfield 40, 3)) (kk : ∀ S1 : XS, S1 = xC S 14 4 v → ∀ (H : Heap) (locs : List Loc), va_P D gCl (wX D ad rf tw F τ S1) H → va_D A (wX D ad rf tw F τ S1) → va_S A s.heap H locs → W p l e R s m args below meth c H locs cells slots Q (F0 m (pc + 3) ls (rest))) : W p l e R s m args below meth c H locs cells slots Q (F0 m pc ls (.int v :: .ref (ad 14) :: rest)) := by
  refine va_put (D := D) (ci := 1) (fs := (obS ad (S.2.1, some (τ.1 0), rf) S.1)) (v := .int v) (ty := .int) (C := RX2) (T := TX2) (N := 10) hC.x hC.b hC.ts in_X2 tyX2 tyX2_ok nmX2 hC.ow hC.K.1 hP hD hS (F.length + 14) (wX_c (xc_f (by omega) rfl)) gCl_X2 4 (by decide) (hC.ts _ q236) (fun _ h9 => h9) rfl (by decide +kernel) rfl rfl (Nat.le_of_ble_eq_true rfl) hdg (fun H1 locs1 hP1 hD1 hS1 => ?_)
  rw [eXS_4] at hP1 hD1
  exact kk _ rfl _ _ hP1 hD1 hS1
theorem gXS_5 (hC : CX RX2 cc nL ret0 D gCl nwG Z Hb A p s m args meth c) (hP : va_P D gCl (wX D ad rf tw F τ S) H) (hdg : decode cc pc = .ok (.getfield 47, 3)) (kk : W p l e R s m args below meth c H locs cells slots Q (F0 m (pc + 3) ls (.int (S.1.1.1 14 5) :: rest))) : W p l e R s m args below meth c H locs cells slots Q (F0 m pc ls (.ref (ad 14) :: rest)) :=
  va_get (D := D) (ci := 1) (fs := (obS ad (S.2.1, some (τ.1 0), rf) S.1)) (v := .int (S.1.1.1 14 5)) (C := RX2) (T := TX2) (N := 10) hC.x hC.b hC.ts in_X2 hC.ow hC.K.1 hP (F.length + 14) (wX_c (xc_f (by omega) rfl)) gCl_X2 5 (by decide) (hC.ts _ q237) (fun _ h9 => h9) rfl hdg kk
theorem eXS_5 {v : Int32} : (wX D ad rf tw F τ S).set (F.length + 14) (ad 14, .inr (1, ((obS ad (S.2.1, some (τ.1 0), rf) S.1)).set 5 (.int v))) = wX D ad rf tw F τ (xC S 14 5 v) := wX_sc (by have := xc_len17 (D := D) (ad := ad) (rf := rf) (tw := tw) (τ := τ) (S := S); omega) (wC_setF (by omega) rfl (fun a h => sA_ne (by omega)) rfl) rfl
theorem pXS_5 (hC : CX RX2 cc nL ret0 D gCl nwG Z Hb A p s m args meth c) (hP : va_P D gCl (wX D ad rf tw F τ S) H) (hD : va_D A (wX D ad rf tw F τ S)) (hS : va_S A s.heap H locs) {v : Int32} (hdg : decode cc pc = .ok (.putfield 47, 3)) (kk : ∀ S1 : XS, S1 = xC S 14 5 v → ∀ (H : Heap) (locs : List Loc), va_P D gCl (wX D ad rf tw F τ S1) H → va_D A (wX D ad rf tw F τ S1) → va_S A s.heap H locs → W p l e R s m args below meth c H locs cells slots Q (F0 m (pc + 3) ls (rest))) : W p l e R s m args below meth c H locs cells slots Q (F0 m pc ls (.int v :: .ref (ad 14) :: rest)) := by
  refine va_put (D := D) (ci := 1) (fs := (obS ad (S.2.1, some (τ.1 0), rf) S.1)) (v := .int v) (ty := .int) (C := RX2) (T := TX2) (N := 10) hC.x hC.b hC.ts in_X2 tyX2 tyX2_ok nmX2 hC.ow hC.K.1 hP hD hS (F.length + 14) (wX_c (xc_f (by omega) rfl)) gCl_X2 5 (by decide) (hC.ts _ q237) (fun _ h9 => h9) rfl (by decide +kernel) rfl rfl (Nat.le_of_ble_eq_true rfl) hdg (fun H1 locs1 hP1 hD1 hS1 => ?_)
  rw [eXS_5] at hP1 hD1
  exact kk _ rfl _ _ hP1 hD1 hS1
theorem gXS_6 (hC : CX RX2 cc nL ret0 D gCl nwG Z Hb A p s m args meth c) (hP : va_P D gCl (wX D ad rf tw F τ S) H) (hdg : decode cc pc = .ok (.getfield 26, 3)) (kk : W p l e R s m args below meth c H locs cells slots Q (F0 m (pc + 3) ls (.int (S.1.1.1 14 6) :: rest))) : W p l e R s m args below meth c H locs cells slots Q (F0 m pc ls (.ref (ad 14) :: rest)) :=
  va_get (D := D) (ci := 1) (fs := (obS ad (S.2.1, some (τ.1 0), rf) S.1)) (v := .int (S.1.1.1 14 6)) (C := RX2) (T := TX2) (N := 10) hC.x hC.b hC.ts in_X2 hC.ow hC.K.1 hP (F.length + 14) (wX_c (xc_f (by omega) rfl)) gCl_X2 6 (by decide) (hC.ts _ q238) (fun _ h9 => h9) rfl hdg kk
theorem eXS_6 {v : Int32} : (wX D ad rf tw F τ S).set (F.length + 14) (ad 14, .inr (1, ((obS ad (S.2.1, some (τ.1 0), rf) S.1)).set 6 (.int v))) = wX D ad rf tw F τ (xC S 14 6 v) := wX_sc (by have := xc_len17 (D := D) (ad := ad) (rf := rf) (tw := tw) (τ := τ) (S := S); omega) (wC_setF (by omega) rfl (fun a h => sA_ne (by omega)) rfl) rfl
theorem pXS_6 (hC : CX RX2 cc nL ret0 D gCl nwG Z Hb A p s m args meth c) (hP : va_P D gCl (wX D ad rf tw F τ S) H) (hD : va_D A (wX D ad rf tw F τ S)) (hS : va_S A s.heap H locs) {v : Int32} (hdg : decode cc pc = .ok (.putfield 26, 3)) (kk : ∀ S1 : XS, S1 = xC S 14 6 v → ∀ (H : Heap) (locs : List Loc), va_P D gCl (wX D ad rf tw F τ S1) H → va_D A (wX D ad rf tw F τ S1) → va_S A s.heap H locs → W p l e R s m args below meth c H locs cells slots Q (F0 m (pc + 3) ls (rest))) : W p l e R s m args below meth c H locs cells slots Q (F0 m pc ls (.int v :: .ref (ad 14) :: rest)) := by
  refine va_put (D := D) (ci := 1) (fs := (obS ad (S.2.1, some (τ.1 0), rf) S.1)) (v := .int v) (ty := .int) (C := RX2) (T := TX2) (N := 10) hC.x hC.b hC.ts in_X2 tyX2 tyX2_ok nmX2 hC.ow hC.K.1 hP hD hS (F.length + 14) (wX_c (xc_f (by omega) rfl)) gCl_X2 6 (by decide) (hC.ts _ q238) (fun _ h9 => h9) rfl (by decide +kernel) rfl rfl (Nat.le_of_ble_eq_true rfl) hdg (fun H1 locs1 hP1 hD1 hS1 => ?_)
  rw [eXS_6] at hP1 hD1
  exact kk _ rfl _ _ hP1 hD1 hS1
theorem gXS_7 (hC : CX RX2 cc nL ret0 D gCl nwG Z Hb A p s m args meth c) (hP : va_P D gCl (wX D ad rf tw F τ S) H) (hdg : decode cc pc = .ok (.getfield 68, 3)) (kk : W p l e R s m args below meth c H locs cells slots Q (F0 m (pc + 3) ls (.int (S.1.1.1 14 7) :: rest))) : W p l e R s m args below meth c H locs cells slots Q (F0 m pc ls (.ref (ad 14) :: rest)) :=
  va_get (D := D) (ci := 1) (fs := (obS ad (S.2.1, some (τ.1 0), rf) S.1)) (v := .int (S.1.1.1 14 7)) (C := RX2) (T := TX2) (N := 10) hC.x hC.b hC.ts in_X2 hC.ow hC.K.1 hP (F.length + 14) (wX_c (xc_f (by omega) rfl)) gCl_X2 7 (by decide) (hC.ts _ q239) (fun _ h9 => h9) rfl hdg kk
theorem eXS_7 {v : Int32} : (wX D ad rf tw F τ S).set (F.length + 14) (ad 14, .inr (1, ((obS ad (S.2.1, some (τ.1 0), rf) S.1)).set 7 (.int v))) = wX D ad rf tw F τ (xC S 14 7 v) := wX_sc (by have := xc_len17 (D := D) (ad := ad) (rf := rf) (tw := tw) (τ := τ) (S := S); omega) (wC_setF (by omega) rfl (fun a h => sA_ne (by omega)) rfl) rfl
theorem pXS_7 (hC : CX RX2 cc nL ret0 D gCl nwG Z Hb A p s m args meth c) (hP : va_P D gCl (wX D ad rf tw F τ S) H) (hD : va_D A (wX D ad rf tw F τ S)) (hS : va_S A s.heap H locs) {v : Int32} (hdg : decode cc pc = .ok (.putfield 68, 3)) (kk : ∀ S1 : XS, S1 = xC S 14 7 v → ∀ (H : Heap) (locs : List Loc), va_P D gCl (wX D ad rf tw F τ S1) H → va_D A (wX D ad rf tw F τ S1) → va_S A s.heap H locs → W p l e R s m args below meth c H locs cells slots Q (F0 m (pc + 3) ls (rest))) : W p l e R s m args below meth c H locs cells slots Q (F0 m pc ls (.int v :: .ref (ad 14) :: rest)) := by
  refine va_put (D := D) (ci := 1) (fs := (obS ad (S.2.1, some (τ.1 0), rf) S.1)) (v := .int v) (ty := .int) (C := RX2) (T := TX2) (N := 10) hC.x hC.b hC.ts in_X2 tyX2 tyX2_ok nmX2 hC.ow hC.K.1 hP hD hS (F.length + 14) (wX_c (xc_f (by omega) rfl)) gCl_X2 7 (by decide) (hC.ts _ q239) (fun _ h9 => h9) rfl (by decide +kernel) rfl rfl (Nat.le_of_ble_eq_true rfl) hdg (fun H1 locs1 hP1 hD1 hS1 => ?_)
  rw [eXS_7] at hP1 hD1
  exact kk _ rfl _ _ hP1 hD1 hS1
theorem gXS_8 (hC : CX RX2 cc nL ret0 D gCl nwG Z Hb A p s m args meth c) (hP : va_P D gCl (wX D ad rf tw F τ S) H) (hdg : decode cc pc = .ok (.getfield 61, 3)) (kk : W p l e R s m args below meth c H locs cells slots Q (F0 m (pc + 3) ls (va_rf S.2.1 :: rest))) : W p l e R s m args below meth c H locs cells slots Q (F0 m pc ls (.ref (ad 14) :: rest)) :=
  va_get (D := D) (ci := 1) (fs := (obS ad (S.2.1, some (τ.1 0), rf) S.1)) (v := va_rf S.2.1) (C := RX2) (T := TX2) (N := 10) hC.x hC.b hC.ts in_X2 hC.ow hC.K.1 hP (F.length + 14) (wX_c (xc_f (by omega) rfl)) gCl_X2 8 (by decide) (hC.ts _ q240) (fun _ h9 => h9) rfl hdg kk
theorem eXS_8 {v : Option Nat} : (wX D ad rf tw F τ S).set (F.length + 14) (ad 14, .inr (1, ((obS ad (S.2.1, some (τ.1 0), rf) S.1)).set 8 (va_rf v))) = wX D ad rf tw F τ (xW S v) := by
  refine wX_sc (by have := xc_len17 (D := D) (ad := ad) (rf := rf) (tw := tw) (τ := τ) (S := S); omega) ?_ rfl
  unfold xc wC
  rw [List.set_append_left _ _ (by rw [fx_len]; omega)]
  rfl
theorem pXS_8 (hC : CX RX2 cc nL ret0 D gCl nwG Z Hb A p s m args meth c) (hP : va_P D gCl (wX D ad rf tw F τ S) H) (hD : va_D A (wX D ad rf tw F τ S)) (hS : va_S A s.heap H locs) {v : Option Nat} (hdg : decode cc pc = .ok (.putfield 61, 3)) (kk : ∀ S1 : XS, S1 = xW S v → ∀ (H : Heap) (locs : List Loc), va_P D gCl (wX D ad rf tw F τ S1) H → va_D A (wX D ad rf tw F τ S1) → va_S A s.heap H locs → W p l e R s m args below meth c H locs cells slots Q (F0 m (pc + 3) ls (rest))) : W p l e R s m args below meth c H locs cells slots Q (F0 m pc ls (va_rf v :: .ref (ad 14) :: rest)) := by
  refine va_put (D := D) (ci := 1) (fs := (obS ad (S.2.1, some (τ.1 0), rf) S.1)) (v := va_rf v) (ty := (.object "java/lang/String")) (C := RX2) (T := TX2) (N := 10) hC.x hC.b hC.ts in_X2 tyX2 tyX2_ok nmX2 hC.ow hC.K.1 hP hD hS (F.length + 14) (wX_c (xc_f (by omega) rfl)) gCl_X2 8 (by decide) (hC.ts _ q240) (fun _ h9 => h9) rfl (by decide +kernel) (by cases v <;> rfl) (by cases v <;> rfl) (Nat.le_of_ble_eq_true rfl) hdg (fun H1 locs1 hP1 hD1 hS1 => ?_)
  rw [eXS_8] at hP1 hD1
  exact kk _ rfl _ _ hP1 hD1 hS1
theorem gXS_9 (hC : CX RX2 cc nL ret0 D gCl nwG Z Hb A p s m args meth c) (hP : va_P D gCl (wX D ad rf tw F τ S) H) (hdg : decode cc pc = .ok (.getfield 105, 3)) (kk : W p l e R s m args below meth c H locs cells slots Q (F0 m (pc + 3) ls (.ref (τ.1 0) :: rest))) : W p l e R s m args below meth c H locs cells slots Q (F0 m pc ls (.ref (ad 14) :: rest)) :=
  va_get (D := D) (ci := 1) (fs := (obS ad (S.2.1, some (τ.1 0), rf) S.1)) (v := .ref (τ.1 0)) (C := RX2) (T := TX2) (N := 10) hC.x hC.b hC.ts in_X2 hC.ow hC.K.1 hP (F.length + 14) (wX_c (xc_f (by omega) rfl)) gCl_X2 9 (by decide) (hC.ts _ q241) (fun _ h9 => h9) rfl hdg kk
theorem lXtape (hC : CX own cc nL ret0 D gCl nwG Z Hb A p s m args meth c) (hP : va_P D gCl (wX D ad rf tw F τ S) H) {i : Int32} (hin : vp_in i 800) {k : Nat} (hk : i.toNatClampNeg = k) (hdg : decode cc pc = .ok (.baload, 1)) (kk : W p l e R s m args below meth c H locs cells slots Q (F0 m (pc + 1) ls (.int (S.1.1.1 1 k) :: rest))) : W p l e R s m args below meth c H locs cells slots Q (F0 m pc ls (.int i :: .ref (ad 1) :: rest)) := by
  subst hk
  exact va_bald hC.x hC.b hC.K.1 hP (F.length + 1) 2 (wX_c (xc_f (by omega) rfl)) rfl hin hdg kk
theorem sXlet (hC : CX own cc nL ret0 D gCl nwG Z Hb A p s m args meth c) (hP : va_P D gCl (wX D ad rf tw F τ S) H) (hD : va_D A (wX D ad rf tw F τ S)) (hS : va_S A s.heap H locs) {i v : Int32} (hin : vp_in i 8) {k : Nat} (hk : i.toNatClampNeg = k) (hdg : decode cc pc = .ok (.castore, 1)) (kk : ∀ S1 : XS, S1 = xC S 16 k (vp_nar .char v) → ∀ (H : Heap) (locs : List Loc), va_P D gCl (wX D ad rf tw F τ S1) H → va_D A (wX D ad rf tw F τ S1) → va_S A s.heap H locs → W p l e R s m args below meth c H locs cells slots Q (F0 m (pc + 1) ls (rest))) : W p l e R s m args below meth c H locs cells slots Q (F0 m pc ls (.int v :: .int i :: .ref (ad 16) :: rest)) := by
  subst hk
  refine va_cast hC.x hC.b hC.K.1 hP hD hS (F.length + 16) 3 (wX_c (xc_f (by omega) rfl)) rfl hin hdg (fun H1 locs1 hP1 hD1 hS1 => ?_)
  have e : (wX D ad rf tw F τ S).set (F.length + 16) (ad 16, .inl (D.1 103, 8, .inl (upd (S.1.1.1 16) i.toNatClampNeg (vp_nar .char v)))) = wX D ad rf tw F τ (xC S 16 i.toNatClampNeg (vp_nar .char v)) := wX_sc (by have := xc_len17 (D := D) (ad := ad) (rf := rf) (tw := tw) (τ := τ) (S := S); omega) eF_16 rfl
  rw [e] at hP1 hD1
  exact kk _ rfl _ _ hP1 hD1 hS1
theorem eXR_6 {v : Int32} : (wX D ad rf tw F τ S).set (F.length + 15) (ad 15, .inr (2, ((obR (S.2.1, some (τ.1 0), rf) S.1)).set 6 (.int v))) = wX D ad rf tw F τ (xC S 15 6 v) := wX_sc (by have := xc_len17 (D := D) (ad := ad) (rf := rf) (tw := tw) (τ := τ) (S := S); omega) (wC_setF (by omega) rfl (fun a h => sA_ne (by omega)) rfl) rfl
theorem pXR_6 (hC : CX RX3 cc nL ret0 D gCl nwG Z Hb A p s m args meth c) (hP : va_P D gCl (wX D ad rf tw F τ S) H) (hD : va_D A (wX D ad rf tw F τ S)) (hS : va_S A s.heap H locs) {v : Int32} (hdg : decode cc pc = .ok (.putfield 15, 3)) (kk : ∀ S1 : XS, S1 = xC S 15 6 v → ∀ (H : Heap) (locs : List Loc), va_P D gCl (wX D ad rf tw F τ S1) H → va_D A (wX D ad rf tw F τ S1) → va_S A s.heap H locs → W p l e R s m args below meth c H locs cells slots Q (F0 m (pc + 3) ls (rest))) : W p l e R s m args below meth c H locs cells slots Q (F0 m pc ls (.int v :: .ref (ad 15) :: rest)) := by
  refine va_put (D := D) (ci := 2) (fs := (obR (S.2.1, some (τ.1 0), rf) S.1)) (v := .int v) (ty := .int) (C := RX3) (T := TX3) (N := 8) hC.x hC.b hC.ts in_X3 tyX3 tyX3_ok nmX3 hC.ow hC.K.1 hP hD hS (F.length + 15) (wX_c (xc_f (by omega) rfl)) gCl_X3 6 (by decide) (hC.ts _ q210) (fun _ h9 => h9) rfl (by decide +kernel) rfl rfl (Nat.le_of_ble_eq_true rfl) hdg (fun H1 locs1 hP1 hD1 hS1 => ?_)
  rw [eXR_6] at hP1 hD1
  exact kk _ rfl _ _ hP1 hD1 hS1
theorem eXR_7 {v : Int32} : (wX D ad rf tw F τ S).set (F.length + 15) (ad 15, .inr (2, ((obR (S.2.1, some (τ.1 0), rf) S.1)).set 7 (.int v))) = wX D ad rf tw F τ (xC S 15 7 v) := wX_sc (by have := xc_len17 (D := D) (ad := ad) (rf := rf) (tw := tw) (τ := τ) (S := S); omega) (wC_setF (by omega) rfl (fun a h => sA_ne (by omega)) rfl) rfl
theorem pXR_7 (hC : CX RX3 cc nL ret0 D gCl nwG Z Hb A p s m args meth c) (hP : va_P D gCl (wX D ad rf tw F τ S) H) (hD : va_D A (wX D ad rf tw F τ S)) (hS : va_S A s.heap H locs) {v : Int32} (hdg : decode cc pc = .ok (.putfield 9, 3)) (kk : ∀ S1 : XS, S1 = xC S 15 7 v → ∀ (H : Heap) (locs : List Loc), va_P D gCl (wX D ad rf tw F τ S1) H → va_D A (wX D ad rf tw F τ S1) → va_S A s.heap H locs → W p l e R s m args below meth c H locs cells slots Q (F0 m (pc + 3) ls (rest))) : W p l e R s m args below meth c H locs cells slots Q (F0 m pc ls (.int v :: .ref (ad 15) :: rest)) := by
  refine va_put (D := D) (ci := 2) (fs := (obR (S.2.1, some (τ.1 0), rf) S.1)) (v := .int v) (ty := .int) (C := RX3) (T := TX3) (N := 8) hC.x hC.b hC.ts in_X3 tyX3 tyX3_ok nmX3 hC.ow hC.K.1 hP hD hS (F.length + 15) (wX_c (xc_f (by omega) rfl)) gCl_X3 7 (by decide) (hC.ts _ q212) (fun _ h9 => h9) rfl (by decide +kernel) rfl rfl (Nat.le_of_ble_eq_true rfl) hdg (fun H1 locs1 hP1 hD1 hS1 => ?_)
  rw [eXR_7] at hP1 hD1
  exact kk _ rfl _ _ hP1 hD1 hS1
theorem gXTX2_0 (hC : CX RX2 cc nL ret0 D gCl nwG Z Hb A p s m args meth c) (hP : va_P D gCl (wX D ad rf tw F τ S) H) (hdg : decode cc pc = .ok (.getfield 182, 3)) (kk : W p l e R s m args below meth c H locs cells slots Q (F0 m (pc + 3) ls (.ref (τ.1 1) :: rest))) : W p l e R s m args below meth c H locs cells slots Q (F0 m pc ls (.ref (τ.1 0) :: rest)) :=
  va_get (D := D) (ci := 6) (fs := (obT τ S.2.2.1)) (v := .ref (τ.1 1)) (C := RX7) (T := TX7) (N := 12) hC.x hC.b hC.ts in_X7 hC.ow hC.K.1 hP (F.length + ((xc D ad rf tw τ S).length + 0)) (wX_t (xt_f (by omega) rfl)) gCl_X7 0 (by decide) (hC.ts _ q455) (fun _ h9 => h9) rfl hdg kk
theorem gXTX2_1 (hC : CX RX2 cc nL ret0 D gCl nwG Z Hb A p s m args meth c) (hP : va_P D gCl (wX D ad rf tw F τ S) H) (hdg : decode cc pc = .ok (.getfield 228, 3)) (kk : W p l e R s m args below meth c H locs cells slots Q (F0 m (pc + 3) ls (.ref (τ.1 2) :: rest))) : W p l e R s m args below meth c H locs cells slots Q (F0 m pc ls (.ref (τ.1 0) :: rest)) :=
  va_get (D := D) (ci := 6) (fs := (obT τ S.2.2.1)) (v := .ref (τ.1 2)) (C := RX7) (T := TX7) (N := 12) hC.x hC.b hC.ts in_X7 hC.ow hC.K.1 hP (F.length + ((xc D ad rf tw τ S).length + 0)) (wX_t (xt_f (by omega) rfl)) gCl_X7 1 (by decide) (hC.ts _ q460) (fun _ h9 => h9) rfl hdg kk
theorem gXTX2_2 (hC : CX RX2 cc nL ret0 D gCl nwG Z Hb A p s m args meth c) (hP : va_P D gCl (wX D ad rf tw F τ S) H) (hdg : decode cc pc = .ok (.getfield 244, 3)) (kk : W p l e R s m args below meth c H locs cells slots Q (F0 m (pc + 3) ls (.ref (τ.1 3) :: rest))) : W p l e R s m args below meth c H locs cells slots Q (F0 m pc ls (.ref (τ.1 0) :: rest)) :=
  va_get (D := D) (ci := 6) (fs := (obT τ S.2.2.1)) (v := .ref (τ.1 3)) (C := RX7) (T := TX7) (N := 12) hC.x hC.b hC.ts in_X7 hC.ow hC.K.1 hP (F.length + ((xc D ad rf tw τ S).length + 0)) (wX_t (xt_f (by omega) rfl)) gCl_X7 2 (by decide) (hC.ts _ q462) (fun _ h9 => h9) rfl hdg kk
theorem gXTX2_3 (hC : CX RX2 cc nL ret0 D gCl nwG Z Hb A p s m args meth c) (hP : va_P D gCl (wX D ad rf tw F τ S) H) (hdg : decode cc pc = .ok (.getfield 251, 3)) (kk : W p l e R s m args below meth c H locs cells slots Q (F0 m (pc + 3) ls (.ref (τ.1 4) :: rest))) : W p l e R s m args below meth c H locs cells slots Q (F0 m pc ls (.ref (τ.1 0) :: rest)) :=
  va_get (D := D) (ci := 6) (fs := (obT τ S.2.2.1)) (v := .ref (τ.1 4)) (C := RX7) (T := TX7) (N := 12) hC.x hC.b hC.ts in_X7 hC.ow hC.K.1 hP (F.length + ((xc D ad rf tw τ S).length + 0)) (wX_t (xt_f (by omega) rfl)) gCl_X7 3 (by decide) (hC.ts _ q465) (fun _ h9 => h9) rfl hdg kk
theorem gXTX2_4 (hC : CX RX2 cc nL ret0 D gCl nwG Z Hb A p s m args meth c) (hP : va_P D gCl (wX D ad rf tw F τ S) H) (hdg : decode cc pc = .ok (.getfield 254, 3)) (kk : W p l e R s m args below meth c H locs cells slots Q (F0 m (pc + 3) ls (.ref (τ.1 5) :: rest))) : W p l e R s m args below meth c H locs cells slots Q (F0 m pc ls (.ref (τ.1 0) :: rest)) :=
  va_get (D := D) (ci := 6) (fs := (obT τ S.2.2.1)) (v := .ref (τ.1 5)) (C := RX7) (T := TX7) (N := 12) hC.x hC.b hC.ts in_X7 hC.ow hC.K.1 hP (F.length + ((xc D ad rf tw τ S).length + 0)) (wX_t (xt_f (by omega) rfl)) gCl_X7 4 (by decide) (hC.ts _ q468) (fun _ h9 => h9) rfl hdg kk
theorem gXTX2_5 (hC : CX RX2 cc nL ret0 D gCl nwG Z Hb A p s m args meth c) (hP : va_P D gCl (wX D ad rf tw F τ S) H) (hdg : decode cc pc = .ok (.getfield 259, 3)) (kk : W p l e R s m args below meth c H locs cells slots Q (F0 m (pc + 3) ls (.ref (τ.1 6) :: rest))) : W p l e R s m args below meth c H locs cells slots Q (F0 m pc ls (.ref (τ.1 0) :: rest)) :=
  va_get (D := D) (ci := 6) (fs := (obT τ S.2.2.1)) (v := .ref (τ.1 6)) (C := RX7) (T := TX7) (N := 12) hC.x hC.b hC.ts in_X7 hC.ow hC.K.1 hP (F.length + ((xc D ad rf tw τ S).length + 0)) (wX_t (xt_f (by omega) rfl)) gCl_X7 5 (by decide) (hC.ts _ q471) (fun _ h9 => h9) rfl hdg kk
theorem gXTX2_6 (hC : CX RX2 cc nL ret0 D gCl nwG Z Hb A p s m args meth c) (hP : va_P D gCl (wX D ad rf tw F τ S) H) (hdg : decode cc pc = .ok (.getfield 129, 3)) (kk : W p l e R s m args below meth c H locs cells slots Q (F0 m (pc + 3) ls (.int (S.2.2.1.1.1 50 6) :: rest))) : W p l e R s m args below meth c H locs cells slots Q (F0 m pc ls (.ref (τ.1 0) :: rest)) :=
  va_get (D := D) (ci := 6) (fs := (obT τ S.2.2.1)) (v := .int (S.2.2.1.1.1 50 6)) (C := RX7) (T := TX7) (N := 12) hC.x hC.b hC.ts in_X7 hC.ow hC.K.1 hP (F.length + ((xc D ad rf tw τ S).length + 0)) (wX_t (xt_f (by omega) rfl)) gCl_X7 6 (by decide) (hC.ts _ q475) (fun _ h9 => h9) rfl hdg kk
theorem eXT_6 {v : Int32} : (wX D ad rf tw F τ S).set (F.length + ((xc D ad rf tw τ S).length + 0)) (τ.1 0, .inr (6, ((obT τ S.2.2.1)).set 6 (.int v))) = wX D ad rf tw F τ (xN S 50 6 v) := wX_st (by rw [xt_len]; omega) (tb_set (by omega) rfl (fun a h => sA_ne (by omega))) rfl rfl rfl
theorem pXT_6 (hC : CX RX2 cc nL ret0 D gCl nwG Z Hb A p s m args meth c) (hP : va_P D gCl (wX D ad rf tw F τ S) H) (hD : va_D A (wX D ad rf tw F τ S)) (hS : va_S A s.heap H locs) {v : Int32} (hdg : decode cc pc = .ok (.putfield 129, 3)) (kk : ∀ S1 : XS, S1 = xN S 50 6 v → ∀ (H : Heap) (locs : List Loc), va_P D gCl (wX D ad rf tw F τ S1) H → va_D A (wX D ad rf tw F τ S1) → va_S A s.heap H locs → W p l e R s m args below meth c H locs cells slots Q (F0 m (pc + 3) ls (rest))) : W p l e R s m args below meth c H locs cells slots Q (F0 m pc ls (.int v :: .ref (τ.1 0) :: rest)) := by
  refine va_put (D := D) (ci := 6) (fs := (obT τ S.2.2.1)) (v := .int v) (ty := .int) (C := RX7) (T := TX7) (N := 12) hC.x hC.b hC.ts in_X7 tyX7 tyX7_ok nmX7 hC.ow hC.K.1 hP hD hS (F.length + ((xc D ad rf tw τ S).length + 0)) (wX_t (xt_f (by omega) rfl)) gCl_X7 6 (by decide) (hC.ts _ q475) (fun _ h9 => h9) rfl (by decide +kernel) rfl rfl (Nat.le_of_ble_eq_true rfl) hdg (fun H1 locs1 hP1 hD1 hS1 => ?_)
  rw [eXT_6] at hP1 hD1
  exact kk _ rfl _ _ hP1 hD1 hS1
theorem gXTX2_7 (hC : CX RX2 cc nL ret0 D gCl nwG Z Hb A p s m args meth c) (hP : va_P D gCl (wX D ad rf tw F τ S) H) (hdg : decode cc pc = .ok (.getfield 164, 3)) (kk : W p l e R s m args below meth c H locs cells slots Q (F0 m (pc + 3) ls (.int (S.2.2.1.1.1 50 7) :: rest))) : W p l e R s m args below meth c H locs cells slots Q (F0 m pc ls (.ref (τ.1 0) :: rest)) :=
  va_get (D := D) (ci := 6) (fs := (obT τ S.2.2.1)) (v := .int (S.2.2.1.1.1 50 7)) (C := RX7) (T := TX7) (N := 12) hC.x hC.b hC.ts in_X7 hC.ow hC.K.1 hP (F.length + ((xc D ad rf tw τ S).length + 0)) (wX_t (xt_f (by omega) rfl)) gCl_X7 7 (by decide) (hC.ts _ q477) (fun _ h9 => h9) rfl hdg kk
theorem eXT_7 {v : Int32} : (wX D ad rf tw F τ S).set (F.length + ((xc D ad rf tw τ S).length + 0)) (τ.1 0, .inr (6, ((obT τ S.2.2.1)).set 7 (.int v))) = wX D ad rf tw F τ (xN S 50 7 v) := wX_st (by rw [xt_len]; omega) (tb_set (by omega) rfl (fun a h => sA_ne (by omega))) rfl rfl rfl
theorem pXT_7 (hC : CX RX2 cc nL ret0 D gCl nwG Z Hb A p s m args meth c) (hP : va_P D gCl (wX D ad rf tw F τ S) H) (hD : va_D A (wX D ad rf tw F τ S)) (hS : va_S A s.heap H locs) {v : Int32} (hdg : decode cc pc = .ok (.putfield 164, 3)) (kk : ∀ S1 : XS, S1 = xN S 50 7 v → ∀ (H : Heap) (locs : List Loc), va_P D gCl (wX D ad rf tw F τ S1) H → va_D A (wX D ad rf tw F τ S1) → va_S A s.heap H locs → W p l e R s m args below meth c H locs cells slots Q (F0 m (pc + 3) ls (rest))) : W p l e R s m args below meth c H locs cells slots Q (F0 m pc ls (.int v :: .ref (τ.1 0) :: rest)) := by
  refine va_put (D := D) (ci := 6) (fs := (obT τ S.2.2.1)) (v := .int v) (ty := .int) (C := RX7) (T := TX7) (N := 12) hC.x hC.b hC.ts in_X7 tyX7 tyX7_ok nmX7 hC.ow hC.K.1 hP hD hS (F.length + ((xc D ad rf tw τ S).length + 0)) (wX_t (xt_f (by omega) rfl)) gCl_X7 7 (by decide) (hC.ts _ q477) (fun _ h9 => h9) rfl (by decide +kernel) rfl rfl (Nat.le_of_ble_eq_true rfl) hdg (fun H1 locs1 hP1 hD1 hS1 => ?_)
  rw [eXT_7] at hP1 hD1
  exact kk _ rfl _ _ hP1 hD1 hS1
theorem gXTX2_8 (hC : CX RX2 cc nL ret0 D gCl nwG Z Hb A p s m args meth c) (hP : va_P D gCl (wX D ad rf tw F τ S) H) (hdg : decode cc pc = .ok (.getfield 136, 3)) (kk : W p l e R s m args below meth c H locs cells slots Q (F0 m (pc + 3) ls (.int (S.2.2.1.1.1 50 8) :: rest))) : W p l e R s m args below meth c H locs cells slots Q (F0 m pc ls (.ref (τ.1 0) :: rest)) :=
  va_get (D := D) (ci := 6) (fs := (obT τ S.2.2.1)) (v := .int (S.2.2.1.1.1 50 8)) (C := RX7) (T := TX7) (N := 12) hC.x hC.b hC.ts in_X7 hC.ow hC.K.1 hP (F.length + ((xc D ad rf tw τ S).length + 0)) (wX_t (xt_f (by omega) rfl)) gCl_X7 8 (by decide) (hC.ts _ q482) (fun _ h9 => h9) rfl hdg kk
theorem eXT_8 {v : Int32} : (wX D ad rf tw F τ S).set (F.length + ((xc D ad rf tw τ S).length + 0)) (τ.1 0, .inr (6, ((obT τ S.2.2.1)).set 8 (.int v))) = wX D ad rf tw F τ (xN S 50 8 v) := wX_st (by rw [xt_len]; omega) (tb_set (by omega) rfl (fun a h => sA_ne (by omega))) rfl rfl rfl
theorem pXT_8 (hC : CX RX2 cc nL ret0 D gCl nwG Z Hb A p s m args meth c) (hP : va_P D gCl (wX D ad rf tw F τ S) H) (hD : va_D A (wX D ad rf tw F τ S)) (hS : va_S A s.heap H locs) {v : Int32} (hdg : decode cc pc = .ok (.putfield 136, 3)) (kk : ∀ S1 : XS, S1 = xN S 50 8 v → ∀ (H : Heap) (locs : List Loc), va_P D gCl (wX D ad rf tw F τ S1) H → va_D A (wX D ad rf tw F τ S1) → va_S A s.heap H locs → W p l e R s m args below meth c H locs cells slots Q (F0 m (pc + 3) ls (rest))) : W p l e R s m args below meth c H locs cells slots Q (F0 m pc ls (.int v :: .ref (τ.1 0) :: rest)) := by
  refine va_put (D := D) (ci := 6) (fs := (obT τ S.2.2.1)) (v := .int v) (ty := .int) (C := RX7) (T := TX7) (N := 12) hC.x hC.b hC.ts in_X7 tyX7 tyX7_ok nmX7 hC.ow hC.K.1 hP hD hS (F.length + ((xc D ad rf tw τ S).length + 0)) (wX_t (xt_f (by omega) rfl)) gCl_X7 8 (by decide) (hC.ts _ q482) (fun _ h9 => h9) rfl (by decide +kernel) rfl rfl (Nat.le_of_ble_eq_true rfl) hdg (fun H1 locs1 hP1 hD1 hS1 => ?_)
  rw [eXT_8] at hP1 hD1
  exact kk _ rfl _ _ hP1 hD1 hS1
theorem gXTX2_9 (hC : CX RX2 cc nL ret0 D gCl nwG Z Hb A p s m args meth c) (hP : va_P D gCl (wX D ad rf tw F τ S) H) (hdg : decode cc pc = .ok (.getfield 206, 3)) (kk : W p l e R s m args below meth c H locs cells slots Q (F0 m (pc + 3) ls (.int (S.2.2.1.1.1 50 9) :: rest))) : W p l e R s m args below meth c H locs cells slots Q (F0 m pc ls (.ref (τ.1 0) :: rest)) :=
  va_get (D := D) (ci := 6) (fs := (obT τ S.2.2.1)) (v := .int (S.2.2.1.1.1 50 9)) (C := RX7) (T := TX7) (N := 12) hC.x hC.b hC.ts in_X7 hC.ow hC.K.1 hP (F.length + ((xc D ad rf tw τ S).length + 0)) (wX_t (xt_f (by omega) rfl)) gCl_X7 9 (by decide) (hC.ts _ q487) (fun _ h9 => h9) rfl hdg kk
theorem eXT_9 {v : Int32} : (wX D ad rf tw F τ S).set (F.length + ((xc D ad rf tw τ S).length + 0)) (τ.1 0, .inr (6, ((obT τ S.2.2.1)).set 9 (.int v))) = wX D ad rf tw F τ (xN S 50 9 v) := wX_st (by rw [xt_len]; omega) (tb_set (by omega) rfl (fun a h => sA_ne (by omega))) rfl rfl rfl
theorem pXT_9 (hC : CX RX2 cc nL ret0 D gCl nwG Z Hb A p s m args meth c) (hP : va_P D gCl (wX D ad rf tw F τ S) H) (hD : va_D A (wX D ad rf tw F τ S)) (hS : va_S A s.heap H locs) {v : Int32} (hdg : decode cc pc = .ok (.putfield 206, 3)) (kk : ∀ S1 : XS, S1 = xN S 50 9 v → ∀ (H : Heap) (locs : List Loc), va_P D gCl (wX D ad rf tw F τ S1) H → va_D A (wX D ad rf tw F τ S1) → va_S A s.heap H locs → W p l e R s m args below meth c H locs cells slots Q (F0 m (pc + 3) ls (rest))) : W p l e R s m args below meth c H locs cells slots Q (F0 m pc ls (.int v :: .ref (τ.1 0) :: rest)) := by
  refine va_put (D := D) (ci := 6) (fs := (obT τ S.2.2.1)) (v := .int v) (ty := .int) (C := RX7) (T := TX7) (N := 12) hC.x hC.b hC.ts in_X7 tyX7 tyX7_ok nmX7 hC.ow hC.K.1 hP hD hS (F.length + ((xc D ad rf tw τ S).length + 0)) (wX_t (xt_f (by omega) rfl)) gCl_X7 9 (by decide) (hC.ts _ q487) (fun _ h9 => h9) rfl (by decide +kernel) rfl rfl (Nat.le_of_ble_eq_true rfl) hdg (fun H1 locs1 hP1 hD1 hS1 => ?_)
  rw [eXT_9] at hP1 hD1
  exact kk _ rfl _ _ hP1 hD1 hS1
theorem gXTX2_10 (hC : CX RX2 cc nL ret0 D gCl nwG Z Hb A p s m args meth c) (hP : va_P D gCl (wX D ad rf tw F τ S) H) (hdg : decode cc pc = .ok (.getfield 238, 3)) (kk : W p l e R s m args below meth c H locs cells slots Q (F0 m (pc + 3) ls (.int (S.2.2.1.1.1 50 10) :: rest))) : W p l e R s m args below meth c H locs cells slots Q (F0 m pc ls (.ref (τ.1 0) :: rest)) :=
  va_get (D := D) (ci := 6) (fs := (obT τ S.2.2.1)) (v := .int (S.2.2.1.1.1 50 10)) (C := RX7) (T := TX7) (N := 12) hC.x hC.b hC.ts in_X7 hC.ow hC.K.1 hP (F.length + ((xc D ad rf tw τ S).length + 0)) (wX_t (xt_f (by omega) rfl)) gCl_X7 10 (by decide) (hC.ts _ q488) (fun _ h9 => h9) rfl hdg kk
theorem eXT_10 {v : Int32} : (wX D ad rf tw F τ S).set (F.length + ((xc D ad rf tw τ S).length + 0)) (τ.1 0, .inr (6, ((obT τ S.2.2.1)).set 10 (.int v))) = wX D ad rf tw F τ (xN S 50 10 v) := wX_st (by rw [xt_len]; omega) (tb_set (by omega) rfl (fun a h => sA_ne (by omega))) rfl rfl rfl
theorem pXT_10 (hC : CX RX2 cc nL ret0 D gCl nwG Z Hb A p s m args meth c) (hP : va_P D gCl (wX D ad rf tw F τ S) H) (hD : va_D A (wX D ad rf tw F τ S)) (hS : va_S A s.heap H locs) {v : Int32} (hdg : decode cc pc = .ok (.putfield 238, 3)) (kk : ∀ S1 : XS, S1 = xN S 50 10 v → ∀ (H : Heap) (locs : List Loc), va_P D gCl (wX D ad rf tw F τ S1) H → va_D A (wX D ad rf tw F τ S1) → va_S A s.heap H locs → W p l e R s m args below meth c H locs cells slots Q (F0 m (pc + 3) ls (rest))) : W p l e R s m args below meth c H locs cells slots Q (F0 m pc ls (.int v :: .ref (τ.1 0) :: rest)) := by
  refine va_put (D := D) (ci := 6) (fs := (obT τ S.2.2.1)) (v := .int v) (ty := .int) (C := RX7) (T := TX7) (N := 12) hC.x hC.b hC.ts in_X7 tyX7 tyX7_ok nmX7 hC.ow hC.K.1 hP hD hS (F.length + ((xc D ad rf tw τ S).length + 0)) (wX_t (xt_f (by omega) rfl)) gCl_X7 10 (by decide) (hC.ts _ q488) (fun _ h9 => h9) rfl (by decide +kernel) rfl rfl (Nat.le_of_ble_eq_true rfl) hdg (fun H1 locs1 hP1 hD1 hS1 => ?_)
  rw [eXT_10] at hP1 hD1
  exact kk _ rfl _ _ hP1 hD1 hS1
theorem gXTX2_11 (hC : CX RX2 cc nL ret0 D gCl nwG Z Hb A p s m args meth c) (hP : va_P D gCl (wX D ad rf tw F τ S) H) (hdg : decode cc pc = .ok (.getfield 248, 3)) (kk : W p l e R s m args below meth c H locs cells slots Q (F0 m (pc + 3) ls (.int (S.2.2.1.1.1 50 11) :: rest))) : W p l e R s m args below meth c H locs cells slots Q (F0 m pc ls (.ref (τ.1 0) :: rest)) :=
  va_get (D := D) (ci := 6) (fs := (obT τ S.2.2.1)) (v := .int (S.2.2.1.1.1 50 11)) (C := RX7) (T := TX7) (N := 12) hC.x hC.b hC.ts in_X7 hC.ow hC.K.1 hP (F.length + ((xc D ad rf tw τ S).length + 0)) (wX_t (xt_f (by omega) rfl)) gCl_X7 11 (by decide) (hC.ts _ q490) (fun _ h9 => h9) rfl hdg kk
theorem eXT_11 {v : Int32} : (wX D ad rf tw F τ S).set (F.length + ((xc D ad rf tw τ S).length + 0)) (τ.1 0, .inr (6, ((obT τ S.2.2.1)).set 11 (.int v))) = wX D ad rf tw F τ (xN S 50 11 v) := wX_st (by rw [xt_len]; omega) (tb_set (by omega) rfl (fun a h => sA_ne (by omega))) rfl rfl rfl
theorem pXT_11 (hC : CX RX2 cc nL ret0 D gCl nwG Z Hb A p s m args meth c) (hP : va_P D gCl (wX D ad rf tw F τ S) H) (hD : va_D A (wX D ad rf tw F τ S)) (hS : va_S A s.heap H locs) {v : Int32} (hdg : decode cc pc = .ok (.putfield 248, 3)) (kk : ∀ S1 : XS, S1 = xN S 50 11 v → ∀ (H : Heap) (locs : List Loc), va_P D gCl (wX D ad rf tw F τ S1) H → va_D A (wX D ad rf tw F τ S1) → va_S A s.heap H locs → W p l e R s m args below meth c H locs cells slots Q (F0 m (pc + 3) ls (rest))) : W p l e R s m args below meth c H locs cells slots Q (F0 m pc ls (.int v :: .ref (τ.1 0) :: rest)) := by
  refine va_put (D := D) (ci := 6) (fs := (obT τ S.2.2.1)) (v := .int v) (ty := .int) (C := RX7) (T := TX7) (N := 12) hC.x hC.b hC.ts in_X7 tyX7 tyX7_ok nmX7 hC.ow hC.K.1 hP hD hS (F.length + ((xc D ad rf tw τ S).length + 0)) (wX_t (xt_f (by omega) rfl)) gCl_X7 11 (by decide) (hC.ts _ q490) (fun _ h9 => h9) rfl (by decide +kernel) rfl rfl (Nat.le_of_ble_eq_true rfl) hdg (fun H1 locs1 hP1 hD1 hS1 => ?_)
  rw [eXT_11] at hP1 hD1
  exact kk _ rfl _ _ hP1 hD1 hS1
theorem gXTX7_0 (hC : CX RX7 cc nL ret0 D gCl nwG Z Hb A p s m args meth c) (hP : va_P D gCl (wX D ad rf tw F τ S) H) (hdg : decode cc pc = .ok (.getfield 11, 3)) (kk : W p l e R s m args below meth c H locs cells slots Q (F0 m (pc + 3) ls (.ref (τ.1 1) :: rest))) : W p l e R s m args below meth c H locs cells slots Q (F0 m pc ls (.ref (τ.1 0) :: rest)) :=
  va_get (D := D) (ci := 6) (fs := (obT τ S.2.2.1)) (v := .ref (τ.1 1)) (C := RX7) (T := TX7) (N := 12) hC.x hC.b hC.ts in_X7 hC.ow hC.K.1 hP (F.length + ((xc D ad rf tw τ S).length + 0)) (wX_t (xt_f (by omega) rfl)) gCl_X7 0 (by decide) (hC.ts _ q453) (fun _ h9 => h9) rfl hdg kk
theorem gXTX7_1 (hC : CX RX7 cc nL ret0 D gCl nwG Z Hb A p s m args meth c) (hP : va_P D gCl (wX D ad rf tw F τ S) H) (hdg : decode cc pc = .ok (.getfield 19, 3)) (kk : W p l e R s m args below meth c H locs cells slots Q (F0 m (pc + 3) ls (.ref (τ.1 2) :: rest))) : W p l e R s m args below meth c H locs cells slots Q (F0 m pc ls (.ref (τ.1 0) :: rest)) :=
  va_get (D := D) (ci := 6) (fs := (obT τ S.2.2.1)) (v := .ref (τ.1 2)) (C := RX7) (T := TX7) (N := 12) hC.x hC.b hC.ts in_X7 hC.ow hC.K.1 hP (F.length + ((xc D ad rf tw τ S).length + 0)) (wX_t (xt_f (by omega) rfl)) gCl_X7 1 (by decide) (hC.ts _ q456) (fun _ h9 => h9) rfl hdg kk
theorem gXTX7_2 (hC : CX RX7 cc nL ret0 D gCl nwG Z Hb A p s m args meth c) (hP : va_P D gCl (wX D ad rf tw F τ S) H) (hdg : decode cc pc = .ok (.getfield 23, 3)) (kk : W p l e R s m args below meth c H locs cells slots Q (F0 m (pc + 3) ls (.ref (τ.1 3) :: rest))) : W p l e R s m args below meth c H locs cells slots Q (F0 m pc ls (.ref (τ.1 0) :: rest)) :=
  va_get (D := D) (ci := 6) (fs := (obT τ S.2.2.1)) (v := .ref (τ.1 3)) (C := RX7) (T := TX7) (N := 12) hC.x hC.b hC.ts in_X7 hC.ow hC.K.1 hP (F.length + ((xc D ad rf tw τ S).length + 0)) (wX_t (xt_f (by omega) rfl)) gCl_X7 2 (by decide) (hC.ts _ q461) (fun _ h9 => h9) rfl hdg kk
theorem gXTX7_3 (hC : CX RX7 cc nL ret0 D gCl nwG Z Hb A p s m args meth c) (hP : va_P D gCl (wX D ad rf tw F τ S) H) (hdg : decode cc pc = .ok (.getfield 27, 3)) (kk : W p l e R s m args below meth c H locs cells slots Q (F0 m (pc + 3) ls (.ref (τ.1 4) :: rest))) : W p l e R s m args below meth c H locs cells slots Q (F0 m pc ls (.ref (τ.1 0) :: rest)) :=
  va_get (D := D) (ci := 6) (fs := (obT τ S.2.2.1)) (v := .ref (τ.1 4)) (C := RX7) (T := TX7) (N := 12) hC.x hC.b hC.ts in_X7 hC.ow hC.K.1 hP (F.length + ((xc D ad rf tw τ S).length + 0)) (wX_t (xt_f (by omega) rfl)) gCl_X7 3 (by decide) (hC.ts _ q464) (fun _ h9 => h9) rfl hdg kk
theorem gXTX7_4 (hC : CX RX7 cc nL ret0 D gCl nwG Z Hb A p s m args meth c) (hP : va_P D gCl (wX D ad rf tw F τ S) H) (hdg : decode cc pc = .ok (.getfield 30, 3)) (kk : W p l e R s m args below meth c H locs cells slots Q (F0 m (pc + 3) ls (.ref (τ.1 5) :: rest))) : W p l e R s m args below meth c H locs cells slots Q (F0 m pc ls (.ref (τ.1 0) :: rest)) :=
  va_get (D := D) (ci := 6) (fs := (obT τ S.2.2.1)) (v := .ref (τ.1 5)) (C := RX7) (T := TX7) (N := 12) hC.x hC.b hC.ts in_X7 hC.ow hC.K.1 hP (F.length + ((xc D ad rf tw τ S).length + 0)) (wX_t (xt_f (by omega) rfl)) gCl_X7 4 (by decide) (hC.ts _ q467) (fun _ h9 => h9) rfl hdg kk
theorem gXTX7_5 (hC : CX RX7 cc nL ret0 D gCl nwG Z Hb A p s m args meth c) (hP : va_P D gCl (wX D ad rf tw F τ S) H) (hdg : decode cc pc = .ok (.getfield 33, 3)) (kk : W p l e R s m args below meth c H locs cells slots Q (F0 m (pc + 3) ls (.ref (τ.1 6) :: rest))) : W p l e R s m args below meth c H locs cells slots Q (F0 m pc ls (.ref (τ.1 0) :: rest)) :=
  va_get (D := D) (ci := 6) (fs := (obT τ S.2.2.1)) (v := .ref (τ.1 6)) (C := RX7) (T := TX7) (N := 12) hC.x hC.b hC.ts in_X7 hC.ow hC.K.1 hP (F.length + ((xc D ad rf tw τ S).length + 0)) (wX_t (xt_f (by omega) rfl)) gCl_X7 5 (by decide) (hC.ts _ q470) (fun _ h9 => h9) rfl hdg kk
theorem gXTX7_6 (hC : CX RX7 cc nL ret0 D gCl nwG Z Hb A p s m args meth c) (hP : va_P D gCl (wX D ad rf tw F τ S) H) (hdg : decode cc pc = .ok (.getfield 65, 3)) (kk : W p l e R s m args below meth c H locs cells slots Q (F0 m (pc + 3) ls (.int (S.2.2.1.1.1 50 6) :: rest))) : W p l e R s m args below meth c H locs cells slots Q (F0 m pc ls (.ref (τ.1 0) :: rest)) :=
  va_get (D := D) (ci := 6) (fs := (obT τ S.2.2.1)) (v := .int (S.2.2.1.1.1 50 6)) (C := RX7) (T := TX7) (N := 12) hC.x hC.b hC.ts in_X7 hC.ow hC.K.1 hP (F.length + ((xc D ad rf tw τ S).length + 0)) (wX_t (xt_f (by omega) rfl)) gCl_X7 6 (by decide) (hC.ts _ q473) (fun _ h9 => h9) rfl hdg kk
theorem gXTX7_8 (hC : CX RX7 cc nL ret0 D gCl nwG Z Hb A p s m args meth c) (hP : va_P D gCl (wX D ad rf tw F τ S) H) (hdg : decode cc pc = .ok (.getfield 48, 3)) (kk : W p l e R s m args below meth c H locs cells slots Q (F0 m (pc + 3) ls (.int (S.2.2.1.1.1 50 8) :: rest))) : W p l e R s m args below meth c H locs cells slots Q (F0 m pc ls (.ref (τ.1 0) :: rest)) :=
  va_get (D := D) (ci := 6) (fs := (obT τ S.2.2.1)) (v := .int (S.2.2.1.1.1 50 8)) (C := RX7) (T := TX7) (N := 12) hC.x hC.b hC.ts in_X7 hC.ow hC.K.1 hP (F.length + ((xc D ad rf tw τ S).length + 0)) (wX_t (xt_f (by omega) rfl)) gCl_X7 8 (by decide) (hC.ts _ q480) (fun _ h9 => h9) rfl hdg kk
theorem gXTX7_9 (hC : CX RX7 cc nL ret0 D gCl nwG Z Hb A p s m args meth c) (hP : va_P D gCl (wX D ad rf tw F τ S) H) (hdg : decode cc pc = .ok (.getfield 56, 3)) (kk : W p l e R s m args below meth c H locs cells slots Q (F0 m (pc + 3) ls (.int (S.2.2.1.1.1 50 9) :: rest))) : W p l e R s m args below meth c H locs cells slots Q (F0 m pc ls (.ref (τ.1 0) :: rest)) :=
  va_get (D := D) (ci := 6) (fs := (obT τ S.2.2.1)) (v := .int (S.2.2.1.1.1 50 9)) (C := RX7) (T := TX7) (N := 12) hC.x hC.b hC.ts in_X7 hC.ow hC.K.1 hP (F.length + ((xc D ad rf tw τ S).length + 0)) (wX_t (xt_f (by omega) rfl)) gCl_X7 9 (by decide) (hC.ts _ q485) (fun _ h9 => h9) rfl hdg kk
theorem lXA_3 (hC : CX own cc nL ret0 D gCl nwG Z Hb A p s m args meth c) (hP : va_P D gCl (wX D ad rf tw F τ S) H) {i : Int32} (hin : vp_in i 4) {k : Nat} (hk : i.toNatClampNeg = k) (hdg : decode cc pc = .ok (.iaload, 1)) (kk : W p l e R s m args below meth c H locs cells slots Q (F0 m (pc + 1) ls (.int (S.2.2.1.1.1 53 k) :: rest))) : W p l e R s m args below meth c H locs cells slots Q (F0 m pc ls (.int i :: .ref (τ.1 3) :: rest)) := by
  subst hk
  exact va_iald hC.x hC.b hC.K.1 hP (F.length + ((xc D ad rf tw τ S).length + 3)) 0 (wX_t (xt_f (by omega) rfl)) rfl hin hdg kk
theorem sXA_3 (hC : CX own cc nL ret0 D gCl nwG Z Hb A p s m args meth c) (hP : va_P D gCl (wX D ad rf tw F τ S) H) (hD : va_D A (wX D ad rf tw F τ S)) (hS : va_S A s.heap H locs) {i v : Int32} (hin : vp_in i 4) {k : Nat} (hk : i.toNatClampNeg = k) (hdg : decode cc pc = .ok (.iastore, 1)) (kk : ∀ S1 : XS, S1 = xN S 53 k v → ∀ (H : Heap) (locs : List Loc), va_P D gCl (wX D ad rf tw F τ S1) H → va_D A (wX D ad rf tw F τ S1) → va_S A s.heap H locs → W p l e R s m args below meth c H locs cells slots Q (F0 m (pc + 1) ls (rest))) : W p l e R s m args below meth c H locs cells slots Q (F0 m pc ls (.int v :: .int i :: .ref (τ.1 3) :: rest)) := by
  subst hk
  refine va_iast hC.x hC.b hC.K.1 hP hD hS (F.length + ((xc D ad rf tw τ S).length + 3)) 0 (wX_t (xt_f (by omega) rfl)) rfl hin hdg (fun H1 locs1 hP1 hD1 hS1 => ?_)
  have e : (wX D ad rf tw F τ S).set (F.length + ((xc D ad rf tw τ S).length + 3)) (τ.1 3, .inl (D.1 100, 4, .inl (upd (S.2.2.1.1.1 53) i.toNatClampNeg v))) = wX D ad rf tw F τ (xN S 53 i.toNatClampNeg v) := wX_st (by rw [xt_len]; omega) (tb_set (by omega) rfl (fun a h => sA_ne (by omega))) rfl rfl rfl
  rw [e] at hP1 hD1
  exact kk _ rfl _ _ hP1 hD1 hS1
theorem lXA_4 (hC : CX own cc nL ret0 D gCl nwG Z Hb A p s m args meth c) (hP : va_P D gCl (wX D ad rf tw F τ S) H) {i : Int32} (hin : vp_in i 8) {k : Nat} (hk : i.toNatClampNeg = k) (hdg : decode cc pc = .ok (.iaload, 1)) (kk : W p l e R s m args below meth c H locs cells slots Q (F0 m (pc + 1) ls (.int (S.2.2.1.1.1 54 k) :: rest))) : W p l e R s m args below meth c H locs cells slots Q (F0 m pc ls (.int i :: .ref (τ.1 4) :: rest)) := by
  subst hk
  exact va_iald hC.x hC.b hC.K.1 hP (F.length + ((xc D ad rf tw τ S).length + 4)) 0 (wX_t (xt_f (by omega) rfl)) rfl hin hdg kk
theorem sXA_4 (hC : CX own cc nL ret0 D gCl nwG Z Hb A p s m args meth c) (hP : va_P D gCl (wX D ad rf tw F τ S) H) (hD : va_D A (wX D ad rf tw F τ S)) (hS : va_S A s.heap H locs) {i v : Int32} (hin : vp_in i 8) {k : Nat} (hk : i.toNatClampNeg = k) (hdg : decode cc pc = .ok (.iastore, 1)) (kk : ∀ S1 : XS, S1 = xN S 54 k v → ∀ (H : Heap) (locs : List Loc), va_P D gCl (wX D ad rf tw F τ S1) H → va_D A (wX D ad rf tw F τ S1) → va_S A s.heap H locs → W p l e R s m args below meth c H locs cells slots Q (F0 m (pc + 1) ls (rest))) : W p l e R s m args below meth c H locs cells slots Q (F0 m pc ls (.int v :: .int i :: .ref (τ.1 4) :: rest)) := by
  subst hk
  refine va_iast hC.x hC.b hC.K.1 hP hD hS (F.length + ((xc D ad rf tw τ S).length + 4)) 0 (wX_t (xt_f (by omega) rfl)) rfl hin hdg (fun H1 locs1 hP1 hD1 hS1 => ?_)
  have e : (wX D ad rf tw F τ S).set (F.length + ((xc D ad rf tw τ S).length + 4)) (τ.1 4, .inl (D.1 100, 8, .inl (upd (S.2.2.1.1.1 54) i.toNatClampNeg v))) = wX D ad rf tw F τ (xN S 54 i.toNatClampNeg v) := wX_st (by rw [xt_len]; omega) (tb_set (by omega) rfl (fun a h => sA_ne (by omega))) rfl rfl rfl
  rw [e] at hP1 hD1
  exact kk _ rfl _ _ hP1 hD1 hS1
theorem lXA_5 (hC : CX own cc nL ret0 D gCl nwG Z Hb A p s m args meth c) (hP : va_P D gCl (wX D ad rf tw F τ S) H) {i : Int32} (hin : vp_in i 8) {k : Nat} (hk : i.toNatClampNeg = k) (hdg : decode cc pc = .ok (.iaload, 1)) (kk : W p l e R s m args below meth c H locs cells slots Q (F0 m (pc + 1) ls (.int (S.2.2.1.1.1 55 k) :: rest))) : W p l e R s m args below meth c H locs cells slots Q (F0 m pc ls (.int i :: .ref (τ.1 5) :: rest)) := by
  subst hk
  exact va_iald hC.x hC.b hC.K.1 hP (F.length + ((xc D ad rf tw τ S).length + 5)) 0 (wX_t (xt_f (by omega) rfl)) rfl hin hdg kk
theorem sXA_5 (hC : CX own cc nL ret0 D gCl nwG Z Hb A p s m args meth c) (hP : va_P D gCl (wX D ad rf tw F τ S) H) (hD : va_D A (wX D ad rf tw F τ S)) (hS : va_S A s.heap H locs) {i v : Int32} (hin : vp_in i 8) {k : Nat} (hk : i.toNatClampNeg = k) (hdg : decode cc pc = .ok (.iastore, 1)) (kk : ∀ S1 : XS, S1 = xN S 55 k v → ∀ (H : Heap) (locs : List Loc), va_P D gCl (wX D ad rf tw F τ S1) H → va_D A (wX D ad rf tw F τ S1) → va_S A s.heap H locs → W p l e R s m args below meth c H locs cells slots Q (F0 m (pc + 1) ls (rest))) : W p l e R s m args below meth c H locs cells slots Q (F0 m pc ls (.int v :: .int i :: .ref (τ.1 5) :: rest)) := by
  subst hk
  refine va_iast hC.x hC.b hC.K.1 hP hD hS (F.length + ((xc D ad rf tw τ S).length + 5)) 0 (wX_t (xt_f (by omega) rfl)) rfl hin hdg (fun H1 locs1 hP1 hD1 hS1 => ?_)
  have e : (wX D ad rf tw F τ S).set (F.length + ((xc D ad rf tw τ S).length + 5)) (τ.1 5, .inl (D.1 100, 8, .inl (upd (S.2.2.1.1.1 55) i.toNatClampNeg v))) = wX D ad rf tw F τ (xN S 55 i.toNatClampNeg v) := wX_st (by rw [xt_len]; omega) (tb_set (by omega) rfl (fun a h => sA_ne (by omega))) rfl rfl rfl
  rw [e] at hP1 hD1
  exact kk _ rfl _ _ hP1 hD1 hS1
theorem lXA_6 (hC : CX own cc nL ret0 D gCl nwG Z Hb A p s m args meth c) (hP : va_P D gCl (wX D ad rf tw F τ S) H) {i : Int32} (hin : vp_in i 8) {k : Nat} (hk : i.toNatClampNeg = k) (hdg : decode cc pc = .ok (.iaload, 1)) (kk : W p l e R s m args below meth c H locs cells slots Q (F0 m (pc + 1) ls (.int (S.2.2.1.1.1 56 k) :: rest))) : W p l e R s m args below meth c H locs cells slots Q (F0 m pc ls (.int i :: .ref (τ.1 6) :: rest)) := by
  subst hk
  exact va_iald hC.x hC.b hC.K.1 hP (F.length + ((xc D ad rf tw τ S).length + 6)) 0 (wX_t (xt_f (by omega) rfl)) rfl hin hdg kk
theorem sXA_6 (hC : CX own cc nL ret0 D gCl nwG Z Hb A p s m args meth c) (hP : va_P D gCl (wX D ad rf tw F τ S) H) (hD : va_D A (wX D ad rf tw F τ S)) (hS : va_S A s.heap H locs) {i v : Int32} (hin : vp_in i 8) {k : Nat} (hk : i.toNatClampNeg = k) (hdg : decode cc pc = .ok (.iastore, 1)) (kk : ∀ S1 : XS, S1 = xN S 56 k v → ∀ (H : Heap) (locs : List Loc), va_P D gCl (wX D ad rf tw F τ S1) H → va_D A (wX D ad rf tw F τ S1) → va_S A s.heap H locs → W p l e R s m args below meth c H locs cells slots Q (F0 m (pc + 1) ls (rest))) : W p l e R s m args below meth c H locs cells slots Q (F0 m pc ls (.int v :: .int i :: .ref (τ.1 6) :: rest)) := by
  subst hk
  refine va_iast hC.x hC.b hC.K.1 hP hD hS (F.length + ((xc D ad rf tw τ S).length + 6)) 0 (wX_t (xt_f (by omega) rfl)) rfl hin hdg (fun H1 locs1 hP1 hD1 hS1 => ?_)
  have e : (wX D ad rf tw F τ S).set (F.length + ((xc D ad rf tw τ S).length + 6)) (τ.1 6, .inl (D.1 100, 8, .inl (upd (S.2.2.1.1.1 56) i.toNatClampNeg v))) = wX D ad rf tw F τ (xN S 56 i.toNatClampNeg v) := wX_st (by rw [xt_len]; omega) (tb_set (by omega) rfl (fun a h => sA_ne (by omega))) rfl rfl rfl
  rw [e] at hP1 hD1
  exact kk _ rfl _ _ hP1 hD1 hS1
theorem lXPe (hC : CX own cc nL ret0 D gCl nwG Z Hb A p s m args meth c) (hP : va_P D gCl (wX D ad rf tw F τ S) H) {i : Int32} (hin : vp_in i 6) {k : Nat} (hk : i.toNatClampNeg = k) (hg : k < τ.2.2.1) (hdg : decode cc pc = .ok (.aaload, 1)) (kk : W p l e R s m args below meth c H locs cells slots Q (F0 m (pc + 1) ls (.ref (τ.1 (10 + k)) :: rest))) : W p l e R s m args below meth c H locs cells slots Q (F0 m pc ls (.int i :: .ref (τ.1 1) :: rest)) := by
  subst hk
  refine va_aldq hC.x hC.b hC.K.1 hP (F.length + ((xc D ad rf tw τ S).length + 1)) 4 (wX_t (xt_f (by omega) rfl)) rfl hin hdg ?_
  rw [if_pos hg]
  exact kk
theorem lXGh (hC : CX own cc nL ret0 D gCl nwG Z Hb A p s m args meth c) (hP : va_P D gCl (wX D ad rf tw F τ S) H) {i : Int32} (hin : vp_in i 6) {k : Nat} (hk : i.toNatClampNeg = k) (hg : k < τ.2.2.2.1) (hdg : decode cc pc = .ok (.aaload, 1)) (kk : W p l e R s m args below meth c H locs cells slots Q (F0 m (pc + 1) ls (.ref (τ.1 (20 + k)) :: rest))) : W p l e R s m args below meth c H locs cells slots Q (F0 m pc ls (.int i :: .ref (τ.1 2) :: rest)) := by
  subst hk
  refine va_aldq hC.x hC.b hC.K.1 hP (F.length + ((xc D ad rf tw τ S).length + 2)) 5 (wX_t (xt_f (by omega) rfl)) rfl hin hdg ?_
  rw [if_pos hg]
  exact kk
theorem gXP_2 {i : Nat} (hi : i < τ.2.2.1) (hC : CX RX2 cc nL ret0 D gCl nwG Z Hb A p s m args meth c) (hP : va_P D gCl (wX D ad rf tw F τ S) H) (hdg : decode cc pc = .ok (.getfield 179, 3)) (kk : W p l e R s m args below meth c H locs cells slots Q (F0 m (pc + 3) ls (.int (S.2.2.1.1.1 (1000 + 2 * i) 2) :: rest))) : W p l e R s m args below meth c H locs cells slots Q (F0 m pc ls (.ref (τ.1 (10 + i)) :: rest)) :=
  va_get (D := D) (ci := 7) (fs := (obP τ S.2.2.1 i)) (v := .int (S.2.2.1.1.1 (1000 + 2 * i) 2)) (C := RX9) (T := TX9) (N := 3) hC.x hC.b hC.ts in_X9 hC.ow hC.K.1 hP (F.length + ((xc D ad rf tw τ S).length + (7 + i))) (wX_t (xt_p hi)) gCl_X9 2 (by decide) (hC.ts _ q750) (fun _ h9 => h9) rfl hdg kk
theorem gXP_1 {i : Nat} (hi : i < τ.2.2.1) (hC : CX RX2 cc nL ret0 D gCl nwG Z Hb A p s m args meth c) (hP : va_P D gCl (wX D ad rf tw F τ S) H) (hdg : decode cc pc = .ok (.getfield 223, 3)) (kk : W p l e R s m args below meth c H locs cells slots Q (F0 m (pc + 3) ls (.int (S.2.2.1.1.1 (1000 + 2 * i) 1) :: rest))) : W p l e R s m args below meth c H locs cells slots Q (F0 m pc ls (.ref (τ.1 (10 + i)) :: rest)) :=
  va_get (D := D) (ci := 7) (fs := (obP τ S.2.2.1 i)) (v := .int (S.2.2.1.1.1 (1000 + 2 * i) 1)) (C := RX9) (T := TX9) (N := 3) hC.x hC.b hC.ts in_X9 hC.ow hC.K.1 hP (F.length + ((xc D ad rf tw τ S).length + (7 + i))) (wX_t (xt_p hi)) gCl_X9 1 (by decide) (hC.ts _ q754) (u_same (hC.ts _ q755)) rfl hdg kk
theorem gXPn {i : Nat} (hi : i < τ.2.2.1) (hC : CX RX7 cc nL ret0 D gCl nwG Z Hb A p s m args meth c) (hP : va_P D gCl (wX D ad rf tw F τ S) H) (hdg : decode cc pc = .ok (.getfield 36, 3)) (kk : W p l e R s m args below meth c H locs cells slots Q (F0 m (pc + 3) ls (.ref (τ.2.1 (10 + i)) :: rest))) : W p l e R s m args below meth c H locs cells slots Q (F0 m pc ls (.ref (τ.1 (10 + i)) :: rest)) :=
  va_get (D := D) (ci := 7) (fs := (obP τ S.2.2.1 i)) (v := .ref (τ.2.1 (10 + i))) (C := RX9) (T := TX9) (N := 3) hC.x hC.b hC.ts in_X9 hC.ow hC.K.1 hP (F.length + ((xc D ad rf tw τ S).length + (7 + i))) (wX_t (xt_p hi)) gCl_X9 0 (by decide) (hC.ts _ q752) (fun _ h9 => h9) rfl hdg kk
theorem gXG_2 {i : Nat} (hi : i < τ.2.2.2.1) (hl : τ.2.2.2.2 i < 4) (hC : CX RX2 cc nL ret0 D gCl nwG Z Hb A p s m args meth c) (hP : va_P D gCl (wX D ad rf tw F τ S) H) (hdg : decode cc pc = .ok (.getfield 236, 3)) (kk : W p l e R s m args below meth c H locs cells slots Q (F0 m (pc + 3) ls (.int (S.2.2.1.1.1 (1001 + 2 * i) 2) :: rest))) : W p l e R s m args below meth c H locs cells slots Q (F0 m pc ls (.ref (τ.1 (20 + i)) :: rest)) := by
  have he := wX_t (D := D) (ad := ad) (rf := rf) (tw := tw) (F := F) (S := S) (xt_g (D := D) (S := S) hi)
  generalize τ.2.2.2.2 i = x at he hl
  match x, hl, he with
  | 0, _, he => exact va_get (D := D) (ci := 8) (fs := (obG τ S.2.2.1 i)) (v := .int (S.2.2.1.1.1 (1001 + 2 * i) 2)) (C := RX11) (T := TX11) (N := 6) hC.x hC.b hC.ts in_X11 hC.ow hC.K.1 hP _ he gCl_X11 2 (by decide) (hC.ts _ q792) (fun _ h9 => h9) rfl hdg kk
  | 1, _, he => exact va_get (D := D) (ci := 9) (fs := (obG τ S.2.2.1 i)) (v := .int (S.2.2.1.1.1 (1001 + 2 * i) 2)) (C := RX12) (T := TX12) (N := 6) hC.x hC.b hC.ts in_X12 hC.ow hC.K.1 hP _ he gCl_X12 2 (by decide) (hC.ts _ q792) (fun _ h9 => h9) rfl hdg kk
  | 2, _, he => exact va_get (D := D) (ci := 10) (fs := (obG τ S.2.2.1 i)) (v := .int (S.2.2.1.1.1 (1001 + 2 * i) 2)) (C := RX13) (T := TX13) (N := 6) hC.x hC.b hC.ts in_X13 hC.ow hC.K.1 hP _ he gCl_X13 2 (by decide) (hC.ts _ q792) (fun _ h9 => h9) rfl hdg kk
  | 3, _, he => exact va_get (D := D) (ci := 11) (fs := (obG τ S.2.2.1 i)) (v := .int (S.2.2.1.1.1 (1001 + 2 * i) 2)) (C := RX14) (T := TX14) (N := 6) hC.x hC.b hC.ts in_X14 hC.ow hC.K.1 hP _ he gCl_X14 2 (by decide) (hC.ts _ q792) (fun _ h9 => h9) rfl hdg kk
theorem gXG_3 {i : Nat} (hi : i < τ.2.2.2.1) (hl : τ.2.2.2.2 i < 4) (hC : CX RX2 cc nL ret0 D gCl nwG Z Hb A p s m args meth c) (hP : va_P D gCl (wX D ad rf tw F τ S) H) (hdg : decode cc pc = .ok (.getfield 241, 3)) (kk : W p l e R s m args below meth c H locs cells slots Q (F0 m (pc + 3) ls (.int (S.2.2.1.1.1 (1001 + 2 * i) 3) :: rest))) : W p l e R s m args below meth c H locs cells slots Q (F0 m pc ls (.ref (τ.1 (20 + i)) :: rest)) := by
  have he := wX_t (D := D) (ad := ad) (rf := rf) (tw := tw) (F := F) (S := S) (xt_g (D := D) (S := S) hi)
  generalize τ.2.2.2.2 i = x at he hl
  match x, hl, he with
  | 0, _, he => exact va_get (D := D) (ci := 8) (fs := (obG τ S.2.2.1 i)) (v := .int (S.2.2.1.1.1 (1001 + 2 * i) 3)) (C := RX11) (T := TX11) (N := 6) hC.x hC.b hC.ts in_X11 hC.ow hC.K.1 hP _ he gCl_X11 3 (by decide) (hC.ts _ q794) (fun _ h9 => h9) rfl hdg kk
  | 1, _, he => exact va_get (D := D) (ci := 9) (fs := (obG τ S.2.2.1 i)) (v := .int (S.2.2.1.1.1 (1001 + 2 * i) 3)) (C := RX12) (T := TX12) (N := 6) hC.x hC.b hC.ts in_X12 hC.ow hC.K.1 hP _ he gCl_X12 3 (by decide) (hC.ts _ q794) (fun _ h9 => h9) rfl hdg kk
  | 2, _, he => exact va_get (D := D) (ci := 10) (fs := (obG τ S.2.2.1 i)) (v := .int (S.2.2.1.1.1 (1001 + 2 * i) 3)) (C := RX13) (T := TX13) (N := 6) hC.x hC.b hC.ts in_X13 hC.ow hC.K.1 hP _ he gCl_X13 3 (by decide) (hC.ts _ q794) (fun _ h9 => h9) rfl hdg kk
  | 3, _, he => exact va_get (D := D) (ci := 11) (fs := (obG τ S.2.2.1 i)) (v := .int (S.2.2.1.1.1 (1001 + 2 * i) 3)) (C := RX14) (T := TX14) (N := 6) hC.x hC.b hC.ts in_X14 hC.ow hC.K.1 hP _ he gCl_X14 3 (by decide) (hC.ts _ q794) (fun _ h9 => h9) rfl hdg kk
theorem gXG_5 {i : Nat} (hi : i < τ.2.2.2.1) (hl : τ.2.2.2.2 i < 4) (hC : CX RX2 cc nL ret0 D gCl nwG Z Hb A p s m args meth c) (hP : va_P D gCl (wX D ad rf tw F τ S) H) (hdg : decode cc pc = .ok (.getfield 247, 3)) (kk : W p l e R s m args below meth c H locs cells slots Q (F0 m (pc + 3) ls (.int (S.2.2.1.1.1 (1001 + 2 * i) 5) :: rest))) : W p l e R s m args below meth c H locs cells slots Q (F0 m pc ls (.ref (τ.1 (20 + i)) :: rest)) := by
  have he := wX_t (D := D) (ad := ad) (rf := rf) (tw := tw) (F := F) (S := S) (xt_g (D := D) (S := S) hi)
  generalize τ.2.2.2.2 i = x at he hl
  match x, hl, he with
  | 0, _, he => exact va_get (D := D) (ci := 8) (fs := (obG τ S.2.2.1 i)) (v := .int (S.2.2.1.1.1 (1001 + 2 * i) 5)) (C := RX11) (T := TX11) (N := 6) hC.x hC.b hC.ts in_X11 hC.ow hC.K.1 hP _ he gCl_X11 5 (by decide) (hC.ts _ q756) (u_same (hC.ts _ q757)) rfl hdg kk
  | 1, _, he => exact va_get (D := D) (ci := 9) (fs := (obG τ S.2.2.1 i)) (v := .int (S.2.2.1.1.1 (1001 + 2 * i) 5)) (C := RX12) (T := TX12) (N := 6) hC.x hC.b hC.ts in_X12 hC.ow hC.K.1 hP _ he gCl_X12 5 (by decide) (hC.ts _ q756) (u_same (hC.ts _ q757)) rfl hdg kk
  | 2, _, he => exact va_get (D := D) (ci := 10) (fs := (obG τ S.2.2.1 i)) (v := .int (S.2.2.1.1.1 (1001 + 2 * i) 5)) (C := RX13) (T := TX13) (N := 6) hC.x hC.b hC.ts in_X13 hC.ow hC.K.1 hP _ he gCl_X13 5 (by decide) (hC.ts _ q756) (u_same (hC.ts _ q757)) rfl hdg kk
  | 3, _, he => exact va_get (D := D) (ci := 11) (fs := (obG τ S.2.2.1 i)) (v := .int (S.2.2.1.1.1 (1001 + 2 * i) 5)) (C := RX14) (T := TX14) (N := 6) hC.x hC.b hC.ts in_X14 hC.ow hC.K.1 hP _ he gCl_X14 5 (by decide) (hC.ts _ q756) (u_same (hC.ts _ q757)) rfl hdg kk
theorem gXGn {i : Nat} (hi : i < τ.2.2.2.1) (hl : τ.2.2.2.2 i < 4) (hC : CX RX7 cc nL ret0 D gCl nwG Z Hb A p s m args meth c) (hP : va_P D gCl (wX D ad rf tw F τ S) H) (hdg : decode cc pc = .ok (.getfield 36, 3)) (kk : W p l e R s m args below meth c H locs cells slots Q (F0 m (pc + 3) ls (.ref (τ.2.1 (20 + i)) :: rest))) : W p l e R s m args below meth c H locs cells slots Q (F0 m pc ls (.ref (τ.1 (20 + i)) :: rest)) := by
  have he := wX_t (D := D) (ad := ad) (rf := rf) (tw := tw) (F := F) (S := S) (xt_g (D := D) (S := S) hi)
  generalize τ.2.2.2.2 i = x at he hl
  match x, hl, he with
  | 0, _, he => exact va_get (D := D) (ci := 8) (fs := (obG τ S.2.2.1 i)) (v := .ref (τ.2.1 (20 + i))) (C := RX11) (T := TX11) (N := 6) hC.x hC.b hC.ts in_X11 hC.ow hC.K.1 hP _ he gCl_X11 4 (by decide) (hC.ts _ q752) (fun _ h9 => h9) rfl hdg kk
  | 1, _, he => exact va_get (D := D) (ci := 9) (fs := (obG τ S.2.2.1 i)) (v := .ref (τ.2.1 (20 + i))) (C := RX12) (T := TX12) (N := 6) hC.x hC.b hC.ts in_X12 hC.ow hC.K.1 hP _ he gCl_X12 4 (by decide) (hC.ts _ q752) (fun _ h9 => h9) rfl hdg kk
  | 2, _, he => exact va_get (D := D) (ci := 10) (fs := (obG τ S.2.2.1 i)) (v := .ref (τ.2.1 (20 + i))) (C := RX13) (T := TX13) (N := 6) hC.x hC.b hC.ts in_X13 hC.ow hC.K.1 hP _ he gCl_X13 4 (by decide) (hC.ts _ q752) (fun _ h9 => h9) rfl hdg kk
  | 3, _, he => exact va_get (D := D) (ci := 11) (fs := (obG τ S.2.2.1 i)) (v := .ref (τ.2.1 (20 + i))) (C := RX14) (T := TX14) (N := 6) hC.x hC.b hC.ts in_X14 hC.ow hC.K.1 hP _ he gCl_X14 4 (by decide) (hC.ts _ q752) (fun _ h9 => h9) rfl hdg kk
theorem eXG_2 {i : Nat} {v : Int32} (hi : i < τ.2.2.2.1) : (wX D ad rf tw F τ S).set (F.length + ((xc D ad rf tw τ S).length + (7 + τ.2.2.1 + i))) (τ.1 (20 + i), .inr (8 + τ.2.2.2.2 i, (obG τ S.2.2.1 i).set 2 (.int v))) = wX D ad rf tw F τ (xN S (1001 + 2 * i) 2 v) := wX_st (by rw [xt_len]; omega) (eG_set hi (by unfold obG sI; rw [sA_eq]; simp [upd])) rfl rfl rfl
theorem pXG_2 {i : Nat} (hi : i < τ.2.2.2.1) (hl : τ.2.2.2.2 i < 4) (hC : CX RX2 cc nL ret0 D gCl nwG Z Hb A p s m args meth c) (hP : va_P D gCl (wX D ad rf tw F τ S) H) (hD : va_D A (wX D ad rf tw F τ S)) (hS : va_S A s.heap H locs) {v : Int32} (hdg : decode cc pc = .ok (.putfield 236, 3)) (kk : ∀ S1 : XS, S1 = xN S (1001 + 2 * i) 2 v → ∀ (H : Heap) (locs : List Loc), va_P D gCl (wX D ad rf tw F τ S1) H → va_D A (wX D ad rf tw F τ S1) → va_S A s.heap H locs → W p l e R s m args below meth c H locs cells slots Q (F0 m (pc + 3) ls (rest))) : W p l e R s m args below meth c H locs cells slots Q (F0 m pc ls (.int v :: .ref (τ.1 (20 + i)) :: rest)) := by
  have he := wX_t (D := D) (ad := ad) (rf := rf) (tw := tw) (F := F) (S := S) (xt_g (D := D) (S := S) hi)
  have hx := eXG_2 (D := D) (ad := ad) (rf := rf) (tw := tw) (F := F) (S := S) (v := v) hi
  generalize τ.2.2.2.2 i = x at he hl hx
  match x, hl, he, hx with
  | 0, _, he, hx =>
    refine va_put (D := D) (ci := 8) (fs := (obG τ S.2.2.1 i)) (v := .int v) (ty := .int) (C := RX11) (T := TX11) (N := 6) hC.x hC.b hC.ts in_X11 tyX11 tyX11_ok nmX11 hC.ow hC.K.1 hP hD hS _ he gCl_X11 2 (by decide) (hC.ts _ q792) (fun _ h9 => h9) rfl (by decide +kernel) rfl rfl (Nat.le_of_ble_eq_true rfl) hdg (fun H1 locs1 hP1 hD1 hS1 => ?_)
    rw [hx] at hP1 hD1
    exact kk _ rfl _ _ hP1 hD1 hS1
  | 1, _, he, hx =>
    refine va_put (D := D) (ci := 9) (fs := (obG τ S.2.2.1 i)) (v := .int v) (ty := .int) (C := RX12) (T := TX12) (N := 6) hC.x hC.b hC.ts in_X12 tyX12 tyX12_ok nmX12 hC.ow hC.K.1 hP hD hS _ he gCl_X12 2 (by decide) (hC.ts _ q792) (fun _ h9 => h9) rfl (by decide +kernel) rfl rfl (Nat.le_of_ble_eq_true rfl) hdg (fun H1 locs1 hP1 hD1 hS1 => ?_)
    rw [hx] at hP1 hD1
    exact kk _ rfl _ _ hP1 hD1 hS1
  | 2, _, he, hx =>
    refine va_put (D := D) (ci := 10) (fs := (obG τ S.2.2.1 i)) (v := .int v) (ty := .int) (C := RX13) (T := TX13) (N := 6) hC.x hC.b hC.ts in_X13 tyX13 tyX13_ok nmX13 hC.ow hC.K.1 hP hD hS _ he gCl_X13 2 (by decide) (hC.ts _ q792) (fun _ h9 => h9) rfl (by decide +kernel) rfl rfl (Nat.le_of_ble_eq_true rfl) hdg (fun H1 locs1 hP1 hD1 hS1 => ?_)
    rw [hx] at hP1 hD1
    exact kk _ rfl _ _ hP1 hD1 hS1
  | 3, _, he, hx =>
    refine va_put (D := D) (ci := 11) (fs := (obG τ S.2.2.1 i)) (v := .int v) (ty := .int) (C := RX14) (T := TX14) (N := 6) hC.x hC.b hC.ts in_X14 tyX14 tyX14_ok nmX14 hC.ow hC.K.1 hP hD hS _ he gCl_X14 2 (by decide) (hC.ts _ q792) (fun _ h9 => h9) rfl (by decide +kernel) rfl rfl (Nat.le_of_ble_eq_true rfl) hdg (fun H1 locs1 hP1 hD1 hS1 => ?_)
    rw [hx] at hP1 hD1
    exact kk _ rfl _ _ hP1 hD1 hS1
theorem eXG_3 {i : Nat} {v : Int32} (hi : i < τ.2.2.2.1) : (wX D ad rf tw F τ S).set (F.length + ((xc D ad rf tw τ S).length + (7 + τ.2.2.1 + i))) (τ.1 (20 + i), .inr (8 + τ.2.2.2.2 i, (obG τ S.2.2.1 i).set 3 (.int v))) = wX D ad rf tw F τ (xN S (1001 + 2 * i) 3 v) := wX_st (by rw [xt_len]; omega) (eG_set hi (by unfold obG sI; rw [sA_eq]; simp [upd])) rfl rfl rfl
theorem pXG_3 {i : Nat} (hi : i < τ.2.2.2.1) (hl : τ.2.2.2.2 i < 4) (hC : CX RX2 cc nL ret0 D gCl nwG Z Hb A p s m args meth c) (hP : va_P D gCl (wX D ad rf tw F τ S) H) (hD : va_D A (wX D ad rf tw F τ S)) (hS : va_S A s.heap H locs) {v : Int32} (hdg : decode cc pc = .ok (.putfield 241, 3)) (kk : ∀ S1 : XS, S1 = xN S (1001 + 2 * i) 3 v → ∀ (H : Heap) (locs : List Loc), va_P D gCl (wX D ad rf tw F τ S1) H → va_D A (wX D ad rf tw F τ S1) → va_S A s.heap H locs → W p l e R s m args below meth c H locs cells slots Q (F0 m (pc + 3) ls (rest))) : W p l e R s m args below meth c H locs cells slots Q (F0 m pc ls (.int v :: .ref (τ.1 (20 + i)) :: rest)) := by
  have he := wX_t (D := D) (ad := ad) (rf := rf) (tw := tw) (F := F) (S := S) (xt_g (D := D) (S := S) hi)
  have hx := eXG_3 (D := D) (ad := ad) (rf := rf) (tw := tw) (F := F) (S := S) (v := v) hi
  generalize τ.2.2.2.2 i = x at he hl hx
  match x, hl, he, hx with
  | 0, _, he, hx =>
    refine va_put (D := D) (ci := 8) (fs := (obG τ S.2.2.1 i)) (v := .int v) (ty := .int) (C := RX11) (T := TX11) (N := 6) hC.x hC.b hC.ts in_X11 tyX11 tyX11_ok nmX11 hC.ow hC.K.1 hP hD hS _ he gCl_X11 3 (by decide) (hC.ts _ q794) (fun _ h9 => h9) rfl (by decide +kernel) rfl rfl (Nat.le_of_ble_eq_true rfl) hdg (fun H1 locs1 hP1 hD1 hS1 => ?_)
    rw [hx] at hP1 hD1
    exact kk _ rfl _ _ hP1 hD1 hS1
  | 1, _, he, hx =>
    refine va_put (D := D) (ci := 9) (fs := (obG τ S.2.2.1 i)) (v := .int v) (ty := .int) (C := RX12) (T := TX12) (N := 6) hC.x hC.b hC.ts in_X12 tyX12 tyX12_ok nmX12 hC.ow hC.K.1 hP hD hS _ he gCl_X12 3 (by decide) (hC.ts _ q794) (fun _ h9 => h9) rfl (by decide +kernel) rfl rfl (Nat.le_of_ble_eq_true rfl) hdg (fun H1 locs1 hP1 hD1 hS1 => ?_)
    rw [hx] at hP1 hD1
    exact kk _ rfl _ _ hP1 hD1 hS1
  | 2, _, he, hx =>
    refine va_put (D := D) (ci := 10) (fs := (obG τ S.2.2.1 i)) (v := .int v) (ty := .int) (C := RX13) (T := TX13) (N := 6) hC.x hC.b hC.ts in_X13 tyX13 tyX13_ok nmX13 hC.ow hC.K.1 hP hD hS _ he gCl_X13 3 (by decide) (hC.ts _ q794) (fun _ h9 => h9) rfl (by decide +kernel) rfl rfl (Nat.le_of_ble_eq_true rfl) hdg (fun H1 locs1 hP1 hD1 hS1 => ?_)
    rw [hx] at hP1 hD1
    exact kk _ rfl _ _ hP1 hD1 hS1
  | 3, _, he, hx =>
    refine va_put (D := D) (ci := 11) (fs := (obG τ S.2.2.1 i)) (v := .int v) (ty := .int) (C := RX14) (T := TX14) (N := 6) hC.x hC.b hC.ts in_X14 tyX14 tyX14_ok nmX14 hC.ow hC.K.1 hP hD hS _ he gCl_X14 3 (by decide) (hC.ts _ q794) (fun _ h9 => h9) rfl (by decide +kernel) rfl rfl (Nat.le_of_ble_eq_true rfl) hdg (fun H1 locs1 hP1 hD1 hS1 => ?_)
    rw [hx] at hP1 hD1
    exact kk _ rfl _ _ hP1 hD1 hS1
end XROWS
