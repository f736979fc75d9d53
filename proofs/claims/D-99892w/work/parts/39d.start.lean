set_option maxRecDepth 100000
/-! THE LAW FROM ITS ENTRY -/
theorem nw_of {w : Cond} (h : nwK w = true) {s : State} {args : Array Value} (hb : w.before args s = true) : va_Nw w s := by
  cases w with
  | fieldLinkNest a i b n d h => exact va_Nw.of rfl hb
  | methodLinkNest a i x h => exact va_Nw.of rfl hb
  | declares x => exact va_Nw.of rfl hb
  | arrayOver t =>
    cases t with
    | object C => exact va_AO.of hb
    | _ => cases h
  | _ => cases h
theorem nw_all : ∀ w ∈ nwG, w ∈ lw_tbl ∧ nwK w = true := cz_c ⟨q266, rfl⟩ (cz_c ⟨q294, rfl⟩ (cz_c ⟨q323, rfl⟩ (cz_c ⟨q445, rfl⟩ (cz_c ⟨q450, rfl⟩ (cz_c ⟨q452, rfl⟩ (cz_c ⟨q528, rfl⟩ (cz_c ⟨q914, rfl⟩ (cz_c ⟨q929, rfl⟩ (cz_c ⟨q950, rfl⟩ (cz_c ⟨q1045, rfl⟩ (cz_c ⟨q1515, rfl⟩ (cz_c ⟨q1519, rfl⟩ (cz_c ⟨q1520, rfl⟩ (cz_c ⟨q1522, rfl⟩ (cz_c ⟨q1523, rfl⟩ (cz_c ⟨q1525, rfl⟩ (cz_c ⟨q1527, rfl⟩ (cz_c ⟨q1529, rfl⟩ (cz_c ⟨q1531, rfl⟩ (cz_c ⟨q1533, rfl⟩ (cz_c ⟨q1535, rfl⟩ (cz_c ⟨q1537, rfl⟩ (cz_c ⟨q1539, rfl⟩ (cz_c ⟨q1541, rfl⟩ (cz_c ⟨q1543, rfl⟩ (cz_c ⟨q1545, rfl⟩ (cz_c ⟨q1547, rfl⟩ (cz_c ⟨q1549, rfl⟩ (cz_c ⟨q1551, rfl⟩ (cz_c ⟨q1553, rfl⟩ (cz_c ⟨q1555, rfl⟩ (cz_n))))))))))))))))))))))))))))))))
theorem K_start {s : State} {args : Array Value} (ht : ∀ w ∈ lw_tbl, w.before args s = true) : ∃ D : va_G, va_K D gCl (tysG D) s := by
  have hts : ∀ w ∈ lw_all, w.before args s = true := fun w hw => ht w (lw_all_tbl hw)
  obtain ⟨c0, i0, k0⟩ := u_known (C := RX1) (T := TX1) (N := 30) (n := 30) hts in_X1 (hts _ q145)
  obtain ⟨c1, i1, k1⟩ := u_known (C := RX2) (T := TX2) (N := 10) (n := 10) hts in_X2 (hts _ q153)
  obtain ⟨c2, i2, k2⟩ := u_known (C := RX3) (T := TX3) (N := 8) (n := 8) hts in_X3 (hts _ q159)
  obtain ⟨c3, i3, k3⟩ := u_known (C := RX4) (T := TX4) (N := 5) (n := 5) hts in_X4 (hts _ q265)
  obtain ⟨c4, i4, k4⟩ := u_known (C := RX5) (T := TX5) (N := 8) (n := 8) hts in_X5 (hts _ q293)
  obtain ⟨c5, i5, k5⟩ := u_known (C := RX6) (T := TX6) (N := 33) (n := 33) hts in_X6 (hts _ q1391)
  obtain ⟨c6, i6, k6⟩ := u_known (C := RX7) (T := TX7) (N := 12) (n := 12) hts in_X7 (hts _ q444)
  obtain ⟨c7, i7, k7⟩ := u_known (C := RX9) (T := TX9) (N := 3) (n := 3) hts in_X9 (hts _ q725)
  obtain ⟨c8, i8, k8⟩ := u_known (C := RX11) (T := TX11) (N := 6) (n := 6) hts in_X11 (hts _ q776)
  obtain ⟨c9, i9, k9⟩ := u_known (C := RX12) (T := TX12) (N := 6) (n := 6) hts in_X12 (hts _ q809)
  obtain ⟨c10, i10, k10⟩ := u_known (C := RX13) (T := TX13) (N := 6) (n := 6) hts in_X13 (hts _ q823)
  obtain ⟨c11, i11, k11⟩ := u_known (C := RX14) (T := TX14) (N := 6) (n := 6) hts in_X14 (hts _ q837)
  obtain ⟨c12, i12, k12⟩ := u_known (C := RX15) (T := TX15) (N := 21) (n := 21) hts in_X15 (hts _ q1514)
  obtain ⟨c13, i13, k13⟩ := u_known (C := RJ3) (T := TJ3) (N := 4) (n := 4) hts in_J3 (hts _ q530)
  obtain ⟨c14, i14, k14⟩ := u_known (C := RJ9) (T := TJ9) (N := 6) (n := 6) hts in_J9 (hts _ q1370)
  obtain ⟨a0, b0, e0, x0, y0, z0⟩ := Cond.arrayClass_spec (hts _ q291)
  obtain ⟨a1, b1, e1, x1, y1, z1⟩ := Cond.arrayClass_spec (hts _ q1496)
  obtain ⟨a2, b2, e2, x2, y2, z2⟩ := Cond.arrayClass_spec (hts _ q231)
  obtain ⟨a3, b3, e3, x3, y3, z3⟩ := Cond.arrayClass_spec (hts _ q263)
  obtain ⟨e4, a4, b4, w4, -, y4, z4, x4⟩ := Cond.arrayOver_spec (ht _ q450)
  obtain ⟨e5, a5, b5, w5, -, y5, z5, x5⟩ := Cond.arrayOver_spec (ht _ q452)
  obtain ⟨e6, a6, b6, w6, -, y6, z6, x6⟩ := Cond.arrayOver_spec (ht _ q323)
  refine ⟨(fun k => if k < 100 then [c0, c1, c2, c3, c4, c5, c6, c7, c8, c9, c10, c11, c12, c13, c14].getD k c0 else [a0, a1, a2, a3, a4, a5, a6].getD (k - 100) c0, fun k => [i0, i1, i2, i3, i4, i5, i6, i7, i8, i9, i10, i11, i12, i13, i14].getD k i0), fun c qq hq => ?_, fun k qq hk => ?_⟩
  · match c, hq with
    | 0, hq => cases hq; exact k0
    | 1, hq => cases hq; exact k1
    | 2, hq => cases hq; exact k2
    | 3, hq => cases hq; exact k3
    | 4, hq => cases hq; exact k4
    | 5, hq => cases hq; exact k5
    | 6, hq => cases hq; exact k6
    | 7, hq => cases hq; exact k7
    | 8, hq => cases hq; exact k8
    | 9, hq => cases hq; exact k9
    | 10, hq => cases hq; exact k10
    | 11, hq => cases hq; exact k11
    | 12, hq => cases hq; exact k12
    | 13, hq => cases hq; exact k13
    | 14, hq => cases hq; exact k14
    | c + 15, hq => simp [gCl] at hq
  · match k, hk with
    | 0, hk => cases hk; exact ⟨fun n z => ⟨fun k h => (by cases h), b0, y0, e0, z0⟩, x0⟩
    | 1, hk => cases hk; exact ⟨fun n z => ⟨fun k h => (by cases h), b1, y1, e1, z1⟩, x1⟩
    | 2, hk => cases hk; exact ⟨fun n z => ⟨fun k h => (by cases h), b2, y2, e2, z2⟩, x2⟩
    | 3, hk => cases hk; exact ⟨fun n z => ⟨fun k h => (by cases h), b3, y3, e3, z3⟩, x3⟩
    | 4, hk => cases hk; exact ⟨fun n z => ⟨fun k h => (by cases h), b4, y4, e4, z4⟩, b4, e4, y4, z4, w4, x4⟩
    | 5, hk => cases hk; exact ⟨fun n z => ⟨fun k h => (by cases h), b5, y5, e5, z5⟩, b5, e5, y5, z5, w5, x5⟩
    | 6, hk => cases hk; exact ⟨fun n z => ⟨fun k h => (by cases h), b6, y6, e6, z6⟩, b6, e6, y6, z6, w6, x6⟩
    | k + 7, hk => simp [tysG] at hk
/-- the fresh objects -/
def C0 : CS := ((fun r => if r = 0 then (fun k => if k = 6 then -1 else 0) else if r = 15 then (fun k => if k = 7 then -1 else 0) else fun _ => 0, fun _ _ => 0), (fun _ => none), fun k => 3 + k)
def M0 : MS := (fun r => if r = 0 then (fun k => if k = 2 then -1 else 0) else fun _ => 0, fun _ _ => 0)
theorem va_cg {D : va_G} {cl : List vw_C} {ws : va_W} {H : Heap} {i a : Nat} {e e' : va_E} (hP : va_P D cl ws H) (hi : ws[i]? = some (a, e)) (h : va_at D cl (a, e) H → va_at D cl (a, e') H) : va_P D cl (ws.set i (a, e')) H := by
  intro k x hk
  by_cases c : i = k
  · subst c
    rw [List.getElem?_set_self (List.getElem?_eq_some_iff.mp hi).1] at hk
    cases hk
    exact h (hP _ _ hi)
  · rw [List.getElem?_set_ne c] at hk
    exact hP k x hk
theorem va_cgD {A : Nat → Prop} {ws : va_W} {i a : Nat} {e e' : va_E} (hD : va_D A ws) (hi : ws[i]? = some (a, e)) : va_D A (ws.set i (a, e')) := hD.set hi
theorem arrV_cg {cA : ClassId} {n : Nat} {f g : Nat → Value} (h : ∀ j, j < n → f j = g j) : arrV cA n f = arrV cA n g := by
  unfold arrV
  congr 1
  apply Array.ext
  · simp
  · intro i h1 h2
    have hi : i < n := by simpa using h1
    simp [h i hi]
theorem va_ag {D : va_G} {cl : List vw_C} {H : Heap} {a n : Nat} {cA : ClassId} {f g : Nat → Option Nat} (h : ∀ j, j < n → f j = g j) (hq : va_at D cl (a, .inl (cA, n, .inr (.inr (.inr (.inr f))))) H) : va_at D cl (a, .inl (cA, n, .inr (.inr (.inr (.inr g))))) H := by
  have hq : H[a]? = some (arrV cA n (fun j => va_rf (f j))) := hq
  show H[a]? = some (arrV cA n (fun j => va_rf (g j)))
  rw [hq, arrV_cg (fun j hj => by show va_rf (f j) = va_rf (g j); rw [h j hj])]
def adS (a0 : Nat) (u : Nat → Nat) (f : Nat → Nat → Nat) : Nat → Nat := fun k => if k < 32 then [a0, (u 1), (u 23), (u 24), (u 17), (u 18), (u 19), (u 20), (u 21), (u 22), (u 25), (u 26), (u 27), (u 28), (u 2), (u 3), (u 4), 0, 0, 0, (u 5), (u 6), (u 7), (u 8), (u 9), (u 10), (u 11), (u 12), (u 13), (u 14), (u 15), (u 16)].getD k 0 else f ((k - 32) / 4) ((k - 32) % 4)
def ixS (k : Nat) : Nat := if k < 17 then [0, 1, 23, 24, 17, 18, 19, 20, 21, 22, 25, 26, 27, 28, 2, 3, 4].getD k 0 else if k < 29 then k - 12 else k
abbrev rfS : Nat → Value := fun _ => .null
abbrev gU (a0 : Nat) (u : Nat → Nat) (f : Nat → Nat → Nat) : Nat → Option Nat := fun k => some (adS a0 u f (20 + 4 * C0.2.2 k))
abbrev gI (a0 : Nat) (u : Nat → Nat) (f : Nat → Nat → Nat) : Nat → Option Nat := fun k => some (adS a0 u f (20 + 4 * (19 + k)))
theorem adS_hi {a0 : Nat} {u : Nat → Nat} {f : Nat → Nat → Nat} {k i t : Nat} (h : k = 32 + 4 * i + t) (ht : t < 4) : adS a0 u f k = f i t := by
  unfold adS
  rw [if_neg (by omega), show (k - 32) / 4 = i by omega, show (k - 32) % 4 = t by omega]
theorem gU_eq {a0 : Nat} {u : Nat → Nat} {f : Nat → Nat → Nat} : ∀ j, j < 16 → gF f 0 16 j = gU a0 u f j := by
  intro j hj
  show (if j < 16 then some (f (0 + j) 0) else none) = some (adS a0 u f (20 + 4 * (3 + j)))
  rw [if_pos hj, adS_hi (i := j) (t := 0) (by omega) (by omega), Nat.zero_add]
theorem gI_eq {a0 : Nat} {u : Nat → Nat} {f : Nat → Nat → Nat} : ∀ j, j < 3 → gF f 16 3 j = gI a0 u f j := by
  intro j hj
  show (if j < 3 then some (f (16 + j) 0) else none) = some (adS a0 u f (20 + 4 * (19 + j)))
  rw [if_pos hj, adS_hi (i := 16 + j) (t := 0) (by omega) (by omega)]
theorem sE_len {D : va_G} {f : Nat → Nat → Nat} : ∀ n, (sE D f n).length = 4 * n := by
  intro n
  induction n with
  | zero => rfl
  | succ n ih =>
    show (sE D f n ++ blk D (f n)).length = _
    rw [List.length_append, ih]
    show 4 * n + 4 = _
    omega
theorem sE_at {D : va_G} {f : Nat → Nat → Nat} : ∀ n i t, i < n → t < 4 → (sE D f n)[4 * i + t]? = (blk D (f i))[t]? := by
  intro n
  induction n with
  | zero => intro i t h; omega
  | succ n ih =>
    intro i t hi ht
    show (sE D f n ++ blk D (f n))[4 * i + t]? = _
    by_cases h : i < n
    · rw [List.getElem?_append_left (by rw [sE_len]; omega)]
      exact ih i t h ht
    · have e : i = n := by omega
      subst e
      rw [List.getElem?_append_right (by rw [sE_len]; omega), sE_len, Nat.add_sub_cancel_left]
theorem wS_st {D : va_G} {a0 : Nat} {u : Nat → Nat} {f : Nat → Nat → Nat} {i t : Nat} (ht : t < 4) : (blk D (f i))[t]? = some (adS a0 u f (20 + (4 * (3 + i) + t)), stE D (adS a0 u f) C0 (4 * (3 + i) + t)) := by
  rw [adS_hi (i := i) (t := t) (by omega) ht]
  unfold stE
  rcases (show t = 0 ∨ t = 1 ∨ t = 2 ∨ t = 3 by omega) with rfl | rfl | rfl | rfl
  · rw [if_pos (by omega), show (4 * (3 + i) + 0) / 4 = 3 + i by omega]
    unfold obX
    rw [adS_hi (k := 20 + 4 * (3 + i) + 1) (i := i) (t := 1) (by omega) (by omega), adS_hi (k := 20 + 4 * (3 + i) + 2) (i := i) (t := 2) (by omega) (by omega), adS_hi (k := 20 + 4 * (3 + i) + 3) (i := i) (t := 3) (by omega) (by omega)]
    have e : C0.1.1 (300 + 4 * (3 + i)) = fun _ => 0 := by
      show (if 300 + 4 * (3 + i) = 0 then (fun k => if k = 6 then (-1 : Int32) else 0) else if 300 + 4 * (3 + i) = 15 then (fun k => if k = 7 then (-1 : Int32) else 0) else fun _ => 0) = fun _ => 0
      rw [if_neg (by omega), if_neg (by omega)]
    rw [e]
    rfl
  all_goals
    rw [if_neg (by omega)]
    have e : ∀ z, C0.1.1 (300 + (4 * (3 + i) + z)) = fun _ => 0 := by
      intro z
      show (if 300 + (4 * (3 + i) + z) = 0 then (fun k => if k = 6 then (-1 : Int32) else 0) else if 300 + (4 * (3 + i) + z) = 15 then (fun k => if k = 7 then (-1 : Int32) else 0) else fun _ => 0) = fun _ => 0
      rw [if_neg (by omega), if_neg (by omega)]
    rw [e]
    rfl
theorem ixS_inj : ∀ i, i < 105 → ∀ j, j < 105 → ixS i = ixS j → i = j := by decide +kernel
theorem wC_l {D : va_G} {ad : Nat → Nat} {sc : Option Nat × Option Nat × (Nat → Value)} {S : CS} : (wC D ad sc none S).length = 105 := by
  unfold wC
  rw [List.length_append, List.length_append, fx_len, st_len]
  rfl
set_option maxHeartbeats 4000000 in
theorem wS_ix {D : va_G} {a0 : Nat} {u : Nat → Nat} {f : Nat → Nat → Nat} (k : Nat) (q : Nat × va_E) (hk : (wC D (adS a0 u f) (none, none, rfS) none C0)[k]? = some q) : (oL D a0 u (gU a0 u f) (gI a0 u f) ++ sE D f 19)[ixS k]? = some q := by
  have hlt : k < 105 := by rw [← wC_l]; exact (List.getElem?_eq_some_iff.mp hk).1
  rcases Nat.lt_or_ge k 29 with h | h
  · rcases (show k = 0 ∨ k = 1 ∨ k = 2 ∨ k = 3 ∨ k = 4 ∨ k = 5 ∨ k = 6 ∨ k = 7 ∨ k = 8 ∨ k = 9 ∨ k = 10 ∨ k = 11 ∨ k = 12 ∨ k = 13 ∨ k = 14 ∨ k = 15 ∨ k = 16 ∨ k = 17 ∨ k = 18 ∨ k = 19 ∨ k = 20 ∨ k = 21 ∨ k = 22 ∨ k = 23 ∨ k = 24 ∨ k = 25 ∨ k = 26 ∨ k = 27 ∨ k = 28 by omega) with rfl | rfl | rfl | rfl | rfl | rfl | rfl | rfl | rfl | rfl | rfl | rfl | rfl | rfl | rfl | rfl | rfl | rfl | rfl | rfl | rfl | rfl | rfl | rfl | rfl | rfl | rfl | rfl | rfl
    · rw [wC_f (j := 0) (by omega) rfl] at hk; cases hk; rfl
    · rw [wC_f (j := 1) (by omega) rfl] at hk; cases hk; rfl
    · rw [wC_f (j := 2) (by omega) rfl] at hk; cases hk; rfl
    · rw [wC_f (j := 3) (by omega) rfl] at hk; cases hk; rfl
    · rw [wC_f (j := 4) (by omega) rfl] at hk; cases hk; rfl
    · rw [wC_f (j := 5) (by omega) rfl] at hk; cases hk; rfl
    · rw [wC_f (j := 6) (by omega) rfl] at hk; cases hk; rfl
    · rw [wC_f (j := 7) (by omega) rfl] at hk; cases hk; rfl
    · rw [wC_f (j := 8) (by omega) rfl] at hk; cases hk; rfl
    · rw [wC_f (j := 9) (by omega) rfl] at hk; cases hk; rfl
    · rw [wC_f (j := 10) (by omega) rfl] at hk; cases hk; rfl
    · rw [wC_f (j := 11) (by omega) rfl] at hk; cases hk; rfl
    · rw [wC_f (j := 12) (by omega) rfl] at hk; cases hk; rfl
    · rw [wC_f (j := 13) (by omega) rfl] at hk; cases hk; rfl
    · rw [wC_f (j := 14) (by omega) rfl] at hk; cases hk; rfl
    · rw [wC_f (j := 15) (by omega) rfl] at hk; cases hk; rfl
    · rw [wC_f (j := 16) (by omega) rfl] at hk; cases hk; rfl
    · rw [show (17 : Nat) = 17 + 0 from rfl, wC_s (j := 0) (by omega)] at hk; cases hk; rfl
    · rw [show (18 : Nat) = 17 + 1 from rfl, wC_s (j := 1) (by omega)] at hk; cases hk; rfl
    · rw [show (19 : Nat) = 17 + 2 from rfl, wC_s (j := 2) (by omega)] at hk; cases hk; rfl
    · rw [show (20 : Nat) = 17 + 3 from rfl, wC_s (j := 3) (by omega)] at hk; cases hk; rfl
    · rw [show (21 : Nat) = 17 + 4 from rfl, wC_s (j := 4) (by omega)] at hk; cases hk; rfl
    · rw [show (22 : Nat) = 17 + 5 from rfl, wC_s (j := 5) (by omega)] at hk; cases hk; rfl
    · rw [show (23 : Nat) = 17 + 6 from rfl, wC_s (j := 6) (by omega)] at hk; cases hk; rfl
    · rw [show (24 : Nat) = 17 + 7 from rfl, wC_s (j := 7) (by omega)] at hk; cases hk; rfl
    · rw [show (25 : Nat) = 17 + 8 from rfl, wC_s (j := 8) (by omega)] at hk; cases hk; rfl
    · rw [show (26 : Nat) = 17 + 9 from rfl, wC_s (j := 9) (by omega)] at hk; cases hk; rfl
    · rw [show (27 : Nat) = 17 + 10 from rfl, wC_s (j := 10) (by omega)] at hk; cases hk; rfl
    · rw [show (28 : Nat) = 17 + 11 from rfl, wC_s (j := 11) (by omega)] at hk; cases hk; rfl
  · obtain ⟨i, t, ht, e⟩ : ∃ i t, t < 4 ∧ k = 17 + (4 * (3 + i) + t) := ⟨(k - 29) / 4, (k - 29) % 4, by omega, by omega⟩
    rw [e, wC_s (by omega)] at hk
    rw [← hk, ← wS_st ht]
    have e2 : ixS k = 29 + (4 * i + t) := by
      unfold ixS
      rw [if_neg (by omega), if_neg (by omega)]
      omega
    rw [e2, List.getElem?_append_right (by show 29 ≤ _; omega), show 29 + (4 * i + t) - (oL D a0 u (gU a0 u f) (gI a0 u f)).length = 4 * i + t by show 29 + (4 * i + t) - 29 = _; omega]
    exact sE_at 19 i t (by omega) ht
theorem wS_P {D : va_G} {a0 : Nat} {u : Nat → Nat} {f : Nat → Nat → Nat} {H : Heap} (hP : va_P D gCl (oL D a0 u (gF f 0 16) (gF f 16 3) ++ sE D f 19) H) : va_P D gCl (wC D (adS a0 u f) (none, none, rfS) none C0) H := by
  have h1 := va_cg (i := 23) hP rfl (va_ag (g := gU a0 u f) gU_eq)
  have h2 := va_cg (i := 24) h1 rfl (va_ag (g := gI a0 u f) gI_eq)
  have h3 : va_P D gCl (oL D a0 u (gU a0 u f) (gI a0 u f) ++ sE D f 19) H := h2
  exact idx_P ixS wS_ix h3
theorem wS_D {D : va_G} {a0 : Nat} {u : Nat → Nat} {f : Nat → Nat → Nat} {A : Nat → Prop} (hD : va_D A (oL D a0 u (gF f 0 16) (gF f 16 3) ++ sE D f 19)) : va_D A (wC D (adS a0 u f) (none, none, rfS) none C0) := by
  have h1 := va_cgD (i := 23) (e' := .inl (D.1 106, 16, .inr (.inr (.inr (.inr (gU a0 u f)))))) hD rfl
  have h2 := va_cgD (i := 24) (e' := .inl (D.1 106, 3, .inr (.inr (.inr (.inr (gI a0 u f)))))) h1 rfl
  have h3 : va_D A (oL D a0 u (gU a0 u f) (gI a0 u f) ++ sE D f 19) := h2
  exact idx_D ixS wS_ix (fun i j hi hj e => ixS_inj i (by rw [← wC_l]; exact hi) j (by rw [← wC_l]; exact hj) e) h3
def mL (D : va_G) (m0 : Nat) (u : Nat → Nat) : va_W := [(m0, .inr (5, [.int 0, .int 0, .int (-1), .null, .null, .ref (u 1), .int 0, .int 0, .int 0, .int 0, .int 0, .int 0, .int 0, .int 0, .long 0, .ref (u 2), .ref (u 3), .ref (u 4), .ref (u 5), .int 0, .int 0, .ref (u 6), .ref (u 7), .int 0, .ref (u 8), .ref (u 9), .int 0, .int 0, .int 0, .ref (u 10), .int 0, .ref (u 11), .int 0])), ((u 1), .inl (D.1 102, 800, .inl (fun _ => 0))), ((u 2), .inl (D.1 100, 19, .inl (fun _ => 0))), ((u 3), .inl (D.1 100, 19, .inl (fun _ => 0))), ((u 4), .inl (D.1 100, 304, .inl (fun _ => 0))), ((u 5), .inl (D.1 100, 57, .inl (fun _ => 0))), ((u 6), .inl (D.1 100, 6, .inl (fun _ => 0))), ((u 7), .inl (D.1 100, 6, .inl (fun _ => 0))), ((u 8), .inl (D.1 100, 5103, .inl (fun _ => 0))), ((u 9), .inl (D.1 100, 6, .inl (fun _ => 0))), ((u 10), .inl (D.1 100, 4, .inl (fun _ => 0))), ((u 11), .inl (D.1 101, 7, .inr (.inl (fun _ => 0))))]
theorem mL_eq {D : va_G} {m0 : Nat} {u : Nat → Nat} : mL D m0 u = wM D (fun k => if k = 0 then m0 else u k) none none none M0 := rfl
set_option maxHeartbeats 8000000 in
theorem start_of {Inv : Option TD → CS → Option (Nat → Nat) → MS → Prop} (hAll : Duties Inv) (hI : Inv none C0 none M0) {p : Program} {e : Env} {s : State} {m : MethodId} {below : List Frame} {meth : Method} {c : Code} (l : Launch) (hflags : l.flags = flags0) {b L : Nat} {xs : Nat → Int32} (hL : L ≤ 384) (C0' : lw_At p s m meth c b L xs) : W p l e room_1 s m #[Value.ref b] below meth c s.heap [] 0 0 (lw_Z below #[Value.ref b] s) (entryFrame m ([Value.ref b] : List Value).toArray 7) := by
  obtain ⟨hx, hb, hr, hml, hown, hts, hX, hbl, hlocks, hgv⟩ := C0'
  obtain ⟨adK, adV, hz⟩ := z_start hgv hts
  obtain ⟨D, hK⟩ := K_start hts
  have hst : l.stackTraces = false := by show (!l.flags.contains noTraceFlag) = false; rw [hflags]; rfl
  have hC : CX RX0 cL_law 7 (some .boolean) D gCl nwG (zA adK adV (fun q => s.heap.size ≤ q) s.heap) s.heap (fun q => s.heap.size ≤ q) p s m #[Value.ref b] meth c :=
    ⟨hx, hb, hml, hown, fun w hw => hts w (lw_all_tbl hw), ⟨hK, fun w hw => ⟨(nw_all w hw).2, nw_of (nw_all w hw).2 (hts w (nw_all w hw).1)⟩, zA.ok, hz⟩, hr, hlocks, fun _ h => h, fun _ _ _ => rfl⟩
  have hbA : ¬ (fun q : Nat => s.heap.size ≤ q) b := Nat.not_le.mpr hbl
  have hS : va_S (fun q : Nat => s.heap.size ≤ q) s.heap s.heap [] := va_S.rf
  have hP : va_P D gCl [] s.heap := fun k q h => by simp at h
  have hD : va_D (fun q : Nat => s.heap.size ≤ q) [] := ⟨fun i j p q h => by simp at h, fun k q h => by simp at h⟩
  have hl := lv_entry ([.ref b]) (n := 7) (Nat.le_of_ble_eq_true rfl)
  rw [lg_entry_eq]
  generalize (lg_sl ([.ref b]) ++ List.replicate (7 - (lg_sl ([.ref b])).length) Slot.unset).toArray = ls at hl ⊢
  have hl : lv_has ls 7 [(0, .ref b)] := hl
  refine va_new (ci := 0) (fs := [.null, .int 0, .null, .null, .int 0, .int 0, .int 0, .int 0, .int 0, .null, .null, .null, .null, .null, .null, .null, .null, .int 0, .null, .null, .int 0, .int 0, .int 0, .int 0, .int 0, .long 0, .long 0, .long 0, .int 0, .int 0]) (C := RX1) (T := TX1) (N := 30) hC.x hC.b hC.ts in_X1 tyX1 tyX1_ok hC.ow (hC.ts _ q144) (hC.ts _ q145) (hC.ts _ q118) hC.K.1 hP hD hS hC.aA gCl_X1 (fun j hj => by rcases nle30 j hj with rfl | rfl | rfl | rfl | rfl | rfl | rfl | rfl | rfl | rfl | rfl | rfl | rfl | rfl | rfl | rfl | rfl | rfl | rfl | rfl | rfl | rfl | rfl | rfl | rfl | rfl | rfl | rfl | rfl | rfl <;> rfl) (Nat.le_of_ble_eq_true rfl) (Nat.le_of_ble_eq_true rfl) dL_law_0 (fun a0 H hP hD hS => ?_)
  refine lv_dup hC.x hC.b dL_law_3 rfl ?_
  refine go_v (run_I (rest := [.ref a0]) hC (n1_init l (w := []) (fun U hU => hU.1.1)) q146 ⟨q148, q118, q147⟩ ⟨by decide +kernel, by decide +kernel, by show _ = some 0; decide +kernel⟩ rfl ⟨rfl, rfl, Nat.le_of_ble_eq_true rfl, Nat.le_of_ble_eq_true rfl⟩ ⟨Nat.le_of_ble_eq_true rfl, Nat.le_of_ble_eq_true rfl⟩ hP hD hS hl.1 (Nat.le_of_ble_eq_true rfl) dL_law_4 rfl) hS (fun v H locs _ hP hD hS => ?_)
  obtain ⟨u, f⟩ := v
  have hP := wS_P hP
  have hD := wS_D hD
  obtain ⟨ad, ead⟩ : ∃ z, z = adS a0 u f := ⟨_, rfl⟩
  have e0 : a0 = ad 0 := by rw [ead]; rfl
  rw [← ead] at hP hD
  rw [e0]
  refine lv_astore_n (lv' := [(1, .ref (ad 0)), (0, .ref b)]) hC.x hC.b dL_law_7 rfl hl (by decide) rfl (fun ls hl => ?_)
  refine va_new (ci := 5) (fs := [.int 0, .int 0, .int 0, .null, .null, .null, .int 0, .int 0, .int 0, .int 0, .int 0, .int 0, .int 0, .int 0, .long 0, .null, .null, .null, .null, .int 0, .int 0, .null, .null, .int 0, .null, .null, .int 0, .int 0, .int 0, .null, .int 0, .null, .int 0]) (C := RX6) (T := TX6) (N := 33) hC.x hC.b hC.ts in_X6 tyX6 tyX6_ok hC.ow (hC.ts _ q1390) (hC.ts _ q1391) (hC.ts _ q126) hC.K.1 hP hD hS hC.aA gCl_X6 (fun j hj => by rcases nle33 j hj with rfl | rfl | rfl | rfl | rfl | rfl | rfl | rfl | rfl | rfl | rfl | rfl | rfl | rfl | rfl | rfl | rfl | rfl | rfl | rfl | rfl | rfl | rfl | rfl | rfl | rfl | rfl | rfl | rfl | rfl | rfl | rfl | rfl <;> rfl) (Nat.le_of_ble_eq_true rfl) (Nat.le_of_ble_eq_true rfl) dL_law_8 (fun m0 H hP hD hS => ?_)
  refine lv_dup hC.x hC.b dL_law_11 rfl ?_
  refine go_v (run_I (rest := [.ref m0]) hC (n6_init l (w := wC D ad (none, none, rfS) none C0)) q1392 ⟨q1394, q126, q1393⟩ ⟨by decide +kernel, by decide +kernel, by show _ = some 0; decide +kernel⟩ rfl ⟨rfl, rfl, Nat.le_of_ble_eq_true rfl, Nat.le_of_ble_eq_true rfl⟩ ⟨Nat.le_of_ble_eq_true rfl, Nat.le_of_ble_eq_true rfl⟩ hP hD hS hl.1 (Nat.le_of_ble_eq_true rfl) dL_law_12 rfl) hS (fun u H locs _ hP hD hS => ?_)
  obtain ⟨am, eam⟩ : ∃ z : Nat → Nat, z = fun k => if k = 0 then m0 else u k := ⟨_, rfl⟩
  have hP : va_P D gCl (wC D ad (none, none, rfS) none C0 ++ wM D am none none none M0) H := by rw [eam, ← mL_eq]; exact hP
  have hD : va_D (fun q : Nat => s.heap.size ≤ q) (wC D ad (none, none, rfS) none C0 ++ wM D am none none none M0) := by rw [eam, ← mL_eq]; exact hD
  have e1 : m0 = am 0 := by rw [eam]; rfl
  rw [e1]
  refine lv_astore_n (lv' := [(2, .ref (am 0)), (1, .ref (ad 0)), (0, .ref b)]) hC.x hC.b dL_law_15 rfl hl (by decide) rfl (fun ls hl => ?_)
  refine lv_iconst (v := 1) hC.x hC.b dL_law_16 (by decide) ?_
  refine i_newJ hC hP hD hS (N := 1) (by decide +kernel) (by decide +kernel) (Nat.le_of_ble_eq_true rfl) (Nat.le_of_ble_eq_true rfl) (Nat.le_of_ble_eq_true rfl) dL_law_17 (fun ao H hP hD hS => ?_)
  refine lv_astore_n (lv' := [(3, .ref ao), (2, .ref (am 0)), (1, .ref (ad 0)), (0, .ref b)]) hC.x hC.b dL_law_19 rfl hl (by decide) rfl (fun ls hl => ?_)
  refine lv_iconst (v := 0) hC.x hC.b dL_law_20 (by decide) ?_
  refine lv_istore (lv' := lL b ad am ao 0) hC.x hC.b dL_law_21 hl (by decide) rfl (fun ls hl => ?_)
  exact law_loop (args0 := rfl) (rf := rfS) hC hX hbl hbA (fun _ h => h) hL (fun U hU => hU) hst hAll 65 0 rfl (Nat.zero_le L) none none none C0 none none M0 (fun _ => 0) H _ ls hI hP hD hS hl
