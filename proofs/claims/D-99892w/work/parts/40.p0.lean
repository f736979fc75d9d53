/-! PURE 0: numbers -/
set_option maxRecDepth 100000
def iI (z : Int) : Int32 := Int32.ofInt z
def lI (z : Int) : Int64 := Int64.ofInt z
theorem nI_iI (n : Nat) : nI n = iI n := Int32.ofInt_eq_ofNat.symm
theorem iI_toInt {z : Int} (h : -2147483648 ≤ z) (h' : z < 2147483648) : (iI z).toInt = z := Int32.toInt_ofInt_of_le (by omega) (by omega)
theorem lI_toInt {z : Int} (h : -9223372036854775808 ≤ z) (h' : z < 9223372036854775808) : (lI z).toInt = z := Int64.toInt_ofInt_of_le (by omega) (by omega)
theorem iI_self (x : Int32) : iI x.toInt = x := Int32.ofInt_toInt x
theorem lI_self (x : Int64) : lI x.toInt = x := Int64.ofInt_toInt x
theorem iI_le {a b : Int} (h1 : -2147483648 ≤ a) (h2 : a < 2147483648) (h3 : -2147483648 ≤ b) (h4 : b < 2147483648) : iI a ≤ iI b ↔ a ≤ b := by
  rw [Int32.le_iff_toInt_le, iI_toInt h1 h2, iI_toInt h3 h4]
theorem iI_lt {a b : Int} (h1 : -2147483648 ≤ a) (h2 : a < 2147483648) (h3 : -2147483648 ≤ b) (h4 : b < 2147483648) : iI a < iI b ↔ a < b := by
  rw [Int32.lt_iff_toInt_lt, iI_toInt h1 h2, iI_toInt h3 h4]
theorem iI_eq {a b : Int} (h1 : -2147483648 ≤ a) (h2 : a < 2147483648) (h3 : -2147483648 ≤ b) (h4 : b < 2147483648) : iI a = iI b ↔ a = b := by
  rw [← Int32.toInt_inj, iI_toInt h1 h2, iI_toInt h3 h4]
theorem iI_clamp {z : Int} (h1 : -2147483648 ≤ z) (h2 : z < 2147483648) : (iI z).toNatClampNeg = z.toNat := by
  show (iI z).toInt.toNat = z.toNat
  rw [iI_toInt h1 h2]
theorem iI_in {z : Int} {n : Nat} (h1 : 0 ≤ z) (h2 : z < n) (h3 : n < 2147483648) : vp_in (iI z) n := by
  rw [vp_in_iff, iI_toInt (by omega) (by omega)]
  exact ⟨h1, h2⟩
theorem iI_in_iff {z : Int} {n : Nat} (h1 : -2147483648 ≤ z) (h2 : z < 2147483648) : vp_in (iI z) n ↔ 0 ≤ z ∧ z < n := by
  rw [vp_in_iff, iI_toInt h1 h2]
theorem iI_add (a b : Int) : iI a + iI b = iI (a + b) := (Int32.ofInt_add a b).symm
theorem iI_sub (a b : Int) : iI a - iI b = iI (a - b) := (Int32.ofInt_sub a b).symm
theorem iI_mul (a b : Int) : iI a * iI b = iI (a * b) := (Int32.ofInt_mul a b).symm
theorem iI_neg (a : Int) : -iI a = iI (-a) := (Int32.ofInt_neg a).symm
theorem lI_add (a b : Int) : lI a + lI b = lI (a + b) := (Int64.ofInt_add a b).symm
theorem lI_sub (a b : Int) : lI a - lI b = lI (a - b) := (Int64.ofInt_sub a b).symm
theorem lI_mul (a b : Int) : lI a * lI b = lI (a * b) := (Int64.ofInt_mul a b).symm
theorem lI_neg (a : Int) : -lI a = lI (-a) := (Int64.ofInt_neg a).symm
theorem iI_l {z : Int} (h1 : -2147483648 ≤ z) (h2 : z < 2147483648) : (iI z).toInt64 = lI z := Int32.toInt64_ofInt (by show -2147483648 ≤ z; exact h1) (by show z ≤ 2147483647; omega)
theorem lI_i (z : Int) : (lI z).toInt32 = iI z := Int64.toInt32_ofInt
theorem iI_div {a b : Int} (h1 : -2147483648 ≤ a) (h2 : a < 2147483648) (h3 : -2147483648 ≤ b) (h4 : b < 2147483648) : iI a / iI b = iI (a.tdiv b) :=
  (Int32.ofInt_tdiv (by show -2147483648 ≤ a; exact h1) (by show a ≤ 2147483647; omega) (by show -2147483648 ≤ b; exact h3) (by show b ≤ 2147483647; omega)).symm
theorem lI_div {a b : Int} (h1 : -9223372036854775808 ≤ a) (h2 : a < 9223372036854775808) (h3 : -9223372036854775808 ≤ b) (h4 : b < 9223372036854775808) : lI a / lI b = lI (a.tdiv b) :=
  (Int64.ofInt_tdiv (by show -9223372036854775808 ≤ a; exact h1) (by show a ≤ 9223372036854775807; omega) (by show -9223372036854775808 ≤ b; exact h3) (by show b ≤ 9223372036854775807; omega)).symm
theorem iI_rem {a b : Int} (h1 : -2147483648 ≤ a) (h2 : a < 2147483648) (h3 : -2147483648 ≤ b) (h4 : b < 2147483648) : iI a - iI a / iI b * iI b = iI (a.tmod b) := by
  rw [iI_div h1 h2 h3 h4, iI_mul, iI_sub, Int.tmod_def, Int.mul_comm]
theorem lI_rem {a b : Int} (h1 : -9223372036854775808 ≤ a) (h2 : a < 9223372036854775808) (h3 : -9223372036854775808 ≤ b) (h4 : b < 9223372036854775808) : lI a - lI a / lI b * lI b = lI (a.tmod b) := by
  rw [lI_div h1 h2 h3 h4, lI_mul, lI_sub, Int.tmod_def, Int.mul_comm]
theorem lI_le {a b : Int} (h1 : -9223372036854775808 ≤ a) (h2 : a < 9223372036854775808) (h3 : -9223372036854775808 ≤ b) (h4 : b < 9223372036854775808) : lI a ≤ lI b ↔ a ≤ b := by
  rw [Int64.le_iff_toInt_le, lI_toInt h1 h2, lI_toInt h3 h4]
theorem lI_lt {a b : Int} (h1 : -9223372036854775808 ≤ a) (h2 : a < 9223372036854775808) (h3 : -9223372036854775808 ≤ b) (h4 : b < 9223372036854775808) : lI a < lI b ↔ a < b := by
  rw [Int64.lt_iff_toInt_lt, lI_toInt h1 h2, lI_toInt h3 h4]
theorem lI_eq {a b : Int} (h1 : -9223372036854775808 ≤ a) (h2 : a < 9223372036854775808) (h3 : -9223372036854775808 ≤ b) (h4 : b < 9223372036854775808) : lI a = lI b ↔ a = b := by
  rw [← Int64.toInt_inj, lI_toInt h1 h2, lI_toInt h3 h4]
theorem lg_cmp0 {x y : Int64} : lg_cmp x y = 0 ↔ x = y := by
  unfold lg_cmp
  by_cases h1 : y < x
  · rw [if_pos h1]
    constructor
    · intro h; exact absurd h (by decide)
    · intro h; subst h; exact absurd h1 (by rw [Int64.lt_iff_toInt_lt]; omega)
  · rw [if_neg h1]
    by_cases h2 : x = y
    · simp [h2]
    · simp [h2]
/-- round the houses -/
theorem wrap_emod (z H : Int) (hH : 0 < H) : ((z.tmod H) + H).tmod H = z % H := by
  have h1 := Int.tmod_lt_of_pos z hH
  have h2 := Int.lt_tmod_of_pos z hH
  rw [Int.tmod_eq_emod_of_nonneg (by omega), Int.add_emod_right, Int.tmod_def]
  rw [Int.sub_eq_add_neg, ← Int.mul_neg, Int.add_mul_emod_self_left]
theorem wrapL {z H : Int} (h1 : -4611686018427387904 ≤ z) (h2 : z < 4611686018427387904) (hH : 0 < H) (hH2 : H < 2147483648) :
    (((lI z - lI z / lI H * lI H) + lI H) - ((lI z - lI z / lI H * lI H) + lI H) / lI H * lI H).toInt32 = iI (z % H) := by
  have a1 := Int.tmod_lt_of_pos z hH
  have a2 := Int.lt_tmod_of_pos z hH
  rw [lI_rem (by omega) (by omega) (by omega) (by omega), lI_add, lI_rem (by omega) (by omega) (by omega) (by omega), lI_i, wrap_emod z H hH]
theorem tmod_nat {a b : Int} (h : 0 ≤ a) : a.tmod b = a % b := Int.tmod_eq_emod_of_nonneg h
theorem tdiv_nat {a b : Int} (h : 0 ≤ a) : a.tdiv b = a / b := Int.tdiv_eq_ediv_of_nonneg h
theorem iI_succ (i : Nat) : iI i + 1 = iI ((i + 1 : Nat) : Int) := by
  rw [show (1 : Int32) = iI 1 from rfl, iI_add]
  rfl
theorem iI_clampN {n : Nat} (h : n < 2147483648) : (iI n).toNatClampNeg = n := by
  rw [iI_clamp (by omega) (by omega)]
  exact Int.toNat_natCast n
theorem iI_inN {n N : Nat} (h : n < N) (hN : N < 2147483648) : vp_in (iI n) N := iI_in (by omega) (by omega) hN
theorem iI_leN {a b : Nat} (ha : a < 2147483648) (hb : b < 2147483648) : iI a ≤ iI b ↔ a ≤ b := by
  rw [iI_le (by omega) (by omega) (by omega) (by omega)]; omega
theorem iI_ltN {a b : Nat} (ha : a < 2147483648) (hb : b < 2147483648) : iI a < iI b ↔ a < b := by
  rw [iI_lt (by omega) (by omega) (by omega) (by omega)]; omega
theorem iI_eqN {a b : Nat} (ha : a < 2147483648) (hb : b < 2147483648) : iI a = iI b ↔ a = b := by
  rw [iI_eq (by omega) (by omega) (by omega) (by omega)]; omega
