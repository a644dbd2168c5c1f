/-! PLAIN LAW 2: naturals as ints and longs -/
abbrev jN (n : Nat) : Int64 := Int64.ofNat n
abbrev iN (n : Nat) : Int32 := Int32.ofNat n
theorem jN_add (a b : Nat) : jN a + jN b = jN (a + b) := (Int64.ofNat_add a b).symm
theorem jN_mul (a b : Nat) : jN a * jN b = jN (a * b) := (Int64.ofNat_mul a b).symm
theorem jN_sub {a b : Nat} (h : b ≤ a) : jN a - jN b = jN (a - b) := (Int64.ofNat_sub a b h).symm
theorem jN_div {a b : Nat} (ha : a < 2 ^ 63) (hb : b < 2 ^ 63) : jN a / jN b = jN (a / b) := (Int64.ofNat_div ha hb).symm
theorem jN_lt {a b : Nat} (ha : a < 2 ^ 63) (hb : b < 2 ^ 63) : jN a < jN b ↔ a < b := Int64.ofNat_lt_iff_lt ha hb
theorem jN_le {a b : Nat} (ha : a < 2 ^ 63) (hb : b < 2 ^ 63) : jN a ≤ jN b ↔ a ≤ b := Int64.ofNat_le_iff_le ha hb
theorem jN_int {a : Nat} (ha : a < 2 ^ 63) : (jN a).toInt = a := Int64.toInt_ofNat_of_lt ha
theorem jN_inj {a b : Nat} (ha : a < 2 ^ 63) (hb : b < 2 ^ 63) : jN a = jN b ↔ a = b := by
  constructor
  · intro h
    have h1 := jN_int ha
    rw [h, jN_int hb] at h1
    omega
  · intro h
    rw [h]
theorem jN_0 : jN 0 = 0 := rfl
theorem jN_1 : jN 1 = 1 := rfl
theorem jN_eq0 {a : Nat} (ha : a < 2 ^ 63) : jN a = 0 ↔ a = 0 := jN_inj (b := 0) ha (by decide)
theorem jN_eq1 {a : Nat} (ha : a < 2 ^ 63) : jN a = 1 ↔ a = 1 := jN_inj (b := 1) ha (by decide)
theorem jN_pos {a : Nat} (ha : a < 2 ^ 63) : 0 < jN a ↔ 0 < a := jN_lt (a := 0) (by decide) ha
theorem jN_nn {a : Nat} (ha : a < 2 ^ 63) : ¬ jN a < 0 := fun h => Nat.not_lt_zero a ((jN_lt (b := 0) ha (by decide)).mp h)
theorem jN_mod {a b : Nat} (ha : a < 2 ^ 63) (hb : b < 2 ^ 63) : jN a - jN a / jN b * jN b = jN (a % b) := by
  rw [jN_div ha hb, jN_mul, jN_sub (Nat.div_mul_le_self a b)]
  congr 1
  have := Nat.div_add_mod a b
  have e : a / b * b = b * (a / b) := Nat.mul_comm _ _
  omega
theorem jN_abs {a : Nat} (ha : a < 2 ^ 63) : (if 0 < jN a then jN a else -jN a) = jN a := by
  by_cases h : 0 < a
  · rw [if_pos ((jN_pos ha).mpr h)]
  · have e : a = 0 := by omega
    subst e
    rfl
theorem jN_min {a b : Nat} (ha : a < 2 ^ 63) (hb : b < 2 ^ 63) : (if jN b < jN a then jN b else jN a) = jN (min a b) := by
  by_cases h : b < a
  · rw [if_pos ((jN_lt hb ha).mpr h), Nat.min_eq_right (by omega)]
  · rw [if_neg (fun w => h ((jN_lt hb ha).mp w)), Nat.min_eq_left (by omega)]
theorem iN_add (a b : Nat) : iN a + iN b = iN (a + b) := (Int32.ofNat_add a b).symm
theorem iN_mul (a b : Nat) : iN a * iN b = iN (a * b) := (Int32.ofNat_mul a b).symm
theorem iN_sub {a b : Nat} (h : b ≤ a) : iN a - iN b = iN (a - b) := (Int32.ofNat_sub a b h).symm
theorem iN_int {a : Nat} (ha : a < 2 ^ 31) : (iN a).toInt = a := Int32.toInt_ofNat_of_lt ha
theorem iN_nat {a : Nat} (ha : a < 2 ^ 31) : (iN a).toNatClampNeg = a := Int32.toNatClampNeg_ofNat_of_lt ha
theorem iN_lt {a b : Nat} (ha : a < 2 ^ 31) (hb : b < 2 ^ 31) : iN a < iN b ↔ a < b := Int32.ofNat_lt_iff_lt ha hb
theorem iN_le {a b : Nat} (ha : a < 2 ^ 31) (hb : b < 2 ^ 31) : iN a ≤ iN b ↔ a ≤ b := Int32.ofNat_le_iff_le ha hb
theorem iN_inj {a b : Nat} (ha : a < 2 ^ 31) (hb : b < 2 ^ 31) : iN a = iN b ↔ a = b := by
  constructor
  · intro h
    have h1 := iN_int ha
    rw [h, iN_int hb] at h1
    omega
  · intro h
    rw [h]
theorem iN_nn {a : Nat} (ha : a < 2 ^ 31) : ¬ iN a < 0 := fun h => Nat.not_lt_zero a ((iN_lt (b := 0) ha (by decide)).mp h)
theorem iN_of {x : Int32} (h : ¬ x < 0) : ∃ a : Nat, a < 2 ^ 31 ∧ x = iN a ∧ x.toNatClampNeg = a := by
  refine ⟨x.toNatClampNeg, Int32.toNatClampNeg_lt x, (Int32.ofNat_toNatClampNeg x ?_).symm, rfl⟩
  rw [Int32.le_iff_toInt_le]
  have h1 : ¬ x.toInt < (0 : Int32).toInt := fun w => h (Int32.lt_iff_toInt_lt.mpr w)
  omega
theorem iN_in {a N : Nat} (ha : a < 2 ^ 31) (h : a < N) : vp_in (iN a) N := by
  intro w
  rcases w with w | w
  · exact iN_nn ha w
  · rw [iN_nat ha] at w
    omega
