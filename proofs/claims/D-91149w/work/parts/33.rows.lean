/-! EVALUATION: rows for simp; the cells of the reference (printed by gen/mkrows.py): its object is 1, the array of its field f is 100 + f -/
set_option maxRecDepth 100000
set_option linter.unusedVariables false
theorem vpN {a N : Nat} (h : a < 2 ^ 31) : vp_in (iN a) N = (a < N) := propext ⟨fun w => Nat.lt_of_not_le (fun z => w (Or.inr (by rw [iN_nat h]; exact z))), fun w => iN_in h w⟩
theorem vpT {a N : Nat} (h : a < 2 ^ 31) (h2 : a < N) : vp_in (iN a) N = True := eq_true (iN_in h h2)
theorem vp0 {N : Nat} (h2 : 0 < N) : vp_in (0 : Int32) N = True := eq_true (iN_in (a := 0) (by decide) h2)
theorem tn0 : (0 : Int32).toNatClampNeg = 0 := by decide
theorem nI_iN (n : Nat) : nI n = iN n := rfl
theorem aI_inj {x y : Int32} : (aI x = aI y) = (x = y) := propext ⟨fun h => Sum.inl.inj h, fun h => by rw [h]⟩
theorem aJ_inj {x y : Int64} : (aJ x = aJ y) = (x = y) := propext ⟨fun h => Sum.inl.inj (Sum.inr.inj h), fun h => by rw [h]⟩
theorem aR_inj {x y : Option Nat} : (aR x = aR y) = (x = y) := propext ⟨fun h => Sum.inr.inj (Sum.inr.inj h), fun h => by rw [h]⟩
theorem iN_m1 {a : Nat} (h : a < 2 ^ 31) : ¬ iN a = (-1 : Int32) := fun w => by
  have h1 := iN_int h
  rw [w] at h1
  have h2 : (-1 : Int32).toInt = -1 := by decide
  omega
theorem up_val {β : Type} (f : Nat → β) (a : Nat) (b : β) (x : Nat) : va_up f a b x = if x = a then b else f x := rfl
/-- nothing but P's names has changed -/
def Fr {β : Type} (P : List Nat) (f g : Nat → β) : Prop := ∀ x, x ∉ P → g x = f x
theorem Fr.refl {β : Type} {P : List Nat} {f : Nat → β} : Fr P f f := fun _ _ => rfl
theorem Fr.trans {β : Type} {P : List Nat} {f g h : Nat → β} (a : Fr P f g) (b : Fr P g h) : Fr P f h := fun x hx => (b x hx).trans (a x hx)
theorem Fr.up {β : Type} {P : List Nat} {f g : Nat → β} {q : Nat} {b : β} (a : Fr P f g) (hq : q ∈ P) : Fr P f (va_up g q b) := fun x hx => by
  rw [va_up_ne _ _ (fun e => hx (by rw [e]; exact hq))]
  exact a x hx
theorem Fr.wide {β : Type} {P Q : List Nat} {f g : Nat → β} (a : Fr P f g) (h : ∀ x ∈ P, x ∈ Q) : Fr Q f g := fun x hx => a x (fun w => hx (h x w))
theorem le_l_0 {a : Nat} (h : a < 2 ^ 31) : ((0 : Int32) ≤ iN a) = (0 ≤ a) := propext (iN_le (a := 0) (by decide) h)
theorem lt_l_0 {a : Nat} (h : a < 2 ^ 31) : ((0 : Int32) < iN a) = (0 < a) := propext (iN_lt (a := 0) (by decide) h)
theorem le_r_0 {a : Nat} (h : a < 2 ^ 31) : (iN a ≤ (0 : Int32)) = (a ≤ 0) := propext (iN_le (b := 0) h (by decide))
theorem lt_r_0 {a : Nat} (h : a < 2 ^ 31) : (iN a < (0 : Int32)) = (a < 0) := propext (iN_lt (b := 0) h (by decide))
theorem eq_r_0 {a : Nat} (h : a < 2 ^ 31) : (iN a = (0 : Int32)) = (a = 0) := propext (iN_inj (b := 0) h (by decide))
theorem mul_l_0 (a : Nat) : (0 : Int32) * iN a = iN (0 * a) := iN_mul 0 a
theorem add_r_0 (a : Nat) : iN a + (0 : Int32) = iN (a + 0) := iN_add a 0
theorem le_l_1 {a : Nat} (h : a < 2 ^ 31) : ((1 : Int32) ≤ iN a) = (1 ≤ a) := propext (iN_le (a := 1) (by decide) h)
theorem lt_l_1 {a : Nat} (h : a < 2 ^ 31) : ((1 : Int32) < iN a) = (1 < a) := propext (iN_lt (a := 1) (by decide) h)
theorem le_r_1 {a : Nat} (h : a < 2 ^ 31) : (iN a ≤ (1 : Int32)) = (a ≤ 1) := propext (iN_le (b := 1) h (by decide))
theorem lt_r_1 {a : Nat} (h : a < 2 ^ 31) : (iN a < (1 : Int32)) = (a < 1) := propext (iN_lt (b := 1) h (by decide))
theorem eq_r_1 {a : Nat} (h : a < 2 ^ 31) : (iN a = (1 : Int32)) = (a = 1) := propext (iN_inj (b := 1) h (by decide))
theorem mul_l_1 (a : Nat) : (1 : Int32) * iN a = iN (1 * a) := iN_mul 1 a
theorem add_r_1 (a : Nat) : iN a + (1 : Int32) = iN (a + 1) := iN_add a 1
theorem le_l_2 {a : Nat} (h : a < 2 ^ 31) : ((2 : Int32) ≤ iN a) = (2 ≤ a) := propext (iN_le (a := 2) (by decide) h)
theorem lt_l_2 {a : Nat} (h : a < 2 ^ 31) : ((2 : Int32) < iN a) = (2 < a) := propext (iN_lt (a := 2) (by decide) h)
theorem le_r_2 {a : Nat} (h : a < 2 ^ 31) : (iN a ≤ (2 : Int32)) = (a ≤ 2) := propext (iN_le (b := 2) h (by decide))
theorem lt_r_2 {a : Nat} (h : a < 2 ^ 31) : (iN a < (2 : Int32)) = (a < 2) := propext (iN_lt (b := 2) h (by decide))
theorem eq_r_2 {a : Nat} (h : a < 2 ^ 31) : (iN a = (2 : Int32)) = (a = 2) := propext (iN_inj (b := 2) h (by decide))
theorem mul_l_2 (a : Nat) : (2 : Int32) * iN a = iN (2 * a) := iN_mul 2 a
theorem add_r_2 (a : Nat) : iN a + (2 : Int32) = iN (a + 2) := iN_add a 2
theorem le_l_3 {a : Nat} (h : a < 2 ^ 31) : ((3 : Int32) ≤ iN a) = (3 ≤ a) := propext (iN_le (a := 3) (by decide) h)
theorem lt_l_3 {a : Nat} (h : a < 2 ^ 31) : ((3 : Int32) < iN a) = (3 < a) := propext (iN_lt (a := 3) (by decide) h)
theorem le_r_3 {a : Nat} (h : a < 2 ^ 31) : (iN a ≤ (3 : Int32)) = (a ≤ 3) := propext (iN_le (b := 3) h (by decide))
theorem lt_r_3 {a : Nat} (h : a < 2 ^ 31) : (iN a < (3 : Int32)) = (a < 3) := propext (iN_lt (b := 3) h (by decide))
theorem eq_r_3 {a : Nat} (h : a < 2 ^ 31) : (iN a = (3 : Int32)) = (a = 3) := propext (iN_inj (b := 3) h (by decide))
theorem mul_l_3 (a : Nat) : (3 : Int32) * iN a = iN (3 * a) := iN_mul 3 a
theorem add_r_3 (a : Nat) : iN a + (3 : Int32) = iN (a + 3) := iN_add a 3
theorem le_l_4 {a : Nat} (h : a < 2 ^ 31) : ((4 : Int32) ≤ iN a) = (4 ≤ a) := propext (iN_le (a := 4) (by decide) h)
theorem lt_l_4 {a : Nat} (h : a < 2 ^ 31) : ((4 : Int32) < iN a) = (4 < a) := propext (iN_lt (a := 4) (by decide) h)
theorem le_r_4 {a : Nat} (h : a < 2 ^ 31) : (iN a ≤ (4 : Int32)) = (a ≤ 4) := propext (iN_le (b := 4) h (by decide))
theorem lt_r_4 {a : Nat} (h : a < 2 ^ 31) : (iN a < (4 : Int32)) = (a < 4) := propext (iN_lt (b := 4) h (by decide))
theorem eq_r_4 {a : Nat} (h : a < 2 ^ 31) : (iN a = (4 : Int32)) = (a = 4) := propext (iN_inj (b := 4) h (by decide))
theorem mul_l_4 (a : Nat) : (4 : Int32) * iN a = iN (4 * a) := iN_mul 4 a
theorem add_r_4 (a : Nat) : iN a + (4 : Int32) = iN (a + 4) := iN_add a 4
theorem le_l_5 {a : Nat} (h : a < 2 ^ 31) : ((5 : Int32) ≤ iN a) = (5 ≤ a) := propext (iN_le (a := 5) (by decide) h)
theorem lt_l_5 {a : Nat} (h : a < 2 ^ 31) : ((5 : Int32) < iN a) = (5 < a) := propext (iN_lt (a := 5) (by decide) h)
theorem le_r_5 {a : Nat} (h : a < 2 ^ 31) : (iN a ≤ (5 : Int32)) = (a ≤ 5) := propext (iN_le (b := 5) h (by decide))
theorem lt_r_5 {a : Nat} (h : a < 2 ^ 31) : (iN a < (5 : Int32)) = (a < 5) := propext (iN_lt (b := 5) h (by decide))
theorem eq_r_5 {a : Nat} (h : a < 2 ^ 31) : (iN a = (5 : Int32)) = (a = 5) := propext (iN_inj (b := 5) h (by decide))
theorem mul_l_5 (a : Nat) : (5 : Int32) * iN a = iN (5 * a) := iN_mul 5 a
theorem add_r_5 (a : Nat) : iN a + (5 : Int32) = iN (a + 5) := iN_add a 5
theorem le_l_6 {a : Nat} (h : a < 2 ^ 31) : ((6 : Int32) ≤ iN a) = (6 ≤ a) := propext (iN_le (a := 6) (by decide) h)
theorem lt_l_6 {a : Nat} (h : a < 2 ^ 31) : ((6 : Int32) < iN a) = (6 < a) := propext (iN_lt (a := 6) (by decide) h)
theorem le_r_6 {a : Nat} (h : a < 2 ^ 31) : (iN a ≤ (6 : Int32)) = (a ≤ 6) := propext (iN_le (b := 6) h (by decide))
theorem lt_r_6 {a : Nat} (h : a < 2 ^ 31) : (iN a < (6 : Int32)) = (a < 6) := propext (iN_lt (b := 6) h (by decide))
theorem eq_r_6 {a : Nat} (h : a < 2 ^ 31) : (iN a = (6 : Int32)) = (a = 6) := propext (iN_inj (b := 6) h (by decide))
theorem mul_l_6 (a : Nat) : (6 : Int32) * iN a = iN (6 * a) := iN_mul 6 a
theorem add_r_6 (a : Nat) : iN a + (6 : Int32) = iN (a + 6) := iN_add a 6
theorem le_l_20 {a : Nat} (h : a < 2 ^ 31) : ((20 : Int32) ≤ iN a) = (20 ≤ a) := propext (iN_le (a := 20) (by decide) h)
theorem lt_l_20 {a : Nat} (h : a < 2 ^ 31) : ((20 : Int32) < iN a) = (20 < a) := propext (iN_lt (a := 20) (by decide) h)
theorem le_r_20 {a : Nat} (h : a < 2 ^ 31) : (iN a ≤ (20 : Int32)) = (a ≤ 20) := propext (iN_le (b := 20) h (by decide))
theorem lt_r_20 {a : Nat} (h : a < 2 ^ 31) : (iN a < (20 : Int32)) = (a < 20) := propext (iN_lt (b := 20) h (by decide))
theorem eq_r_20 {a : Nat} (h : a < 2 ^ 31) : (iN a = (20 : Int32)) = (a = 20) := propext (iN_inj (b := 20) h (by decide))
theorem mul_l_20 (a : Nat) : (20 : Int32) * iN a = iN (20 * a) := iN_mul 20 a
theorem add_r_20 (a : Nat) : iN a + (20 : Int32) = iN (a + 20) := iN_add a 20
theorem le_l_60 {a : Nat} (h : a < 2 ^ 31) : ((60 : Int32) ≤ iN a) = (60 ≤ a) := propext (iN_le (a := 60) (by decide) h)
theorem lt_l_60 {a : Nat} (h : a < 2 ^ 31) : ((60 : Int32) < iN a) = (60 < a) := propext (iN_lt (a := 60) (by decide) h)
theorem le_r_60 {a : Nat} (h : a < 2 ^ 31) : (iN a ≤ (60 : Int32)) = (a ≤ 60) := propext (iN_le (b := 60) h (by decide))
theorem lt_r_60 {a : Nat} (h : a < 2 ^ 31) : (iN a < (60 : Int32)) = (a < 60) := propext (iN_lt (b := 60) h (by decide))
theorem eq_r_60 {a : Nat} (h : a < 2 ^ 31) : (iN a = (60 : Int32)) = (a = 60) := propext (iN_inj (b := 60) h (by decide))
theorem mul_l_60 (a : Nat) : (60 : Int32) * iN a = iN (60 * a) := iN_mul 60 a
theorem add_r_60 (a : Nat) : iN a + (60 : Int32) = iN (a + 60) := iN_add a 60
theorem le_l_100 {a : Nat} (h : a < 2 ^ 31) : ((100 : Int32) ≤ iN a) = (100 ≤ a) := propext (iN_le (a := 100) (by decide) h)
theorem lt_l_100 {a : Nat} (h : a < 2 ^ 31) : ((100 : Int32) < iN a) = (100 < a) := propext (iN_lt (a := 100) (by decide) h)
theorem le_r_100 {a : Nat} (h : a < 2 ^ 31) : (iN a ≤ (100 : Int32)) = (a ≤ 100) := propext (iN_le (b := 100) h (by decide))
theorem lt_r_100 {a : Nat} (h : a < 2 ^ 31) : (iN a < (100 : Int32)) = (a < 100) := propext (iN_lt (b := 100) h (by decide))
theorem eq_r_100 {a : Nat} (h : a < 2 ^ 31) : (iN a = (100 : Int32)) = (a = 100) := propext (iN_inj (b := 100) h (by decide))
theorem mul_l_100 (a : Nat) : (100 : Int32) * iN a = iN (100 * a) := iN_mul 100 a
theorem add_r_100 (a : Nat) : iN a + (100 : Int32) = iN (a + 100) := iN_add a 100
theorem le_l_119 {a : Nat} (h : a < 2 ^ 31) : ((119 : Int32) ≤ iN a) = (119 ≤ a) := propext (iN_le (a := 119) (by decide) h)
theorem lt_l_119 {a : Nat} (h : a < 2 ^ 31) : ((119 : Int32) < iN a) = (119 < a) := propext (iN_lt (a := 119) (by decide) h)
theorem le_r_119 {a : Nat} (h : a < 2 ^ 31) : (iN a ≤ (119 : Int32)) = (a ≤ 119) := propext (iN_le (b := 119) h (by decide))
theorem lt_r_119 {a : Nat} (h : a < 2 ^ 31) : (iN a < (119 : Int32)) = (a < 119) := propext (iN_lt (b := 119) h (by decide))
theorem eq_r_119 {a : Nat} (h : a < 2 ^ 31) : (iN a = (119 : Int32)) = (a = 119) := propext (iN_inj (b := 119) h (by decide))
theorem mul_l_119 (a : Nat) : (119 : Int32) * iN a = iN (119 * a) := iN_mul 119 a
theorem add_r_119 (a : Nat) : iN a + (119 : Int32) = iN (a + 119) := iN_add a 119
theorem le_l_120 {a : Nat} (h : a < 2 ^ 31) : ((120 : Int32) ≤ iN a) = (120 ≤ a) := propext (iN_le (a := 120) (by decide) h)
theorem lt_l_120 {a : Nat} (h : a < 2 ^ 31) : ((120 : Int32) < iN a) = (120 < a) := propext (iN_lt (a := 120) (by decide) h)
theorem le_r_120 {a : Nat} (h : a < 2 ^ 31) : (iN a ≤ (120 : Int32)) = (a ≤ 120) := propext (iN_le (b := 120) h (by decide))
theorem lt_r_120 {a : Nat} (h : a < 2 ^ 31) : (iN a < (120 : Int32)) = (a < 120) := propext (iN_lt (b := 120) h (by decide))
theorem eq_r_120 {a : Nat} (h : a < 2 ^ 31) : (iN a = (120 : Int32)) = (a = 120) := propext (iN_inj (b := 120) h (by decide))
theorem mul_l_120 (a : Nat) : (120 : Int32) * iN a = iN (120 * a) := iN_mul 120 a
theorem add_r_120 (a : Nat) : iN a + (120 : Int32) = iN (a + 120) := iN_add a 120
theorem le_l_121 {a : Nat} (h : a < 2 ^ 31) : ((121 : Int32) ≤ iN a) = (121 ≤ a) := propext (iN_le (a := 121) (by decide) h)
theorem lt_l_121 {a : Nat} (h : a < 2 ^ 31) : ((121 : Int32) < iN a) = (121 < a) := propext (iN_lt (a := 121) (by decide) h)
theorem le_r_121 {a : Nat} (h : a < 2 ^ 31) : (iN a ≤ (121 : Int32)) = (a ≤ 121) := propext (iN_le (b := 121) h (by decide))
theorem lt_r_121 {a : Nat} (h : a < 2 ^ 31) : (iN a < (121 : Int32)) = (a < 121) := propext (iN_lt (b := 121) h (by decide))
theorem eq_r_121 {a : Nat} (h : a < 2 ^ 31) : (iN a = (121 : Int32)) = (a = 121) := propext (iN_inj (b := 121) h (by decide))
theorem mul_l_121 (a : Nat) : (121 : Int32) * iN a = iN (121 * a) := iN_mul 121 a
theorem add_r_121 (a : Nat) : iN a + (121 : Int32) = iN (a + 121) := iN_add a 121
theorem le_l_481 {a : Nat} (h : a < 2 ^ 31) : ((481 : Int32) ≤ iN a) = (481 ≤ a) := propext (iN_le (a := 481) (by decide) h)
theorem lt_l_481 {a : Nat} (h : a < 2 ^ 31) : ((481 : Int32) < iN a) = (481 < a) := propext (iN_lt (a := 481) (by decide) h)
theorem le_r_481 {a : Nat} (h : a < 2 ^ 31) : (iN a ≤ (481 : Int32)) = (a ≤ 481) := propext (iN_le (b := 481) h (by decide))
theorem lt_r_481 {a : Nat} (h : a < 2 ^ 31) : (iN a < (481 : Int32)) = (a < 481) := propext (iN_lt (b := 481) h (by decide))
theorem eq_r_481 {a : Nat} (h : a < 2 ^ 31) : (iN a = (481 : Int32)) = (a = 481) := propext (iN_inj (b := 481) h (by decide))
theorem mul_l_481 (a : Nat) : (481 : Int32) * iN a = iN (481 * a) := iN_mul 481 a
theorem add_r_481 (a : Nat) : iN a + (481 : Int32) = iN (a + 481) := iN_add a 481
theorem le_l_600 {a : Nat} (h : a < 2 ^ 31) : ((600 : Int32) ≤ iN a) = (600 ≤ a) := propext (iN_le (a := 600) (by decide) h)
theorem lt_l_600 {a : Nat} (h : a < 2 ^ 31) : ((600 : Int32) < iN a) = (600 < a) := propext (iN_lt (a := 600) (by decide) h)
theorem le_r_600 {a : Nat} (h : a < 2 ^ 31) : (iN a ≤ (600 : Int32)) = (a ≤ 600) := propext (iN_le (b := 600) h (by decide))
theorem lt_r_600 {a : Nat} (h : a < 2 ^ 31) : (iN a < (600 : Int32)) = (a < 600) := propext (iN_lt (b := 600) h (by decide))
theorem eq_r_600 {a : Nat} (h : a < 2 ^ 31) : (iN a = (600 : Int32)) = (a = 600) := propext (iN_inj (b := 600) h (by decide))
theorem mul_l_600 (a : Nat) : (600 : Int32) * iN a = iN (600 * a) := iN_mul 600 a
theorem add_r_600 (a : Nat) : iN a + (600 : Int32) = iN (a + 600) := iN_add a 600
theorem le_l_1000 {a : Nat} (h : a < 2 ^ 31) : ((1000 : Int32) ≤ iN a) = (1000 ≤ a) := propext (iN_le (a := 1000) (by decide) h)
theorem lt_l_1000 {a : Nat} (h : a < 2 ^ 31) : ((1000 : Int32) < iN a) = (1000 < a) := propext (iN_lt (a := 1000) (by decide) h)
theorem le_r_1000 {a : Nat} (h : a < 2 ^ 31) : (iN a ≤ (1000 : Int32)) = (a ≤ 1000) := propext (iN_le (b := 1000) h (by decide))
theorem lt_r_1000 {a : Nat} (h : a < 2 ^ 31) : (iN a < (1000 : Int32)) = (a < 1000) := propext (iN_lt (b := 1000) h (by decide))
theorem eq_r_1000 {a : Nat} (h : a < 2 ^ 31) : (iN a = (1000 : Int32)) = (a = 1000) := propext (iN_inj (b := 1000) h (by decide))
theorem mul_l_1000 (a : Nat) : (1000 : Int32) * iN a = iN (1000 * a) := iN_mul 1000 a
theorem add_r_1000 (a : Nat) : iN a + (1000 : Int32) = iN (a + 1000) := iN_add a 1000
theorem le_l_10000 {a : Nat} (h : a < 2 ^ 31) : ((10000 : Int32) ≤ iN a) = (10000 ≤ a) := propext (iN_le (a := 10000) (by decide) h)
theorem lt_l_10000 {a : Nat} (h : a < 2 ^ 31) : ((10000 : Int32) < iN a) = (10000 < a) := propext (iN_lt (a := 10000) (by decide) h)
theorem le_r_10000 {a : Nat} (h : a < 2 ^ 31) : (iN a ≤ (10000 : Int32)) = (a ≤ 10000) := propext (iN_le (b := 10000) h (by decide))
theorem lt_r_10000 {a : Nat} (h : a < 2 ^ 31) : (iN a < (10000 : Int32)) = (a < 10000) := propext (iN_lt (b := 10000) h (by decide))
theorem eq_r_10000 {a : Nat} (h : a < 2 ^ 31) : (iN a = (10000 : Int32)) = (a = 10000) := propext (iN_inj (b := 10000) h (by decide))
theorem mul_l_10000 (a : Nat) : (10000 : Int32) * iN a = iN (10000 * a) := iN_mul 10000 a
theorem add_r_10000 (a : Nat) : iN a + (10000 : Int32) = iN (a + 10000) := iN_add a 10000
theorem le_l_1000000 {a : Nat} (h : a < 2 ^ 31) : ((1000000 : Int32) ≤ iN a) = (1000000 ≤ a) := propext (iN_le (a := 1000000) (by decide) h)
theorem lt_l_1000000 {a : Nat} (h : a < 2 ^ 31) : ((1000000 : Int32) < iN a) = (1000000 < a) := propext (iN_lt (a := 1000000) (by decide) h)
theorem le_r_1000000 {a : Nat} (h : a < 2 ^ 31) : (iN a ≤ (1000000 : Int32)) = (a ≤ 1000000) := propext (iN_le (b := 1000000) h (by decide))
theorem lt_r_1000000 {a : Nat} (h : a < 2 ^ 31) : (iN a < (1000000 : Int32)) = (a < 1000000) := propext (iN_lt (b := 1000000) h (by decide))
theorem eq_r_1000000 {a : Nat} (h : a < 2 ^ 31) : (iN a = (1000000 : Int32)) = (a = 1000000) := propext (iN_inj (b := 1000000) h (by decide))
theorem mul_l_1000000 (a : Nat) : (1000000 : Int32) * iN a = iN (1000000 * a) := iN_mul 1000000 a
theorem add_r_1000000 (a : Nat) : iN a + (1000000 : Int32) = iN (a + 1000000) := iN_add a 1000000
/-- kind and length of the array in a field of the reference -/
def mkd : Nat → Nat × Nat := fun f => match f with
  | 3 => (20, 4)
  | 4 => (20, 4)
  | 5 => (21, 240)
  | 7 => (20, 20)
  | 8 => (20, 80)
  | 9 => (20, 20)
  | 10 => (20, 20)
  | 11 => (20, 20)
  | 12 => (20, 20)
  | 13 => (20, 60)
  | 14 => (20, 3600)
  | 15 => (20, 20)
  | 16 => (20, 20)
  | 17 => (20, 20)
  | 18 => (20, 20)
  | 19 => (20, 20)
  | 20 => (20, 20)
  | 22 => (21, 2420)
  | 23 => (21, 2420)
  | 24 => (21, 20)
  | 25 => (24, 20)
  | 26 => (21, 600)
  | 27 => (21, 600)
  | 28 => (21, 600)
  | 29 => (21, 600)
  | 31 => (21, 5)
  | 32 => (21, 2420)
  | 33 => (21, 20)
  | 34 => (21, 121)
  | 35 => (21, 121)
  | 36 => (24, 20)
  | 37 => (20, 20)
  | _ => (0, 0)
def MS (C : MC) (R : MR) : Prop := C 1 = (3, 0) ∧ ∀ f, (mkd f).1 ≠ 0 → R 1 f = some (100 + f) ∧ C (100 + f) = mkd f
theorem MS.o {C : MC} {R : MR} (h : MS C R) : (C 1).1 = 3 := by rw [h.1]
theorem MS.r3 {C : MC} {R : MR} (h : MS C R) : R 1 3 = some 103 := (h.2 3 (by decide)).1
theorem MS.c3 {C : MC} {R : MR} (h : MS C R) : C 103 = (20, 4) := (h.2 3 (by decide)).2
theorem MS.r4 {C : MC} {R : MR} (h : MS C R) : R 1 4 = some 104 := (h.2 4 (by decide)).1
theorem MS.c4 {C : MC} {R : MR} (h : MS C R) : C 104 = (20, 4) := (h.2 4 (by decide)).2
theorem MS.r5 {C : MC} {R : MR} (h : MS C R) : R 1 5 = some 105 := (h.2 5 (by decide)).1
theorem MS.c5 {C : MC} {R : MR} (h : MS C R) : C 105 = (21, 240) := (h.2 5 (by decide)).2
theorem MS.r7 {C : MC} {R : MR} (h : MS C R) : R 1 7 = some 107 := (h.2 7 (by decide)).1
theorem MS.c7 {C : MC} {R : MR} (h : MS C R) : C 107 = (20, 20) := (h.2 7 (by decide)).2
theorem MS.r8 {C : MC} {R : MR} (h : MS C R) : R 1 8 = some 108 := (h.2 8 (by decide)).1
theorem MS.c8 {C : MC} {R : MR} (h : MS C R) : C 108 = (20, 80) := (h.2 8 (by decide)).2
theorem MS.r9 {C : MC} {R : MR} (h : MS C R) : R 1 9 = some 109 := (h.2 9 (by decide)).1
theorem MS.c9 {C : MC} {R : MR} (h : MS C R) : C 109 = (20, 20) := (h.2 9 (by decide)).2
theorem MS.r10 {C : MC} {R : MR} (h : MS C R) : R 1 10 = some 110 := (h.2 10 (by decide)).1
theorem MS.c10 {C : MC} {R : MR} (h : MS C R) : C 110 = (20, 20) := (h.2 10 (by decide)).2
theorem MS.r11 {C : MC} {R : MR} (h : MS C R) : R 1 11 = some 111 := (h.2 11 (by decide)).1
theorem MS.c11 {C : MC} {R : MR} (h : MS C R) : C 111 = (20, 20) := (h.2 11 (by decide)).2
theorem MS.r12 {C : MC} {R : MR} (h : MS C R) : R 1 12 = some 112 := (h.2 12 (by decide)).1
theorem MS.c12 {C : MC} {R : MR} (h : MS C R) : C 112 = (20, 20) := (h.2 12 (by decide)).2
theorem MS.r13 {C : MC} {R : MR} (h : MS C R) : R 1 13 = some 113 := (h.2 13 (by decide)).1
theorem MS.c13 {C : MC} {R : MR} (h : MS C R) : C 113 = (20, 60) := (h.2 13 (by decide)).2
theorem MS.r14 {C : MC} {R : MR} (h : MS C R) : R 1 14 = some 114 := (h.2 14 (by decide)).1
theorem MS.c14 {C : MC} {R : MR} (h : MS C R) : C 114 = (20, 3600) := (h.2 14 (by decide)).2
theorem MS.r15 {C : MC} {R : MR} (h : MS C R) : R 1 15 = some 115 := (h.2 15 (by decide)).1
theorem MS.c15 {C : MC} {R : MR} (h : MS C R) : C 115 = (20, 20) := (h.2 15 (by decide)).2
theorem MS.r16 {C : MC} {R : MR} (h : MS C R) : R 1 16 = some 116 := (h.2 16 (by decide)).1
theorem MS.c16 {C : MC} {R : MR} (h : MS C R) : C 116 = (20, 20) := (h.2 16 (by decide)).2
theorem MS.r17 {C : MC} {R : MR} (h : MS C R) : R 1 17 = some 117 := (h.2 17 (by decide)).1
theorem MS.c17 {C : MC} {R : MR} (h : MS C R) : C 117 = (20, 20) := (h.2 17 (by decide)).2
theorem MS.r18 {C : MC} {R : MR} (h : MS C R) : R 1 18 = some 118 := (h.2 18 (by decide)).1
theorem MS.c18 {C : MC} {R : MR} (h : MS C R) : C 118 = (20, 20) := (h.2 18 (by decide)).2
theorem MS.r19 {C : MC} {R : MR} (h : MS C R) : R 1 19 = some 119 := (h.2 19 (by decide)).1
theorem MS.c19 {C : MC} {R : MR} (h : MS C R) : C 119 = (20, 20) := (h.2 19 (by decide)).2
theorem MS.r20 {C : MC} {R : MR} (h : MS C R) : R 1 20 = some 120 := (h.2 20 (by decide)).1
theorem MS.c20 {C : MC} {R : MR} (h : MS C R) : C 120 = (20, 20) := (h.2 20 (by decide)).2
theorem MS.r22 {C : MC} {R : MR} (h : MS C R) : R 1 22 = some 122 := (h.2 22 (by decide)).1
theorem MS.c22 {C : MC} {R : MR} (h : MS C R) : C 122 = (21, 2420) := (h.2 22 (by decide)).2
theorem MS.r23 {C : MC} {R : MR} (h : MS C R) : R 1 23 = some 123 := (h.2 23 (by decide)).1
theorem MS.c23 {C : MC} {R : MR} (h : MS C R) : C 123 = (21, 2420) := (h.2 23 (by decide)).2
theorem MS.r24 {C : MC} {R : MR} (h : MS C R) : R 1 24 = some 124 := (h.2 24 (by decide)).1
theorem MS.c24 {C : MC} {R : MR} (h : MS C R) : C 124 = (21, 20) := (h.2 24 (by decide)).2
theorem MS.r25 {C : MC} {R : MR} (h : MS C R) : R 1 25 = some 125 := (h.2 25 (by decide)).1
theorem MS.c25 {C : MC} {R : MR} (h : MS C R) : C 125 = (24, 20) := (h.2 25 (by decide)).2
theorem MS.r26 {C : MC} {R : MR} (h : MS C R) : R 1 26 = some 126 := (h.2 26 (by decide)).1
theorem MS.c26 {C : MC} {R : MR} (h : MS C R) : C 126 = (21, 600) := (h.2 26 (by decide)).2
theorem MS.r27 {C : MC} {R : MR} (h : MS C R) : R 1 27 = some 127 := (h.2 27 (by decide)).1
theorem MS.c27 {C : MC} {R : MR} (h : MS C R) : C 127 = (21, 600) := (h.2 27 (by decide)).2
theorem MS.r28 {C : MC} {R : MR} (h : MS C R) : R 1 28 = some 128 := (h.2 28 (by decide)).1
theorem MS.c28 {C : MC} {R : MR} (h : MS C R) : C 128 = (21, 600) := (h.2 28 (by decide)).2
theorem MS.r29 {C : MC} {R : MR} (h : MS C R) : R 1 29 = some 129 := (h.2 29 (by decide)).1
theorem MS.c29 {C : MC} {R : MR} (h : MS C R) : C 129 = (21, 600) := (h.2 29 (by decide)).2
theorem MS.r31 {C : MC} {R : MR} (h : MS C R) : R 1 31 = some 131 := (h.2 31 (by decide)).1
theorem MS.c31 {C : MC} {R : MR} (h : MS C R) : C 131 = (21, 5) := (h.2 31 (by decide)).2
theorem MS.r32 {C : MC} {R : MR} (h : MS C R) : R 1 32 = some 132 := (h.2 32 (by decide)).1
theorem MS.c32 {C : MC} {R : MR} (h : MS C R) : C 132 = (21, 2420) := (h.2 32 (by decide)).2
theorem MS.r33 {C : MC} {R : MR} (h : MS C R) : R 1 33 = some 133 := (h.2 33 (by decide)).1
theorem MS.c33 {C : MC} {R : MR} (h : MS C R) : C 133 = (21, 20) := (h.2 33 (by decide)).2
theorem MS.r34 {C : MC} {R : MR} (h : MS C R) : R 1 34 = some 134 := (h.2 34 (by decide)).1
theorem MS.c34 {C : MC} {R : MR} (h : MS C R) : C 134 = (21, 121) := (h.2 34 (by decide)).2
theorem MS.r35 {C : MC} {R : MR} (h : MS C R) : R 1 35 = some 135 := (h.2 35 (by decide)).1
theorem MS.c35 {C : MC} {R : MR} (h : MS C R) : C 135 = (21, 121) := (h.2 35 (by decide)).2
theorem MS.r36 {C : MC} {R : MR} (h : MS C R) : R 1 36 = some 136 := (h.2 36 (by decide)).1
theorem MS.c36 {C : MC} {R : MR} (h : MS C R) : C 136 = (24, 20) := (h.2 36 (by decide)).2
theorem MS.r37 {C : MC} {R : MR} (h : MS C R) : R 1 37 = some 137 := (h.2 37 (by decide)).1
theorem MS.c37 {C : MC} {R : MR} (h : MS C R) : C 137 = (20, 20) := (h.2 37 (by decide)).2
