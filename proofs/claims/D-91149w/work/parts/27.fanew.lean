/-! CONTRACTS 3: Table's anew and less -/
set_option maxRecDepth 100000
set_option linter.unusedVariables false
def F_X3_anew : SPF := fun As C I J R K => ∃ (q : Nat) (w : Int64), As = [aR (some q), aJ w] ∧ TbS C R q ∧ ∀ J' : MJ, (∀ x, x ≠ q → x ≠ q + 1 → x ≠ q + 2 → J' x = J x) → (∀ i, i < 121 → J' (q + 1) i = 0 ∧ J' (q + 2) i = 0) → J' q 2 = w → K (.inl (some (aR (some q)))) C I J' R
theorem S_X3_anew (l : Launch) : SpX3_anew l F_X3_anew := by
  refine wX3_anew (fun n K x0 x1 x3 C I J R => ∃ i : Nat, x3 = iN i ∧ i ≤ 121 ∧ n = 121 - i ∧ TbS C R x0 ∧ (∀ j, j < i → J (x0 + 1) j = 0 ∧ J (x0 + 2) j = 0) ∧ ∀ J' : MJ, (∀ x, x ≠ x0 → x ≠ x0 + 1 → x ≠ x0 + 2 → J' x = J x) → (∀ i, i < 121 → J' (x0 + 1) i = 0 ∧ J' (x0 + 2) i = 0) → J' x0 2 = x1 → K (.inl (some (aR (some x0)))) C I J' R) ?_ ?_
  · rintro As C I J R K ⟨q, w, rfl, hT, hK⟩
    exact ⟨q, w, rfl, _, 0, rfl, Nat.zero_le _, rfl, hT, fun j hj => absurd hj (Nat.not_lt_zero j), hK⟩
  · rintro n K x0 x1 x3 C I J R ⟨i, rfl, hi, hn, hT, hz, hK⟩
    unfold PX3_anew_2
    obtain ⟨t1, t2, t3, t4, t5⟩ := hT
    refine ⟨fun w => ?_, fun w => ?_⟩
    · have h1 := (iN_lt (a := 120) (by decide) (by omega)).mp w
      have e : i = 121 := by omega
      subst e
      refine ⟨t1, ?_⟩
      rintro J3 rfl
      refine hK _ (fun x h1 h2 h3 => va_up_ne _ _ h1) (fun j hj => ?_) (by rw [va_up_self, va_up_self])
      rw [va_up_ne _ _ (by omega), va_up_ne _ _ (by omega)]
      exact hz j hj
    · have h1 : ¬ 120 < i := fun z => w ((iN_lt (a := 120) (by decide) (by omega)).mpr z)
      refine ⟨t1, _, t2, by rw [t4], iN_in (by omega) (by rw [t4]; omega), ?_⟩
      rintro J8 rfl
      refine ⟨_, t3, by rw [t5], iN_in (by omega) (by rw [t5]; omega), ?_⟩
      rintro J12 rfl
      rw [iN_nat (by omega)]
      refine ⟨121 - (i + 1), by omega, i + 1, iN_add i 1, by omega, rfl, ⟨t1, t2, t3, t4, t5⟩, fun j hj => ?_, fun J' h1 h2 h3 => hK J' (fun x a b c => ?_) h2 h3⟩
      · rw [va_up_ne _ _ (show x0 + 1 ≠ x0 + 2 by omega), va_up_self, va_up_self, va_up_ne _ _ (show x0 + 2 ≠ x0 + 1 by omega)]
        by_cases e : j = i
        · subst e
          rw [va_up_self, va_up_self]
          exact ⟨rfl, rfl⟩
        · rw [va_up_ne _ _ e, va_up_ne _ _ e]
          exact hz j (by omega)
      · rw [h1 x a b c, va_up_ne _ _ c, va_up_ne _ _ b]
