/-! CONTRACTS 2: Table's methods with loops -/
set_option maxRecDepth 100000
set_option linter.unusedVariables false
def sJ (f : Nat → Int64) : Nat → Int64
  | 0 => 0
  | n + 1 => sJ f n + f n
theorem sJ_nat {f : Nat → Int64} {g : Nat → Nat} : ∀ {n : Nat}, (∀ i, i < n → f i = jN (g i)) → sJ f n = jN (sm g n)
  | 0, _ => rfl
  | n + 1, h => by
    show sJ f n + f n = jN (sm g n + g n)
    rw [sJ_nat (fun i hi => h i (Nat.lt_succ_of_lt hi)), h n (Nat.lt_succ_self n), jN_add]
def F_X3_by : SPF := fun As C I J R K => ∃ q t : Nat, As = [aR (some q), aI (iN t)] ∧ t ≤ 120 ∧ TbS C R q ∧ K (.inl (some (aJ (sJ (J (q + 1)) (t + 1))))) C I J R
theorem S_X3_by (l : Launch) : SpX3_by l F_X3_by := by
  refine wX3_by (fun n K x0 x1 x2 x4 C I J R => ∃ t i : Nat, x1 = iN t ∧ x4 = iN i ∧ t ≤ 120 ∧ i ≤ t + 1 ∧ n = t + 1 - i ∧ TbS C R x0 ∧ x2 = sJ (J (x0 + 1)) i ∧ K (.inl (some (aJ (sJ (J (x0 + 1)) (t + 1))))) C I J R) ?_ ?_
  · rintro As C I J R K ⟨q, t, rfl, ht, hT, hK⟩
    exact ⟨q, iN t, rfl, _, t, 0, rfl, rfl, ht, Nat.zero_le _, rfl, hT, rfl, hK⟩
  · rintro n K x0 x1 x2 x4 C I J R ⟨t, i, rfl, rfl, ht, hi, rfl, hT, rfl, hK⟩
    unfold PX3_by_5
    refine ⟨fun w => ?_, fun w => ?_⟩
    · have h1 := (iN_lt (by omega) (by omega)).mp w
      have e : i = t + 1 := by omega
      subst e
      exact hK
    · have h1 : ¬ t < i := fun z => w ((iN_lt (by omega) (by omega)).mpr z)
      refine ⟨hT.1, _, hT.2.1, by rw [hT.2.2.2.1], iN_in (by omega) (by rw [hT.2.2.2.1]; omega), t + 1 - (i + 1), by omega, t, i + 1, rfl, iN_add i 1, ht, by omega, rfl, hT, ?_, hK⟩
      rw [iN_nat (by omega)]
      rfl
def F_X3_failed : SPF := fun As C I J R K => ∃ q : Nat, As = [aR (some q)] ∧ TbS C R q ∧ K (.inl (some (aJ (sJ (J (q + 2)) 121)))) C I J R
theorem S_X3_failed (l : Launch) : SpX3_failed l F_X3_failed := by
  refine wX3_failed (fun n K x0 x1 x3 C I J R => ∃ i : Nat, x3 = iN i ∧ i ≤ 121 ∧ n = 121 - i ∧ TbS C R x0 ∧ x1 = sJ (J (x0 + 2)) i ∧ K (.inl (some (aJ (sJ (J (x0 + 2)) 121)))) C I J R) ?_ ?_
  · rintro As C I J R K ⟨q, rfl, hT, hK⟩
    exact ⟨q, rfl, _, 0, rfl, Nat.zero_le _, rfl, hT, rfl, hK⟩
  · rintro n K x0 x1 x3 C I J R ⟨i, rfl, hi, rfl, hT, rfl, hK⟩
    unfold PX3_failed_4
    refine ⟨fun w => ?_, fun w => ?_⟩
    · have h1 := (iN_lt (a := 120) (by decide) (by omega)).mp w
      have e : i = 121 := by omega
      subst e
      exact hK
    · have h1 : ¬ 120 < i := fun z => w ((iN_lt (a := 120) (by decide) (by omega)).mpr z)
      refine ⟨hT.1, _, hT.2.2.1, by rw [hT.2.2.2.2], iN_in (by omega) (by rw [hT.2.2.2.2]; omega), 121 - (i + 1), by omega, i + 1, iN_add i 1, by omega, rfl, hT, ?_, hK⟩
      rw [iN_nat (by omega)]
      rfl
theorem iN_pred (i : Nat) : iN (i + 1) + (-1) = iN i := by
  rw [← iN_add i 1, Int32.add_assoc]
  show iN i + 0 = iN i
  exact Int32.add_zero _
/-- the last place at which p holds, of 1 to n; else 0 -/
def lst (p : Nat → Prop) [DecidablePred p] : Nat → Nat
  | 0 => 0
  | n + 1 => if p (n + 1) then n + 1 else lst p n
def F_X3_last : SPF := fun As C I J R K => ∃ q : Nat, As = [aR (some q)] ∧ TbS C R q ∧ K (.inl (some (aI (iN (lst (fun t => ¬ J (q + 1) t = 0 ∨ ¬ J (q + 2) t = 0) 120))))) C I J R
theorem S_X3_last (l : Launch) : SpX3_last l F_X3_last := by
  refine wX3_last (fun n K x0 x1 C I J R => ∃ i : Nat, x1 = iN i ∧ i ≤ 120 ∧ n = i ∧ TbS C R x0 ∧ K (.inl (some (aI (iN (lst (fun t => ¬ J (x0 + 1) t = 0 ∨ ¬ J (x0 + 2) t = 0) i))))) C I J R) ?_ ?_
  · rintro As C I J R K ⟨q, rfl, hT, hK⟩
    exact ⟨q, rfl, _, 120, rfl, Nat.le_refl _, rfl, hT, hK⟩
  · rintro n K x0 x1 C I J R ⟨i, rfl, hi, hn, hT, hK⟩
    unfold PX3_last_3
    obtain ⟨t1, t2, t3, t4, t5⟩ := hT
    refine ⟨fun w => ?_, fun w => ?_⟩
    · have h1 := (iN_le (b := 0) (by omega) (by decide)).mp w
      have e : i = 0 := by omega
      subst e
      exact hK
    · have h1 : ¬ i ≤ 0 := fun z => w ((iN_le (b := 0) (by omega) (by decide)).mpr z)
      obtain ⟨j, rfl⟩ : ∃ j, i = j + 1 := ⟨i - 1, by omega⟩
      rw [iN_nat (by omega)]
      refine ⟨t1, _, t2, by rw [t4], iN_in (by omega) (by rw [t4]; omega), fun z => ?_, fun z => ⟨_, t3, by rw [t5], iN_in (by omega) (by rw [t5]; omega), fun y => ?_, fun y => ⟨j, by omega, j, iN_pred j, by omega, rfl, ⟨t1, t2, t3, t4, t5⟩, ?_⟩⟩⟩
      · unfold lst at hK
        rw [if_pos (Or.inl z)] at hK
        exact hK
      · unfold lst at hK
        rw [if_pos (Or.inr y)] at hK
        exact hK
      · unfold lst at hK
        rw [if_neg (fun w => w.elim (fun v => v z) (fun v => v y))] at hK
        exact hK
def F_X0_common : SPF := fun As C I J R K => ∃ a b : Nat, As = [aJ (jN a), aJ (jN b)] ∧ a < 2 ^ 63 ∧ b < 2 ^ 63 ∧ K (.inl (some (aJ (jN (Nat.gcd a b))))) C I J R
theorem S_X0_common (l : Launch) : SpX0_common l F_X0_common := by
  refine wX0_common (fun n K x4 x6 C I J R => ∃ a b : Nat, x4 = jN a ∧ x6 = jN b ∧ a < 2 ^ 63 ∧ b < 2 ^ 63 ∧ n = b ∧ K (.inl (some (aJ (jN (Nat.gcd a b))))) C I J R) ?_ ?_
  · rintro As C I J R K ⟨a, b, rfl, ha, hb, hK⟩
    refine ⟨_, _, rfl, ?_⟩
    unfold PX0_common_0
    rw [jN_abs ha, jN_abs hb]
    exact ⟨_, a, b, rfl, rfl, ha, hb, rfl, hK⟩
  · rintro n K x4 x6 C I J R ⟨a, b, rfl, rfl, ha, hb, hn, hK⟩
    unfold PX0_common_12
    refine ⟨fun w => ?_, fun w => ?_⟩
    · have e := (jN_eq0 hb).mp w
      subst e
      rw [Nat.gcd_zero_right] at hK
      exact hK
    · have hb0 : 0 < b := Nat.pos_of_ne_zero (fun e => w ((jN_eq0 hb).mpr e))
      have hlt := Nat.mod_lt a hb0
      refine ⟨w, a % b, by omega, b, a % b, rfl, jN_mod ha hb, hb, by omega, rfl, ?_⟩
      rw [Nat.gcd_comm b (a % b), ← Nat.gcd_rec, Nat.gcd_comm b a]
      exact hK
