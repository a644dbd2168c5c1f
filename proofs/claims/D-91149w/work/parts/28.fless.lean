/-! CONTRACTS 4: Table's less, in naturals -/
set_option maxRecDepth 100000
set_option linter.unusedVariables false
/-- a table's numbers -/
def RpT (J : MJ) (q : Nat) (o f : Nat → Nat) (w : Nat) : Prop := (∀ i, i < 121 → J (q + 1) i = jN (o i) ∧ J (q + 2) i = jN (f i)) ∧ J q 2 = jN w
/-- small enough to be told -/
def SmT (o f : Nat → Nat) (w : Nat) : Prop := (∀ i, i < 121 → o i < 2 ^ 63 ∧ f i < 2 ^ 63) ∧ 0 < w ∧ w < 2 ^ 63
/-- a divisor of all -/
def gc (o f : Nat → Nat) (w : Nat) : Nat → Nat
  | 0 => w
  | n + 1 => Nat.gcd (Nat.gcd (o n) (f n)) (gc o f w n)
theorem gc_dvd (o f : Nat → Nat) (w : Nat) : ∀ n, gc o f w n ∣ w
  | 0 => Nat.dvd_refl w
  | n + 1 => Nat.dvd_trans (Nat.gcd_dvd_right _ _) (gc_dvd o f w n)
theorem gc_pos (o f : Nat → Nat) {w : Nat} (hw : 0 < w) (n : Nat) : 0 < gc o f w n := Nat.pos_of_dvd_of_pos (gc_dvd o f w n) hw
theorem gc_le (o f : Nat → Nat) {w : Nat} (hw : 0 < w) (n : Nat) : gc o f w n ≤ w := Nat.le_of_dvd hw (gc_dvd o f w n)
def F_X3_less : SPF := fun As C I J R K => ∃ (q : Nat) (o f : Nat → Nat) (w : Nat), As = [aR (some q)] ∧ TbS C R q ∧ RpT J q o f w ∧ SmT o f w ∧ ∀ J' : MJ, (∀ x, x ≠ q → x ≠ q + 1 → x ≠ q + 2 → J' x = J x) → RpT J' q (fun i => o i / gc o f w 121) (fun i => f i / gc o f w 121) (w / gc o f w 121) → K (.inl (some (aR (some q)))) C I J' R
theorem F_common_ok {C : MC} {I : MI} {J : MJ} {R : MR} {K : AK} {a b : Nat} (ha : a < 2 ^ 63) (hb : b < 2 ^ 63) (hK : K (.inl (some (aJ (jN (Nat.gcd a b))))) C I J R) : F_X0_common [aJ (jN a), aJ (jN b)] C I J R K := ⟨a, b, rfl, ha, hb, hK⟩
theorem S_X3_less (l : Launch) : SpX3_less l F_X3_less := by
  refine wX3_less (S_X0_common l) (fun n K x0 x1 x3 C I J R => ∃ (o f : Nat → Nat) (w i : Nat), x1 = jN (gc o f w i) ∧ x3 = iN i ∧ i ≤ 121 ∧ n = 243 - i ∧ TbS C R x0 ∧ RpT J x0 o f w ∧ SmT o f w ∧ ∀ J' : MJ, (∀ x, x ≠ x0 → x ≠ x0 + 1 → x ≠ x0 + 2 → J' x = J x) → RpT J' x0 (fun i => o i / gc o f w 121) (fun i => f i / gc o f w 121) (w / gc o f w 121) → K (.inl (some (aR (some x0)))) C I J' R)
    (fun n K x0 x1 x3 C I J R => ∃ (o f : Nat → Nat) (w i g : Nat), x1 = jN g ∧ 0 < g ∧ g < 2 ^ 63 ∧ x3 = iN i ∧ i ≤ 121 ∧ n = 121 - i ∧ TbS C R x0 ∧ (∀ j, j < 121 → J (x0 + 1) j = jN (if j < i then o j / g else o j) ∧ J (x0 + 2) j = jN (if j < i then f j / g else f j)) ∧ J x0 2 = jN w ∧ SmT o f w ∧ ∀ J' : MJ, (∀ x, x ≠ x0 → x ≠ x0 + 1 → x ≠ x0 + 2 → J' x = J x) → RpT J' x0 (fun i => o i / g) (fun i => f i / g) (w / g) → K (.inl (some (aR (some x0)))) C I J' R) ?_ ?_ ?_
  · rintro As C I J R K ⟨q, o, f, w, rfl, hT, hR, hS, hK⟩
    refine ⟨q, rfl, ?_⟩
    unfold PX3_less_0
    exact ⟨hT.1, _, o, f, w, 0, hR.2, rfl, Nat.zero_le _, rfl, hT, hR, hS, hK⟩
  · rintro n K x0 x1 x3 C I J R ⟨o, f, w, i, rfl, rfl, hi, hn, hT, hR, hS, hK⟩
    have hT0 := hT
    obtain ⟨t1, t2, t3, t4, t5⟩ := hT0
    unfold PX3_less_7
    have hg0 := gc_pos o f hS.2.1 i
    have hg1 := gc_le o f hS.2.1 i
    have hw := hS.2.2
    refine ⟨fun c => ?_, fun c => ?_⟩
    · have h1 := (iN_lt (a := 120) (by decide) (by omega)).mp c
      have e : i = 121 := by omega
      subst e
      refine ⟨fun z => ⟨121, by omega, o, f, w, 0, gc o f w 121, rfl, hg0, by omega, rfl, Nat.zero_le _, rfl, hT, fun j hj => ?_, hR.2, hS, hK⟩, fun z => ?_⟩
      · rw [if_neg (Nat.not_lt_zero j), if_neg (Nat.not_lt_zero j)]
        exact hR.1 j hj
      · have e1 : gc o f w 121 = 1 := (jN_eq1 (by omega)).mp z
        rw [e1] at hK
        refine hK J (fun _ _ _ _ => rfl) ?_
        simp only [Nat.div_one]
        exact hR
    · have h1 : ¬ 120 < i := fun z => c ((iN_lt (a := 120) (by decide) (by omega)).mpr z)
      have hb := hS.1 i (by omega)
      refine ⟨t1, _, t2, by rw [t4], iN_in (by omega) (by rw [t4]; omega), _, t3, by rw [t5], iN_in (by omega) (by rw [t5]; omega), ?_⟩
      rw [iN_nat (by omega), (hR.1 i (by omega)).1, (hR.1 i (by omega)).2]
      have hgg : Nat.gcd (o i) (f i) < 2 ^ 63 := by
        rcases Nat.eq_zero_or_pos (o i) with e | e
        · rw [e, Nat.gcd_zero_left]
          exact hb.2
        · exact Nat.lt_of_le_of_lt (Nat.gcd_le_left _ e) hb.1
      refine F_common_ok hb.1 hb.2 ⟨_, rfl, F_common_ok hgg (by omega) ⟨_, rfl, 243 - (i + 1), by omega, o, f, w, i + 1, rfl, iN_add i 1, by omega, rfl, hT, hR, hS, hK⟩⟩
  · rintro n K x0 x1 x3 C I J R ⟨o, f, w, i, g, rfl, hg0, hg1, rfl, hi, hn, hT, hR, hw, hS, hK⟩
    have hT0 := hT
    obtain ⟨t1, t2, t3, t4, t5⟩ := hT0
    have hgz : ¬ jN g = 0 := fun z => absurd ((jN_eq0 hg1).mp z) (by omega)
    unfold PX3_less_49
    refine ⟨fun c => ?_, fun c => ?_⟩
    · have h1 := (iN_lt (a := 120) (by decide) (by omega)).mp c
      have e : i = 121 := by omega
      subst e
      refine ⟨t1, hgz, ?_⟩
      rintro J4 rfl
      rw [hw, jN_div hS.2.2 hg1]
      refine hK _ (fun x a b d => va_up_ne _ _ a) ⟨fun j hj => ?_, by rw [va_up_self, va_up_self]⟩
      rw [va_up_ne _ _ (show x0 + 1 ≠ x0 by omega), va_up_ne _ _ (show x0 + 2 ≠ x0 by omega), (hR j hj).1, (hR j hj).2, if_pos hj, if_pos hj]
      exact ⟨rfl, rfl⟩
    · have h1 : ¬ 120 < i := fun z => c ((iN_lt (a := 120) (by decide) (by omega)).mpr z)
      have hb := hS.1 i (by omega)
      refine ⟨t1, _, t2, by rw [t4], iN_in (by omega) (by rw [t4]; omega), hgz, ?_⟩
      rintro J10 rfl
      refine ⟨_, t3, by rw [t5], iN_in (by omega) (by rw [t5]; omega), ?_⟩
      rintro J14 rfl
      rw [iN_nat (by omega)]
      rw [va_up_ne _ _ (show x0 + 2 ≠ x0 + 1 by omega)]
      rw [(hR i (by omega)).1, (hR i (by omega)).2, if_neg (Nat.lt_irrefl i), if_neg (Nat.lt_irrefl i), jN_div hb.1 hg1, jN_div hb.2 hg1]
      refine ⟨121 - (i + 1), by omega, o, f, w, i + 1, g, rfl, hg0, hg1, iN_add i 1, by omega, rfl, hT, fun j hj => ?_, ?_, hS, fun J' a b => hK J' (fun x c1 c2 c3 => ?_) b⟩
      · rw [va_up_ne _ _ (show x0 + 1 ≠ x0 + 2 by omega), va_up_self, va_up_self]
        by_cases e : j = i
        · subst e
          rw [va_up_self, va_up_self, if_pos (Nat.lt_succ_self j), if_pos (Nat.lt_succ_self j)]
          exact ⟨rfl, rfl⟩
        · rw [va_up_ne _ _ e, va_up_ne _ _ e, (hR j hj).1, (hR j hj).2]
          by_cases e2 : j < i
          · rw [if_pos e2, if_pos e2, if_pos (by omega), if_pos (by omega)]
            exact ⟨rfl, rfl⟩
          · rw [if_neg e2, if_neg e2, if_neg (by omega), if_neg (by omega)]
            exact ⟨rfl, rfl⟩
      · rw [va_up_ne _ _ (show x0 ≠ x0 + 2 by omega), va_up_ne _ _ (show x0 ≠ x0 + 1 by omega)]
        exact hw
      · rw [a x c1 c2 c3, va_up_ne _ _ c3, va_up_ne _ _ c2]
