/-! CONTRACTS 1: exceptions of the component's own, Table's small methods -/
set_option maxRecDepth 100000
set_option linter.unusedVariables false
def F_J1_init : SPF := fun As C I J R K => ∃ (x0 : Nat) (x1 : Option Nat) (x2 : Option Nat) (x3 : Int32) (x4 : Int32), As = [aR (some x0), aR x1, aR x2, aI x3, aI x4] ∧ PJ1_init_0 F_J0_init_2 K x0 x1 x2 x3 x4 C I J R
theorem S_J1_init (l : Launch) : SpJ1_init l F_J1_init := wJ1_init (S_J0_init_2 l) (fun _ _ _ _ _ _ h => h)
def F_J2_init_2 : SPF := fun As C I J R K => ∃ (x0 : Nat) (x1 : Option Nat) (x2 : Option Nat) (x3 : Int32) (x4 : Int32), As = [aR (some x0), aR x1, aR x2, aI x3, aI x4] ∧ PJ2_init_2_0 F_J1_init K x0 x1 x2 x3 x4 C I J R
theorem S_J2_init_2 (l : Launch) : SpJ2_init_2 l F_J2_init_2 := wJ2_init_2 (S_J1_init l) (fun _ _ _ _ _ _ h => h)
def F_X11_init : SPF := fun As C I J R K => ∃ (x0 : Nat), As = [aR (some x0)] ∧ PX11_init_0 F_J2_init_2 K x0 C I J R
theorem S_X11_init (l : Launch) : SpX11_init l F_X11_init := wX11_init (S_J2_init_2 l) (fun _ _ _ _ _ _ h => h)
def F_X1_init : SPF := fun As C I J R K => ∃ (x0 : Nat), As = [aR (some x0)] ∧ PX1_init_0 F_J1_init K x0 C I J R
theorem S_X1_init (l : Launch) : SpX1_init l F_X1_init := wX1_init (S_J1_init l) (fun _ _ _ _ _ _ h => h)
def F_X1_by : SPF := fun As C I J R K => ∃ (x0 : Nat) (x1 : Int32), As = [aR (some x0), aI x1] ∧ PX1_by_0 K x0 x1 C I J R
theorem S_X1_by (l : Launch) : SpX1_by l F_X1_by := wX1_by (fun _ _ _ _ _ _ h => h)
def F_X3_init : SPF := fun As C I J R K => ∃ (x0 : Nat), As = [aR (some x0)] ∧ PX3_init_0 K x0 C I J R
theorem S_X3_init (l : Launch) : SpX3_init l F_X3_init := wX3_init (fun _ _ _ _ _ _ h => h)
def F_X3_add : SPF := fun As C I J R K => ∃ (x0 : Nat) (x1 : Int32) (x2 : Int32) (x3 : Int64), As = [aR (some x0), aI x1, aI x2, aJ x3] ∧ PX3_add_0 F_X11_init K x0 x1 x2 x3 C I J R
theorem S_X3_add (l : Launch) : SpX3_add l F_X3_add := wX3_add (S_X11_init l) (fun _ _ _ _ _ _ h => h)
def F_X0_times : SPF := fun As C I J R K => ∃ (x0 : Int64) (x2 : Int64), As = [aJ x0, aJ x2] ∧ PX0_times_0 F_X11_init K x0 x2 C I J R
theorem S_X0_times (l : Launch) : SpX0_times l F_X0_times := wX0_times (S_X11_init l) (fun _ _ _ _ _ _ h => h)
def F_X0_bounded : SPF := fun As C I J R K => ∃ (x0 : Int64), As = [aJ x0] ∧ PX0_bounded_0 F_X11_init K x0 C I J R
theorem S_X0_bounded (l : Launch) : SpX0_bounded l F_X0_bounded := wX0_bounded (S_X11_init l) (fun _ _ _ _ _ _ h => h)

theorem up_at {β : Type} (f : Nat → β) {a c : Nat} (b : β) (h : c = a) : va_up f a b c = b := by
  subst h
  exact va_up_self f c b
/-- the name of the one exception TooGreat -/
def nG : Nat := 7
/-- TooGreat is thrown here -/
def TG (K : AK) (C : MC) (I : MI) (J : MJ) (R : MR) : Prop := (C nG).1 = 0 ∧ ∀ (C' : MC) (I' : MI) (J' : MJ) (R' : MR), C' = va_up C nG (11, 0) → (∀ x, x ≠ nG → I' x = I x ∧ J' x = J x ∧ R' x = R x) → K (.inr nG) C' I' J' R'
section FA
variable {C : MC} {I : MI} {J : MJ} {R : MR} {K : AK}
theorem F_J1_ok {q : Nat} {a b : Option Nat} (hk : kThr (C q).1) (h : K (.inl none) C I J R) : F_J1_init [aR (some q), aR a, aR b, aI 0, aI 0] C I J R K := by
  refine ⟨q, a, b, 0, 0, rfl, ?_⟩
  unfold PJ1_init_0
  exact ⟨q, a, b, rfl, hk, rfl, h⟩
theorem F_X11_ok {q : Nat} (hk : (C q).1 = 11) (h : K (.inl none) C I J R) : F_X11_init [aR (some q)] C I J R K := by
  refine ⟨q, rfl, ?_⟩
  unfold PX11_init_0
  refine ⟨q, none, none, 0, 0, rfl, ?_⟩
  unfold PJ2_init_2_0
  exact F_J1_ok (Or.inr hk) ⟨rfl, rfl, h⟩
theorem F_X1_ok {q : Nat} (hk : (C q).1 = 2) (h : K (.inl none) C I J R) : F_X1_init [aR (some q)] C I J R K := by
  refine ⟨q, rfl, ?_⟩
  unfold PX1_init_0
  exact F_J1_ok (Or.inl hk) ⟨rfl, h⟩
theorem tg_raise (h : TG K C I J R) : ∃ q : Nat, (C q).1 = 0 ∧ ∀ (C' : MC) (I' : MI) (J' : MJ) (R' : MR), C' = va_up C q (11, 0) → I' = va_up I q (fun _ => 0) → J' = va_up J q (fun _ => 0) → R' = va_up R q (fun _ => none) →
    F_X11_init [aR (some q)] C' I' J' R' (fun o C2 I2 J2 R2 => o = .inl none ∧ (C2 q).1 = 11 ∧ K (.inr q) C2 I2 J2 R2) := by
  refine ⟨nG, h.1, ?_⟩
  rintro C' I' J' R' rfl rfl rfl rfl
  have hk : (va_up C nG (11, 0) nG).1 = 11 := by rw [va_up_self]
  refine F_X11_ok hk ⟨rfl, hk, h.2 _ _ _ _ rfl (fun x hx => ?_)⟩
  rw [va_up_ne _ _ hx, va_up_ne _ _ hx, va_up_ne _ _ hx]
  exact ⟨rfl, rfl, rfl⟩
/-- a table's cells: a Table q has its rows in q + 1 and q + 2 -/
def TbS (C : MC) (R : MR) (q : Nat) : Prop := (C q).1 = 4 ∧ R q 0 = some (q + 1) ∧ R q 1 = some (q + 2) ∧ C (q + 1) = (21, 121) ∧ C (q + 2) = (21, 121)
theorem F_add_ok {q tk : Nat} {b : Int32} {w : Int64} (hT : TbS C R q) (htk : tk < 2 ^ 31) (h : w = 0 ∨ tk ≤ 120) (hK : ∀ J' : MJ, (∀ x, x ≠ (if b = 0 then q + 2 else q + 1) → J' x = J x) → J' (if b = 0 then q + 2 else q + 1) = va_up (J (if b = 0 then q + 2 else q + 1)) tk (J (if b = 0 then q + 2 else q + 1) tk + w) → K (.inl none) C I J' R) :
    F_X3_add [aR (some q), aI b, aI (iN tk), aJ w] C I J R K := by
  refine ⟨q, b, iN tk, w, rfl, ?_⟩
  unfold PX3_add_0
  obtain ⟨t1, t2, t3, t4, t5⟩ := hT
  refine ⟨fun hw => ?_, fun hw => ?_⟩
  · have htk2 : tk ≤ 120 := h.resolve_left hw
    refine ⟨fun _ => ⟨fun hb => ⟨t1, q + 2, t3, by rw [t5], iN_in htk (by rw [t5]; omega), ?_⟩, fun hb => ⟨t1, q + 1, t2, by rw [t4], iN_in htk (by rw [t4]; omega), ?_⟩⟩, fun hn => absurd ((iN_le (b := 120) htk (by decide)).mpr htk2) hn⟩
    · rintro J8 rfl
      rw [iN_nat htk]
      refine hK _ (fun x hx => ?_) ?_
      · rw [if_pos hb] at hx
        exact va_up_ne _ _ hx
      · rw [if_pos hb, va_up_self]
    · rintro J8 rfl
      rw [iN_nat htk]
      refine hK _ (fun x hx => ?_) ?_
      · rw [if_neg hb] at hx
        exact va_up_ne _ _ hx
      · rw [if_neg hb, va_up_self]
  · subst hw
    refine hK J (fun _ _ => rfl) ?_
    funext i
    by_cases e : i = tk
    · rw [up_at _ _ e, e, Int64.add_zero]
    · rw [va_up_ne _ _ e]
theorem F_add_great {q tk : Nat} {b : Int32} {w : Int64} (htk : tk < 2 ^ 31) (hw : ¬ w = 0) (ht : 120 < tk) (h : TG K C I J R) : F_X3_add [aR (some q), aI b, aI (iN tk), aJ w] C I J R K := by
  refine ⟨q, b, iN tk, w, rfl, ?_⟩
  unfold PX3_add_0
  exact ⟨fun _ => ⟨fun hn => absurd ((iN_le (b := 120) htk (by decide)).mp hn) (by omega), fun _ => tg_raise h⟩, fun z => absurd z hw⟩
/-- a product of wholes -/
theorem F_times_ok {a b : Nat} (ha : a < 2 ^ 62) (hb : 0 < b) (hb2 : b < 2 ^ 62) (h1 : a * b < 2 ^ 62 → K (.inl (some (aJ (jN (a * b))))) C I J R) (h2 : 2 ^ 62 ≤ a * b → TG K C I J R) : F_X0_times [aJ (jN a), aJ (jN b)] C I J R K := by
  refine ⟨jN a, jN b, rfl, ?_⟩
  unfold PX0_times_0
  have hb0 : ¬ jN b = 0 := fun w => absurd ((jN_eq0 (by omega)).mp w) (by omega)
  have hdv : (4611686018427387903 : Int64) / jN b = jN (4611686018427387903 / b) := jN_div (a := 4611686018427387903) (by decide) (by omega)
  have hle : 4611686018427387903 / b ≤ 4611686018427387903 := Nat.div_le_self _ _
  refine ⟨fun w => absurd w hb0, fun _ => ⟨hb0, fun w => ?_, fun w => ?_⟩⟩
  · rw [hdv, jN_le (by omega) (by omega), Nat.le_div_iff_mul_le hb] at w
    rw [jN_mul]
    exact h1 (by omega)
  · rw [hdv, jN_le (by omega) (by omega), Nat.le_div_iff_mul_le hb] at w
    exact tg_raise (h2 (by omega))
theorem F_bounded_ok {a : Nat} (ha : a < 2 ^ 63) (h1 : a < 2 ^ 60 → K (.inl (some (aJ (jN a)))) C I J R) (h2 : 2 ^ 60 ≤ a → TG K C I J R) : F_X0_bounded [aJ (jN a)] C I J R K := by
  refine ⟨jN a, rfl, ?_⟩
  unfold PX0_bounded_0
  refine ⟨fun w => ?_, fun w => ?_⟩
  · exact h1 ((jN_lt (b := 1152921504606846976) ha (by decide)).mp w)
  · exact tg_raise (h2 (Nat.le_of_not_lt (fun z => w ((jN_lt (b := 1152921504606846976) ha (by decide)).mpr z))))
end FA
