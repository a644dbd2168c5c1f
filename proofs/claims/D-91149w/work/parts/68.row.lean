/-! rows and fans are made: X6_init -/
set_option maxRecDepth 100000
set_option linter.unusedVariables false
theorem F_X4_mono {As : List AV} {C : MC} {I : MI} {J : MJ} {R : MR} {K K' : AK} (hk : ∀ o C I J R, K o C I J R → K' o C I J R) (h : F_X4_init As C I J R K) : F_X4_init As C I J R K' := by
  obtain ⟨n, m, p, e, hn, hP, hk1, h0, hK⟩ := h
  exact ⟨n, m, p, e, hn, hP, hk1, h0, fun C' I' J' R' a1 a2 a3 a4 a5 a6 a7 a8 a9 => hk _ _ _ _ _ (hK C' I' J' R' a1 a2 a3 a4 a5 a6 a7 a8 a9)⟩
/-- what X6_init brings -/
def AftR (n m : Nat) (p : Nat → Nat) (C : MC) (I : MI) (J : MJ) (R : MR) (C' : MC) (I' : MI) (J' : MJ) (R' : MR) : Prop := ∃ (C7 : MC) (I8 : MI) (J9 : MJ) (R10 : MR), Aft n m p C I J R C7 I8 J9 R10 ∧ (∀ x, ¬ (th n + 8 ≤ x ∧ x ≤ th n + 14) → C' x = C7 x ∧ I' x = I8 x ∧ J' x = J9 x) ∧ C' (th n + 8) = (29, m + 1) ∧ (∀ i, i ≤ m → C' (th n + (9 + i)) = (21, 121)) ∧ C' (th n + 14) = (21, m) ∧ (∀ x i, ¬ (th n + 8 ≤ x ∧ x ≤ th n + 14) → ¬ (x = th n ∧ (i = 6 ∨ i = 7)) → R' x i = R10 x i) ∧ R' (th n) 6 = some (th n + 8) ∧ R' (th n) 7 = some (th n + 14) ∧ (∀ i, i ≤ m → R' (th n + 8) i = some (th n + (9 + i))) ∧ (∀ i, ¬ i ≤ m → R' (th n + 8) i = none) ∧ (∀ j i, j ≤ m → R' (th n + (9 + j)) i = none) ∧ ∀ i, R' (th n + 14) i = none
def F_X6_init : SPF := fun As C I J R K => ∃ (n m : Nat) (p : Nat → Nat), As = [aR (some (th n)), aR (some (th n + 1))] ∧ n < 20 ∧ m ≤ 4 ∧ kRF (C (th n)).1 ∧ (∀ o, 2 ≤ o → o < 40 → (C (th n + o)).1 = 0) ∧ (∀ j, j < m → p j < n ∧ kTh (C (th (p j))).1) ∧ C (th n + 1) = (26, m) ∧ (∀ i, i < m → R (th n + 1) i = some (th (p i))) ∧ (∀ i, ¬ i < m → R (th n + 1) i = none) ∧ ∀ (C' : MC) (I' : MI) (J' : MJ) (R' : MR), AftR n m p C I J R C' I' J' R' → K (.inl none) C' I' J' R'
theorem S_X6_init (l : Launch) : SpX6_init l F_X6_init := by
  refine wX6_init (S_X4_init l) ?_ (fun _ _ _ _ _ _ _ hk h => F_X4_mono hk h)
  rintro As C I J R K ⟨n, m, p, rfl, hn, hm, hk, h0, hp, hc, hr, hr2, hK⟩
  refine ⟨_, _, rfl, F_X4_aft (C := C) (I := I) (J := J) (R := R) hn hm (by unfold kRF at hk; unfold kTh; omega) (fun o h1 h2 => h0 o h1 (by omega)) hp (fun _ _ => ⟨rfl, rfl, rfl, rfl⟩) hc hr hr2 (fun C7 I8 J9 R10 hA => ⟨rfl, ?_⟩)⟩
  have z7 : ∀ o, 8 ≤ o → o < 40 → (C7 (th n + o)).1 = 0 := fun o h1 h2 => by
    rw [(hA.1 _ (by omega)).1]
    exact h0 o (by omega) h2
  have c1 := hA.2.1
  have ct := (hA.1 (th n) (by omega)).1
  refine ⟨m, fun j => th n + (9 + j), th n + 8, hm, by rw [c1]; exact ⟨show 20 ≤ 26 by decide, show 26 ≤ 30 by decide⟩, by rw [c1], fun j hj => z7 _ (by omega) (by omega), fun a b _ _ e => by
    have : th n + (9 + a) = th n + (9 + b) := e
    omega, z7 8 (by omega) (by omega), fun j hj => by
    show th n + 8 ≠ th n + (9 + j)
    omega, ?_⟩
  intro C5 I5 J5 R5 eC eI eJ eR
  have inj : ∀ a b, a < m + 1 → b < m + 1 → (fun j => th n + (9 + j)) a = (fun j => th n + (9 + j)) b → a = b := fun a b _ _ e => by
    have : th n + (9 + a) = th n + (9 + b) := e
    omega
  have far : ∀ x, ¬ (th n + 8 ≤ x ∧ x ≤ th n + 13) → C5 x = C7 x ∧ I5 x = I8 x ∧ J5 x = J9 x ∧ R5 x = R10 x := fun x hx => by
    have h1 : ∀ j, j < m + 1 → x ≠ th n + (9 + j) := fun j hj => by omega
    rw [eC, eI, eJ, eR, va_up_ne _ _ (by omega), va_up_ne _ _ (by omega), va_up_ne _ _ (by omega), va_up_ne _ _ (by omega), mup_ne _ _ _ _ h1, mup_ne _ _ _ _ h1, mup_ne _ _ _ _ h1, mup_ne _ _ _ _ h1]
    exact ⟨rfl, rfl, rfl, rfl⟩
  have f0 := far (th n) (by omega)
  refine ⟨by rw [f0.1, ct]; exact hk, ?_⟩
  intro R6 e6
  have f1 := far (th n + 1) (by omega)
  have f14 := far (th n + 14) (by omega)
  refine ⟨by rw [f1.1, c1]; exact ⟨show 20 ≤ 26 by decide, show 26 ≤ 30 by decide⟩, by rw [f1.1, c1], th n + 14, by rw [f14.1]; exact z7 14 (by omega) (by omega), ?_⟩
  intro C8 I8' J8 R8 e7 e8 e9 e10
  refine ⟨by rw [e7, va_up_ne _ _ (by omega), f0.1, ct]; exact hk, ?_⟩
  intro R9 e11
  have rn : ∀ x, x ≠ th n → x ≠ th n + 14 → R9 x = R5 x := fun x h1 h2 => by
    rw [e11, va_up_ne _ _ h1, e10, va_up_ne _ _ h2, e6, va_up_ne _ _ h1]
  have r8 : R5 (th n + 8) = fun j => if j < m + 1 then some (th n + (9 + j)) else none := by rw [eR, va_up_self]
  refine hK _ _ _ _ ⟨C7, I8, J9, R10, hA, fun x hx => ?_, ?_, fun i hi => ?_, ?_, fun x i hx hi => ?_, ?_, ?_, fun i hi => ?_, fun i hi => ?_, fun j i hj => ?_, fun i => ?_⟩
  · have f := far x (by omega)
    rw [e7, e8, e9, va_up_ne _ _ (by omega), va_up_ne _ _ (by omega), va_up_ne _ _ (by omega)]
    exact ⟨f.1, f.2.1, f.2.2.1⟩
  · rw [e7, va_up_ne _ _ (by omega), eC, va_up_self]
  · rw [e7, va_up_ne _ _ (by omega), eC, va_up_ne _ _ (by omega)]
    exact mup_at C7 (fun j => th n + (9 + j)) (fun _ => (21, 121)) inj (m + 1) (Nat.le_refl _) i (by omega)
  · rw [e7, va_up_self]
  · by_cases e : x = th n
    · subst e
      rw [e11, va_up_self, va_up_ne _ _ (fun w => hi ⟨rfl, Or.inr w⟩), e10, va_up_ne _ _ (by omega), e6, va_up_self, va_up_ne _ _ (fun w => hi ⟨rfl, Or.inl w⟩), f0.2.2.2]
    · rw [rn x e (by omega), (far x (by omega)).2.2.2]
  · rw [e11, va_up_self, va_up_ne _ _ (by decide), e10, va_up_ne _ _ (by omega), e6, va_up_self, va_up_self]
  · rw [e11, va_up_self, va_up_self]
  · rw [rn _ (by omega) (by omega), r8]
    exact if_pos (by omega)
  · rw [rn _ (by omega) (by omega), r8]
    exact if_neg (by omega)
  · rw [rn _ (by omega) (by omega), eR, va_up_ne _ _ (by omega)]
    rw [mup_at R10 (fun j => th n + (9 + j)) (fun _ _ => none) inj (m + 1) (Nat.le_refl _) j (by omega)]
  · rw [e11, va_up_ne _ _ (by omega), e10, va_up_self]
