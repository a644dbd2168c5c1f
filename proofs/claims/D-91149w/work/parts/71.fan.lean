/-! X7_init; the component's row and fan -/
set_option maxRecDepth 100000
set_option linter.unusedVariables false
/-- the parts' array is there -/
def PRa (s : St) (m : Nat) (p : Nat → Nat) (C : MC) (R : MR) : Prop := m ≤ 4 ∧ (∀ j, j < m → p j < s 6 0 ∧ kTh (C (th (p j))).1) ∧ C (th (s 6 0) + 1) = (26, m) ∧ (∀ i, i < m → R (th (s 6 0) + 1) i = some (th (p i))) ∧ ∀ i, ¬ i < m → R (th (s 6 0) + 1) i = none
theorem F_X6_row {s : St} {m a c : Nat} {p w : Nat → Nat} {C : MC} {I : MI} {J : MJ} {R : MR} {K : AK} (hP : PRe s 1 C I R 2) (hr : PRa s m p C R) (hK : PIn s 1 m a c p w C I J R K) : F_X6_init [aR (some (th (s 6 0))), aR (some (th (s 6 0) + 1))] C I J R K := by
  obtain ⟨r1, r2, r3, r4, r5⟩ := hr
  refine ⟨s 6 0, m, p, rfl, hP.1, r1, by rw [hP.2.1]; exact Or.inl rfl, hP.2.2.2.2, r2, r3, r4, r5, fun C' I' J' R' hA => ?_⟩
  have hA2 := hA
  obtain ⟨C7, I8, J9, R10, g, b1, b2, b3, b4, b5, -⟩ := hA2
  have e1 : I' (th (s 6 0)) = I (th (s 6 0)) := (b1 _ (by omega)).2.1.trans (g.1 _ (by omega)).2.1
  refine PIn.finR (Or.inl rfl) r1 hP (fun i hi => (r2 i hi).1) hA hK (fun _ _ => ⟨rfl, rfl⟩) (fun _ _ _ => rfl) (fun _ _ _ _ => rfl) (fun z => absurd z (by decide)) (fun _ i h1 h2 => ?_) ⟨?_, ?_⟩ (fun z => absurd z (by decide))
  · rw [b5 _ i (by omega) (by omega), g.2.2.2.2.2.2.2.2.1 i (by omega)]
    exact hP.2.2.2.1 i
  · rw [e1, hP.2.2.1]
  · rw [e1, hP.2.2.1]
def F_X7_init : SPF := fun As C I J R K => ∃ (s : St) (m a c : Nat) (p w : Nat → Nat), As = [aR (some (th (s 6 0))), aI (iN a), aR (some (th (s 6 0) + 1))] ∧ PRe s 2 C I R 2 ∧ PRa s m p C R ∧ PIn s 2 m a c p w C I J R K
theorem S_X7_init (l : Launch) : SpX7_init l F_X7_init := by
  refine wX7_init (S_X6_init l) ?_
  rintro As C I J R K ⟨s, m, a, c, p, w, rfl, hP, ⟨r1, r2, r3, r4, r5⟩, hK⟩
  have g0 := th_ge (s 6 0)
  refine ⟨_, _, _, rfl, s 6 0, m, p, rfl, hP.1, r1, by rw [hP.2.1]; exact Or.inr rfl, hP.2.2.2.2, r2, r3, r4, r5, fun C6 I6 J6 R6 hA => ⟨rfl, ?_⟩⟩
  have hA2 := hA
  obtain ⟨C7, I8, J9, R10, g, b1, b2, b3, b4, b5, -⟩ := hA2
  have e1 : I6 (th (s 6 0)) = I (th (s 6 0)) := (b1 _ (by omega)).2.1.trans (g.1 _ (by omega)).2.1
  have ct : C6 (th (s 6 0)) = (7, 0) := by rw [(b1 _ (by omega)).1, (g.1 _ (by omega)).1, hP.2.1]
  have c1 : C6 (th (s 6 0) + 1) = (26, m) := by rw [(b1 _ (by omega)).1, g.2.1]
  have z : ∀ o, 15 ≤ o → o < 40 → (C6 (th (s 6 0) + o)).1 = 0 := fun o h1 h2 => by
    rw [(b1 _ (by omega)).1, (g.1 _ (by omega)).1]
    exact hP.2.2.2.2 o (by omega) h2
  have k26 : (20 ≤ (26, m).1 ∧ (26, m).1 ≤ 30) := ⟨show 20 ≤ 26 by decide, show 26 ≤ 30 by decide⟩
  have nm : nI (26, m).2 = iN m := nI_iN m
  refine ⟨by rw [ct], ?_⟩
  rintro I7 rfl
  rw [c1, nm, iN_nat (by omega)]
  refine ⟨k26, iN_nn (by omega), r1, th (s 6 0) + 15, z 15 (by omega) (by omega), ?_⟩
  rintro C13 I14 J15 R16 rfl rfl rfl rfl
  refine ⟨by rw [va_up_ne _ _ (by omega), ct], ?_⟩
  rintro R18 rfl
  rw [va_up_ne _ _ (show th (s 6 0) + 1 ≠ th (s 6 0) + 15 by omega), c1, nm, iN_nat (by omega)]
  refine ⟨k26, iN_nn (by omega), r1, th (s 6 0) + 16, by rw [va_up_ne _ _ (by omega)]; exact z 16 (by omega) (by omega), ?_⟩
  rintro C24 I25 J26 R27 rfl rfl rfl rfl
  refine ⟨by rw [va_up_ne _ _ (by omega), va_up_ne _ _ (by omega), ct], ?_⟩
  rintro R29 rfl
  rw [va_up_ne _ _ (show th (s 6 0) + 1 ≠ th (s 6 0) + 16 by omega), va_up_ne _ _ (show th (s 6 0) + 1 ≠ th (s 6 0) + 15 by omega), c1, nm, iN_nat (by omega)]
  refine ⟨k26, iN_nn (by omega), r1, th (s 6 0) + 17, by rw [va_up_ne _ _ (by omega), va_up_ne _ _ (by omega)]; exact z 17 (by omega) (by omega), ?_⟩
  rintro C35 I36 J37 R38 rfl rfl rfl rfl
  refine ⟨by rw [va_up_ne _ _ (by omega), va_up_ne _ _ (by omega), va_up_ne _ _ (by omega), ct], ?_⟩
  rintro R40 rfl
  refine PIn.finR (C6 := C6) (I6 := I6) (J6 := J6) (R6 := R6) (Or.inr rfl) r1 hP (fun i hi => (r2 i hi).1) hA hK (fun x hx => ⟨?_, ?_⟩) (fun x h1 h2 => ?_) (fun x i h1 h2 => ?_) (fun _ => ⟨?_, ?_, ?_, ?_, ?_, ?_, fun i => ⟨?_, ?_, ?_⟩⟩) (fun z => absurd rfl z) ⟨?_, ?_⟩ (fun _ => ?_)
  · rw [va_up_ne _ _ (by omega), va_up_ne _ _ (by omega), va_up_ne _ _ (by omega)]
  · rw [va_up_ne _ _ (by omega), va_up_ne _ _ (by omega), va_up_ne _ _ (by omega)]
  · rw [va_up_ne _ _ (by omega), va_up_ne _ _ (by omega), va_up_ne _ _ (by omega), va_up_ne _ _ (by omega)]
  · by_cases e : x = th (s 6 0)
    · subst e
      simp (disch := omega) only [va_up_self, va_up_ne]
    · rw [va_up_ne _ _ e, va_up_ne _ _ (by omega), va_up_ne _ _ e, va_up_ne _ _ (by omega), va_up_ne _ _ e, va_up_ne _ _ (by omega)]
  all_goals first
    | (simp (disch := omega) only [va_up_self, va_up_ne]; done)
    | (simp (disch := omega) only [va_up_self, va_up_ne]; rw [e1, hP.2.2.1])
