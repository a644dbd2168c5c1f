/-! THINGS ARE MADE: tables, what all things have, leaves; the component's adds -/
set_option maxRecDepth 100000
set_option linter.unusedVariables false
def F_X3_inew : SPF := fun As C I J R K => ∃ q : Nat, As = [aR (some q)] ∧ (C q).1 = 4 ∧ (C (q + 1)).1 = 0 ∧ (C (q + 2)).1 = 0 ∧ ∀ (C' : MC) (I' : MI) (J' : MJ) (R' : MR), (∀ x, x ≠ q + 1 → x ≠ q + 2 → C' x = C x ∧ I' x = I x ∧ J' x = J x) → (∀ x, x ≠ q → x ≠ q + 1 → x ≠ q + 2 → R' x = R x) → TbS C' R' q → (∀ i, J' (q + 1) i = 0 ∧ J' (q + 2) i = 0 ∧ R' (q + 1) i = none ∧ R' (q + 2) i = none) → (∀ i, i ≠ 0 → i ≠ 1 → R' q i = R q i) → K (.inl none) C' I' J' R'
theorem S_X3_inew (l : Launch) : SpX3_init l F_X3_inew := by
  refine wX3_init ?_
  rintro As C I J R K ⟨q, rfl, h4, h1, h2, hK⟩
  refine ⟨q, rfl, q + 1, h1, ?_⟩
  rintro C3 I4 J5 R6 rfl rfl rfl rfl
  refine ⟨by rw [va_up_ne _ _ (by omega)]; exact h4, ?_⟩
  rintro R8 rfl
  refine ⟨q + 2, by rw [va_up_ne _ _ (by omega)]; exact h2, ?_⟩
  rintro C11 I12 J13 R14 rfl rfl rfl rfl
  refine ⟨by rw [va_up_ne _ _ (by omega), va_up_ne _ _ (by omega)]; exact h4, ?_⟩
  rintro R16 rfl
  refine hK _ _ _ _ (fun x a b => ⟨?_, ?_, ?_⟩) (fun x a b c => ?_) ⟨?_, ?_, ?_, ?_, ?_⟩ (fun i => ⟨?_, ?_, ?_, ?_⟩) (fun i a b => ?_)
  · rw [va_up_ne _ _ b, va_up_ne _ _ a]
  · rw [va_up_ne _ _ b, va_up_ne _ _ a]
  · rw [va_up_ne _ _ b, va_up_ne _ _ a]
  · rw [va_up_ne _ _ a, va_up_ne _ _ c, va_up_ne _ _ a, va_up_ne _ _ b]
  · rw [va_up_ne _ _ (by omega), va_up_ne _ _ (by omega)]; exact h4
  · simp (disch := omega) only [va_up_self, va_up_ne]
  · rw [va_up_self, va_up_self]
  · rw [va_up_ne _ _ (by omega), va_up_self]
  · rw [va_up_self]
  · rw [va_up_ne _ _ (by omega), va_up_self]
  · rw [va_up_self]
  · simp (disch := omega) only [va_up_self, va_up_ne]
  · simp (disch := omega) only [va_up_self, va_up_ne]
  · simp (disch := omega) only [va_up_self, va_up_ne]
def PtO (n m : Nat) (p : Nat → Nat) (C : MC) (R : MR) : Prop := m ≤ 4 ∧ C (th n + 1) = (26, m) ∧ ∀ j, j < m → p j < n ∧ R (th n + 1) j = some (th (p j)) ∧ kTh (C (th (p j))).1
def F_X4_init : SPF := fun As C I J R K => ∃ (n m : Nat) (p : Nat → Nat), As = [aR (some (th n)), aR (some (th n + 1))] ∧ n < 20 ∧ PtO n m p C R ∧ kTh (C (th n)).1 ∧ (∀ o, 2 ≤ o → o ≤ 7 → (C (th n + o)).1 = 0) ∧ ∀ (C' : MC) (I' : MI) (J' : MJ) (R' : MR), (∀ x, ¬ (th n + 2 ≤ x ∧ x ≤ th n + 7) → C' x = C x ∧ I' x = I x ∧ J' x = J x) → TbS C' R' (th n + 2) → TbS C' R' (th n + 5) → (∀ x i r, th n + 2 ≤ x → x ≤ th n + 7 → R' x i = some r → th n + 2 ≤ r ∧ r ≤ th n + 7) → R' (th n) 0 = some (th n + 1) → R' (th n) 1 = some (th n + 2) → R' (th n) 2 = some (th n + 5) → (∀ x i, ¬ (th n + 2 ≤ x ∧ x ≤ th n + 7) → ¬ (x = th n ∧ i < 3) → ¬ (i = 3 ∧ ∃ j, j < m ∧ x = th (p j)) → R' x i = R x i) → (∀ j, j < m → R' (th (p j)) 3 = some (th n)) → K (.inl none) C' I' J' R'
def V_X4_init_39 (n : Nat) (K : AK) (x0 : Nat) (x2 : Nat) (x3 : Int32) (x4 : Int32) (C : MC) (I : MI) (J : MJ) (R : MR) : Prop := ∃ (Rb : MR) (d m i : Nat) (p : Nat → Nat), x0 = th d ∧ x2 = th d + 1 ∧ x3 = iN m ∧ x4 = iN i ∧ i ≤ m ∧ n = m - i ∧ PtO d m p C R ∧ (∀ x j, ¬ (j = 3 ∧ ∃ t, t < m ∧ x = th (p t)) → R x j = Rb x j) ∧ (∀ t, t < i → R (th (p t)) 3 = some (th d)) ∧ ∀ R' : MR, (∀ x j, ¬ (j = 3 ∧ ∃ t, t < m ∧ x = th (p t)) → R' x j = Rb x j) → (∀ t, t < m → R' (th (p t)) 3 = some (th d)) → K (.inl none) C I J R'
theorem S_X4_init (l : Launch) : SpX4_init l F_X4_init := by
  refine wX4_init (S_X3_inew l) V_X4_init_39 ?_ ?_
  · rintro As C I J R K ⟨n, m, p, rfl, hn, ⟨hm, hc, hp⟩, hk, h0, hK⟩
    refine ⟨th n, th n + 1, rfl, th n + 2, h0 2 (by omega) (by omega), ?_⟩
    rintro C3 I4 J5 R6 rfl rfl rfl rfl
    have f0 : ∀ o, 3 ≤ o → o ≤ 7 → (va_up C (th n + 2) (4, 0) (th n + o)).1 = 0 := fun o h1 h2 => by
      rw [va_up_ne _ _ (by omega)]
      exact h0 o (by omega) h2
    refine ⟨th n + 2, rfl, by rw [va_up_self], f0 3 (by omega) (by omega), f0 4 (by omega) (by omega), ?_⟩
    intro C7 I8 J9 R10 fC fR tT tv tf
    have c0 : C7 (th n) = C (th n) := by rw [(fC _ (by omega) (by omega)).1, va_up_ne _ _ (by omega)]
    refine ⟨rfl, by rw [c0]; exact hk, ?_⟩
    rintro R13 rfl
    have c5 : ∀ o, 5 ≤ o → o ≤ 7 → (C7 (th n + o)).1 = 0 := fun o h1 h2 => by
      rw [(fC _ (by omega) (by omega)).1, va_up_ne _ _ (by omega)]
      exact h0 o (by omega) h2
    refine ⟨th n + 5, c5 5 (by omega) (by omega), ?_⟩
    rintro C16 I17 J18 R19 rfl rfl rfl rfl
    refine ⟨th n + 5, rfl, by rw [va_up_self], by rw [va_up_ne _ _ (by omega)]; exact c5 6 (by omega) (by omega), by rw [va_up_ne _ _ (by omega)]; exact c5 7 (by omega) (by omega), ?_⟩
    intro C20 I21 J22 R23 gC gR uT uv uf
    have out : ∀ x, ¬ (th n + 2 ≤ x ∧ x ≤ th n + 7) → C20 x = C x ∧ I21 x = I x ∧ J22 x = J x := fun x hx => by
      have a := gC x (by omega) (by omega)
      have b := fC x (by omega) (by omega)
      rw [a.1, a.2.1, a.2.2, va_up_ne _ _ (by omega), va_up_ne _ _ (by omega), va_up_ne _ _ (by omega), b.1, b.2.1, b.2.2, va_up_ne _ _ (by omega), va_up_ne _ _ (by omega), va_up_ne _ _ (by omega)]
      exact ⟨rfl, rfl, rfl⟩
    have outR : ∀ x, ¬ (th n ≤ x ∧ x ≤ th n + 7 ∧ x ≠ th n + 1) → R23 x = R x := fun x hx => by
      rw [gR x (by omega) (by omega) (by omega), va_up_ne _ _ (by omega), va_up_ne _ _ (by omega), fR x (by omega) (by omega) (by omega), va_up_ne _ _ (by omega)]
    have R0 : R23 (th n) = va_up (R (th n)) 1 (some (th n + 2)) := by
      rw [gR _ (by omega) (by omega) (by omega), va_up_ne _ _ (by omega), va_up_self, fR _ (by omega) (by omega) (by omega), va_up_ne _ _ (by omega)]
    have tR : ∀ x, th n + 2 ≤ x → x ≤ th n + 4 → R23 x = R10 x := fun x h1 h2 => by
      rw [gR x (by omega) (by omega) (by omega), va_up_ne _ _ (by omega), va_up_ne _ _ (by omega)]
    have tC : ∀ x, th n + 2 ≤ x → x ≤ th n + 4 → C20 x = C7 x := fun x h1 h2 => by
      rw [(gC x (by omega) (by omega)).1, va_up_ne _ _ (by omega)]
    have T2 : TbS C20 R23 (th n + 2) := by
      unfold TbS at tT ⊢
      rw [tC _ (by omega) (by omega), tC (th n + 2 + 1) (by omega) (by omega), tC (th n + 2 + 2) (by omega) (by omega), tR _ (by omega) (by omega)]
      exact tT
    have clo : ∀ x i r, th n + 2 ≤ x → x ≤ th n + 7 → R23 x i = some r → th n + 2 ≤ r ∧ r ≤ th n + 7 := fun x i r h1 h2 hr => by
      by_cases e2 : x = th n + 2
      · subst e2
        rw [tR _ (by omega) (by omega)] at hr
        by_cases a : i = 0
        · rw [a, tT.2.1] at hr
          cases hr
          omega
        · by_cases b : i = 1
          · rw [b, tT.2.2.1] at hr
            cases hr
            omega
          · rw [tf i a b, va_up_self] at hr
            cases hr
      · by_cases e3 : x = th n + 2 + 1
        · rw [tR _ (by omega) (by omega), e3, (tv i).2.2.1] at hr
          cases hr
        · by_cases e4 : x = th n + 2 + 2
          · rw [tR _ (by omega) (by omega), e4, (tv i).2.2.2] at hr
            cases hr
          · by_cases e5 : x = th n + 5
            · subst e5
              by_cases a : i = 0
              · rw [a, uT.2.1] at hr
                cases hr
                omega
              · by_cases b : i = 1
                · rw [b, uT.2.2.1] at hr
                  cases hr
                  omega
                · rw [uf i a b, va_up_self] at hr
                  cases hr
            · by_cases e6 : x = th n + 5 + 1
              · rw [e6, (uv i).2.2.1] at hr
                cases hr
              · rw [show x = th n + 5 + 2 by omega, (uv i).2.2.2] at hr
                cases hr
    refine ⟨rfl, by rw [(out _ (by omega)).1]; exact hk, ?_⟩
    rintro R26 rfl R27 rfl
    have hc1 : C20 (th n + 1) = (26, m) := by rw [(out _ (by omega)).1]; exact hc
    refine ⟨by rw [hc1]; exact ⟨show 20 ≤ 26 by decide, show 26 ≤ 30 by decide⟩, m - 0, va_up (va_up R23 (th n) (va_up (R23 (th n)) 2 (some (th n + 5)))) (th n) (va_up (va_up R23 (th n) (va_up (R23 (th n)) 2 (some (th n + 5))) (th n)) 0 (some (th n + 1))), n, m, 0, p, rfl, rfl, ?_, rfl, Nat.zero_le _, rfl, ⟨hm, hc1, fun j hj => ?_⟩, fun _ _ _ => rfl, fun t ht => absurd ht (Nat.not_lt_zero _), fun R' hf hv => ?_⟩
    · rw [hc1]
      rfl
    · have h5 := hp j hj
      refine ⟨h5.1, ?_, ?_⟩
      · rw [va_up_ne _ _ (by omega), va_up_ne _ _ (by omega), outR _ (by omega)]
        exact h5.2.1
      · rw [(out _ (by unfold th; omega)).1]
        exact h5.2.2
    · have rn : ∀ x i, x ≠ th n → ¬ (i = 3 ∧ ∃ j, j < m ∧ x = th (p j)) → R' x i = R23 x i := fun x i hx hi => by
        rw [hf x i hi, va_up_ne _ _ hx, va_up_ne _ _ hx]
      have np : ∀ x j, th n ≤ x → j < m → x ≠ th (p j) := fun x j hx hj w => by
        have := (hp j hj).1
        unfold th at hx w
        omega
      have rb : ∀ x i, th n + 2 ≤ x → R' x i = R23 x i := fun x i hx => rn x i (by omega) (fun ⟨_, j, hj, w⟩ => np x j (by omega) hj w)
      have rt : ∀ i, R' (th n) i = va_up (va_up (va_up (R (th n)) 1 (some (th n + 2))) 2 (some (th n + 5))) 0 (some (th n + 1)) i := fun i => by
        rw [hf _ i (fun ⟨_, j, hj, w⟩ => np _ j (Nat.le_refl _) hj w), va_up_self, va_up_self, R0]
      refine hK _ _ _ _ out ?_ ?_ (fun x i r h1 h2 hr => ?_) ?_ ?_ ?_ (fun x i h1 h2 h3 => ?_) hv
      · unfold TbS at T2 ⊢
        rw [rb _ _ (Nat.le_refl _), rb _ _ (Nat.le_refl _)]
        exact T2
      · unfold TbS at uT ⊢
        rw [rb _ _ (by omega), rb _ _ (by omega)]
        exact uT
      · rw [rb _ _ h1] at hr
        exact clo x i r h1 h2 hr
      · rw [rt, va_up_self]
      · rw [rt, va_up_ne _ _ (by decide), va_up_ne _ _ (by decide), va_up_self]
      · rw [rt, va_up_ne _ _ (by decide), va_up_self]
      · by_cases e : x = th n
        · rw [e, rt, va_up_ne _ _ (by omega), va_up_ne _ _ (by omega), va_up_ne _ _ (by omega)]
        · rw [rn x i e h3, outR x (by omega)]
  · rintro n K x0 x2 x3 x4 C I J R ⟨Rb, d, m, i, p, rfl, rfl, rfl, rfl, hi, rfl, ⟨hm, hc, hp⟩, hf, hv, hK⟩
    unfold PX4_init_39
    rw [iN_le (by omega) (by omega)]
    refine ⟨fun c => ?_, fun c => ⟨by rw [hc]; exact ⟨show 25 ≤ 26 by decide, show 26 < 30 by decide⟩, by rw [hc]; exact iN_in (by omega) (by show i < m; omega), ?_⟩⟩
    · obtain rfl : i = m := by omega
      exact hK R hf hv
    · have h5 := hp i (by omega)
      rw [iN_nat (by omega)]
      refine ⟨th (p i), h5.2.1, h5.2.2, ?_⟩
      rintro R6 rfl
      refine ⟨m - (i + 1), by omega, Rb, d, m, i + 1, p, rfl, rfl, rfl, iN_add i 1, by omega, rfl, ⟨hm, hc, fun j hj => ?_⟩, fun x j h => ?_, fun t ht => ?_, hK⟩
      · have h6 := hp j hj
        refine ⟨h6.1, ?_, h6.2.2⟩
        rw [va_up_ne _ _ (by have := h5.1; unfold th; omega)]
        exact h6.2.1
      · by_cases e : x = th (p i)
        · by_cases e2 : j = 3
          · exact absurd ⟨e2, i, by omega, e⟩ h
          · rw [e, va_up_self, va_up_ne _ _ e2, ← e]
            exact hf x j h
        · rw [va_up_ne _ _ e]
          exact hf x j h
      · by_cases e : th (p t) = th (p i)
        · rw [e, va_up_self, va_up_self]
        · rw [va_up_ne _ _ e]
          refine hv t ?_
          have : t ≠ i := fun z => e (by rw [z])
          omega
/-- what the making of a thing brings -/
def PIn (s : St) (kd m a c : Nat) (p w : Nat → Nat) (C : MC) (I : MI) (J : MJ) (R : MR) (K : AK) : Prop := ∀ (C' : MC) (I' : MI) (J' : MJ) (R' : MR), (∀ x, ¬ (th (s 6 0) ≤ x ∧ x < th (s 6 0) + 40) → C' x = C x ∧ I' x = I x ∧ J' x = J x) → (∀ x i, ¬ (th (s 6 0) ≤ x ∧ x < th (s 6 0) + 40) → ¬ (i = 3 ∧ ∃ j, j < m ∧ x = th (p j)) → R' x i = R x i) → (∀ j, j < m → R' (th (p j)) 3 = some (th (s 6 0))) →
  (∀ o, o < 40 → lvo (adS s kd m a c p w) (s 6 0) o → (C' (th (s 6 0) + o)).1 ≠ 0 ∧ ∀ i r, R' (th (s 6 0) + o) i = some r → LV (adS s kd m a c p w) r ∧ 1000 ≤ r) → CSk (adS s kd m a c p w) C' R' (s 6 0) → CIk (adS s kd m a c p w) I' (s 6 0) → K (.inl none) C' I' J' R'
def PRe (s : St) (kd : Nat) (C : MC) (I : MI) (R : MR) (lo : Nat) : Prop := s 6 0 < 20 ∧ C (th (s 6 0)) = (5 + kd, 0) ∧ (∀ f, I (th (s 6 0)) f = 0) ∧ (∀ f, R (th (s 6 0)) f = none) ∧ ∀ o, lo ≤ o → o < 40 → (C (th (s 6 0) + o)).1 = 0
def F_X5_init : SPF := fun As C I J R K => ∃ (s : St) (w : Nat → Nat), As = [aR (some (th (s 6 0))), aR (some (100000 + 3 * s 6 0))] ∧ PRe s 0 C I R 1 ∧ TbS C R (100000 + 3 * s 6 0) ∧ PIn s 0 0 0 0 (fun _ => 0) w C I J R K
theorem S_X5_init (l : Launch) : SpX5_init l F_X5_init := by
  refine wX5_init (S_X4_init l) ?_
  rintro As C I J R K ⟨s, w, rfl, ⟨hn, c0, i0, r0, z0⟩, hT, hK⟩
  have hg := th_ge (s 6 0)
  have hb : th (s 6 0) ≤ 2000 := by unfold th; omega
  refine ⟨_, _, rfl, th (s 6 0) + 1, z0 1 (by omega) (by omega), ?_⟩
  rintro C3 I4 J5 R6 rfl rfl rfl rfl
  refine ⟨s 6 0, 0, fun _ => 0, rfl, hn, ⟨by omega, va_up_self _ _ _, fun j hj => absurd hj (Nat.not_lt_zero _)⟩, by rw [va_up_ne _ _ (by omega), c0]; exact ⟨Nat.le_refl _, by decide⟩, fun o h1 h2 => by rw [va_up_ne _ _ (by omega)]; exact z0 o (by omega) (by omega), ?_⟩
  intro C7 I8 J9 R10 fC t2 t5 clo e0 e1 e2 fR _
  have C7z : ∀ o, 8 ≤ o → o < 40 → (C7 (th (s 6 0) + o)).1 = 0 := fun o h1 h2 => by
    rw [(fC _ (by omega)).1, va_up_ne _ _ (by omega)]
    exact z0 o (by omega) h2
  have C70 : C7 (th (s 6 0)) = (5, 0) := by rw [(fC _ (by omega)).1, va_up_ne _ _ (by omega)]; exact c0
  have R7 : ∀ i, 3 ≤ i → R10 (th (s 6 0)) i = none := fun i hi => by
    rw [fR _ i (by omega) (by omega) (fun ⟨_, j, hj, _⟩ => absurd hj (Nat.not_lt_zero _)), va_up_ne _ _ (by omega)]
    exact r0 i
  have R71 : ∀ i, R10 (th (s 6 0) + 1) i = none := fun i => by
    rw [fR _ i (by omega) (by omega) (fun ⟨_, j, hj, _⟩ => absurd hj (Nat.not_lt_zero _)), va_up_self]
  have I7 : I8 (th (s 6 0)) = I (th (s 6 0)) := by rw [(fC _ (by omega)).2.1, va_up_ne _ _ (by omega)]
  have C7g : C7 (100000 + 3 * s 6 0) = C (100000 + 3 * s 6 0) := by rw [(fC _ (by omega)).1, va_up_ne _ _ (by omega)]
  refine ⟨rfl, th (s 6 0) + 8, C7z 8 (by omega) (by omega), ?_⟩
  rintro C14 I15 J16 R17 rfl rfl rfl rfl
  refine ⟨by rw [va_up_ne _ _ (by omega), C70], ?_⟩
  rintro R19 rfl
  refine ⟨th (s 6 0) + 9, by rw [va_up_ne _ _ (by omega)]; exact C7z 9 (by omega) (by omega), ?_⟩
  rintro C22 I23 J24 R25 rfl rfl rfl rfl
  refine ⟨by rw [va_up_ne _ _ (by omega), va_up_ne _ _ (by omega), C70], ?_⟩
  rintro R27 rfl I28 rfl I29 rfl I30 rfl
  refine ⟨th (s 6 0) + 8, ?_, ?_, ?_, ?_, ?_⟩
  · simp (disch := omega) only [va_up_self, va_up_ne]
  · simp (disch := omega) only [va_up_self, va_up_ne]
    exact ⟨by decide, by decide⟩
  · simp (disch := omega) only [va_up_self, va_up_ne, C7g]
    exact Or.inr (Or.inr (Or.inl ⟨rfl, hT.1⟩))
  · simp (disch := omega) only [va_up_self, va_up_ne]
    exact iN_in (a := 0) (by decide) (by decide)
  rintro R35 rfl
  obtain ⟨a1, a5, a7, a9, a10, a11, a12, a15, a16, a17, a18, a19, a20⟩ := ad_new (s := s) (kd := 0) (m := 0) (a := 0) (c := 0) (p := fun _ => 0) (w := w)
  have gg : gq (adS s 0 0 0 0 (fun _ => 0) w) (s 6 0) 0 = 100000 + 3 * s 6 0 := by
    unfold gq
    rw [if_pos rfl, a5, Nat.mul_zero, Nat.add_zero]
  have blk : ∀ o, lvo (adS s 0 0 0 0 (fun _ => 0) w) (s 6 0) o → o < 10 := fun o ho => by
    unfold lvo at ho
    rw [a7, a12, a1] at ho
    omega
  have lin : ∀ o, o < 10 → LV (adS s 0 0 0 0 (fun _ => 0) w) (th (s 6 0) + o) := fun o ho => ad_o (by omega) (by
    unfold lvo
    rw [a7]
    omega)
  have lg : LV (adS s 0 0 0 0 (fun _ => 0) w) (100000 + 3 * s 6 0) := Or.inr (Or.inr (Or.inr (Or.inr (Or.inr (Or.inr ⟨s 6 0, 0, 0, by rw [ad_n]; omega, a7, Nat.zero_le _, by omega, rfl⟩)))))
  refine hK _ _ _ _ (fun x hx => ⟨?_, ?_, ?_⟩) (fun x i hx hi => ?_) (fun j hj => absurd hj (Nat.not_lt_zero _)) (fun o ho hl => ⟨?_, fun i r hr => ?_⟩) ⟨⟨?_, ?_, ?_, ?_, ?_, ?_, ?_, ?_, ?_⟩, fun _ => ⟨?_, ?_, ?_, ?_, fun g hgg => ?_⟩, fun z => ?_, fun z => ?_, fun z => ?_⟩ ⟨⟨?_, ?_⟩, fun _ => ⟨?_, ?_, ?_, ?_, ?_, fun g hgg => ?_⟩, fun z => ?_, fun z => ?_, fun z => ?_⟩
  · rw [va_up_ne _ _ (by omega), va_up_ne _ _ (by omega), (fC x (by omega)).1, va_up_ne _ _ (by omega)]
  · rw [va_up_ne _ _ (by omega), va_up_ne _ _ (by omega), va_up_ne _ _ (by omega), va_up_ne _ _ (by omega), va_up_ne _ _ (by omega), (fC x (by omega)).2.1, va_up_ne _ _ (by omega)]
  · rw [va_up_ne _ _ (by omega), va_up_ne _ _ (by omega), (fC x (by omega)).2.2, va_up_ne _ _ (by omega)]
  · rw [va_up_ne _ _ (by omega), va_up_ne _ _ (by omega), va_up_ne _ _ (by omega), va_up_ne _ _ (by omega), va_up_ne _ _ (by omega), fR x i (by omega) (by omega) (fun ⟨_, j, hj, _⟩ => absurd hj (Nat.not_lt_zero _)), va_up_ne _ _ (by omega)]
  · have h10 := blk o hl
    have h11 : o = 0 ∨ o = 1 ∨ (2 ≤ o ∧ o ≤ 7) ∨ o = 8 ∨ o = 9 := by omega
    rcases h11 with rfl | rfl | h11 | rfl | rfl
    · rw [show th (s 6 0) + 0 = th (s 6 0) from rfl, va_up_ne _ _ (show th (s 6 0) ≠ th (s 6 0) + 9 by omega), va_up_ne _ _ (show th (s 6 0) ≠ th (s 6 0) + 8 by omega), C70]; decide
    · rw [va_up_ne _ _ (by omega), va_up_ne _ _ (by omega), (fC _ (by omega)).1, va_up_self]; decide
    · rw [va_up_ne _ _ (by omega), va_up_ne _ _ (by omega)]
      have h12 : o = 2 ∨ o = 3 ∨ o = 4 ∨ o = 5 ∨ o = 6 ∨ o = 7 := by omega
      rcases h12 with rfl | rfl | rfl | rfl | rfl | rfl
      · rw [t2.1]; decide
      · have := t2.2.2.2.1
        rw [show th (s 6 0) + 3 = th (s 6 0) + 2 + 1 from rfl, this]; decide
      · have := t2.2.2.2.2
        rw [show th (s 6 0) + 4 = th (s 6 0) + 2 + 2 from rfl, this]; decide
      · rw [t5.1]; decide
      · have := t5.2.2.2.1
        rw [show th (s 6 0) + 6 = th (s 6 0) + 5 + 1 from rfl, this]; decide
      · have := t5.2.2.2.2
        rw [show th (s 6 0) + 7 = th (s 6 0) + 5 + 2 from rfl, this]; decide
    · rw [va_up_ne _ _ (by omega), va_up_self]; decide
    · rw [va_up_self]; decide
  · have h10 := blk o hl
    have h11 : o = 0 ∨ o = 1 ∨ (2 ≤ o ∧ o ≤ 7) ∨ o = 8 ∨ o = 9 := by omega
    rcases h11 with rfl | rfl | h11 | rfl | rfl
    · simp (disch := omega) only [Nat.add_zero, va_up_self, va_up_ne] at hr
      by_cases e7 : i = 7
      · rw [e7, va_up_self] at hr
        cases hr
        exact ⟨lin 9 (by omega), by omega⟩
      · rw [va_up_ne _ _ e7] at hr
        by_cases e6 : i = 6
        · rw [e6, va_up_self] at hr
          cases hr
          exact ⟨lin 8 (by omega), by omega⟩
        · rw [va_up_ne _ _ e6] at hr
          by_cases h3 : 3 ≤ i
          · rw [R7 i h3] at hr
            cases hr
          · have h4 : i = 0 ∨ i = 1 ∨ i = 2 := by omega
            rcases h4 with rfl | rfl | rfl
            · rw [e0] at hr; cases hr; exact ⟨lin 1 (by omega), by omega⟩
            · rw [e1] at hr; cases hr; exact ⟨lin 2 (by omega), by omega⟩
            · rw [e2] at hr; cases hr; exact ⟨lin 5 (by omega), by omega⟩
    · simp (disch := omega) only [va_up_self, va_up_ne] at hr
      rw [R71 i] at hr
      cases hr
    · rw [va_up_ne _ _ (by omega), va_up_ne _ _ (by omega), va_up_ne _ _ (by omega), va_up_ne _ _ (by omega), va_up_ne _ _ (by omega)] at hr
      have h12 := clo _ i r (by omega) (by omega) hr
      have h13 := lin (r - th (s 6 0)) (by omega)
      rw [show th (s 6 0) + (r - th (s 6 0)) = r by omega] at h13
      exact ⟨h13, by omega⟩
    · simp (disch := omega) only [va_up_self, va_up_ne] at hr
      by_cases e : i = (0 : Int32).toNatClampNeg
      · rw [e, va_up_self] at hr
        cases hr
        exact ⟨lg, by omega⟩
      · rw [va_up_ne _ _ e] at hr
        cases hr
    · simp (disch := omega) only [va_up_self, va_up_ne] at hr
      cases hr
  · rw [a7, va_up_ne _ _ (by omega), va_up_ne _ _ (by omega), C70]
  · rw [a1, va_up_ne _ _ (by omega), va_up_ne _ _ (by omega), (fC _ (by omega)).1, va_up_self]
  · simp (disch := omega) only [va_up_self, va_up_ne]
    exact e0
  · rw [a1]
    exact fun i hi => absurd hi (Nat.not_lt_zero _)
  · simp (disch := omega) only [va_up_self, va_up_ne]
    exact e1
  · simp (disch := omega) only [va_up_self, va_up_ne]
    exact e2
  · unfold TbS at t2 ⊢
    simp (disch := omega) only [va_up_self, va_up_ne]
    exact t2
  · unfold TbS at t5 ⊢
    simp (disch := omega) only [va_up_self, va_up_ne]
    exact t5
  · rw [a11, if_pos rfl]
    simp (disch := omega) only [va_up_self, va_up_ne]
    exact R7 3 (by omega)
  · simp (disch := omega) only [va_up_self, va_up_ne]
  · simp (disch := omega) only [va_up_self, va_up_ne]
  · simp (disch := omega) only [va_up_self, va_up_ne]
  · simp (disch := omega) only [va_up_self, va_up_ne]
  · rw [a12] at hgg
    obtain rfl : g = 0 := by omega
    rw [gg]
    refine ⟨?_, ?_⟩
    · rw [va_up_self]
      exact va_up_self _ _ _
    · have q0 := fC (100000 + 3 * s 6 0) (by omega)
      have q1 := fC (100000 + 3 * s 6 0 + 1) (by omega)
      have q2 := fC (100000 + 3 * s 6 0 + 2) (by omega)
      have r1 := fun i => fR (100000 + 3 * s 6 0) i (by omega) (by omega) (fun ⟨_, j, hj, _⟩ => absurd hj (Nat.not_lt_zero _))
      unfold TbS at hT ⊢
      simp (disch := omega) only [va_up_self, va_up_ne, q0, q1, q2, r1]
      exact hT
  · rw [a7] at z
    omega
  · rw [a7] at z
    omega
  · rw [a7] at z
    omega
  · rw [a18]
    simp (disch := omega) only [va_up_self, va_up_ne, I7, i0]
    rfl
  · rw [a19]
    simp (disch := omega) only [va_up_self, va_up_ne, I7, i0]
    rfl
  · rw [a12]
    simp (disch := omega) only [va_up_self, va_up_ne, I7, i0]
    rfl
  · rw [a15]
    simp (disch := omega) only [va_up_self, va_up_ne, I7, i0]
    rfl
  · rw [a17]
    simp (disch := omega) only [va_up_self, va_up_ne, I7, i0]
    rfl
  · rw [a16]
    simp (disch := omega) only [va_up_self, va_up_ne, I7, i0]
    rfl
  · rw [a20]
    simp (disch := omega) only [va_up_self, va_up_ne, I7, i0]
    rfl
  · rw [a12] at hgg
    obtain rfl : g = 0 := by omega
    rw [ad_13]
    simp (disch := omega) only [va_up_self, va_up_ne]
    rfl
  · rw [a7] at z
    omega
  · rw [a7] at z
    omega
  · rw [a7] at z
    omega
def F_X0_adds : SPF := fun As C I J R K => ∃ (x0 : Nat) (x1 : Nat), As = [aR (some x0), aR (some x1)] ∧ PX0_adds_0 K x0 x1 C I J R
theorem S_X0_adds (l : Launch) : SpX0_adds l F_X0_adds := wX0_adds (fun _ _ _ _ _ _ h => h)
def F_X0_wantMany : SPF := fun As C I J R K => ∃ (x0 : Nat) (x1 : Int32), As = [aR (some x0), aI x1] ∧ PX0_wantMany_0 F_X0_want K x0 x1 C I J R
theorem S_X0_wantMany (l : Launch) : SpX0_wantMany l F_X0_wantMany := wX0_wantMany (S_X0_want l) (fun _ _ _ _ _ _ h => h)
theorem Mid.adds {s : St} {v : Tv} {a b : Int64} {C C1 C' : MC} {I I1 I' : MI} {J J1 J' : MJ} {R R1 R' : MR} {K : AK} {Kc : KC} {kd m x y : Nat} {p w : Nat → Nat} (h : Mid s v a b C I J R C1 I1 J1 R1) (hs : I1 500 5 = 0) (hn : s 6 0 < 20) (hN : NewK s kd m x y p w)
    (hC : ∀ x, ¬ Nw (s 6 0) x → C' x = C1 x ∧ I' x = I1 x ∧ J' x = J1 x) (hR : ∀ x i, ¬ Nw (s 6 0) x → ¬ (i = 3 ∧ ∃ j, j < m ∧ x = th (p j)) → R' x i = R1 x i) (hp : ∀ j, j < m → R' (th (p j)) 3 = some (th (s 6 0)))
    (hL : ∀ q, LV (adS s kd m x y p w) q → Nw (s 6 0) q → (C' q).1 ≠ 0 ∧ ∀ i r, R' q i = some r → LV (adS s kd m x y p w) r ∧ 1000 ≤ r)
    (hk : CSk (adS s kd m x y p w) C' R' (s 6 0) ∧ CIk (adS s kd m x y p w) I' (s 6 0) ∧ LTk (adS s kd m x y p w) J' (s 6 0)) (hc : Kc (aI (iN (s 6 0))) (adS s kd m x y p w) v 0 a b) (hK : OpK Kc C I J R K) :
    (C' 500).1 = 1 ∧ F_X0_adds [aR (some 500), aR (some (th (s 6 0)))] C' I' J' R' (fun o C2 I3 J4 R5 => ∃ r6 : Int32, o = .inl (some (aI r6)) ∧ K (.inl (some (aI r6))) C2 I3 J4 R5) := by
  have g0 := th_ge (s 6 0)
  have low : ∀ x, x < 1000 → ¬ Nw (s 6 0) x := fun x hx z => by
    unfold Nw th at z
    omega
  have lowR : ∀ x i, x < 1000 → R' x i = R1 x i := fun x i hx => hR x i (low x hx) (fun ⟨_, j, hj, z⟩ => by
    have := th_ge (p j)
    omega)
  have e500 := hC 500 (low 500 (by omega))
  have c0 : (C' 500).1 = 1 := by rw [e500.1]; exact h.c500
  have c503 : C' 503 = (26, 20) := by rw [(hC 503 (low _ (by omega))).1]; exact h.ben.1.2.2.2.1
  have r503 : R' 500 2 = some 503 := by rw [lowR _ _ (by omega)]; exact h.ben.2.1.2.2.1
  have i3 : I' 500 3 = iN (s 6 0) := by rw [e500.2.1]; exact h.ben.2.2.1
  have kn := hk.1.1.1
  refine ⟨c0, 500, th (s 6 0), rfl, c0, 503, r503, by rw [c503]; exact ⟨show 25 ≤ 26 by decide, show 26 < 29 by decide⟩, ?_, by rw [i3, c503]; exact iN_in (by omega) (by show s 6 0 < 20; exact hn), ?_⟩
  · rw [c503, kn]
    refine Or.inr (Or.inl ⟨rfl, ?_⟩)
    have := hN.1
    rw [ad_new.2.2.1]
    exact ⟨Nat.le_add_right _ _, by show 5 + kd ≤ 10; omega⟩
  · rintro R6 rfl
    intro I7 e7
    obtain rfl : I7 = setI I' 500 3 (I' 500 3 + 1) := e7
    rw [setI_at, i3, iN_nat (by omega), show iN (s 6 0) + 1 = iN (s 6 0 + 1) from iN_add (s 6 0) 1, iN_dec (Nat.succ_ne_zero _)]
    refine ⟨_, rfl, ?_⟩
    show K (.inl (some (aI (iN (s 6 0))))) _ _ _ _
    have nb : ∀ i, ¬ (503 = 503 ∧ i = s 6 0) → va_up (R' 503) (s 6 0) (some (th (s 6 0))) i = R' 503 i := fun i hi => va_up_ne _ _ (fun z => hi ⟨rfl, z⟩)
    have rel : RelB (adS s kd m x y p w) v a b C' (setI I' 500 3 (iN (s 6 0 + 1))) J' (va_up R' 503 (va_up (R' 503) (s 6 0) (some (th (s 6 0))))) := by
      refine h.1.add hn hN (fun x hx => (hC x hx).1) (fun x hx h5 _ => by rw [setI_far _ _ h5]; exact (hC x hx).2.1) (setI_at _ _ _ _) (fun x hx => (hC x hx).2.2) ⟨fun x i h1 h2 h3 => ?_, ?_, fun j hj => ?_⟩ (fun q hq hw => ⟨(hL q hq hw).1, fun i r hr => ?_⟩) ⟨?_, ?_, hk.2.2⟩
      · by_cases e : x = 503
        · rw [e, va_up_self, va_up_ne _ _ (fun z => h2 ⟨e, z⟩)]
          exact lowR 503 i (by omega)
        · rw [va_up_ne _ _ e]
          exact hR x i h1 h3
      · rw [va_up_self, va_up_self]
      · rw [va_up_ne _ _ (by have := th_ge (p j); omega)]
        exact hp j hj
      · rw [va_up_ne _ _ (fun z => by rw [z] at hw; exact low 503 (by omega) hw)] at hr
        exact (hL q hq hw).2 i r hr
      · exact hk.1.far (fun q hq => ⟨rfl, va_up_ne _ _ (by omega)⟩)
      · exact hk.2.1.far (setI_far _ _ (by omega)) (setI_far _ _ (by omega))
    refine hK _ _ _ _ _ _ _ _ _ _ hc ⟨rel, ?_⟩ (h.2.trans (fun q hq => ⟨(hC q (low q (by omega))).1, ?_, (hC q (low q (by omega))).2.2, ?_⟩))
    · rw [setI_ne _ _ (Or.inr (by decide)), e500.2.1]
      exact hs
    · rw [setI_far _ _ (by omega)]
      exact (hC q (low q (by omega))).2.1
    · rw [va_up_ne _ _ (by omega)]
      exact funext fun i => lowR q i (by omega)
