/-! rows and fans are made: what their inits bring; X7_init -/
set_option maxRecDepth 100000
set_option linter.unusedVariables false
theorem PIn.finR {s : St} {kd m a c : Nat} {p w : Nat → Nat} {C C6 C' : MC} {I I6 I' : MI} {J J6 J' : MJ} {R R6 R' : MR} {K : AK} (hkd : kd = 1 ∨ kd = 2) (hm : m ≤ 4) (hP : PRe s kd C I R 2) (hp : ∀ i, i < m → p i < s 6 0) (hA : AftR (s 6 0) m p C I J R C6 I6 J6 R6) (hK : PIn s kd m a c p w C I J R K)
    (hC : ∀ x, ¬ (th (s 6 0) + 15 ≤ x ∧ x ≤ th (s 6 0) + 17) → C' x = C6 x ∧ J' x = J6 x) (hI : ∀ x, x ≠ th (s 6 0) → ¬ (th (s 6 0) + 15 ≤ x ∧ x ≤ th (s 6 0) + 17) → I' x = I6 x)
    (hR : ∀ x i, ¬ (th (s 6 0) + 15 ≤ x ∧ x ≤ th (s 6 0) + 17) → ¬ (x = th (s 6 0) ∧ 9 ≤ i ∧ i ≤ 11) → R' x i = R6 x i)
    (h2 : kd = 2 → C' (th (s 6 0) + 15) = (27, m) ∧ C' (th (s 6 0) + 16) = (21, m) ∧ C' (th (s 6 0) + 17) = (21, m) ∧ R' (th (s 6 0)) 9 = some (th (s 6 0) + 15) ∧ R' (th (s 6 0)) 10 = some (th (s 6 0) + 16) ∧ R' (th (s 6 0)) 11 = some (th (s 6 0) + 17) ∧ ∀ i, R' (th (s 6 0) + 15) i = none ∧ R' (th (s 6 0) + 16) i = none ∧ R' (th (s 6 0) + 17) i = none)
    (h1 : kd ≠ 2 → ∀ i, 9 ≤ i → i ≤ 11 → R' (th (s 6 0)) i = none) (i45 : I' (th (s 6 0)) 4 = 0 ∧ I' (th (s 6 0)) 5 = 0) (i8 : kd = 2 → I' (th (s 6 0)) 8 = iN a) : K (.inl none) C' I' J' R' := by
  obtain ⟨hn, c0, i0, r0, z0⟩ := hP
  obtain ⟨C7, I8, J9, R10, ⟨g1, g2, g3, g4, g5, g6, g7, ⟨g8, g8', g8''⟩, g9, g10, g11⟩, b1, b2, b3, b4, b5, b6, b7, b8, b9, b10, b11⟩ := hA
  obtain ⟨a1, a5, a7, a9, a10, a11, a12, a15, a16, a17, a18, a19, a20⟩ := ad_new (s := s) (kd := kd) (m := m) (a := a) (c := c) (p := p) (w := w)
  have hg := th_ge (s 6 0)
  have np : ∀ x j, th (s 6 0) ≤ x → j < m → x ≠ th (p j) := fun x j hx hj w => by
    have := hp j hj
    unfold th at hx w
    omega
  have lin : ∀ o, (o ≤ 7 ∨ (8 ≤ o ∧ o ≤ 9 + m) ∨ o = 14 ∨ (kd = 2 ∧ 15 ≤ o ∧ o ≤ 17)) → LV (adS s kd m a c p w) (th (s 6 0) + o) := fun o ho => ad_o (by omega) (by
    unfold lvo
    rw [a7, a12, a1]
    omega)
  have blk : ∀ o, lvo (adS s kd m a c p w) (s 6 0) o → (o ≤ 7 ∨ (8 ≤ o ∧ o ≤ 9 + m) ∨ o = 14 ∨ (kd = 2 ∧ 15 ≤ o ∧ o ≤ 17)) := fun o ho => by
    unfold lvo at ho
    rw [a7, a12, a1] at ho
    omega
  sorry
