/-! CONTRACTS 11: the reference's tables: what was made becomes a table, wholes -/
set_option maxRecDepth 100000
set_option linter.unusedVariables false
theorem iN_64 {a : Nat} (h : a < 2 ^ 31) : (iN a).toInt64 = jN a := by
  refine Int64.toInt_inj.mp ?_
  rw [Int32.toInt_toInt64, iN_int h, jN_int (by omega)]
theorem gc_step (o f : Nat → Nat) (w k : Nat) : Nat.gcd (Nat.gcd (gc o f w k) (o k)) (f k) = gc o f w (k + 1) := by
  show _ = Nat.gcd (Nat.gcd (o k) (f k)) (gc o f w k)
  rw [Nat.gcd_comm (Nat.gcd (o k) (f k)), Nat.gcd_assoc]
theorem gc_ext {o f : Nat → Nat} {w n : Nat} : ∀ {m : Nat}, n ≤ m → (∀ i, n ≤ i → i < m → o i = 0 ∧ f i = 0) → gc o f w m = gc o f w n
  | 0, h, _ => by rw [show n = 0 by omega]
  | m + 1, h, hz => by
    by_cases e : n = m + 1
    · rw [e]
    · show Nat.gcd (Nat.gcd (o m) (f m)) (gc o f w m) = gc o f w n
      rw [(hz m (by omega) (by omega)).1, (hz m (by omega) (by omega)).2, Nat.gcd_zero_left, Nat.gcd_zero_left]
      exact gc_ext (by omega) (fun i h1 h2 => hz i h1 (by omega))
/-- what settle leaves -/
def StK (x : Tb) (t : Nat) (I : MI) (J : MJ) (I' : MI) (J' : MJ) : Prop := (∀ y, y ≠ 125 → I' y = I y) ∧ (∀ u, u ≠ t → I' 125 u = I 125 u) ∧ Fr [122, 123, 124] J J' ∧ (∀ u, (u < 121 * t ∨ 121 * t + 121 ≤ u) → J' 122 u = J 122 u ∧ J' 123 u = J 123 u) ∧ (∀ u, u ≠ t → J' 124 u = J 124 u) ∧ (far x → I' 125 t = 1) ∧ (¬ far x → I' 125 t = 0 ∧ JT J' (tdiv x) t)
def F_X2_settle : SPF := fun As C I J R K => ∃ (x : Tb) (t : Nat), As = [aR (some 1), aI (iN t), aJ (jN x.2.2)] ∧ t < 20 ∧ MS C R ∧ MP J x ∧ TS 480 x ∧ x.2.2 < 2 ^ 62 ∧ ∀ (I' : MI) (J' : MJ), StK x t I J I' J' → K (.inl none) C I' J' R
def V_X2_settle_9 (n : Nat) (K : AK) (x0 : Nat) (x1 : Int32) (x2 : Int64) (x4 : Int64) (x6 : Int32) (x7 : Int32) (C : MC) (I : MI) (J : MJ) (R : MR) : Prop := ∃ (x : Tb) (t k : Nat), x0 = 1 ∧ x1 = iN t ∧ x2 = jN x.2.2 ∧ x4 = jN (gc x.1 x.2.1 x.2.2 k) ∧ x7 = iN k ∧ k ≤ 600 ∧ n = 1000 - k ∧ t < 20 ∧ MS C R ∧ MP J x ∧ TS 480 x ∧ x.2.2 < 2 ^ 62 ∧ ((x6 = 0 ∧ ∀ u, u < k → 120 < u → x.1 u = 0 ∧ x.2.1 u = 0) ∨ (x6 = 1 ∧ far x)) ∧ ∀ (I' : MI) (J' : MJ), StK x t I J I' J' → K (.inl none) C I' J' R
def V_X2_settle_103 (n : Nat) (K : AK) (x0 : Nat) (x1 : Int32) (x2 : Int64) (x4 : Int64) (x6 : Int32) (x7 : Int32) (C : MC) (I : MI) (J : MJ) (R : MR) : Prop := ∃ (x : Tb) (t k g : Nat) (I0 : MI) (J0 : MJ), x0 = 1 ∧ x1 = iN t ∧ x2 = jN x.2.2 ∧ x4 = jN g ∧ x7 = iN k ∧ 0 < g ∧ g < 2 ^ 62 ∧ k ≤ 121 ∧ n = 121 - k ∧ t < 20 ∧ MS C R ∧ MP J x ∧ TS 480 x ∧ x.2.2 < 2 ^ 62 ∧ ((x6 = 0 ∧ ¬ far x ∧ g = gc x.1 x.2.1 x.2.2 121 ∧ I 125 t = 0 ∧ ∀ u, u < k → J 122 (121 * t + u) = jN (x.1 u / g) ∧ J 123 (121 * t + u) = jN (x.2.1 u / g)) ∨ (x6 = 1 ∧ far x ∧ I 125 t = 1)) ∧
  (∀ y, y ≠ 125 → I y = I0 y) ∧ (∀ u, u ≠ t → I 125 u = I0 125 u) ∧ Fr [122, 123, 124] J0 J ∧ (∀ u, (u < 121 * t ∨ 121 * t + 121 ≤ u) → J 122 u = J0 122 u ∧ J 123 u = J0 123 u) ∧ (∀ u, J 124 u = J0 124 u) ∧ ∀ (I' : MI) (J' : MJ), StK x t I0 J0 I' J' → K (.inl none) C I' J' R
theorem S_X2_settle (l : Launch) : SpX2_settle l F_X2_settle := by
  refine wX2_settle (S_X2_common l) (S_X2_at l) V_X2_settle_9 V_X2_settle_103 ?_ ?_ ?_
  · rintro As C I J R K ⟨x, t, rfl, ht, hM, hP, hT, hw, hK⟩
    exact ⟨1, iN t, jN x.2.2, rfl, _, x, t, 0, rfl, rfl, rfl, rfl, rfl, Nat.zero_le _, rfl, ht, hM, hP, hT, hw, Or.inl ⟨rfl, fun u hu => absurd hu (Nat.not_lt_zero u)⟩, hK⟩
  · rintro n K x0 x1 x2 x4 x6 x7 C I J R ⟨x, t, k, rfl, rfl, rfl, rfl, rfl, hk, rfl, ht, hM, hP, hT, hw, hf, hK⟩
    have hg0 := gc_pos x.1 x.2.1 hT.2.2 k
    have hg1 := gc_le x.1 x.2.1 hT.2.2 k
    unfold PX2_settle_9 PX2_settle_79 PX2_settle_83 PX2_settle_84
    simp (config := { contextual := true }) (disch := omega) only [MS.o hM, MS.r25 hM, MS.c25 hM, MS.r26 hM, MS.c26 hM, MS.r27 hM, MS.c27 hM, le_l_1, lt_l_1, lt_r_1, le_r_1, eq_r_1, mul_l_1, add_r_1, Option.some.injEq, Sum.inl.injEq, Sum.inr.injEq, exists_eq_left', forall_eq, true_and, and_true, false_implies, true_implies, not_false_eq_true, not_true_eq_false, vpT, vp0, tn0, iN_nat, nI_iN, iN_add, iN_lt, iN_le, aI_inj, aJ_inj, aR_inj]
    refine ⟨⟨by decide, by decide⟩, fun c => ?_, fun c => ?_⟩
    · obtain rfl : k = 600 := by omega
      refine ⟨hf.elim (fun h => Or.inl h.1) (fun h => Or.inr h.1), 121 - 0, by omega, x, t, 0, gc x.1 x.2.1 x.2.2 600, I, J, rfl, rfl, rfl, rfl, rfl, hg0, by omega, by omega, rfl, ht, hM, hP, hT, hw, ?_, fun y hy => va_up_ne _ _ hy, fun u hu => ?_, Fr.refl, fun u _ => ⟨rfl, rfl⟩, fun u => rfl, hK⟩
      · rcases hf with ⟨rfl, h⟩ | ⟨rfl, h⟩
        · refine Or.inl ⟨rfl, fun w => ?_, ?_, ?_, fun u hu => absurd hu (Nat.not_lt_zero u)⟩
          · obtain ⟨u, hu, h1⟩ := w
            by_cases e : u < 600
            · exact h1.elim (fun z => z (h u e hu).1) (fun z => z (h u e hu).2)
            · exact h1.elim (fun z => z (hT.1 u (by omega)).1) (fun z => z (hT.1 u (by omega)).2)
          · exact gc_ext (by omega) (fun i h1 h2 => h i h2 (by omega))
          · rw [va_up_self, va_up_self]
        · exact Or.inr ⟨rfl, h, by rw [va_up_self, va_up_self]⟩
      · rw [va_up_self, va_up_ne _ _ hu]
    · have h1 := hP k (by omega)
      have hle := hT.le k
      have hgg : Nat.gcd (gc x.1 x.2.1 x.2.2 k) (x.1 k) < 2 ^ 63 := Nat.lt_of_le_of_lt (Nat.gcd_le_left _ hg0) (by omega)
      have p1 : ∀ y : Nat, y < 2 ^ 63 → ((0 : Int64) < jN y ↔ 0 < y) := fun y hy => jN_pos hy
      have p2 : ∀ y : Nat, y < 2 ^ 63 → (jN y ≤ (0 : Int64) ↔ y = 0) := fun y hy => by
        rw [show (0 : Int64) = jN 0 from rfl, jN_le hy (by omega)]
        omega
      have next : ∀ z : Int32, ((z = 0 ∧ x6 = 0 ∧ (120 < k → x.1 k = 0 ∧ x.2.1 k = 0)) ∨ (z = 1 ∧ (x6 = 1 ∨ (120 < k ∧ (x.1 k ≠ 0 ∨ x.2.1 k ≠ 0))))) → ∃ m, m < 1000 - k ∧ V_X2_settle_9 m K 1 (iN t) (jN x.2.2) (jN (gc x.1 x.2.1 x.2.2 (k + 1))) z (iN (k + 1)) C I J R := fun z hz => by
        refine ⟨1000 - (k + 1), by omega, x, t, k + 1, rfl, rfl, rfl, rfl, rfl, by omega, rfl, ht, hM, hP, hT, hw, ?_, hK⟩
        rcases hz with ⟨rfl, h6, h0⟩ | ⟨rfl, h0⟩
        · refine Or.inl ⟨rfl, fun u hu hu2 => ?_⟩
          rcases hf with ⟨-, h⟩ | ⟨w, -⟩
          · by_cases e : u = k
            · rw [e] at hu2 ⊢
              exact h0 hu2
            · exact h u (by omega) hu2
          · rw [h6] at w
            exact absurd w (by decide)
        · refine Or.inr ⟨rfl, ?_⟩
          rcases h0 with h6 | h0
          · rcases hf with ⟨w, -⟩ | ⟨-, h⟩
            · rw [h6] at w
              exact absurd w (by decide)
            · exact h
          · exact ⟨k, h0.1, h0.2⟩
      rw [h1.1]
      refine ⟨_, _, rfl, by omega, by omega, ?_⟩
      refine ⟨_, rfl, ?_⟩
      simp (config := { contextual := true }) (disch := omega) only [MS.o hM, MS.r27 hM, MS.c27 hM, Option.some.injEq, Sum.inl.injEq, Sum.inr.injEq, exists_eq_left', forall_eq, true_and, and_true, false_implies, true_implies, not_false_eq_true, not_true_eq_false, vpT, vp0, tn0, iN_nat, nI_iN, iN_add, iN_lt, iN_le, aI_inj, aJ_inj, aR_inj, h1.1, h1.2]
      refine ⟨_, _, rfl, hgg, by omega, ?_⟩
      refine ⟨_, rfl, ?_⟩
      rw [gc_step]
      simp (config := { contextual := true }) (disch := omega) only [MS.o hM, MS.r26 hM, MS.c26 hM, MS.r27 hM, MS.c27 hM, le_l_121, lt_l_121, lt_r_121, le_r_121, eq_r_121, mul_l_121, add_r_121, le_l_1, lt_l_1, lt_r_1, le_r_1, eq_r_1, mul_l_1, add_r_1, Option.some.injEq, Sum.inl.injEq, Sum.inr.injEq, exists_eq_left', forall_eq, true_and, and_true, false_implies, true_implies, not_false_eq_true, not_true_eq_false, vpT, vp0, tn0, iN_nat, nI_iN, iN_add, iN_lt, iN_le, aI_inj, aJ_inj, aR_inj, h1.1, h1.2, p1 _ (show x.1 k < 2 ^ 63 by omega), p2 _ (show x.2.1 k < 2 ^ 63 by omega)]
      refine ⟨fun c2 => next 1 (Or.inr ⟨rfl, Or.inl (hf.elim (fun h => absurd h.1 c2) (fun h => h.1))⟩), fun c2 => ⟨fun c3 => next 0 (Or.inl ⟨rfl, c2, fun w => by omega⟩), fun c3 => ⟨fun c4 => next 1 (Or.inr ⟨rfl, Or.inr ⟨by omega, Or.inl (by omega)⟩⟩), fun c4 => ⟨fun c5 => next 0 (Or.inl ⟨rfl, c2, fun w => ⟨by omega, by omega⟩⟩), fun c5 => next 1 (Or.inr ⟨rfl, Or.inr ⟨by omega, Or.inr (by omega)⟩⟩)⟩⟩⟩⟩
  · rintro n K x0 x1 x2 x4 x6 x7 C I J R ⟨x, t, k, g, I0, J0, rfl, rfl, rfl, rfl, rfl, hg0, hg1, hk, rfl, ht, hM, hP, hT, hw, hf, hi1, hi2, hF, hj1, hj2, hK⟩
    have hgz : ¬ jN g = 0 := fun z => absurd ((jN_eq0 (by omega)).mp z) (by omega)
    unfold PX2_settle_103 PX2_settle_163
    have fin : (k = 121 ∨ x6 = 1) → K (.inl none) C I (va_up J 124 (va_up (J 124) t (jN x.2.2 / jN g))) R := fun w => by
      refine hK _ _ ⟨hi1, hi2, hF.up (by decide), fun u hu => ?_, fun u hu => ?_, fun h => ?_, fun h => ?_⟩
      · rw [va_up_ne _ _ (show (122 : Nat) ≠ 124 by decide), va_up_ne _ _ (show (123 : Nat) ≠ 124 by decide)]
        exact hj1 u hu
      · rw [va_up_self, va_up_ne _ _ hu]
        exact hj2 u
      · exact hf.elim (fun z => absurd h z.2.1) (fun z => z.2.2)
      · rcases hf with ⟨h6, -, hg, h125, hv⟩ | ⟨-, h1, -⟩
        · refine ⟨h125, fun u hu => ?_, ?_⟩
          · rw [va_up_ne _ _ (show (122 : Nat) ≠ 124 by decide), va_up_ne _ _ (show (123 : Nat) ≠ 124 by decide)]
            rcases w with w | w
            · have h2 := hv u (by omega)
              rw [hg] at h2
              exact h2
            · rw [h6] at w
              exact absurd w (by decide)
          · rw [va_up_self, va_up_self, jN_div (by omega) (by omega), hg]
            rfl
        · exact absurd h1 h
    simp (config := { contextual := true }) (disch := omega) only [at_eq, MS.o hM, MS.r22 hM, MS.c22 hM, MS.r23 hM, MS.c23 hM, MS.r24 hM, MS.c24 hM, MS.r26 hM, MS.c26 hM, MS.r27 hM, MS.c27 hM, le_l_121, lt_l_121, lt_r_121, le_r_121, eq_r_121, mul_l_121, add_r_121, le_l_1, lt_l_1, lt_r_1, le_r_1, eq_r_1, mul_l_1, add_r_1, Option.some.injEq, Sum.inl.injEq, Sum.inr.injEq, exists_eq_left', forall_eq, true_and, and_true, false_implies, true_implies, not_false_eq_true, not_true_eq_false, vpT, vp0, tn0, iN_nat, nI_iN, iN_add, iN_lt, iN_le, aI_inj, aJ_inj, aR_inj, va_up_self, va_up_ne]
    refine ⟨fun c => ⟨hgz, fin (Or.inl (by omega))⟩, fun c => ⟨fun c2 => ⟨hgz, fin (Or.inr (hf.elim (fun h => absurd h.1 c2) (fun h => h.1)))⟩, fun c2 => ?_⟩⟩
    have h1 := hP k (by omega)
    have hle := hT.le k
    rw [h1.1, h1.2, jN_div (by omega) (by omega), jN_div (by omega) (by omega)]
    refine ⟨hgz, hgz, 121 - (k + 1), by omega, x, t, k + 1, g, I0, J0, rfl, rfl, rfl, rfl, rfl, hg0, hg1, by omega, rfl, ht, hM, ?_, hT, hw, ?_, hi1, hi2, (hF.up (by decide)).up (by decide), fun u hu => ?_, fun u => ?_, hK⟩
    · intro u hu
      have h2 := hP u hu
      rw [va_up_ne _ _ (show (126 : Nat) ≠ 123 by decide), va_up_ne _ _ (show (127 : Nat) ≠ 123 by decide), va_up_ne _ _ (show (126 : Nat) ≠ 122 by decide), va_up_ne _ _ (show (127 : Nat) ≠ 122 by decide)]
      exact h2
    · rcases hf with ⟨h6, h2, hg, h125, hv⟩ | ⟨w, -⟩
      · refine Or.inl ⟨rfl, h2, hg, h125, fun u hu => ?_⟩
        simp (disch := omega) only [va_up_self, va_up_ne, up_val]
        by_cases e : u = k
        · rw [if_pos (by omega), if_pos (by omega), e]
          exact ⟨rfl, rfl⟩
        · rw [if_neg (by omega), if_neg (by omega)]
          exact hv u (by omega)
      · rw [w] at c2
        exact absurd c2 (by decide)
    · have h2 := hj1 u hu
      simp (disch := omega) only [va_up_self, va_up_ne]
      exact h2
    · simp (disch := omega) only [va_up_self, va_up_ne]
      exact hj2 u
