/-! CONTRACTS 10: the reference makes fans -/
set_option maxRecDepth 100000
set_option linter.unusedVariables false
theorem jN_negadd {a b : Nat} (h : b ≤ a) : jN a + -(jN b) = jN (a - b) := by rw [← Int64.sub_eq_add_neg, jN_sub h]
def CnS (s : St) (T : Nat → Tb) (t tk : Nat) (C : MC) (I : MI) (J : MJ) (R : MR) : Prop := MS C R ∧ MI1 s I ∧ t < s 6 0 ∧ t < 20 ∧ s 1 t ≤ 4 ∧ tk < 121 ∧ PT s T J t
theorem CnS.up {s : St} {T : Nat → Tb} {t tk q : Nat} {C : MC} {I : MI} {J : MJ} {R : MR} {f : Nat → Int64} (h : CnS s T t tk C I J R) (h1 : q ≠ 122) (h2 : q ≠ 123) (h3 : q ≠ 124) : CnS s T t tk C I (va_up J q f) R := ⟨h.1, h.2.1, h.2.2.1, h.2.2.2.1, h.2.2.2.2.1, h.2.2.2.2.2.1, h.2.2.2.2.2.2.up h1 h2 h3⟩
theorem CnS.fr {s : St} {T : Nat → Tb} {t tk : Nat} {C : MC} {I : MI} {J J' : MJ} {R : MR} {P : List Nat} (h : CnS s T t tk C I J R) (hF : Fr P J J') (h1 : 122 ∉ P) (h2 : 123 ∉ P) (h3 : 124 ∉ P) : CnS s T t tk C I J' R := ⟨h.1, h.2.1, h.2.2.1, h.2.2.2.1, h.2.2.2.2.1, h.2.2.2.2.2.1, h.2.2.2.2.2.2.fr hF h1 h2 h3⟩
/-- ended or not -/
def fnn (b : Nat) (T : Nat → Tb) (p : Nat → Nat) (t : Nat) : Nat → Nat := if b = 0 then fno T p t else fill T p t
def CnK (s : St) (T : Nat → Tb) (t tk b : Nat) (J0 : MJ) (K : AK) (C : MC) (I : MI) (R : MR) : Prop := ∀ J' : MJ, Fr [131] J0 J' → (∀ c, c < 5 → J' 131 c = jN (fnC (fyes T (prt s t) tk) (fnn b T (prt s t) tk) (s 1 t) c)) → K (.inl none) C I J' R
def F_X2_count : SPF := fun As C I J R K => ∃ (s : St) (T : Nat → Tb) (t tk b : Nat), As = [aR (some 1), aI (iN t), aI (iN tk), aI (iN b)] ∧ b ≤ 1 ∧ CnS s T t tk C I J R ∧ CnK s T t tk b J K C I R
def V_X2_count_3 (n : Nat) (K : AK) (x0 : Nat) (x1 : Int32) (x2 : Int32) (x3 : Int32) (x4 : Int32) (C : MC) (I : MI) (J : MJ) (R : MR) : Prop := ∃ (J0 : MJ) (s : St) (T : Nat → Tb) (t tk b k : Nat), x0 = 1 ∧ x1 = iN t ∧ x2 = iN tk ∧ x3 = iN b ∧ x4 = iN k ∧ b ≤ 1 ∧ k ≤ 5 ∧ n = 5000 + 5 - k ∧ CnS s T t tk C I J R ∧ Fr [131] J0 J ∧ (∀ c, c < k → J 131 c = jN (if c = 0 then 1 else 0)) ∧ CnK s T t tk b J0 K C I R
def V_X2_count_35 (n : Nat) (K : AK) (x0 : Nat) (x1 : Int32) (x2 : Int32) (x3 : Int32) (x4 : Int32) (C : MC) (I : MI) (J : MJ) (R : MR) : Prop := ∃ (J0 : MJ) (s : St) (T : Nat → Tb) (t tk b i : Nat), x0 = 1 ∧ x1 = iN t ∧ x2 = iN tk ∧ x3 = iN b ∧ x4 = iN i ∧ b ≤ 1 ∧ i ≤ s 1 t ∧ n = (4 - i) * 1000 + 900 ∧ CnS s T t tk C I J R ∧ Fr [131] J0 J ∧ (∀ c, c < 5 → J 131 c = jN (fnC (fyes T (prt s t) tk) (fnn b T (prt s t) tk) i c)) ∧ CnK s T t tk b J0 K C I R
def V_X2_count_92 (n : Nat) (K : AK) (x0 : Nat) (x1 : Int32) (x2 : Int32) (x3 : Int32) (x4 : Int32) (x5 : Int32) (x6 : Int64) (x8 : Int64) (x10 : Int32) (C : MC) (I : MI) (J : MJ) (R : MR) : Prop := ∃ (J0 : MJ) (s : St) (T : Nat → Tb) (t tk b i m : Nat), x0 = 1 ∧ x1 = iN t ∧ x2 = iN tk ∧ x3 = iN b ∧ x4 = iN i ∧ x5 = iN (prt s t i) ∧ x6 = jN (sm (T (prt s t i)).1 m) ∧ x8 = jN (if b = 0 then (T (prt s t i)).2.2 - sm (T (prt s t i)).1 m else sm (T (prt s t i)).2.1 m) ∧ x10 = iN m ∧ b ≤ 1 ∧ i < s 1 t ∧ m ≤ tk + 1 ∧ n = (3 - i) * 1000 + 1500 - m ∧ CnS s T t tk C I J R ∧ Fr [131] J0 J ∧ (∀ c, c < 5 → J 131 c = jN (fnC (fyes T (prt s t) tk) (fnn b T (prt s t) tk) i c)) ∧ CnK s T t tk b J0 K C I R
def V_X2_count_161 (n : Nat) (K : AK) (x0 : Nat) (x1 : Int32) (x2 : Int32) (x3 : Int32) (x4 : Int32) (x6 : Int64) (x8 : Int64) (x10 : Int32) (C : MC) (I : MI) (J : MJ) (R : MR) : Prop := ∃ (J0 : MJ) (s : St) (T : Nat → Tb) (t tk b i e : Nat), x0 = 1 ∧ x1 = iN t ∧ x2 = iN tk ∧ x3 = iN b ∧ x4 = iN i ∧ x6 = jN (fyes T (prt s t) tk i) ∧ x8 = jN (fnn b T (prt s t) tk i) ∧ x10 = iN e + (-1) ∧ b ≤ 1 ∧ i < s 1 t ∧ e ≤ 5 ∧ n = (3 - i) * 1000 + 1000 + e ∧ CnS s T t tk C I J R ∧ Fr [131] J0 J ∧ (∀ c, c < 5 → J 131 c = jN (if e ≤ c then fnC (fyes T (prt s t) tk) (fnn b T (prt s t) tk) (i + 1) c else fnC (fyes T (prt s t) tk) (fnn b T (prt s t) tk) i c)) ∧ CnK s T t tk b J0 K C I R
theorem S_X2_count (l : Launch) : SpX2_count l F_X2_count := by
  refine wX2_count (S_X2_at l) V_X2_count_3 V_X2_count_35 V_X2_count_92 V_X2_count_161 ?_ ?_ ?_ ?_ ?_
  · rintro As C I J R K ⟨s, T, t, tk, b, rfl, hb, hS, hK⟩
    exact ⟨1, iN t, iN tk, iN b, rfl, _, J, s, T, t, tk, b, 0, rfl, rfl, rfl, rfl, rfl, hb, by omega, rfl, hS, Fr.refl, fun c h0 => absurd h0 (Nat.not_lt_zero c), hK⟩
  · rintro n K x0 x1 x2 x3 x4 C I J R ⟨J0, s, T, t, tk, b, k, rfl, rfl, rfl, rfl, rfl, hb, hk, rfl, hS, hF, hv, hK⟩
    have hM := hS.1
    unfold PX2_count_3 PX2_count_25
    simp (config := { contextual := true }) (disch := omega) only [MS.o hM, MS.r31 hM, MS.c31 hM, le_l_5, lt_l_5, lt_r_5, le_r_5, eq_r_5, mul_l_5, add_r_5, le_l_1, lt_l_1, lt_r_1, le_r_1, eq_r_1, mul_l_1, add_r_1, le_l_0, lt_l_0, lt_r_0, le_r_0, eq_r_0, mul_l_0, add_r_0, Option.some.injEq, Sum.inl.injEq, Sum.inr.injEq, exists_eq_left', forall_eq, true_and, and_true, false_implies, true_implies, not_false_eq_true, not_true_eq_false, vpT, vp0, tn0, iN_nat, nI_iN, iN_add, iN_lt, iN_le, aI_inj, aJ_inj, aR_inj]
    have go : ∀ v : Nat, (v = if k = 0 then 1 else 0) → k < 5 → ∃ m, m < 5000 + 5 - k ∧ V_X2_count_3 m K 1 (iN t) (iN tk) (iN b) (iN (k + 1)) C I (va_up J 131 (va_up (J 131) k (jN v))) R := fun v hv2 h5 => by
      refine ⟨5000 + 5 - (k + 1), by omega, J0, s, T, t, tk, b, k + 1, rfl, rfl, rfl, rfl, rfl, hb, by omega, rfl, hS.up (by decide) (by decide) (by decide), hF.up (by decide), fun c hc => ?_, hK⟩
      rw [va_up_self, up_val]
      by_cases e : c = k
      · rw [if_pos e, hv2, e]
      · rw [if_neg e]
        exact hv c (by omega)
    refine ⟨fun c => ?_, fun c => ⟨fun c2 => ?_, fun c2 => ?_⟩⟩
    · obtain rfl : k = 5 := by omega
      exact ⟨(4 - 0) * 1000 + 900, by omega, J0, s, T, t, tk, b, 0, rfl, rfl, rfl, rfl, rfl, hb, by omega, rfl, hS, hF, fun c hc => hv c hc, hK⟩
    · exact go 0 (by rw [if_neg c2]) (by omega)
    · subst c2
      exact go 1 rfl (by omega)
  · rintro n K x0 x1 x2 x3 x4 C I J R ⟨J0, s, T, t, tk, b, i, rfl, rfl, rfl, rfl, rfl, hb, hi, rfl, hS, hF, hv, hK⟩
    have hS0 := hS
    obtain ⟨hM, hI, ht, ht2, h14, htk, hP⟩ := hS0
    have fin : s 1 t ≤ i → K (.inl none) C I J R := fun w => by
      obtain rfl : i = s 1 t := by omega
      exact hK J hF hv
    unfold PX2_count_35 PX2_count_87
    by_cases hp : i < s 1 t
    · have e8 := hI.of ht (i := i) (by omega) hp
      have hpi := hP i hp
      have e9 := iN_m1 (a := prt s t i) (by omega)
      simp (config := { contextual := true }) (disch := omega) only [MS.o hM, MS.r8 hM, MS.c8 hM, MS.r24 hM, MS.c24 hM, le_l_4, lt_l_4, lt_r_4, le_r_4, eq_r_4, mul_l_4, add_r_4, le_l_0, lt_l_0, lt_r_0, le_r_0, eq_r_0, mul_l_0, add_r_0, Option.some.injEq, Sum.inl.injEq, Sum.inr.injEq, exists_eq_left', forall_eq, true_and, and_true, false_implies, true_implies, not_false_eq_true, not_true_eq_false, vpT, vp0, tn0, iN_nat, nI_iN, iN_add, iN_lt, iN_le, aI_inj, aJ_inj, aR_inj, e8, e9, hpi.1.2]
      refine ⟨fun c => fin (by omega), fun c => ⟨fun w => ?_, fun w => ?_⟩⟩
      · subst w
        exact ⟨(3 - i) * 1000 + 1500 - 0, by omega, J0, s, T, t, tk, 0, i, 0, rfl, rfl, rfl, rfl, rfl, rfl, rfl, rfl, rfl, hb, hp, by omega, rfl, hS, hF, hv, hK⟩
      · obtain rfl : b = 1 := by omega
        exact ⟨(3 - i) * 1000 + 1500 - 0, by omega, J0, s, T, t, tk, 1, i, 0, rfl, rfl, rfl, rfl, rfl, rfl, rfl, rfl, rfl, hb, hp, by omega, rfl, hS, hF, hv, hK⟩
    · by_cases h4 : i < 4
      · have e8 := hI.none ht h4 hp
        simp (config := { contextual := true }) (disch := omega) only [MS.o hM, MS.r8 hM, MS.c8 hM, MS.r24 hM, MS.c24 hM, le_l_4, lt_l_4, lt_r_4, le_r_4, eq_r_4, mul_l_4, add_r_4, le_l_0, lt_l_0, lt_r_0, le_r_0, eq_r_0, mul_l_0, add_r_0, Option.some.injEq, Sum.inl.injEq, Sum.inr.injEq, exists_eq_left', forall_eq, true_and, and_true, false_implies, true_implies, not_false_eq_true, not_true_eq_false, vpT, vp0, tn0, iN_nat, nI_iN, iN_add, iN_lt, iN_le, aI_inj, aJ_inj, aR_inj, e8]
        exact ⟨fun c => fin (by omega), fun c => fin (by omega)⟩
      · refine ⟨fun c => fin (by omega), fun c => absurd ?_ c⟩
        exact (iN_le (a := 4) (by decide) (by omega)).mpr (by omega)
  · rintro n K x0 x1 x2 x3 x4 x5 x6 x8 x10 C I J R ⟨J0, s, T, t, tk, b, i, m, rfl, rfl, rfl, rfl, rfl, rfl, rfl, rfl, rfl, hb, hi, hm, rfl, hS, hF, hv, hK⟩
    have hS0 := hS
    obtain ⟨hM, hI, ht, ht2, h14, htk, hP⟩ := hS0
    have hpi := hP i hi
    unfold PX2_count_92 PX2_count_149
    simp (config := { contextual := true }) (disch := omega) only [at_eq, MS.o hM, MS.r22 hM, MS.c22 hM, MS.r23 hM, MS.c23 hM, le_l_1, lt_l_1, lt_r_1, le_r_1, eq_r_1, mul_l_1, add_r_1, le_l_0, lt_l_0, lt_r_0, le_r_0, eq_r_0, mul_l_0, add_r_0, Option.some.injEq, Sum.inl.injEq, Sum.inr.injEq, exists_eq_left', forall_eq, true_and, and_true, false_implies, true_implies, not_false_eq_true, not_true_eq_false, vpT, vp0, tn0, iN_nat, nI_iN, iN_add, iN_lt, iN_le, aI_inj, aJ_inj, aR_inj]
    refine ⟨fun c => ?_, fun c => ?_⟩
    · obtain rfl : m = tk + 1 := by omega
      refine ⟨(3 - i) * 1000 + 1000 + 5, by omega, J0, s, T, t, tk, b, i, 5, rfl, rfl, rfl, rfl, rfl, rfl, ?_, rfl, hb, hi, by omega, rfl, hS, hF, fun c hc => ?_, hK⟩
      · unfold fnn
        by_cases e : b = 0
        · rw [if_pos e, if_pos e]
          rfl
        · rw [if_neg e, if_neg e]
          rfl
      · rw [if_neg (by omega)]
        exact hv c hc
    · have hj := hpi.1.1 m (by omega)
      have hs1 := sm_mono (f := (T (prt s t i)).1) (n := m + 1) (m := 121) (by omega)
      have hs2 := hpi.2.1.sum
      have hs3 := sm_succ (T (prt s t i)).1 m
      rw [hj.1, hj.2, jN_add]
      refine ⟨fun w => ?_, fun w => ?_⟩
      · subst w
        rw [if_pos trivial, jN_negadd (by omega)]
        exact ⟨(3 - i) * 1000 + 1500 - (m + 1), by omega, J0, s, T, t, tk, 0, i, m + 1, rfl, rfl, rfl, rfl, rfl, rfl, rfl, by rw [if_pos rfl, hs3, Nat.sub_sub], rfl, hb, hi, by omega, rfl, hS, hF, hv, hK⟩
      · obtain rfl : b = 1 := by omega
        rw [if_neg (fun w : False => w), jN_add]
        exact ⟨(3 - i) * 1000 + 1500 - (m + 1), by omega, J0, s, T, t, tk, 1, i, m + 1, rfl, rfl, rfl, rfl, rfl, rfl, rfl, rfl, rfl, hb, hi, by omega, rfl, hS, hF, hv, hK⟩
  · rintro n K x0 x1 x2 x3 x4 x6 x8 x10 C I J R ⟨J0, s, T, t, tk, b, i, e, rfl, rfl, rfl, rfl, rfl, rfl, rfl, rfl, hb, hi, he, rfl, hS, hF, hv, hK⟩
    have hS0 := hS
    obtain ⟨hM, hI, ht, ht2, h14, htk, hP⟩ := hS0
    rcases e with _ | e
    · unfold PX2_count_161
      refine ⟨fun c => ?_, fun c => absurd (show (iN 0 + (-1) : Int32) < 0 by decide) c⟩
      refine ⟨(4 - (i + 1)) * 1000 + 900, by omega, J0, s, T, t, tk, b, i + 1, rfl, rfl, rfl, rfl, iN_add i 1, hb, hi, rfl, hS, hF, fun c hc => ?_, hK⟩
      have h1 := hv c hc
      rw [if_pos (Nat.zero_le c)] at h1
      exact h1
    · rw [iN_pred]
      have hsub : 1 ≤ e → iN e - (1 : Int32) = iN (e - 1) := fun h => iN_sub (a := e) (b := 1) h
      have step : ∀ v : Nat, v = fnC (fyes T (prt s t) tk) (fnn b T (prt s t) tk) (i + 1) e → ∃ m, m < (3 - i) * 1000 + 1000 + (e + 1) ∧ V_X2_count_161 m K 1 (iN t) (iN tk) (iN b) (iN i) (jN (fyes T (prt s t) tk i)) (jN (fnn b T (prt s t) tk i)) (iN e + (-1)) C I (va_up J 131 (va_up (J 131) e (jN v))) R := fun v hv2 => by
        refine ⟨(3 - i) * 1000 + 1000 + e, by omega, J0, s, T, t, tk, b, i, e, rfl, rfl, rfl, rfl, rfl, rfl, rfl, rfl, hb, hi, by omega, rfl, hS.up (by decide) (by decide) (by decide), hF.up (by decide), fun c hc => ?_, hK⟩
        rw [va_up_self, up_val]
        by_cases e1 : c = e
        · rw [if_pos e1, hv2, if_pos (by omega), e1]
        · rw [if_neg e1, hv c hc]
          by_cases e2 : e + 1 ≤ c
          · rw [if_pos e2, if_pos (by omega)]
          · rw [if_neg e2, if_neg (by omega)]
      have h1 := hv e (by omega)
      rw [if_neg (by omega)] at h1
      unfold PX2_count_161 PX2_count_203
      simp (config := { contextual := true }) (disch := omega) only [MS.o hM, MS.r31 hM, MS.c31 hM, le_l_0, lt_l_0, lt_r_0, le_r_0, eq_r_0, mul_l_0, add_r_0, Option.some.injEq, Sum.inl.injEq, Sum.inr.injEq, exists_eq_left', forall_eq, true_and, and_true, false_implies, true_implies, not_false_eq_true, not_true_eq_false, vpT, vp0, tn0, iN_nat, nI_iN, iN_add, iN_lt, iN_le, aI_inj, aJ_inj, aR_inj, h1, jN_mul]
      refine ⟨fun c => absurd c (Nat.not_lt_zero e), fun _ => ⟨fun c => ?_, fun c => ?_⟩⟩
      · obtain rfl : e = 0 := by omega
        rw [show (0 : Int64) = jN 0 from rfl, jN_add]
        exact step _ (by rw [fnC_succ, if_pos rfl])
      · have h2 := hv (e - 1) (by omega)
        rw [if_neg (by omega)] at h2
        rw [hsub (by omega)]
        simp (config := { contextual := true }) (disch := omega) only [Option.some.injEq, Sum.inl.injEq, Sum.inr.injEq, exists_eq_left', forall_eq, true_and, and_true, false_implies, true_implies, not_false_eq_true, not_true_eq_false, vpT, vp0, tn0, iN_nat, nI_iN, iN_add, iN_lt, iN_le, aI_inj, aJ_inj, aR_inj, h2, jN_mul, jN_add]
        exact step _ (by rw [fnC_succ, if_neg (by omega)])
def FnK (s : St) (T : Nat → Tb) (t : Nat) (J0 : MJ) (K : AK) (C : MC) (I : MI) (R : MR) : Prop := ∀ J' : MJ, Fr [126, 127, 131] J0 J' → MP J' (fanT (s 1 t) (s 9 t) T (prt s t)) → K (.inl none) C I J' R
def F_X2_makeFan : SPF := fun As C I J R K => ∃ (s : St) (T : Nat → Tb) (t : Nat), As = [aR (some 1), aI (iN t)] ∧ s 9 t ≤ 5 ∧ CnS s T t 0 C I J R ∧ (∀ i, i < 600 → J 126 i = 0 ∧ J 127 i = 0) ∧ FnK s T t J K C I R
/-- the fan's rows are made below k1, k2 -/
def FnM (s : St) (T : Nat → Tb) (t k1 k2 : Nat) (J : MJ) : Prop := ∀ u, u < 600 → J 126 u = jN (if u < k1 then dif (fnO T (prt s t) (s 1 t) (s 9 t)) u else 0) ∧ J 127 u = jN (if u < k2 then dif (fnF T (prt s t) (s 1 t) (s 9 t)) u else 0)
def prv (g : Nat → Nat) (k : Nat) : Nat := if k = 0 then 0 else g (k - 1)
def V_X2_makeFan_8 (n : Nat) (K : AK) (x0 : Nat) (x1 : Int32) (x2 : Int64) (x4 : Int64) (x6 : Int32) (C : MC) (I : MI) (J : MJ) (R : MR) : Prop := ∃ (J0 : MJ) (s : St) (T : Nat → Tb) (t k : Nat), x0 = 1 ∧ x1 = iN t ∧ x2 = jN (prv (fnO T (prt s t) (s 1 t) (s 9 t)) k) ∧ x4 = jN (prv (fnF T (prt s t) (s 1 t) (s 9 t)) k) ∧ x6 = iN k ∧ s 9 t ≤ 5 ∧ k ≤ 121 ∧ n = (121 - k) * 100 ∧ CnS s T t 0 C I J R ∧ Fr [126, 127, 131] J0 J ∧ FnM s T t k k J ∧ FnK s T t J0 K C I R
def V_X2_makeFan_34 (n : Nat) (K : AK) (x0 : Nat) (x1 : Int32) (x2 : Int64) (x4 : Int64) (x6 : Int32) (x7 : Int64) (x9 : Int32) (C : MC) (I : MI) (J : MJ) (R : MR) : Prop := ∃ (J0 : MJ) (s : St) (T : Nat → Tb) (t k i : Nat), x0 = 1 ∧ x1 = iN t ∧ x2 = jN (prv (fnO T (prt s t) (s 1 t) (s 9 t)) k) ∧ x4 = jN (prv (fnF T (prt s t) (s 1 t) (s 9 t)) k) ∧ x6 = iN k ∧ x7 = jN (fnG (fyes T (prt s t) k) (fno T (prt s t) k) (s 1 t) (s 9 t) i) ∧ x9 = iN i ∧ s 9 t ≤ i ∧ i ≤ 5 ∧ k < 121 ∧ n = (121 - k) * 100 - 1 - i ∧ CnS s T t 0 C I J R ∧ Fr [126, 127, 131] J0 J ∧ FnM s T t k k J ∧ (∀ c, c < 5 → J 131 c = jN (fnC (fyes T (prt s t) k) (fno T (prt s t) k) (s 1 t) c)) ∧ FnK s T t J0 K C I R
def V_X2_makeFan_86 (n : Nat) (K : AK) (x0 : Nat) (x1 : Int32) (x2 : Int64) (x4 : Int64) (x6 : Int32) (x7 : Int64) (x9 : Int32) (C : MC) (I : MI) (J : MJ) (R : MR) : Prop := ∃ (J0 : MJ) (s : St) (T : Nat → Tb) (t k i : Nat), x0 = 1 ∧ x1 = iN t ∧ x2 = jN (fnO T (prt s t) (s 1 t) (s 9 t) k) ∧ x4 = jN (prv (fnF T (prt s t) (s 1 t) (s 9 t)) k) ∧ x6 = iN k ∧ x7 = jN (fnL (fyes T (prt s t) k) (fill T (prt s t) k) (s 1 t) (s 9 t) i) ∧ x9 = iN i ∧ i ≤ s 9 t ∧ s 9 t ≤ 5 ∧ k < 121 ∧ n = (121 - k) * 100 - 20 - i ∧ CnS s T t 0 C I J R ∧ Fr [126, 127, 131] J0 J ∧ FnM s T t (k + 1) k J ∧ (∀ c, c < 5 → J 131 c = jN (fnC (fyes T (prt s t) k) (fill T (prt s t) k) (s 1 t) c)) ∧ FnK s T t J0 K C I R
theorem CnS.tick {s : St} {T : Nat → Tb} {t tk tk' : Nat} {C : MC} {I : MI} {J : MJ} {R : MR} (h : CnS s T t tk C I J R) (hk : tk' < 121) : CnS s T t tk' C I J R := ⟨h.1, h.2.1, h.2.2.1, h.2.2.2.1, h.2.2.2.2.1, hk, h.2.2.2.2.2.2⟩
theorem fnG_low (y n : Nat → Nat) (m : Nat) : ∀ k, fnG y n m k k = 0 := fun k => sm_zero (fun i hi => if_neg (by omega))
theorem fnL_top (y n : Nat → Nat) {m k : Nat} (hk : k ≤ 5) : fnL y n m k k = fnL y n m k 5 := (sm_ext hk (fun i h1 _ => if_neg (by omega))).symm
theorem dif_prv (g : Nat → Nat) {k : Nat} (hk : k < 121) : dif g k = g k - prv g k := if_pos hk
theorem prv_le {g : Nat → Nat} (hg : ∀ t, t < 120 → g t ≤ g (t + 1)) {k : Nat} (hk : k < 121) : prv g k ≤ g k := by
  unfold prv
  rcases k with _ | k
  · rw [if_pos rfl]
    exact Nat.zero_le _
  · rw [if_neg (Nat.succ_ne_zero k), Nat.add_sub_cancel]
    exact hg k (by omega)
theorem S_X2_makeFan (l : Launch) : SpX2_makeFan l F_X2_makeFan := by
  refine wX2_makeFan (S_X2_count l) V_X2_makeFan_8 V_X2_makeFan_34 V_X2_makeFan_86 ?_ ?_ ?_ ?_
  · rintro As C I J R K ⟨s, T, t, rfl, h9, hS, hz, hK⟩
    refine ⟨1, iN t, rfl, _, J, s, T, t, 0, rfl, rfl, rfl, rfl, rfl, h9, by omega, rfl, hS, Fr.refl, fun u hu => ?_, hK⟩
    rw [if_neg (Nat.not_lt_zero u), if_neg (Nat.not_lt_zero u)]
    exact hz u hu
  · rintro n K x0 x1 x2 x4 x6 C I J R ⟨J0, s, T, t, k, rfl, rfl, rfl, rfl, rfl, h9, hk, rfl, hS, hF, hv, hK⟩
    have hS0 := hS
    obtain ⟨hM, hI, ht, ht2, h14, -, hP⟩ := hS0
    have e9 := (hI.2 t ht).2.2.1
    unfold PX2_makeFan_8
    simp (config := { contextual := true }) (disch := omega) only [MS.o hM, MS.r9 hM, MS.c9 hM, le_l_121, lt_l_121, lt_r_121, le_r_121, eq_r_121, mul_l_121, add_r_121, Option.some.injEq, Sum.inl.injEq, Sum.inr.injEq, exists_eq_left', forall_eq, true_and, and_true, false_implies, true_implies, not_false_eq_true, not_true_eq_false, vpT, vp0, tn0, iN_nat, nI_iN, iN_add, iN_lt, iN_le, aI_inj, aJ_inj, aR_inj, e9]
    refine ⟨fun c => ?_, fun c => ?_⟩
    · obtain rfl : k = 121 := by omega
      refine hK J hF (fun u hu => ?_)
      have h1 := hv u hu
      rw [h1.1, h1.2]
      show jN _ = jN (dif _ u) ∧ jN _ = jN (dif _ u)
      by_cases e : u < 121
      · rw [if_pos e, if_pos e]
        exact ⟨rfl, rfl⟩
      · rw [if_neg e, if_neg e]
        unfold dif
        rw [if_neg e, if_neg e]
        exact ⟨rfl, rfl⟩
    · refine ⟨s, T, t, k, 0, rfl, by omega, hS.tick (by omega), fun J' hF' hc => ?_⟩
      simp (config := { contextual := true }) (disch := omega) only [MS.o hM, MS.r9 hM, MS.c9 hM, Option.some.injEq, Sum.inl.injEq, Sum.inr.injEq, exists_eq_left', forall_eq, true_and, and_true, false_implies, true_implies, not_false_eq_true, not_true_eq_false, vpT, vp0, tn0, iN_nat, nI_iN, iN_add, iN_lt, iN_le, aI_inj, aJ_inj, aR_inj, e9]
      refine ⟨(121 - k) * 100 - 1 - s 9 t, by omega, J0, s, T, t, k, s 9 t, rfl, rfl, rfl, rfl, rfl, by rw [fnG_low]; rfl, rfl, by omega, h9, by omega, rfl, hS.fr hF' (by decide) (by decide) (by decide), hF.trans (hF'.wide (by decide)), fun u hu => ?_, hc, hK⟩
      rw [hF' 126 (by decide), hF' 127 (by decide)]
      exact hv u hu
  · rintro n K x0 x1 x2 x4 x6 x7 x9 C I J R ⟨J0, s, T, t, k, i, rfl, rfl, rfl, rfl, rfl, rfl, rfl, h9, hi, hk, rfl, hS, hF, hv, hc, hK⟩
    have hS0 := hS
    obtain ⟨hM, hI, ht, ht2, h14, -, hP⟩ := hS0
    unfold PX2_makeFan_34
    simp (config := { contextual := true }) (disch := omega) only [MS.o hM, MS.r26 hM, MS.c26 hM, MS.r31 hM, MS.c31 hM, le_l_5, lt_l_5, lt_r_5, le_r_5, eq_r_5, mul_l_5, add_r_5, le_l_1, lt_l_1, lt_r_1, le_r_1, eq_r_1, mul_l_1, add_r_1, Option.some.injEq, Sum.inl.injEq, Sum.inr.injEq, exists_eq_left', forall_eq, true_and, and_true, false_implies, true_implies, not_false_eq_true, not_true_eq_false, vpT, vp0, tn0, iN_nat, nI_iN, iN_add, iN_lt, iN_le, aI_inj, aJ_inj, aR_inj]
    refine ⟨fun c => ?_, fun c => ?_⟩
    · obtain rfl : i = 5 := by omega
      have hm := prv_le (g := fnO T (prt s t) (s 1 t) (s 9 t)) (fun u hu => fnO_mono h14 (fun j hj => (hP j hj).2.1) hu) hk
      rw [show fnG (fyes T (prt s t) k) (fno T (prt s t) k) (s 1 t) (s 9 t) 5 = fnO T (prt s t) (s 1 t) (s 9 t) k from rfl, jN_sub hm]
      refine ⟨s, T, t, k, 1, rfl, by omega, (hS.tick hk).up (by decide) (by decide) (by decide), fun J' hF' hc' => ?_⟩
      refine ⟨rfl, (121 - k) * 100 - 20 - 0, by omega, J0, s, T, t, k, 0, rfl, rfl, rfl, rfl, rfl, rfl, rfl, by omega, h9, hk, rfl, (hS.up (by decide) (by decide) (by decide)).fr hF' (by decide) (by decide) (by decide), (hF.up (by decide)).trans (hF'.wide (by decide)), fun u hu => ?_, hc', hK⟩
      rw [hF' 126 (by decide), hF' 127 (by decide), va_up_self, va_up_ne _ _ (show (127 : Nat) ≠ 126 by decide), up_val]
      have h1 := hv u hu
      refine ⟨?_, h1.2⟩
      by_cases e : u = k
      · rw [if_pos e, if_pos (by omega), e, dif_prv _ hk]
      · rw [if_neg e, h1.1]
        by_cases e2 : u < k
        · rw [if_pos e2, if_pos (by omega)]
        · rw [if_neg e2, if_neg (by omega)]
    · have h1 := hc i (by omega)
      rw [h1, jN_add]
      refine ⟨(121 - k) * 100 - 1 - (i + 1), by omega, J0, s, T, t, k, i + 1, rfl, rfl, rfl, rfl, rfl, ?_, rfl, by omega, by omega, hk, rfl, hS, hF, hv, hc, hK⟩
      show jN _ = jN (fnG _ _ _ _ i + (if s 9 t ≤ i then _ else 0))
      rw [if_pos h9]
  · rintro n K x0 x1 x2 x4 x6 x7 x9 C I J R ⟨J0, s, T, t, k, i, rfl, rfl, rfl, rfl, rfl, rfl, rfl, hi, h9, hk, rfl, hS, hF, hv, hc, hK⟩
    have hS0 := hS
    obtain ⟨hM, hI, ht, ht2, h14, -, hP⟩ := hS0
    have e9 := (hI.2 t ht).2.2.1
    unfold PX2_makeFan_86
    simp (config := { contextual := true }) (disch := omega) only [MS.o hM, MS.r9 hM, MS.c9 hM, MS.r27 hM, MS.c27 hM, MS.r31 hM, MS.c31 hM, le_l_1, lt_l_1, lt_r_1, le_r_1, eq_r_1, mul_l_1, add_r_1, Option.some.injEq, Sum.inl.injEq, Sum.inr.injEq, exists_eq_left', forall_eq, true_and, and_true, false_implies, true_implies, not_false_eq_true, not_true_eq_false, vpT, vp0, tn0, iN_nat, nI_iN, iN_add, iN_lt, iN_le, aI_inj, aJ_inj, aR_inj, e9]
    refine ⟨fun c => ?_, fun c => ?_⟩
    · obtain rfl : i = s 9 t := by omega
      have hm := prv_le (g := fnF T (prt s t) (s 1 t) (s 9 t)) (fun u hu => fnF_mono) hk
      rw [fnL_top _ _ h9, show fnL (fyes T (prt s t) k) (fill T (prt s t) k) (s 1 t) (s 9 t) 5 = fnF T (prt s t) (s 1 t) (s 9 t) k from rfl, jN_sub hm]
      refine ⟨(121 - (k + 1)) * 100, by omega, J0, s, T, t, k + 1, rfl, rfl, ?_, ?_, rfl, h9, by omega, rfl, hS.up (by decide) (by decide) (by decide), hF.up (by decide), fun u hu => ?_, hK⟩
      · unfold prv
        rw [if_neg (Nat.succ_ne_zero k), Nat.add_sub_cancel]
      · unfold prv
        rw [if_neg (Nat.succ_ne_zero k), Nat.add_sub_cancel]
      · have h1 := hv u hu
        rw [va_up_self, va_up_ne _ _ (show (126 : Nat) ≠ 127 by decide), up_val]
        refine ⟨h1.1, ?_⟩
        by_cases e : u = k
        · rw [if_pos e, if_pos (by omega), e, dif_prv _ hk]
        · rw [if_neg e, h1.2]
          by_cases e2 : u < k
          · rw [if_pos e2, if_pos (by omega)]
          · rw [if_neg e2, if_neg (by omega)]
    · have h1 := hc i (by omega)
      rw [h1, jN_add]
      refine ⟨(121 - k) * 100 - 20 - (i + 1), by omega, J0, s, T, t, k, i + 1, rfl, rfl, rfl, rfl, rfl, ?_, rfl, by omega, h9, hk, rfl, hS, hF, hv, hc, hK⟩
      show jN _ = jN (fnL _ _ _ _ i + (if i < s 9 t then _ else 0))
      rw [if_pos (by omega)]
