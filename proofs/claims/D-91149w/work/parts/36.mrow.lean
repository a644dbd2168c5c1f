/-! CONTRACTS 8: the reference makes rows -/
set_option maxRecDepth 100000
set_option linter.unusedVariables false
/-- what the first k of a row send to t -/
def acw (g h : Nat → Nat) (t k : Nat) : Nat := sm (fun x => if x ≤ t then g x * h (t - x) else 0) k
theorem acw_succ (g h : Nat → Nat) (t k : Nat) : acw g h t (k + 1) = acw g h t k + (if k ≤ t then g k * h (t - k) else 0) := rfl
theorem acw_all {g h : Nat → Nat} {t n : Nat} (hg : ∀ i, n ≤ i → g i = 0) : acw g h t n = cvl g h t := by
  unfold acw cvl
  rcases Nat.lt_or_ge t n with e | e
  · rw [sm_ext (n := t + 1) (m := n) (by omega) (fun i h1 _ => if_neg (by omega))]
    exact sm_congr (fun i hi => if_pos (by omega))
  · rw [sm_ext (n := n) (m := t + 1) (by omega) (fun i h1 _ => by rw [hg i h1, Nat.zero_mul])]
    exact sm_congr (fun i hi => if_pos (by omega))
/-- of one x the first u ticks -/
def acp (g h : Nat → Nat) (t k u : Nat) : Nat := if k ≤ t ∧ t - k < u then g k * h (t - k) else 0
theorem acp_zero (g h : Nat → Nat) (t k : Nat) : acp g h t k 0 = 0 := if_neg (by omega)
theorem acp_succ (g h : Nat → Nat) (t k u : Nat) : acp g h t k (u + 1) = acp g h t k u + (if t = k + u then g k * h u else 0) := by
  unfold acp
  by_cases e : t = k + u
  · rw [if_pos (by omega), if_neg (by omega), if_pos e, Nat.zero_add, show t - k = u by omega]
  · by_cases e2 : k ≤ t ∧ t - k < u
    · rw [if_pos e2, if_pos (show k ≤ t ∧ t - k < u + 1 by omega), if_neg e, Nat.add_zero]
    · rw [if_neg e2, if_neg (show ¬ (k ≤ t ∧ t - k < u + 1) by omega), if_neg e]
theorem acp_all {g h : Nat → Nat} {t k u : Nat} (hh : ∀ i, 120 < i → h i = 0) (hu : u = 121 ∨ t < k + u) : acp g h t k u = if k ≤ t then g k * h (t - k) else 0 := by
  unfold acp
  by_cases e : k ≤ t
  · rw [if_pos e]
    by_cases e2 : t - k < u
    · rw [if_pos ⟨e, e2⟩]
    · rw [if_neg (fun w => e2 w.2), hh (t - k) (by omega), Nat.mul_zero]
  · rw [if_neg e, if_neg (fun w => e w.1)]
def PT (s : St) (T : Nat → Tb) (J : MJ) (t : Nat) : Prop := ∀ i, i < s 1 t → JT J (T (prt s t i)) (prt s t i) ∧ TS 120 (T (prt s t i)) ∧ prt s t i < 20
theorem PT.up {s : St} {T : Nat → Tb} {J : MJ} {t q : Nat} {f : Nat → Int64} (h : PT s T J t) (h1 : q ≠ 122) (h2 : q ≠ 123) (h3 : q ≠ 124) : PT s T (va_up J q f) t := fun i hi => ⟨(h i hi).1.up h1 h2 h3, (h i hi).2⟩
theorem PT.fr {s : St} {T : Nat → Tb} {J J' : MJ} {t : Nat} {P : List Nat} (h : PT s T J t) (hF : Fr P J J') (h1 : 122 ∉ P) (h2 : 123 ∉ P) (h3 : 124 ∉ P) : PT s T J' t := fun i hi => ⟨(h i hi).1.fr hF h1 h2 h3, (h i hi).2⟩
/-- what stays the same in makeRow -/
def RwS (s : St) (T : Nat → Tb) (t most : Nat) (C : MC) (I : MI) (J : MJ) (R : MR) : Prop := MS C R ∧ MI1 s I ∧ t < s 6 0 ∧ t < 20 ∧ s 1 t ≤ most ∧ most ≤ 4 ∧ PT s T J t
def RwK (s : St) (T : Nat → Tb) (t : Nat) (J0 : MJ) (K : AK) (C : MC) (I : MI) (R : MR) : Prop := ∀ J' : MJ, Fr [126, 127, 128, 129] J0 J' → MP J' (rowN T (prt s t) (s 1 t)) → K (.inl none) C I J' R
def F_X2_makeRow : SPF := fun As C I J R K => ∃ (s : St) (T : Nat → Tb) (t most : Nat), As = [aR (some 1), aI (iN t), aI (iN most)] ∧ RwS s T t most C I J R ∧ (∀ i, i < 600 → J 127 i = 0) ∧ RwK s T t J K C I R
def V_X2_makeRow_17 (n : Nat) (K : AK) (x0 : Nat) (x1 : Int32) (x2 : Int32) (x3 : Int32) (C : MC) (I : MI) (J : MJ) (R : MR) : Prop := ∃ (J0 : MJ) (s : St) (T : Nat → Tb) (t most i : Nat), x0 = 1 ∧ x1 = iN t ∧ x2 = iN most ∧ x3 = iN i ∧ i ≤ s 1 t ∧ n = (4 - i) * 100000 + 1000 ∧ RwS s T t most C I J R ∧ Fr [126, 127, 128, 129] J0 J ∧ (∀ u, u < 600 → J 128 u = jN ((rowN T (prt s t) i).1 u) ∧ J 127 u = jN ((rowN T (prt s t) i).2.1 u)) ∧ RwK s T t J0 K C I R
def V_X2_makeRow_59 (n : Nat) (K : AK) (x0 : Nat) (x1 : Int32) (x2 : Int32) (x3 : Int32) (x4 : Int32) (x5 : Int32) (C : MC) (I : MI) (J : MJ) (R : MR) : Prop := ∃ (J0 : MJ) (s : St) (T : Nat → Tb) (t most i m : Nat), x0 = 1 ∧ x1 = iN t ∧ x2 = iN most ∧ x3 = iN i ∧ x4 = iN (prt s t i) ∧ x5 = iN m ∧ i < s 1 t ∧ m ≤ 600 ∧ n = (3 - i) * 100000 + 98801 - m ∧ RwS s T t most C I J R ∧ Fr [126, 127, 128, 129] J0 J ∧ (∀ u, u < 600 → J 129 u = 0 ∧ J 128 u = jN ((rowN T (prt s t) i).1 u) ∧ J 127 u = jN (if u < m then (rowN T (prt s t) i).2.1 u * (T (prt s t i)).2.2 else (rowN T (prt s t) i).2.1 u)) ∧ RwK s T t J0 K C I R
def V_X2_makeRow_95 (n : Nat) (K : AK) (x0 : Nat) (x1 : Int32) (x2 : Int32) (x3 : Int32) (x4 : Int32) (x5 : Int32) (C : MC) (I : MI) (J : MJ) (R : MR) : Prop := ∃ (J0 : MJ) (s : St) (T : Nat → Tb) (t most i k : Nat), x0 = 1 ∧ x1 = iN t ∧ x2 = iN most ∧ x3 = iN i ∧ x4 = iN (prt s t i) ∧ x5 = iN k ∧ i < s 1 t ∧ k ≤ 481 ∧ n = (3 - i) * 100000 + 2000 + (481 - k) * 200 ∧ RwS s T t most C I J R ∧ Fr [126, 127, 128, 129] J0 J ∧ (∀ u, u < 600 → J 129 u = jN (acw (rowN T (prt s t) i).1 (T (prt s t i)).1 u k) ∧ J 128 u = jN ((rowN T (prt s t) i).1 u) ∧ J 127 u = jN ((rowN T (prt s t) i).2.1 u * (T (prt s t i)).2.2 + acw (rowN T (prt s t) i).1 (T (prt s t i)).2.1 u k)) ∧ RwK s T t J0 K C I R
def V_X2_makeRow_121 (n : Nat) (K : AK) (x0 : Nat) (x1 : Int32) (x2 : Int32) (x3 : Int32) (x4 : Int32) (x5 : Int32) (x6 : Int32) (C : MC) (I : MI) (J : MJ) (R : MR) : Prop := ∃ (J0 : MJ) (s : St) (T : Nat → Tb) (t most i k v : Nat), x0 = 1 ∧ x1 = iN t ∧ x2 = iN most ∧ x3 = iN i ∧ x4 = iN (prt s t i) ∧ x5 = iN k ∧ x6 = iN v ∧ i < s 1 t ∧ k < 481 ∧ v ≤ 121 ∧ n = (3 - i) * 100000 + 2000 + (481 - k) * 200 - 1 - v ∧ RwS s T t most C I J R ∧ Fr [126, 127, 128, 129] J0 J ∧ (∀ u, u < 600 → J 129 u = jN (acw (rowN T (prt s t) i).1 (T (prt s t i)).1 u k + acp (rowN T (prt s t) i).1 (T (prt s t i)).1 u k v) ∧ J 128 u = jN ((rowN T (prt s t) i).1 u) ∧ J 127 u = jN ((rowN T (prt s t) i).2.1 u * (T (prt s t i)).2.2 + acw (rowN T (prt s t) i).1 (T (prt s t i)).2.1 u k + acp (rowN T (prt s t) i).1 (T (prt s t i)).2.1 u k v)) ∧ RwK s T t J0 K C I R
def V_X2_makeRow_220 (n : Nat) (K : AK) (x0 : Nat) (x1 : Int32) (x2 : Int32) (x3 : Int32) (x5 : Int32) (C : MC) (I : MI) (J : MJ) (R : MR) : Prop := ∃ (J0 : MJ) (s : St) (T : Nat → Tb) (t most i m : Nat), x0 = 1 ∧ x1 = iN t ∧ x2 = iN most ∧ x3 = iN i ∧ x5 = iN m ∧ i < s 1 t ∧ m ≤ 600 ∧ n = (3 - i) * 100000 + 1601 - m ∧ RwS s T t most C I J R ∧ Fr [126, 127, 128, 129] J0 J ∧ (∀ u, u < 600 → J 129 u = jN ((rowN T (prt s t) (i + 1)).1 u) ∧ (u < m → J 128 u = jN ((rowN T (prt s t) (i + 1)).1 u)) ∧ J 127 u = jN ((rowN T (prt s t) (i + 1)).2.1 u)) ∧ RwK s T t J0 K C I R
def V_X2_makeRow_258 (n : Nat) (K : AK) (x0 : Nat) (x3 : Int32) (C : MC) (I : MI) (J : MJ) (R : MR) : Prop := ∃ (J0 : MJ) (s : St) (T : Nat → Tb) (t most m : Nat), x0 = 1 ∧ x3 = iN m ∧ m ≤ 600 ∧ n = 600 - m ∧ RwS s T t most C I J R ∧ Fr [126, 127, 128, 129] J0 J ∧ (∀ u, u < 600 → J 128 u = jN ((rowN T (prt s t) (s 1 t)).1 u) ∧ (u < m → J 126 u = jN ((rowN T (prt s t) (s 1 t)).1 u)) ∧ J 127 u = jN ((rowN T (prt s t) (s 1 t)).2.1 u)) ∧ RwK s T t J0 K C I R
theorem RwS.up {s : St} {T : Nat → Tb} {t most q : Nat} {C : MC} {I : MI} {J : MJ} {R : MR} {f : Nat → Int64} (h : RwS s T t most C I J R) (h1 : q ≠ 122) (h2 : q ≠ 123) (h3 : q ≠ 124) : RwS s T t most C I (va_up J q f) R := ⟨h.1, h.2.1, h.2.2.1, h.2.2.2.1, h.2.2.2.2.1, h.2.2.2.2.2.1, h.2.2.2.2.2.2.up h1 h2 h3⟩
theorem RwS.fr {s : St} {T : Nat → Tb} {t most q : Nat} {C : MC} {I : MI} {J J' : MJ} {R : MR} (h : RwS s T t most C I J R) (hF : Fr [q] J J') (h1 : q ≠ 122) (h2 : q ≠ 123) (h3 : q ≠ 124) : RwS s T t most C I J' R := ⟨h.1, h.2.1, h.2.2.1, h.2.2.2.1, h.2.2.2.2.1, h.2.2.2.2.2.1, h.2.2.2.2.2.2.fr hF (fun w => h1 (List.mem_singleton.mp w).symm) (fun w => h2 (List.mem_singleton.mp w).symm) (fun w => h3 (List.mem_singleton.mp w).symm)⟩
theorem S_X2_makeRow (l : Launch) : SpX2_makeRow l F_X2_makeRow := by
  refine wX2_makeRow (S_X2_clear l) (S_X2_at l) V_X2_makeRow_17 V_X2_makeRow_59 V_X2_makeRow_95 V_X2_makeRow_121 V_X2_makeRow_220 V_X2_makeRow_258 ?_ ?_ ?_ ?_ ?_ ?_ ?_
  · rintro As C I J R K ⟨s, T, t, most, rfl, hS, hz, hK⟩
    have hM := hS.1
    refine ⟨1, iN t, iN most, rfl, ?_⟩
    unfold PX2_makeRow_0
    simp (config := { contextual := true }) (disch := omega) only [MS.o hM, MS.r28 hM, MS.c28 hM, Option.some.injEq, Sum.inl.injEq, Sum.inr.injEq, exists_eq_left', forall_eq, true_and, and_true, false_implies, true_implies, not_false_eq_true, not_true_eq_false, vpT, vp0, tn0, iN_nat, nI_iN, iN_add, iN_lt, iN_le, aI_inj, aJ_inj, aR_inj]
    refine ⟨128, 600, rfl, hM.c28, by decide, fun J' hF hz2 => ?_⟩
    simp (config := { contextual := true }) (disch := omega) only [MS.o hM, MS.r28 hM, MS.c28 hM, Option.some.injEq, Sum.inl.injEq, Sum.inr.injEq, exists_eq_left', forall_eq, true_and, and_true, false_implies, true_implies, not_false_eq_true, not_true_eq_false, vpT, vp0, tn0, iN_nat, nI_iN, iN_add, iN_lt, iN_le, aI_inj, aJ_inj, aR_inj]
    refine ⟨_, J, s, T, t, most, 0, rfl, rfl, rfl, rfl, Nat.zero_le _, rfl, (hS.fr hF (by decide) (by decide) (by decide)).up (by decide) (by decide) (by decide), (hF.wide (by decide)).up (by decide), fun u hu => ?_, hK⟩
    have h1 := hF 127 (by decide)
    rw [va_up_self, va_up_ne _ _ (show (127 : Nat) ≠ 128 by decide), h1, hz u hu, up_val]
    refine ⟨?_, rfl⟩
    by_cases e : u = 0
    · subst e
      rfl
    · rw [if_neg e, hz2 u hu]
      show (0 : Int64) = jN (dlt u)
      rw [show dlt u = 0 from if_neg e]
      rfl
  · rintro n K x0 x1 x2 x3 C I J R ⟨J0, s, T, t, most, i, rfl, rfl, rfl, rfl, hi, rfl, hS, hF, hv, hK⟩
    obtain ⟨hM, hI, ht, ht2, hm1, hm2, hP⟩ := hS
    unfold PX2_makeRow_17 PX2_makeRow_256
    have fin : s 1 t ≤ i → ∃ m, m < (4 - i) * 100000 + 1000 ∧ V_X2_makeRow_258 m K 1 (0 : Int32) C I J R := fun w => by
      obtain rfl : i = s 1 t := by omega
      exact ⟨600 - 0, by omega, J0, s, T, t, most, 0, rfl, rfl, by omega, rfl, ⟨hM, hI, ht, ht2, hm1, hm2, hP⟩, hF, fun u hu => ⟨(hv u hu).1, fun h0 => absurd h0 (Nat.not_lt_zero u), (hv u hu).2⟩, hK⟩
    by_cases hp : i < s 1 t
    · have e8 := hI.of ht (i := i) (by omega) hp
      have hpi := hP i hp
      have e9 := iN_m1 (a := prt s t i) (by omega)
      simp (config := { contextual := true }) (disch := omega) only [MS.o hM, MS.r8 hM, MS.c8 hM, MS.r29 hM, MS.c29 hM, le_l_4, lt_l_4, lt_r_4, le_r_4, eq_r_4, mul_l_4, add_r_4, Option.some.injEq, Sum.inl.injEq, Sum.inr.injEq, exists_eq_left', forall_eq, true_and, and_true, false_implies, true_implies, not_false_eq_true, not_true_eq_false, vpT, vp0, tn0, iN_nat, nI_iN, iN_add, iN_lt, iN_le, aI_inj, aJ_inj, aR_inj, e8, e9]
      refine ⟨fun c => fin (by omega), fun c => ⟨129, 600, rfl, hM.c29, by decide, fun J' hF' hz => ?_⟩⟩
      refine ⟨rfl, (3 - i) * 100000 + 98801 - 0, by omega, J0, s, T, t, most, i, 0, rfl, rfl, rfl, rfl, rfl, rfl, hp, by omega, rfl, ⟨hM, hI, ht, ht2, hm1, hm2, hP.fr hF' (by decide) (by decide) (by decide)⟩, hF.trans (hF'.wide (by decide)), fun u hu => ?_, hK⟩
      rw [hF' 128 (by decide), hF' 127 (by decide), if_neg (Nat.not_lt_zero u)]
      exact ⟨hz u hu, hv u hu⟩
    · by_cases h4 : i < 4
      · have e8 := hI.none ht h4 hp
        simp (config := { contextual := true }) (disch := omega) only [MS.o hM, MS.r8 hM, MS.c8 hM, MS.r29 hM, MS.c29 hM, le_l_4, lt_l_4, lt_r_4, le_r_4, eq_r_4, mul_l_4, add_r_4, Option.some.injEq, Sum.inl.injEq, Sum.inr.injEq, exists_eq_left', forall_eq, true_and, and_true, false_implies, true_implies, not_false_eq_true, not_true_eq_false, vpT, vp0, tn0, iN_nat, nI_iN, iN_add, iN_lt, iN_le, aI_inj, aJ_inj, aR_inj, e8]
        exact ⟨fun c => fin (by omega), fun c => fin (by omega)⟩
      · refine ⟨fun c => fin (by omega), fun c => absurd ?_ c⟩
        exact (iN_le (by omega) (by omega)).mpr (by omega)
  · rintro n K x0 x1 x2 x3 x4 x5 C I J R ⟨J0, s, T, t, most, i, m, rfl, rfl, rfl, rfl, rfl, rfl, hi, hm, rfl, hS, hF, hv, hK⟩
    have hM := hS.1
    have hpi := hS.2.2.2.2.2.2 i hi
    unfold PX2_makeRow_59
    simp (config := { contextual := true }) (disch := omega) only [MS.o hM, MS.r24 hM, MS.c24 hM, MS.r27 hM, MS.c27 hM, le_l_1, lt_l_1, lt_r_1, le_r_1, eq_r_1, mul_l_1, add_r_1, Option.some.injEq, Sum.inl.injEq, Sum.inr.injEq, exists_eq_left', forall_eq, true_and, and_true, false_implies, true_implies, not_false_eq_true, not_true_eq_false, vpT, vp0, tn0, iN_nat, nI_iN, iN_add, iN_lt, iN_le, aI_inj, aJ_inj, aR_inj]
    refine ⟨⟨by decide, by decide⟩, fun c => ?_, fun c => ?_⟩
    · obtain rfl : m = 600 := by omega
      refine ⟨(3 - i) * 100000 + 2000 + (481 - 0) * 200, by omega, J0, s, T, t, most, i, 0, rfl, rfl, rfl, rfl, rfl, rfl, hi, by omega, rfl, hS, hF, fun u hu => ?_, hK⟩
      have h1 := hv u hu
      rw [if_pos hu] at h1
      exact h1
    · refine ⟨(3 - i) * 100000 + 98801 - (m + 1), by omega, J0, s, T, t, most, i, m + 1, rfl, rfl, rfl, rfl, rfl, rfl, hi, by omega, rfl, hS.up (by decide) (by decide) (by decide), hF.up (by decide), fun u hu => ?_, hK⟩
      have h1 := hv u hu
      have h2 := hv m (by omega)
      rw [va_up_self, va_up_ne _ _ (show (129 : Nat) ≠ 127 by decide), va_up_ne _ _ (show (128 : Nat) ≠ 127 by decide), up_val]
      refine ⟨h1.1, h1.2.1, ?_⟩
      by_cases e : u = m
      · rw [if_pos e, if_pos (by omega), h2.2.2, if_neg (Nat.lt_irrefl m), hpi.1.2, jN_mul, e]
      · rw [if_neg e, h1.2.2]
        by_cases e2 : u < m
        · rw [if_pos e2, if_pos (by omega)]
        · rw [if_neg e2, if_neg (by omega)]
  · rintro n K x0 x1 x2 x3 x4 x5 C I J R ⟨J0, s, T, t, most, i, k, rfl, rfl, rfl, rfl, rfl, rfl, hi, hk, rfl, hS, hF, hv, hK⟩
    have hM := hS.1
    have h14 : s 1 t ≤ 4 := Nat.le_trans hS.2.2.2.2.1 hS.2.2.2.2.2.1
    have hpi := hS.2.2.2.2.2.2 i hi
    have hsup : TS (120 * i) (rowN T (prt s t) i) := ts_rowN (fun j hj => (hS.2.2.2.2.2.2 j (by omega)).2.1)
    unfold PX2_makeRow_95 PX2_makeRow_211
    simp (config := { contextual := true }) (disch := omega) only [MS.o hM, MS.r28 hM, MS.c28 hM, le_l_481, lt_l_481, lt_r_481, le_r_481, eq_r_481, mul_l_481, add_r_481, le_l_1, lt_l_1, lt_r_1, le_r_1, eq_r_1, mul_l_1, add_r_1, Option.some.injEq, Sum.inl.injEq, Sum.inr.injEq, exists_eq_left', forall_eq, true_and, and_true, false_implies, true_implies, not_false_eq_true, not_true_eq_false, vpT, vp0, tn0, iN_nat, nI_iN, iN_add, iN_lt, iN_le, aI_inj, aJ_inj, aR_inj]
    refine ⟨fun c => ?_, fun c => ⟨fun c2 => ?_, fun c2 => ?_⟩⟩
    · obtain rfl : k = 481 := by omega
      refine ⟨(3 - i) * 100000 + 1601 - 0, by omega, J0, s, T, t, most, i, 0, rfl, rfl, rfl, rfl, rfl, hi, by omega, rfl, hS, hF, fun u hu => ?_, hK⟩
      have h1 := hv u hu
      rw [acw_all (fun x hx => (hsup.1 x (by omega)).1), acw_all (fun x hx => (hsup.1 x (by omega)).1)] at h1
      exact ⟨h1.1, fun h0 => absurd h0 (Nat.not_lt_zero u), h1.2.2⟩
    · refine ⟨(3 - i) * 100000 + 2000 + (481 - k) * 200 - 1 - 0, by omega, J0, s, T, t, most, i, k, 0, rfl, rfl, rfl, rfl, rfl, rfl, rfl, hi, by omega, by omega, rfl, hS, hF, fun u hu => ?_, hK⟩
      rw [acp_zero, acp_zero, Nat.add_zero, Nat.add_zero]
      exact hv u hu
    · refine ⟨(3 - i) * 100000 + 2000 + (481 - (k + 1)) * 200, by omega, J0, s, T, t, most, i, k + 1, rfl, rfl, rfl, rfl, rfl, rfl, hi, by omega, rfl, hS, hF, fun u hu => ?_, hK⟩
      have h1 := hv u hu
      rw [(hv k (by omega)).2.1] at c2
      rw [acw_succ, acw_succ, ← Nat.add_assoc, jN_skip c2, jN_skip c2]
      exact h1
  · rintro n K x0 x1 x2 x3 x4 x5 x6 C I J R ⟨J0, s, T, t, most, i, k, v, rfl, rfl, rfl, rfl, rfl, rfl, rfl, hi, hk, hv1, rfl, hS, hF, hv, hK⟩
    have hM := hS.1
    have hpi := hS.2.2.2.2.2.2 i hi
    unfold PX2_makeRow_121 PX2_makeRow_211
    have fin : (v = 121 ∨ 600 ≤ k + v) → ∃ m, m < (3 - i) * 100000 + 2000 + (481 - k) * 200 - 1 - v ∧ V_X2_makeRow_95 m K 1 (iN t) (iN most) (iN i) (iN (prt s t i)) (iN (k + 1)) C I J R := fun w => by
      refine ⟨(3 - i) * 100000 + 2000 + (481 - (k + 1)) * 200, by omega, J0, s, T, t, most, i, k + 1, rfl, rfl, rfl, rfl, rfl, rfl, hi, by omega, rfl, hS, hF, fun u hu => ?_, hK⟩
      have h1 := hv u hu
      rw [acp_all (fun x hx => (hpi.2.1.1 x hx).1) (by omega), acp_all (fun x hx => (hpi.2.1.1 x hx).2) (by omega)] at h1
      rw [acw_succ, acw_succ, ← Nat.add_assoc]
      exact h1
    simp (config := { contextual := true }) (disch := omega) only [at_eq, MS.o hM, MS.r22 hM, MS.c22 hM, MS.r23 hM, MS.c23 hM, MS.r27 hM, MS.c27 hM, MS.r28 hM, MS.c28 hM, MS.r29 hM, MS.c29 hM, le_l_121, lt_l_121, lt_r_121, le_r_121, eq_r_121, mul_l_121, add_r_121, le_l_600, lt_l_600, lt_r_600, le_r_600, eq_r_600, mul_l_600, add_r_600, le_l_1, lt_l_1, lt_r_1, le_r_1, eq_r_1, mul_l_1, add_r_1, Option.some.injEq, Sum.inl.injEq, Sum.inr.injEq, exists_eq_left', forall_eq, true_and, and_true, false_implies, true_implies, not_false_eq_true, not_true_eq_false, vpT, vp0, tn0, iN_nat, nI_iN, iN_add, iN_lt, iN_le, aI_inj, aJ_inj, aR_inj, va_up_self, va_up_ne, acu_eq]
    refine ⟨fun c => fin (by omega), fun c => ⟨fun c2 => fin (by omega), fun c2 => ?_⟩⟩
    refine ⟨(3 - i) * 100000 + 2000 + (481 - k) * 200 - 1 - (v + 1), by omega, J0, s, T, t, most, i, k, v + 1, rfl, rfl, rfl, rfl, rfl, rfl, rfl, hi, hk, by omega, rfl, (hS.up (by decide) (by decide) (by decide)).up (by decide) (by decide) (by decide), (hF.up (by decide)).up (by decide), fun u hu => ?_, hK⟩
    have hj := hpi.1.1 v (by omega)
    have h1 := hv u hu
    have h2 := (hv k (by omega)).2.1
    simp (disch := omega) only [va_up_self, va_up_ne, acu_at, h1.1, h1.2.1, h1.2.2, h2, hj.1, hj.2, jN_mul, jN_if, jN_add, acp_succ, Nat.add_assoc, and_self, true_and]
  · rintro n K x0 x1 x2 x3 x5 C I J R ⟨J0, s, T, t, most, i, m, rfl, rfl, rfl, rfl, rfl, hi, hm, rfl, hS, hF, hv, hK⟩
    have hM := hS.1
    have h14 : s 1 t ≤ 4 := Nat.le_trans hS.2.2.2.2.1 hS.2.2.2.2.2.1
    unfold PX2_makeRow_220
    simp (config := { contextual := true }) (disch := omega) only [MS.o hM, MS.r28 hM, MS.c28 hM, MS.r29 hM, MS.c29 hM, le_l_1, lt_l_1, lt_r_1, le_r_1, eq_r_1, mul_l_1, add_r_1, Option.some.injEq, Sum.inl.injEq, Sum.inr.injEq, exists_eq_left', forall_eq, true_and, and_true, false_implies, true_implies, not_false_eq_true, not_true_eq_false, vpT, vp0, tn0, iN_nat, nI_iN, iN_add, iN_lt, iN_le, aI_inj, aJ_inj, aR_inj]
    refine ⟨⟨by decide, by decide⟩, fun c => ?_, fun c => ?_⟩
    · obtain rfl : m = 600 := by omega
      exact ⟨(4 - (i + 1)) * 100000 + 1000, by omega, J0, s, T, t, most, i + 1, rfl, rfl, rfl, rfl, hi, rfl, hS, hF, fun u hu => ⟨(hv u hu).2.1 hu, (hv u hu).2.2⟩, hK⟩
    · refine ⟨(3 - i) * 100000 + 1601 - (m + 1), by omega, J0, s, T, t, most, i, m + 1, rfl, rfl, rfl, rfl, rfl, hi, by omega, rfl, hS.up (by decide) (by decide) (by decide), hF.up (by decide), fun u hu => ?_, hK⟩
      have h1 := hv u hu
      rw [va_up_self, va_up_ne _ _ (show (129 : Nat) ≠ 128 by decide), va_up_ne _ _ (show (127 : Nat) ≠ 128 by decide), up_val]
      refine ⟨h1.1, fun h0 => ?_, h1.2.2⟩
      by_cases e : u = m
      · rw [if_pos e, ← e]
        exact h1.1
      · rw [if_neg e]
        exact h1.2.1 (by omega)
  · rintro n K x0 x3 C I J R ⟨J0, s, T, t, most, m, rfl, rfl, hm, rfl, hS, hF, hv, hK⟩
    have hM := hS.1
    unfold PX2_makeRow_258
    simp (config := { contextual := true }) (disch := omega) only [MS.o hM, MS.r26 hM, MS.c26 hM, MS.r28 hM, MS.c28 hM, le_l_1, lt_l_1, lt_r_1, le_r_1, eq_r_1, mul_l_1, add_r_1, Option.some.injEq, Sum.inl.injEq, Sum.inr.injEq, exists_eq_left', forall_eq, true_and, and_true, false_implies, true_implies, not_false_eq_true, not_true_eq_false, vpT, vp0, tn0, iN_nat, nI_iN, iN_add, iN_lt, iN_le, aI_inj, aJ_inj, aR_inj]
    refine ⟨⟨by decide, by decide⟩, fun c => ?_, fun c => ?_⟩
    · obtain rfl : m = 600 := by omega
      exact hK J hF (fun u hu => ⟨(hv u hu).2.1 hu, (hv u hu).2.2⟩)
    · refine ⟨600 - (m + 1), by omega, J0, s, T, t, most, m + 1, rfl, rfl, by omega, rfl, hS.up (by decide) (by decide) (by decide), hF.up (by decide), fun u hu => ?_, hK⟩
      have h1 := hv u hu
      rw [va_up_self, va_up_ne _ _ (show (128 : Nat) ≠ 126 by decide), va_up_ne _ _ (show (127 : Nat) ≠ 126 by decide), up_val]
      refine ⟨h1.1, fun h0 => ?_, h1.2.2⟩
      by_cases e : u = m
      · rw [if_pos e, ← e]
        exact h1.1
      · rw [if_neg e]
        exact h1.2.1 (by omega)
