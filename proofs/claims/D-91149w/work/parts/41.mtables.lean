/-! CONTRACTS 13: the reference makes a table of each kind, and all tables up to a thing -/
set_option maxRecDepth 100000
set_option linter.unusedVariables false
theorem raw_ts480 {s : St} (hV : Vd s) {k : Nat} (hk : k < s 6 0) (hp : ∀ i, i < s 1 k → TS 120 (tbl s (prt s k i))) : TS 480 (raw s (tbl s) k) := by
  obtain ⟨⟨h7, h1, hpp, hd⟩, ⟨v0, v1, v2, v3, v4, v5⟩, -⟩ := hV.2 k hk
  unfold raw
  split
  · rename_i e
    have h := v0 e
    exact (TS.leaf (by have := (h.2.2.2.2.2.2 _ h.2.2.2.1).1.1; exact this)).wide (by omega)
  · exact (ts_rowN hp).wide (by omega)
  · exact (ts_fan h1 hp).wide (by omega)
  · rename_i e
    have h := v3 e
    exact (TS.cac h.2.1 h.2.2.1 (hp 0 (by omega)) (hp 1 (by omega))).wide (by omega)
  · rename_i e
    have h := v4 e
    exact (TS.ret h.2.2.1 (hp 0 (by omega))).wide (by omega)
  · rename_i e0 e1 e2 e3 e4
    have h5 : s 7 k = 5 := by
      have g : ∀ n, n ≤ 5 → ¬ n = 0 → ¬ n = 1 → ¬ n = 2 → ¬ n = 3 → ¬ n = 4 → n = 5 := by omega
      exact g _ h7 e0 e1 e2 e3 e4
    have h := v5 h5
    exact (TS.hed h.2 (hp 0 (by omega))).wide (by omega)
def MkS (s : St) (T : Nat → Tb) (t : Nat) (C : MC) (I : MI) (J : MJ) (R : MR) : Prop := MS C R ∧ MI1 s I ∧ Vd s ∧ t < s 6 0 ∧ PT s T J t
def MkK (s : St) (T : Nat → Tb) (t : Nat) (J0 : MJ) (K : AK) (C : MC) (I : MI) (R : MR) : Prop := ∀ J' : MJ, Fr [126, 127, 128, 129, 131] J0 J' → MP J' (raw s T t) → K (.inl none) C I J' R
theorem MkS.up {s : St} {T : Nat → Tb} {t q : Nat} {C : MC} {I : MI} {J : MJ} {R : MR} {f : Nat → Int64} (h : MkS s T t C I J R) (h1 : q ≠ 122) (h2 : q ≠ 123) (h3 : q ≠ 124) : MkS s T t C I (va_up J q f) R := ⟨h.1, h.2.1, h.2.2.1, h.2.2.2.1, h.2.2.2.2.up h1 h2 h3⟩
theorem MkS.fr {s : St} {T : Nat → Tb} {t : Nat} {C : MC} {I : MI} {J J' : MJ} {R : MR} {P : List Nat} (h : MkS s T t C I J R) (hF : Fr P J J') (h1 : 122 ∉ P) (h2 : 123 ∉ P) (h3 : 124 ∉ P) : MkS s T t C I J' R := ⟨h.1, h.2.1, h.2.2.1, h.2.2.2.1, h.2.2.2.2.fr hF h1 h2 h3⟩
def F_X2_make : SPF := fun As C I J R K => ∃ (s : St) (T : Nat → Tb) (t : Nat), As = [aR (some 1), aI (iN t)] ∧ MkS s T t C I J R ∧ (∀ i, i < 600 → J 126 i = 0 ∧ J 127 i = 0) ∧ MkK s T t J K C I R
def V_X2_make_50 (n : Nat) (K : AK) (x0 : Nat) (x1 : Int32) (x3 : Int32) (C : MC) (I : MI) (J : MJ) (R : MR) : Prop := ∃ (J0 : MJ) (s : St) (T : Nat → Tb) (t k : Nat), x0 = 1 ∧ x1 = iN t ∧ x3 = iN k ∧ k ≤ 60 ∧ n = 60 - k ∧ s 7 t = 0 ∧ MkS s T t C I J R ∧ Fr [126, 127, 128, 129, 131] J0 J ∧ (∀ u, u < 600 → J 126 u = jN (if u < k then s 14 (60 * (3 * t + s 15 t) + u) else 0) ∧ J 127 u = 0) ∧ MkK s T t J0 K C I R
def V_X2_make_117 (n : Nat) (K : AK) (x0 : Nat) (x1 : Int32) (x2 : Int32) (x3 : Int32) (C : MC) (I : MI) (J : MJ) (R : MR) : Prop := ∃ (J0 : MJ) (s : St) (T : Nat → Tb) (t k : Nat), x0 = 1 ∧ x1 = iN t ∧ x2 = iN (prt s t 0) ∧ x3 = iN k ∧ k ≤ 600 ∧ n = 600 - k ∧ s 7 t = 3 ∧ MkS s T t C I J R ∧ Fr [126, 127, 128, 129, 131] J0 J ∧ (∀ u, u < 600 → J 126 u = jN (if u < k then (raw s T t).1 u else (rowS (T (prt s t 0)) (T (prt s t 1))).1 u) ∧ J 127 u = jN (if u < k then (raw s T t).2.1 u else (rowS (T (prt s t 0)) (T (prt s t 1))).2.1 u)) ∧ MkK s T t J0 K C I R
theorem S_X2_make (l : Launch) : SpX2_make l F_X2_make := by
  refine wX2_make (S_X2_makeRow l) (S_X2_makeFan l) (S_X2_makeRetry l) (S_X2_makeHedge l) (S_X2_at l) V_X2_make_50 V_X2_make_117 ?_ ?_ ?_
  · rintro As C I J R K ⟨s, T, t, rfl, hS, hz, hK⟩
    have hS0 := hS
    obtain ⟨hM, hI, hV, ht, hP⟩ := hS0
    have hn := hV.1
    have hv := hV.2 t ht
    have h7 := hv.1.1
    have e7 := (hI.2 t ht).1
    have e8 := (hI.2 t ht).2.1 0 (by omega)
    rw [Nat.add_zero] at e8
    refine ⟨1, iN t, rfl, ?_⟩
    unfold PX2_make_0
    simp (config := { contextual := true }) (disch := omega) only [MS.o hM, MS.r7 hM, MS.c7 hM, MS.r8 hM, MS.c8 hM, le_l_4, lt_l_4, lt_r_4, le_r_4, eq_r_4, mul_l_4, add_r_4, Option.some.injEq, Sum.inl.injEq, Sum.inr.injEq, exists_eq_left', forall_eq, true_and, and_true, false_implies, true_implies, not_false_eq_true, not_true_eq_false, vpT, vp0, tn0, iN_nat, nI_iN, iN_add, iN_lt, iN_le, aI_inj, aJ_inj, aR_inj, e7, e8, iN_int]
    obtain ⟨-, ⟨v0, v1, v2, v3, v4, v5⟩, -⟩ := hv
    refine ⟨fun c => ?_, fun c => ?_, fun c => ?_, fun c => ?_, fun c => ?_, fun c => ?_⟩
    · refine ⟨60 - 0, J, s, T, t, 0, rfl, rfl, rfl, by omega, rfl, by omega, hS, Fr.refl, fun u hu => ?_, hK⟩
      rw [if_neg (Nat.not_lt_zero u)]
      exact hz u hu
    · have c1 : s 7 t = 1 := by omega
      refine ⟨s, T, t, 4, rfl, ⟨hM, hI, ht, by omega, (hV.2 t ht).1.2.1, by omega, hP⟩, fun i hi => (hz i hi).2, fun J' hF hm => ⟨rfl, hK J' (hF.wide (by decide)) ?_⟩⟩
      unfold raw
      rw [c1]
      exact hm
    · have c1 : s 7 t = 2 := by omega
      have h9 := v2 c1
      have h14 := (hV.2 t ht).1.2.1
      refine ⟨s, T, t, rfl, by omega, ⟨hM, hI, ht, by omega, h14, by omega, hP⟩, hz, fun J' hF hm => ⟨rfl, hK J' (hF.wide (by decide)) ?_⟩⟩
      unfold raw
      rw [c1]
      exact hm
    · have c1 : s 7 t = 3 := by omega
      have h9 := v3 c1
      rw [if_pos (show 0 < s 1 t by omega)]
      refine ⟨s, T, t, 2, rfl, ⟨hM, hI, ht, by omega, by omega, by omega, hP⟩, fun i hi => (hz i hi).2, fun J' hF hm => ⟨rfl, ?_⟩⟩
      refine ⟨600 - 0, J, s, T, t, 0, rfl, rfl, rfl, rfl, by omega, rfl, c1, hS.fr hF (by decide) (by decide) (by decide), hF.wide (by decide), fun u hu => ?_, hK⟩
      have h1 := hm u hu
      rw [h9.1] at h1
      have e : rowN T (prt s t) 2 = rowS (T (prt s t 0)) (T (prt s t 1)) := by
        show rowS (rowS row0 (T (prt s t 0))) (T (prt s t 1)) = _
        rw [rowS_row0]
      rw [e] at h1
      rw [if_neg (Nat.not_lt_zero u), if_neg (Nat.not_lt_zero u)]
      exact h1
    · have c1 : s 7 t = 4 := by omega
      have h9 := v4 c1
      have hp := hP 0 (by omega)
      refine ⟨s, t, T (prt s t 0), rfl, hM, hV, hI, ht, c1, hp.1, hp.2.1, fun i hi => (hz i hi).1, fun J' hF hm => ⟨rfl, hK J' (hF.wide (by decide)) ?_⟩⟩
      unfold raw
      rw [c1]
      exact hm
    · have c1 : s 7 t = 5 := by omega
      have h9 := v5 c1
      have hp := hP 0 (by omega)
      refine ⟨s, t, T (prt s t 0), rfl, hM, hV, hI, ht, c1, hp.1, hz, fun J' hF hm => ⟨rfl, hK J' (hF.wide (by decide)) ?_⟩⟩
      unfold raw
      rw [c1]
      exact hm
  · rintro n K x0 x1 x3 C I J R ⟨J0, s, T, t, k, rfl, rfl, rfl, hk, rfl, h7, hS, hF, hv, hK⟩
    have hS0 := hS
    obtain ⟨hM, hI, hV, ht, hP⟩ := hS0
    have hn := hV.1
    have h0 := (hV.2 t ht).2.1.1 h7
    have e15 := (hI.2 t ht).2.2.2.2.2.1
    have e14 := (hI.2 t ht).2.2.2.2.2.2 h7 (s 15 t)
    have h9 := sm_at (f := fun i => s 14 (60 * (3 * t + s 15 t) + i)) (i := k) (n := 60)
    have h10 := (h0.2.2.2.2.2.2 _ h0.2.2.2.1).1
    unfold PX2_make_50
    simp (config := { contextual := true }) (disch := omega) only [MS.o hM, MS.r14 hM, MS.c14 hM, MS.r15 hM, MS.c15 hM, MS.r26 hM, MS.c26 hM, le_l_60, lt_l_60, lt_r_60, le_r_60, eq_r_60, mul_l_60, add_r_60, le_l_3, lt_l_3, lt_r_3, le_r_3, eq_r_3, mul_l_3, add_r_3, le_l_1, lt_l_1, lt_r_1, le_r_1, eq_r_1, mul_l_1, add_r_1, Option.some.injEq, Sum.inl.injEq, Sum.inr.injEq, exists_eq_left', forall_eq, true_and, and_true, false_implies, true_implies, not_false_eq_true, not_true_eq_false, vpT, vp0, tn0, iN_nat, nI_iN, iN_add, iN_lt, iN_le, aI_inj, aJ_inj, aR_inj, e15]
    refine ⟨fun c => ?_, fun c => ?_⟩
    · obtain rfl : k = 60 := by omega
      refine hK J hF (fun u hu => ?_)
      have h1 := hv u hu
      unfold raw
      rw [h7]
      exact ⟨h1.1, h1.2⟩
    · have h11 := h9 (by omega)
      have h12 : s 14 (60 * (3 * t + s 15 t) + k) < 2 ^ 31 := by
        have h13 : s 14 (60 * (3 * t + s 15 t) + k) ≤ _ := h11
        omega
      rw [e14 k h0.2.2.2.1 (by omega), iN_64 h12]
      refine ⟨60 - (k + 1), by omega, J0, s, T, t, k + 1, rfl, rfl, rfl, by omega, rfl, h7, hS.up (by decide) (by decide) (by decide), hF.up (by decide), fun u hu => ?_, hK⟩
      have h1 := hv u hu
      rw [va_up_self, va_up_ne _ _ (show (127 : Nat) ≠ 126 by decide), up_val]
      refine ⟨?_, h1.2⟩
      by_cases e : u = k
      · rw [if_pos e, if_pos (by omega), e]
      · rw [if_neg e, h1.1]
        by_cases e2 : u < k
        · rw [if_pos e2, if_pos (by omega)]
        · rw [if_neg e2, if_neg (by omega)]
  · rintro n K x0 x1 x2 x3 C I J R ⟨J0, s, T, t, k, rfl, rfl, rfl, rfl, hk, rfl, h7, hS, hF, hv, hK⟩
    have hS0 := hS
    obtain ⟨hM, hI, hV, ht, hP⟩ := hS0
    have hn := hV.1
    have h0 := (hV.2 t ht).2.1.2.2.2.1 h7
    have hp0 := hP 0 (by omega)
    have hp1 := hP 1 (by omega)
    have e9 := (hI.2 t ht).2.2.1
    have e10 := (hI.2 t ht).2.2.2.1
    have e8 := hI.of ht (i := 1) (by omega) (by omega)
    have e11 : iN (s 10 t) - iN (s 9 t) = iN (s 10 t - s 9 t) := iN_sub h0.2.1
    have er : raw s T t = cacT (s 9 t) (s 10 t) (T (prt s t 0)) (T (prt s t 1)) := by
      unfold raw
      rw [h7]
      rfl
    have go : k < 600 → ∀ a b : Nat, a = (T (prt s t 0)).1 k * (T (prt s t 1)).2.2 → b = (T (prt s t 0)).2.1 k * (T (prt s t 1)).2.2 → ∃ m, m < 600 - k ∧ V_X2_make_117 m K 1 (iN t) (iN (prt s t 0)) (iN (k + 1)) C I (va_up (va_up J 126 (va_up (J 126) k (jN (s 9 t * a + (s 10 t - s 9 t) * (rowS (T (prt s t 0)) (T (prt s t 1))).1 k)))) 127 (va_up (J 127) k (jN (s 9 t * b + (s 10 t - s 9 t) * (rowS (T (prt s t 0)) (T (prt s t 1))).2.1 k)))) R := by
      intro hk6 a b ha hb
      refine ⟨600 - (k + 1), by omega, J0, s, T, t, k + 1, rfl, rfl, rfl, rfl, by omega, rfl, h7, (hS.up (by decide) (by decide) (by decide)).up (by decide) (by decide) (by decide), (hF.up (by decide)).up (by decide), fun u hu => ?_, hK⟩
      have h1 := hv u hu
      simp (disch := omega) only [va_up_self, va_up_ne, up_val]
      by_cases e : u = k
      · rw [if_pos e, if_pos e, if_pos (by omega), if_pos (by omega), e, er, ha, hb]
        refine ⟨congrArg jN ?_, congrArg jN ?_⟩
        · show s 9 t * _ + _ * cvl _ _ k = _ * s 9 t + cvl _ _ k * _
          rw [Nat.mul_comm (s 9 t), Nat.mul_comm (s 10 t - s 9 t)]
        · show s 9 t * _ + (s 10 t - s 9 t) * (_ + cvl _ _ k) = _ * s 9 t + _ * (s 10 t - s 9 t) + cvl _ _ k * (s 10 t - s 9 t)
          rw [Nat.mul_comm (s 9 t), Nat.mul_comm (s 10 t - s 9 t), Nat.add_mul, Nat.add_assoc]
      · rw [if_neg e, if_neg e, h1.1, h1.2]
        by_cases e2 : u < k
        · rw [if_pos e2, if_pos e2, if_pos (by omega), if_pos (by omega)]
          exact ⟨rfl, rfl⟩
        · rw [if_neg e2, if_neg e2, if_neg (by omega), if_neg (by omega)]
          exact ⟨rfl, rfl⟩
    unfold PX2_make_117 PX2_make_162 PX2_make_200
    by_cases hk6 : k < 600
    · have hvk := hv k hk6
      rw [if_neg (Nat.lt_irrefl k), if_neg (Nat.lt_irrefl k)] at hvk
      by_cases h121 : k < 121
      · have hj := hp0.1.1 k h121
        simp (disch := omega) only [at_eq, MS.o hM, MS.r8 hM, MS.c8 hM, MS.r9 hM, MS.c9 hM, MS.r10 hM, MS.c10 hM, MS.r22 hM, MS.c22 hM, MS.r23 hM, MS.c23 hM, MS.r24 hM, MS.c24 hM, MS.r26 hM, MS.c26 hM, MS.r27 hM, MS.c27 hM, le_l_121, lt_l_121, lt_r_121, le_r_121, eq_r_121, mul_l_121, add_r_121, le_l_4, lt_l_4, lt_r_4, le_r_4, eq_r_4, mul_l_4, add_r_4, le_l_1, lt_l_1, lt_r_1, le_r_1, eq_r_1, mul_l_1, add_r_1, Option.some.injEq, Sum.inl.injEq, Sum.inr.injEq, exists_eq_left', forall_eq, true_and, and_true, false_implies, true_implies, not_false_eq_true, not_true_eq_false, vpT, vp0, tn0, iN_nat, nI_iN, iN_add, iN_lt, iN_le, aI_inj, aJ_inj, aR_inj, e8, e9, e10, e11, iN_64, hp1.1.2, hj.1, hj.2, hvk.1, hvk.2, va_up_self, va_up_ne, jN_mul, jN_add]
        exact ⟨⟨by decide, by decide⟩, fun c => absurd c (by omega), fun _ => ⟨fun c => absurd c (by omega), fun _ => ⟨fun c => absurd c (by omega), fun _ => go hk6 _ _ rfl rfl⟩⟩⟩
      · have g := go hk6 0 0 (by rw [(hp0.2.1.1 k (by omega)).1, Nat.zero_mul]) (by rw [(hp0.2.1.1 k (by omega)).2, Nat.zero_mul])
        rw [← jN_add, ← jN_mul, ← jN_mul, ← jN_add, ← jN_mul, ← jN_mul, jN_0, ← hvk.1, ← hvk.2] at g
        simp (disch := omega) only [at_eq, MS.o hM, MS.r8 hM, MS.c8 hM, MS.r9 hM, MS.c9 hM, MS.r10 hM, MS.c10 hM, MS.r22 hM, MS.c22 hM, MS.r23 hM, MS.c23 hM, MS.r24 hM, MS.c24 hM, MS.r26 hM, MS.c26 hM, MS.r27 hM, MS.c27 hM, le_l_121, lt_l_121, lt_r_121, le_r_121, eq_r_121, mul_l_121, add_r_121, le_l_4, lt_l_4, lt_r_4, le_r_4, eq_r_4, mul_l_4, add_r_4, le_l_1, lt_l_1, lt_r_1, le_r_1, eq_r_1, mul_l_1, add_r_1, Option.some.injEq, Sum.inl.injEq, Sum.inr.injEq, exists_eq_left', forall_eq, true_and, and_true, false_implies, true_implies, not_false_eq_true, not_true_eq_false, vpT, vp0, tn0, iN_nat, nI_iN, iN_add, iN_lt, iN_le, aI_inj, aJ_inj, aR_inj, e8, e9, e10, e11, iN_64, va_up_self, va_up_ne]
        exact ⟨⟨by decide, by decide⟩, fun c => absurd c (by omega), fun _ => ⟨fun _ => ⟨fun _ => g, fun c => absurd h121 (fun _ => c (by omega))⟩, fun c => absurd h121 (fun _ => c (by omega))⟩⟩
    · obtain rfl : k = 600 := by omega
      simp (config := { contextual := true }) (disch := omega) only [MS.o hM, MS.r26 hM, MS.c26 hM, Option.some.injEq, Sum.inl.injEq, Sum.inr.injEq, exists_eq_left', forall_eq, true_and, and_true, false_implies, true_implies, not_false_eq_true, not_true_eq_false, vpT, vp0, tn0, iN_nat, nI_iN, iN_add, iN_lt, iN_le, aI_inj, aJ_inj, aR_inj]
      refine ⟨⟨by decide, by decide⟩, fun _ => hK J hF (fun u hu => ?_), fun c => absurd (Nat.le_refl _) c⟩
      have h1 := hv u hu
      rw [if_pos hu, if_pos hu] at h1
      exact h1
/-- all tables below n are made -/
def TD (s : St) (I : MI) (J : MJ) (n : Nat) : Prop := ∀ u, u < n → (grt s u → I 125 u = 1) ∧ (¬ grt s u → I 125 u = 0 ∧ JT J (tbl s u) u)
def TbFr (I : MI) (J : MJ) (I' : MI) (J' : MJ) : Prop := (∀ y, y ≠ 1 → y ≠ 125 → I' y = I y) ∧ (∀ f, f ≠ 30 → I' 1 f = I 1 f) ∧ Fr [122, 123, 124, 126, 127, 128, 129, 131] J J'
theorem TbFr.refl {I : MI} {J : MJ} : TbFr I J I J := ⟨fun _ _ _ => rfl, fun _ _ => rfl, Fr.refl⟩
theorem TbFr.trans {I I1 I2 : MI} {J J1 J2 : MJ} (h : TbFr I J I1 J1) (h2 : TbFr I1 J1 I2 J2) : TbFr I J I2 J2 := ⟨fun y a b => (h2.1 y a b).trans (h.1 y a b), fun f a => (h2.2.1 f a).trans (h.2.1 f a), h.2.2.trans h2.2.2⟩
theorem TbFr.mi {s : St} {I I' : MI} {J J' : MJ} (h : TbFr I J I' J') (hI : MI1 s I) : MI1 s I' := hI.fr h.1 (h.2.1 6 (by decide))
def TaK (s : St) (to : Nat) (I0 : MI) (J0 : MJ) (K : AK) (C : MC) (R : MR) : Prop := ∀ (I' : MI) (J' : MJ), TbFr I0 J0 I' J' → TD s I' J' (to + 1) → K (.inl none) C I' J' R
def F_X2_tables : SPF := fun As C I J R K => ∃ (s : St) (to : Nat), As = [aR (some 1), aI (iN to)] ∧ MS C R ∧ MI1 s I ∧ Vd s ∧ to < s 6 0 ∧ TaK s to I J K C R
def V_X2_tables_2 (n : Nat) (K : AK) (x0 : Nat) (x1 : Int32) (x2 : Int32) (C : MC) (I : MI) (J : MJ) (R : MR) : Prop := ∃ (I0 : MI) (J0 : MJ) (s : St) (to t : Nat), x0 = 1 ∧ x1 = iN to ∧ x2 = iN t ∧ t ≤ to + 1 ∧ n = (30 - t) * 10 ∧ MS C R ∧ MI1 s I ∧ Vd s ∧ to < s 6 0 ∧ TbFr I0 J0 I J ∧ TD s I J t ∧ TaK s to I0 J0 K C R
def V_X2_tables_16 (n : Nat) (K : AK) (x0 : Nat) (x1 : Int32) (x2 : Int32) (x3 : Int32) (C : MC) (I : MI) (J : MJ) (R : MR) : Prop := ∃ (I0 : MI) (J0 : MJ) (s : St) (to t k : Nat), x0 = 1 ∧ x1 = iN to ∧ x2 = iN t ∧ x3 = iN k ∧ t ≤ to ∧ k ≤ 4 ∧ n = (30 - t) * 10 - 1 - k ∧ MS C R ∧ MI1 s I ∧ Vd s ∧ to < s 6 0 ∧ TbFr I0 J0 I J ∧ TD s I J t ∧ ((I 125 t = 0 ∧ ∀ i, i < k → i < s 1 t → ¬ grt s (prt s t i)) ∨ (I 125 t = 1 ∧ ∃ i, i < s 1 t ∧ grt s (prt s t i))) ∧ TaK s to I0 J0 K C R
theorem TD.setI {s : St} {I : MI} {J : MJ} {t : Nat} {v : Int32} (h : TD s I J t) : TD s (va_up I 125 (va_up (I 125) t v)) J t := fun u hu => by
  have e : va_up I 125 (va_up (I 125) t v) 125 u = I 125 u := by rw [va_up_self, va_up_ne _ _ (by omega)]
  rw [e]
  exact h u hu
theorem TD.great {s : St} {I : MI} {J : MJ} {t : Nat} (h : TD s I J t) (hg : grt s t) (h1 : I 125 t = 1) : TD s I J (t + 1) := fun u hu => by
  by_cases e : u = t
  · rw [e]
    exact ⟨fun _ => h1, fun w => absurd hg w⟩
  · exact h u (by omega)
theorem JT.keep {J J' : MJ} {x : Tb} {u t : Nat} (h : JT J x u) (hu : u < t) (h1 : ∀ v, (v < 121 * t ∨ 121 * t + 121 ≤ v) → J' 122 v = J 122 v ∧ J' 123 v = J 123 v) (h2 : ∀ v, v ≠ t → J' 124 v = J 124 v) : JT J' x u := by
  refine ⟨fun i hi => ?_, by rw [h2 u (by omega)]; exact h.2⟩
  have h3 := h1 (121 * u + i) (Or.inl (by omega))
  rw [h3.1, h3.2]
  exact h.1 i hi
theorem S_X2_tables (l : Launch) : SpX2_tables l F_X2_tables := by
  refine wX2_tables (S_X2_clear l) (S_X2_wholeOf l) (S_X2_make l) (S_X2_settle l) V_X2_tables_2 V_X2_tables_16 ?_ ?_ ?_
  · rintro As C I J R K ⟨s, to, rfl, hM, hI, hV, ht, hK⟩
    exact ⟨1, iN to, rfl, _, I, J, s, to, 0, rfl, rfl, rfl, by omega, rfl, hM, hI, hV, ht, TbFr.refl, fun u hu => absurd hu (Nat.not_lt_zero u), hK⟩
  · rintro n K x0 x1 x2 C I J R ⟨I0, J0, s, to, t, rfl, rfl, rfl, ht, rfl, hM, hI, hV, hto, hF, hD, hK⟩
    have hn := hV.1
    unfold PX2_tables_2
    simp (config := { contextual := true }) (disch := omega) only [MS.o hM, MS.r25 hM, MS.c25 hM, le_l_1, lt_l_1, lt_r_1, le_r_1, eq_r_1, mul_l_1, add_r_1, Option.some.injEq, Sum.inl.injEq, Sum.inr.injEq, exists_eq_left', forall_eq, true_and, and_true, false_implies, true_implies, not_false_eq_true, not_true_eq_false, vpT, vp0, tn0, iN_nat, nI_iN, iN_add, iN_lt, iN_le, aI_inj, aJ_inj, aR_inj]
    refine ⟨fun c => ?_, fun c => ?_⟩
    · obtain rfl : t = to + 1 := by omega
      exact hK I J hF hD
    · have hF1 : TbFr I J (va_up I 125 (va_up (I 125) t 0)) J := ⟨fun y h1 h2 => va_up_ne _ _ h2, fun f _ => by rw [va_up_ne _ _ (by decide)], Fr.refl⟩
      refine ⟨(30 - t) * 10 - 1 - 0, by omega, I0, J0, s, to, t, 0, rfl, rfl, rfl, rfl, by omega, by omega, rfl, hM, hF1.mi hI, hV, hto, hF.trans hF1, hD.setI, Or.inl ⟨by rw [va_up_self, va_up_self], fun i hi => absurd hi (Nat.not_lt_zero i)⟩, hK⟩
  · rintro n K x0 x1 x2 x3 C I J R ⟨I0, J0, s, to, t, k, rfl, rfl, rfl, rfl, ht, hk, rfl, hM, hI, hV, hto, hF, hD, hg, hK⟩
    have hn := hV.1
    have htn : t < s 6 0 := by omega
    have hv := hV.2 t htn
    have h14 := hv.1.2.1
    have next : ∀ (I' : MI) (J' : MJ), TbFr I J I' J' → TD s I' J' (t + 1) → ∃ m, m < (30 - t) * 10 - 1 - k ∧ V_X2_tables_2 m K 1 (iN to) (iN t + 1) C I' J' R := fun I' J' hF' hD' =>
      ⟨(30 - (t + 1)) * 10, by omega, I0, J0, s, to, t + 1, rfl, rfl, iN_add t 1, by omega, rfl, hM, hF'.mi hI, hV, hto, hF.trans hF', hD', hK⟩
    have next2 : k < 4 → ∀ (I' : MI), TbFr I J I' J → TD s I' J t → ((I' 125 t = 0 ∧ ∀ i, i < k + 1 → i < s 1 t → ¬ grt s (prt s t i)) ∨ (I' 125 t = 1 ∧ ∃ i, i < s 1 t ∧ grt s (prt s t i))) → ∃ m, m < (30 - t) * 10 - 1 - k ∧ V_X2_tables_16 m K 1 (iN to) (iN t) (iN k + 1) C I' J R := fun hk4 I' hF' hD' hg' =>
      ⟨(30 - t) * 10 - 1 - (k + 1), by omega, I0, J0, s, to, t, k + 1, rfl, rfl, rfl, iN_add k 1, ht, by omega, rfl, hM, hF'.mi hI, hV, hto, hF.trans hF', hD', hg', hK⟩
    unfold PX2_tables_16 PX2_tables_60 PX2_tables_133
    by_cases hk4 : k < 4
    · by_cases hp : k < s 1 t
      · have e8 := hI.of htn (i := k) hk4 hp
        have hpt := (hv.1.2.2.1 k hp).1
        have e9 := iN_m1 (a := prt s t k) (by omega)
        have hDp := hD _ hpt
        simp (disch := omega) only [MS.o hM, MS.r8 hM, MS.c8 hM, MS.r25 hM, MS.c25 hM, le_l_4, lt_l_4, lt_r_4, le_r_4, eq_r_4, mul_l_4, add_r_4, iN_add, Option.some.injEq, Sum.inl.injEq, Sum.inr.injEq, exists_eq_left', forall_eq, true_and, and_true, false_implies, true_implies, not_false_eq_true, not_true_eq_false, vpT, vp0, tn0, iN_nat, nI_iN, iN_add, iN_lt, iN_le, aI_inj, aJ_inj, aR_inj, e8, e9]
        refine ⟨fun c => absurd c (by omega), fun _ => ⟨fun c => ?_, fun c => ?_⟩⟩
        · have hng : ¬ grt s (prt s t k) := fun w => by
            rw [hDp.1 w] at c
            exact absurd c (by decide)
          refine next2 hk4 I TbFr.refl hD (hg.elim (fun h => Or.inl ⟨h.1, fun i hi hi2 => ?_⟩) (fun h => Or.inr h))
          by_cases e : i = k
          · rw [e]
            exact hng
          · exact h.2 i (by omega) hi2
        · have hgr : grt s (prt s t k) := Classical.byContradiction (fun w => c (hDp.2 w).1)
          have hF1 : TbFr I J (va_up I 125 (va_up (I 125) t 1)) J := ⟨fun y h1 h2 => va_up_ne _ _ h2, fun f _ => by rw [va_up_ne _ _ (by decide)], Fr.refl⟩
          exact next2 hk4 _ hF1 hD.setI (Or.inr ⟨by rw [va_up_self, va_up_self], k, hp, hgr⟩)
      · have e8 := hI.none htn hk4 hp
        simp (disch := omega) only [MS.o hM, MS.r8 hM, MS.c8 hM, MS.r25 hM, MS.c25 hM, le_l_4, lt_l_4, lt_r_4, le_r_4, eq_r_4, mul_l_4, add_r_4, iN_add, Option.some.injEq, Sum.inl.injEq, Sum.inr.injEq, exists_eq_left', forall_eq, true_and, and_true, false_implies, true_implies, not_false_eq_true, not_true_eq_false, vpT, vp0, tn0, iN_nat, nI_iN, iN_add, iN_lt, iN_le, aI_inj, aJ_inj, aR_inj, e8]
        refine ⟨fun c => absurd c (by omega), fun _ => ?_⟩
        exact next2 hk4 I TbFr.refl hD (hg.elim (fun h => Or.inl ⟨h.1, fun i hi hi2 => h.2 i (by omega) hi2⟩) (fun h => Or.inr h))
    · obtain rfl : k = 4 := by omega
      simp (disch := omega) only [MS.o hM, MS.r25 hM, MS.c25 hM, MS.r26 hM, MS.c26 hM, MS.r27 hM, MS.c27 hM, le_l_4, lt_l_4, lt_r_4, le_r_4, eq_r_4, mul_l_4, add_r_4, Option.some.injEq, Sum.inl.injEq, Sum.inr.injEq, exists_eq_left', forall_eq, true_and, and_true, false_implies, true_implies, not_false_eq_true, not_true_eq_false, vpT, vp0, tn0, iN_nat, nI_iN, iN_add, iN_lt, iN_le, aI_inj, aJ_inj, aR_inj]
      refine ⟨fun _ => ⟨fun c => ?_, fun c => ?_⟩, fun c => absurd ?_ c⟩
      · have hnp : ∀ i, i < s 1 t → ¬ grt s (prt s t i) := by
          rcases hg with ⟨-, h⟩ | ⟨w, -⟩
          · exact fun i hi => h i (by omega) hi
          · rw [w] at c
            exact absurd c (by decide)
        have hpo : ∀ i, i < s 1 t → TOk (tbl s (prt s t i)) := part_ok hV htn (fun ⟨i, hi, w⟩ => hnp i hi w)
        have hPT : PT s (tbl s) J t := fun i hi => by
          have h1 := (hv.1.2.2.1 i hi).1
          exact ⟨((hD _ h1).2 (hnp i hi)).2, (hpo i hi).1, by omega⟩
        obtain ⟨A, hA⟩ := raw_ts hV htn (fun i hi => (hpo i hi).1)
        refine ⟨126, 600, rfl, hM.c26, by decide, fun J1 hF1 hz1 => ⟨rfl, ?_⟩⟩
        refine ⟨hM.o, ?_⟩
        rw [hM.r27]
        refine ⟨127, 600, rfl, hM.c27, by decide, fun J2 hF2 hz2 => ⟨rfl, hM.o, ?_⟩⟩
        have hJ2 : Fr [126, 127] J J2 := (hF1.wide (by decide)).trans (hF2.wide (by decide))
        have hF3 : TbFr I J (va_up I 1 (va_up (I 1) 30 0)) J2 := ⟨fun y h1 h2 => va_up_ne _ _ h1, fun f h1 => by rw [va_up_self, va_up_ne _ _ h1], hJ2.wide (by decide)⟩
        have hD3 : TD s (va_up I 1 (va_up (I 1) 30 0)) J2 t := fun u hu => by
          have h1 := hD u hu
          rw [va_up_ne _ _ (show (125 : Nat) ≠ 1 by decide)]
          exact ⟨h1.1, fun w => ⟨(h1.2 w).1, (h1.2 w).2.fr hJ2 (by decide) (by decide) (by decide)⟩⟩
        have h125 : va_up I 1 (va_up (I 1) 30 0) 125 t = 0 := by rw [va_up_ne _ _ (show (125 : Nat) ≠ 1 by decide)]; exact c
        have h30 : va_up I 1 (va_up (I 1) 30 0) 1 30 = 0 := by rw [va_up_self, va_up_self]
        generalize va_up I 1 (va_up (I 1) 30 0) = I3 at *
        have hI3 := hF3.mi hI
        refine ⟨s, tbl s, t, rfl, ⟨hM, hI3, hV, htn, hPT.fr hJ2 (by decide) (by decide) (by decide), fun i hi => (hpo i hi).2, h30⟩, fun I4 y hO => ⟨_, rfl, hM.o, ?_⟩⟩
        obtain ⟨-, ⟨rfl, rfl, hw⟩ | ⟨rfl, rfl, hw⟩⟩ := hO
        · refine ⟨fun _ => ?_, fun w => absurd h30 w⟩
          refine ⟨s, tbl s, t, rfl, ⟨hM, hI3, hV, htn, hPT.fr hJ2 (by decide) (by decide) (by decide)⟩, fun i hi => ⟨?_, hz2 i hi⟩, fun J5 hF5 hm => ⟨rfl, hM.o, ?_⟩⟩
          · rw [hF2 126 (by decide)]
            exact hz1 i hi
          · have hsup : TS 480 (raw s (tbl s) t) := raw_ts480 hV htn (fun i hi => (hpo i hi).1)
            refine ⟨raw s (tbl s) t, t, rfl, by omega, hM, hm, hsup, hw, fun I6 J6 hst => ⟨rfl, ?_⟩⟩
            obtain ⟨s1, s2, s3, s4, s5, s6, s7⟩ := hst
            refine next I6 J6 ⟨fun z h1 h2 => (s1 z h2).trans (hF3.1 z h1 h2), fun f hf => (congrFun (s1 1 (by decide)) f).trans (hF3.2.1 f hf), (hF3.2.2.trans (hF5.wide (by decide))).trans (s3.wide (by decide))⟩ (fun u hu => ?_)
            by_cases e : u = t
            · rw [e]
              refine ⟨fun w => s6 ?_, fun w => ?_⟩
              · rcases (grt_iff hV htn).mp w with ⟨i, hi, w2⟩ | w2
                · exact absurd w2 (hnp i hi)
                · rcases w2 with w2 | w2
                  · omega
                  · exact w2
              · have h8 := s7 (fun w2 => w ((grt_iff hV htn).mpr (Or.inr (Or.inr w2))))
                rw [← tbl_eq hV htn] at h8
                exact h8
            · have h1 := hD3 u (by omega)
              rw [s2 u e]
              exact ⟨h1.1, fun w => ⟨(h1.2 w).1, ((h1.2 w).2.fr hF5 (by decide) (by decide) (by decide)).keep (by omega) s4 s5⟩⟩
        · refine ⟨fun w => ?_, fun _ => ⟨125, hM.r25, by rw [hM.c25], by rw [hM.c25]; exact iN_in (by omega) (by omega), ?_⟩⟩
          · have h1 : va_up I3 1 (va_up (I3 1) 30 1) 1 30 = 0 := w
            rw [va_up_self, va_up_self] at h1
            exact absurd h1 (by decide)
          · have hgt : grt s t := (grt_iff hV htn).mpr (Or.inr (Or.inl hw))
            refine next _ _ ⟨fun z h1 h2 => ?_, fun f hf => ?_, hJ2.wide (by decide)⟩ ?_
            · rw [va_up_ne _ _ h2]
              exact (va_up_ne _ _ h1).trans (hF3.1 z h1 h2)
            · rw [va_up_ne _ _ (show (1 : Nat) ≠ 125 by decide)]
              show va_up I3 1 (va_up (I3 1) 30 1) 1 f = _
              rw [va_up_self, va_up_ne _ _ hf]
              exact hF3.2.1 f hf
            · refine TD.great ?_ hgt (by rw [va_up_self, va_up_self])
              refine TD.setI (fun u hu => ?_)
              have h1 := hD3 u hu
              show (grt s u → va_up I3 1 (va_up (I3 1) 30 1) 125 u = 1) ∧ (¬ grt s u → va_up I3 1 (va_up (I3 1) 30 1) 125 u = 0 ∧ _)
              rw [va_up_ne _ _ (show (125 : Nat) ≠ 1 by decide)]
              exact h1
      · rcases hg with ⟨w, -⟩ | ⟨w, h⟩
        · exact absurd w c
        · exact next I J TbFr.refl (hD.great ((grt_iff hV htn).mpr (Or.inl h)) w)
      · omega
