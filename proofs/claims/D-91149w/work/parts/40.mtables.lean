/-! CONTRACTS 12: the reference's tables: wholes, makes, all tables up to a thing -/
set_option maxRecDepth 100000
set_option linter.unusedVariables false
def ovr (I : MI) : MI := va_up I 1 (va_up (I 1) 30 1)
theorem F_product_ok {C : MC} {I : MI} {J : MJ} {R : MR} {K : AK} {a b : Nat} (hM : MS C R) (h0 : I 1 30 = 0) (ha : a < 2 ^ 62) (hb : 0 < b) (hb2 : b < 2 ^ 62) (h1 : a * b < 2 ^ 62 → K (.inl (some (aJ (jN (a * b))))) C I J R) (h2 : 2 ^ 62 ≤ a * b → K (.inl (some (aJ 1))) C (ovr I) J R) : F_X2_product [aR (some 1), aJ (jN a), aJ (jN b)] C I J R K := by
  refine ⟨1, jN a, jN b, rfl, ?_⟩
  have hb0 : ¬ jN b = 0 := fun w => absurd ((jN_eq0 (by omega)).mp w) (by omega)
  have hdv : (4611686018427387903 : Int64) / jN b = jN (4611686018427387903 / b) := jN_div (a := 4611686018427387903) (by decide) (by omega)
  have hle : 4611686018427387903 / b ≤ 4611686018427387903 := Nat.div_le_self _ _
  unfold PX2_product_0 PX2_product_15
  refine ⟨hb0, fun w => ?_, fun w => ?_⟩
  · rw [hdv, jN_le (by omega) (by omega), Nat.le_div_iff_mul_le hb] at w
    refine ⟨hM.o, fun _ => ?_, fun z => absurd h0 z⟩
    rw [jN_mul]
    exact h1 (by omega)
  · rw [hdv, jN_le (by omega) (by omega), Nat.le_div_iff_mul_le hb] at w
    refine ⟨hM.o, ?_⟩
    rintro I4 rfl
    refine ⟨hM.o, fun z => ?_, fun _ => h2 (by omega)⟩
    rw [va_up_self, va_up_self] at z
    exact absurd z (by decide)
theorem F_product_over {C : MC} {I : MI} {J : MJ} {R : MR} {K : AK} {b : Nat} (hM : MS C R) (h0 : I 1 30 = 1) (hb : 0 < b) (hb2 : b < 2 ^ 62) (h1 : K (.inl (some (aJ 1))) C I J R) : F_X2_product [aR (some 1), aJ 1, aJ (jN b)] C I J R K := by
  refine ⟨1, 1, jN b, rfl, ?_⟩
  have hb0 : ¬ jN b = 0 := fun w => absurd ((jN_eq0 (by omega)).mp w) (by omega)
  have hdv : (4611686018427387903 : Int64) / jN b = jN (4611686018427387903 / b) := jN_div (a := 4611686018427387903) (by decide) (by omega)
  have hle : 4611686018427387903 / b ≤ 4611686018427387903 := Nat.div_le_self _ _
  have hge : 1 ≤ 4611686018427387903 / b := (Nat.le_div_iff_mul_le hb).mpr (by omega)
  unfold PX2_product_0 PX2_product_15
  refine ⟨hb0, fun w => ⟨hM.o, fun z => ?_, fun _ => h1⟩, fun w => absurd ?_ w⟩
  · rw [h0] at z
    exact absurd z (by decide)
  · rw [hdv]
    exact (jN_le (a := 1) (by omega) (by omega)).mpr hge
/-- a product so far -/
def OvS (I0 I : MI) (x : Int64) (P : Nat) : Prop := 0 < P ∧ ((I = I0 ∧ x = jN P ∧ P < 2 ^ 62) ∨ (I = ovr I0 ∧ x = 1 ∧ 2 ^ 62 ≤ P))
theorem F_product_step {C : MC} {I0 I : MI} {J : MJ} {R : MR} {K : AK} {x : Int64} {P b : Nat} (hM : MS C R) (h0 : I0 1 30 = 0) (h : OvS I0 I x P) (hb : 0 < b) (hb2 : b < 2 ^ 62) (hK : ∀ (I' : MI) (y : Int64), OvS I0 I' y (P * b) → K (.inl (some (aJ y))) C I' J R) : F_X2_product [aR (some 1), aJ x, aJ (jN b)] C I J R K := by
  obtain ⟨hP, ⟨rfl, rfl, h2⟩ | ⟨rfl, rfl, h2⟩⟩ := h
  · exact F_product_ok hM h0 h2 hb hb2 (fun w => hK _ _ ⟨Nat.mul_pos hP hb, Or.inl ⟨rfl, rfl, w⟩⟩) (fun w => hK _ _ ⟨Nat.mul_pos hP hb, Or.inr ⟨rfl, rfl, w⟩⟩)
  · refine F_product_over hM ?_ hb hb2 (hK _ _ ⟨Nat.mul_pos hP hb, Or.inr ⟨rfl, rfl, Nat.le_trans h2 (Nat.le_mul_of_pos_right _ hb)⟩⟩)
    show va_up I0 1 (va_up (I0 1) 30 1) 1 30 = 1
    rw [va_up_self, va_up_self]
theorem MI1.fr {s : St} {I I' : MI} (h : MI1 s I) (h1 : ∀ y, y ≠ 1 → y ≠ 125 → I' y = I y) (h2 : I' 1 6 = I 1 6) : MI1 s I' := by
  refine ⟨by rw [h2]; exact h.1, ?_⟩
  rw [h1 107 (by decide) (by decide), h1 108 (by decide) (by decide), h1 109 (by decide) (by decide), h1 110 (by decide) (by decide), h1 111 (by decide) (by decide), h1 115 (by decide) (by decide), h1 114 (by decide) (by decide)]
  exact h.2
theorem MI1.ovr {s : St} {I : MI} (h : MI1 s I) : MI1 s (ovr I) := h.fr (fun y h1 _ => va_up_ne _ _ h1) (by show va_up I 1 (va_up (I 1) 30 1) 1 6 = I 1 6; rw [va_up_self, va_up_ne _ _ (by decide)])
theorem OvS.mi {s : St} {I0 I : MI} {x : Int64} {P : Nat} (h : OvS I0 I x P) (hI : MI1 s I0) : MI1 s I := by
  obtain ⟨-, ⟨rfl, -⟩ | ⟨rfl, -⟩⟩ := h
  · exact hI
  · exact hI.ovr
/-- how often the wholes of the parts are multiplied -/
def tms (s : St) (t : Nat) : Nat := if s 7 t = 4 then s 10 t + 1 else if s 7 t = 5 then 2 else 1
theorem rtN_whole (a : Tb) (l : Nat) : ∀ m, (rtN a l m).2.2 = a.2.2 ^ m
  | 0 => rfl
  | m + 1 => by
    show (rtN a l m).2.2 * a.2.2 = _
    rw [rtN_whole a l m, Nat.pow_succ]
theorem whole_raw {s : St} {T : Nat → Tb} {t : Nat} (hV : VdK s t) (h0 : s 7 t ≠ 0) : (s 7 t ≠ 3 → (rowN T (prt s t) (s 1 t)).2.2 ^ tms s t = (raw s T t).2.2) ∧ (s 7 t = 3 → (rowN T (prt s t) (s 1 t)).2.2 ^ tms s t * s 10 t = (raw s T t).2.2) := by
  obtain ⟨⟨h7, h1, hp, hd⟩, ⟨v0, v1, v2, v3, v4, v5⟩, -⟩ := hV
  unfold raw tms
  have h5 : s 7 t = 1 ∨ s 7 t = 2 ∨ s 7 t = 3 ∨ s 7 t = 4 ∨ s 7 t = 5 := by omega
  rcases h5 with e | e | e | e | e
  · rw [e]
    exact ⟨fun _ => Nat.pow_one _, fun w => absurd w (by decide)⟩
  · rw [e]
    exact ⟨fun _ => Nat.pow_one _, fun w => absurd w (by decide)⟩
  · have h := v3 e
    rw [e, h.1]
    refine ⟨fun w => absurd rfl w, fun _ => ?_⟩
    show (1 * (T (prt s t 0)).2.2 * (T (prt s t 1)).2.2) ^ 1 * s 10 t = (T (prt s t 0)).2.2 * (T (prt s t 1)).2.2 * s 10 t
    rw [Nat.pow_one, Nat.one_mul]
  · have h := v4 e
    rw [e, h.1]
    refine ⟨fun _ => ?_, fun w => absurd w (by decide)⟩
    show (1 * (T (prt s t 0)).2.2) ^ (s 10 t + 1) = (rtN (T (prt s t 0)) (s 9 t) (s 10 t + 1)).2.2
    rw [rtN_whole, Nat.one_mul]
  · have h := v5 e
    rw [e, h.1]
    refine ⟨fun _ => ?_, fun w => absurd w (by decide)⟩
    show (1 * (T (prt s t 0)).2.2) ^ 2 = (T (prt s t 0)).2.2 * (T (prt s t 0)).2.2
    rw [Nat.one_mul, Nat.pow_succ, Nat.pow_one]
def WhS (s : St) (T : Nat → Tb) (t : Nat) (C : MC) (I0 : MI) (J : MJ) (R : MR) : Prop := MS C R ∧ MI1 s I0 ∧ Vd s ∧ t < s 6 0 ∧ PT s T J t ∧ (∀ i, i < s 1 t → (T (prt s t i)).2.2 < 2 ^ 62) ∧ I0 1 30 = 0
def WhK (s : St) (T : Nat → Tb) (t : Nat) (I0 : MI) (K : AK) (C : MC) (J : MJ) (R : MR) : Prop := ∀ (I' : MI) (y : Int64), OvS I0 I' y (raw s T t).2.2 → K (.inl (some (aJ y))) C I' J R
def F_X2_wholeOf : SPF := fun As C I J R K => ∃ (s : St) (T : Nat → Tb) (t : Nat), As = [aR (some 1), aI (iN t)] ∧ WhS s T t C I J R ∧ WhK s T t I K C J R
def V_X2_wholeOf_16 (n : Nat) (K : AK) (x0 : Nat) (x1 : Int32) (x2 : Int64) (x4 : Int32) (C : MC) (I : MI) (J : MJ) (R : MR) : Prop := ∃ (s : St) (T : Nat → Tb) (t k : Nat), x0 = 1 ∧ x1 = iN t ∧ x2 = jN (sm (fun i => s 14 (60 * (3 * t + s 15 t) + i)) k) ∧ x4 = iN k ∧ k ≤ 60 ∧ n = 60 - k ∧ s 7 t = 0 ∧ WhS s T t C I J R ∧ WhK s T t I K C J R
def V_X2_wholeOf_97 (n : Nat) (K : AK) (x0 : Nat) (x1 : Int32) (x2 : Int64) (x4 : Int32) (x5 : Int32) (C : MC) (I : MI) (J : MJ) (R : MR) : Prop := ∃ (s : St) (T : Nat → Tb) (t j : Nat) (I0 : MI), x0 = 1 ∧ x1 = iN t ∧ x4 = iN (tms s t) ∧ x5 = iN j ∧ j ≤ tms s t ∧ n = (4 - j) * 10 + 6 ∧ s 7 t ≠ 0 ∧ WhS s T t C I0 J R ∧ OvS I0 I x2 ((rowN T (prt s t) (s 1 t)).2.2 ^ j) ∧ WhK s T t I0 K C J R
def V_X2_wholeOf_107 (n : Nat) (K : AK) (x0 : Nat) (x1 : Int32) (x2 : Int64) (x4 : Int32) (x5 : Int32) (x6 : Int32) (C : MC) (I : MI) (J : MJ) (R : MR) : Prop := ∃ (s : St) (T : Nat → Tb) (t j k : Nat) (I0 : MI), x0 = 1 ∧ x1 = iN t ∧ x4 = iN (tms s t) ∧ x5 = iN j ∧ x6 = iN k ∧ j < tms s t ∧ k ≤ 4 ∧ n = (4 - j) * 10 + 5 - k ∧ s 7 t ≠ 0 ∧ WhS s T t C I0 J R ∧ OvS I0 I x2 ((rowN T (prt s t) (s 1 t)).2.2 ^ j * (rowN T (prt s t) (min k (s 1 t))).2.2) ∧ WhK s T t I0 K C J R
theorem tms_le {s : St} {t : Nat} (hV : VdK s t) : tms s t ≤ 4 ∧ 1 ≤ tms s t := by
  unfold tms
  have h4 := hV.2.1.2.2.2.2.1
  by_cases e : s 7 t = 4
  · have := h4 e
    rw [if_pos e]
    omega
  · rw [if_neg e]
    by_cases e2 : s 7 t = 5
    · rw [if_pos e2]
      omega
    · rw [if_neg e2]
      omega
theorem S_X2_wholeOf (l : Launch) : SpX2_wholeOf l F_X2_wholeOf := by
  refine wX2_wholeOf (S_X2_product l) V_X2_wholeOf_16 V_X2_wholeOf_97 V_X2_wholeOf_107 ?_ ?_ ?_ ?_
  · rintro As C I J R K ⟨s, T, t, rfl, hS, hK⟩
    have hS0 := hS
    obtain ⟨hM, hI, hV, ht, hP, hw, h30⟩ := hS0
    have hn := hV.1
    have hv := hV.2 t ht
    have h7 := hv.1.1
    have e7 := (hI.2 t ht).1
    have e10 := (hI.2 t ht).2.2.2.1
    refine ⟨1, iN t, rfl, ?_⟩
    unfold PX2_wholeOf_0 PX2_wholeOf_92
    have go : ∀ z : Int32, z = iN (tms s t) → s 7 t ≠ 0 → ∃ n, V_X2_wholeOf_97 n K 1 (iN t) 1 z 0 C I J R := fun z hz h0 => ⟨_, s, T, t, 0, I, rfl, rfl, hz, rfl, Nat.zero_le _, rfl, h0, hS, ⟨by rw [Nat.pow_zero]; omega, Or.inl ⟨rfl, rfl, by rw [Nat.pow_zero]; omega⟩⟩, hK⟩
    simp (config := { contextual := true }) (disch := omega) only [MS.o hM, MS.r7 hM, MS.c7 hM, MS.r10 hM, MS.c10 hM, le_l_0, lt_l_0, lt_r_0, le_r_0, eq_r_0, mul_l_0, add_r_0, le_l_1, lt_l_1, lt_r_1, le_r_1, eq_r_1, mul_l_1, add_r_1, le_l_4, lt_l_4, lt_r_4, le_r_4, eq_r_4, mul_l_4, add_r_4, le_l_5, lt_l_5, lt_r_5, le_r_5, eq_r_5, mul_l_5, add_r_5, Option.some.injEq, Sum.inl.injEq, Sum.inr.injEq, exists_eq_left', forall_eq, true_and, and_true, false_implies, true_implies, not_false_eq_true, not_true_eq_false, vpT, vp0, tn0, iN_nat, nI_iN, iN_add, iN_lt, iN_le, aI_inj, aJ_inj, aR_inj, e7, e10]
    have h10 : s 7 t = 4 → s 10 t ≤ 3 := fun w => (hv.2.1.2.2.2.2.1 w).2.2.2.2
    refine ⟨fun c => ⟨fun c2 => ⟨fun c3 => go _ ?_ c, fun c3 => go _ ?_ c⟩, fun c2 => go _ ?_ c⟩, fun c => ?_⟩
    · unfold tms
      rw [if_neg c2, if_neg c3]
      rfl
    · unfold tms
      rw [if_neg c2, if_pos c3]
      rfl
    · unfold tms
      rw [if_pos c2]
    · exact ⟨_, s, T, t, 0, rfl, rfl, rfl, rfl, by omega, rfl, c, hS, hK⟩
  · rintro n K x0 x1 x2 x4 C I J R ⟨s, T, t, k, rfl, rfl, rfl, rfl, hk, rfl, h7, hS, hK⟩
    have hS0 := hS
    obtain ⟨hM, hI, hV, ht, hP, hw, h30⟩ := hS0
    have hn := hV.1
    have hv := hV.2 t ht
    have h0 := hv.2.1.1 h7
    have e15 := (hI.2 t ht).2.2.2.2.2.1
    have e14 := (hI.2 t ht).2.2.2.2.2.2 h7 (s 15 t)
    unfold PX2_wholeOf_16
    have h9 := sm_at (f := fun i => s 14 (60 * (3 * t + s 15 t) + i)) (i := k) (n := 60)
    have h10 := (h0.2.2.2.2.2.2 _ h0.2.2.2.1).1
    simp (config := { contextual := true }) (disch := omega) only [MS.o hM, MS.r14 hM, MS.c14 hM, MS.r15 hM, MS.c15 hM, le_l_60, lt_l_60, lt_r_60, le_r_60, eq_r_60, mul_l_60, add_r_60, le_l_3, lt_l_3, lt_r_3, le_r_3, eq_r_3, mul_l_3, add_r_3, le_l_1, lt_l_1, lt_r_1, le_r_1, eq_r_1, mul_l_1, add_r_1, Option.some.injEq, Sum.inl.injEq, Sum.inr.injEq, exists_eq_left', forall_eq, true_and, and_true, false_implies, true_implies, not_false_eq_true, not_true_eq_false, vpT, vp0, tn0, iN_nat, nI_iN, iN_add, iN_lt, iN_le, aI_inj, aJ_inj, aR_inj, e15]
    refine ⟨fun c => ?_, fun c => ?_⟩
    · obtain rfl : k = 60 := by omega
      have e : (raw s T t).2.2 = sm (fun i => s 14 (60 * (3 * t + s 15 t) + i)) 60 := by
        unfold raw
        rw [h7]
        rfl
      rw [← e]
      exact hK _ _ ⟨by rw [e]; omega, Or.inl ⟨rfl, rfl, by rw [e]; omega⟩⟩
    · have h11 := h9 (by omega)
      have h12 : s 14 (60 * (3 * t + s 15 t) + k) < 2 ^ 31 := by
        have h13 : s 14 (60 * (3 * t + s 15 t) + k) ≤ _ := h11
        omega
      rw [e14 k h0.2.2.2.1 (by omega), iN_64 h12, jN_add]
      exact ⟨60 - (k + 1), by omega, s, T, t, k + 1, rfl, rfl, rfl, rfl, by omega, rfl, h7, hS, hK⟩
  · rintro n K x0 x1 x2 x4 x5 C I J R ⟨s, T, t, j, I0, rfl, rfl, rfl, rfl, hj, rfl, h7, hS, hO, hK⟩
    have hS0 := hS
    obtain ⟨hM, hI0, hV, ht, hP, hw, h30⟩ := hS0
    have hn := hV.1
    have hv := hV.2 t ht
    have hI := hO.mi hI0
    have e7 := (hI.2 t ht).1
    have e10 := (hI.2 t ht).2.2.2.1
    have hv7 := hv.1.1
    have htm := tms_le hv
    have hr := whole_raw (T := T) hv h7
    have h3 := hv.2.1.2.2.2.1
    unfold PX2_wholeOf_97
    simp (config := { contextual := true }) (disch := omega) only [MS.o hM, MS.r7 hM, MS.c7 hM, MS.r10 hM, MS.c10 hM, le_l_3, lt_l_3, lt_r_3, le_r_3, eq_r_3, mul_l_3, add_r_3, Option.some.injEq, Sum.inl.injEq, Sum.inr.injEq, exists_eq_left', forall_eq, true_and, and_true, false_implies, true_implies, not_false_eq_true, not_true_eq_false, vpT, vp0, tn0, iN_nat, nI_iN, iN_add, iN_lt, iN_le, aI_inj, aJ_inj, aR_inj, e7, e10]
    refine ⟨fun c => ⟨fun c2 => ?_, fun c2 => ?_⟩, fun c => ?_⟩
    · obtain rfl : j = tms s t := by omega
      rw [hr.1 c2] at hO
      exact hK _ _ hO
    · obtain rfl : j = tms s t := by omega
      have h4 := h3 c2
      rw [iN_64 (by omega)]
      refine F_product_step hM h30 hO (by omega) (by omega) (fun I' y h => ⟨_, rfl, ?_⟩)
      rw [hr.2 c2] at h
      exact hK _ _ h
    · refine ⟨(4 - j) * 10 + 5 - 0, by omega, s, T, t, j, 0, I0, rfl, rfl, rfl, rfl, rfl, by omega, by omega, rfl, h7, hS, ?_, hK⟩
      rw [Nat.zero_min]
      show OvS I0 I x2 (_ * 1)
      rw [Nat.mul_one]
      exact hO
  · rintro n K x0 x1 x2 x4 x5 x6 C I J R ⟨s, T, t, j, k, I0, rfl, rfl, rfl, rfl, rfl, hj, hk, rfl, h7, hS, hO, hK⟩
    have hS0 := hS
    obtain ⟨hM, hI0, hV, ht, hP, hw, h30⟩ := hS0
    have hn := hV.1
    have hv := hV.2 t ht
    have hI := hO.mi hI0
    have htm := tms_le hv
    have h14 := hv.1.2.1
    unfold PX2_wholeOf_107 PX2_wholeOf_150
    by_cases hp : k < s 1 t
    · have e8 := hI.of ht (i := k) (by omega) hp
      have hpk := hP k hp
      have e9 := iN_m1 (a := prt s t k) (by omega)
      simp (config := { contextual := true }) (disch := omega) only [MS.o hM, MS.r8 hM, MS.c8 hM, MS.r24 hM, MS.c24 hM, le_l_4, lt_l_4, lt_r_4, le_r_4, eq_r_4, mul_l_4, add_r_4, le_l_1, lt_l_1, lt_r_1, le_r_1, eq_r_1, mul_l_1, add_r_1, Option.some.injEq, Sum.inl.injEq, Sum.inr.injEq, exists_eq_left', forall_eq, true_and, and_true, false_implies, true_implies, not_false_eq_true, not_true_eq_false, vpT, vp0, tn0, iN_nat, nI_iN, iN_add, iN_lt, iN_le, aI_inj, aJ_inj, aR_inj, e8, e9, hpk.1.2]
      refine ⟨fun c => absurd c (by omega), fun c => ?_⟩
      refine F_product_step hM h30 hO hpk.2.1.2.2 (hw k hp) (fun I' y h => ⟨_, rfl, (4 - j) * 10 + 5 - (k + 1), by omega, s, T, t, j, k + 1, I0, rfl, rfl, rfl, rfl, rfl, hj, by omega, rfl, h7, hS, ?_, hK⟩)
      rw [Nat.min_eq_left (by omega)] at h ⊢
      rw [Nat.mul_assoc] at h
      exact h
    · rw [Nat.min_eq_right (by omega)] at hO
      by_cases h4 : k < 4
      · have e8 := hI.none ht h4 hp
        simp (config := { contextual := true }) (disch := omega) only [MS.o hM, MS.r8 hM, MS.c8 hM, MS.r24 hM, MS.c24 hM, le_l_4, lt_l_4, lt_r_4, le_r_4, eq_r_4, mul_l_4, add_r_4, le_l_1, lt_l_1, lt_r_1, le_r_1, eq_r_1, mul_l_1, add_r_1, Option.some.injEq, Sum.inl.injEq, Sum.inr.injEq, exists_eq_left', forall_eq, true_and, and_true, false_implies, true_implies, not_false_eq_true, not_true_eq_false, vpT, vp0, tn0, iN_nat, nI_iN, iN_add, iN_lt, iN_le, aI_inj, aJ_inj, aR_inj, e8]
        refine ⟨fun c => absurd c (by omega), fun c => ⟨(4 - j) * 10 + 5 - (k + 1), by omega, s, T, t, j, k + 1, I0, rfl, rfl, rfl, rfl, rfl, hj, by omega, rfl, h7, hS, ?_, hK⟩⟩
        rw [Nat.min_eq_right (by omega)]
        exact hO
      · refine ⟨fun c => ⟨(4 - (j + 1)) * 10 + 6, by omega, s, T, t, j + 1, I0, rfl, rfl, rfl, iN_add j 1, by omega, rfl, h7, hS, ?_, hK⟩, fun c => absurd ?_ c⟩
        · rw [Nat.pow_succ]
          exact hO
        · exact (iN_le (a := 4) (by decide) (by omega)).mpr (by omega)
