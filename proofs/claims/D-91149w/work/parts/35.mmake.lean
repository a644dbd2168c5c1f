/-! CONTRACTS 7: the reference makes tables: hedges, rows, retries, fans -/
set_option maxRecDepth 100000
set_option linter.unusedVariables false
def acu (f : Nat → Int64) (i : Nat) (v : Int64) : Nat → Int64 := va_up f i (f i + v)
theorem acu_eq (f : Nat → Int64) (i : Nat) (v : Int64) : va_up f i (f i + v) = acu f i v := rfl
theorem acu_at (f : Nat → Int64) (i : Nat) (v : Int64) (t : Nat) : acu f i v t = f t + (if t = i then v else 0) := by
  show (if t = i then f i + v else f t) = _
  by_cases e : t = i
  · rw [if_pos e, if_pos e, e]
  · rw [if_neg e, if_neg e, Int64.add_zero]
theorem jN_if (c : Prop) [Decidable c] (x : Nat) : (if c then jN x else 0) = jN (if c then x else 0) := by
  by_cases e : c
  · rw [if_pos e, if_pos e]
  · rw [if_neg e, if_neg e]
    rfl
theorem va_upup {β : Type} (f : Nat → β) (a : Nat) (b c : β) : va_up (va_up f a b) a c = va_up f a c := funext fun x => by
  show (if x = a then c else if x = a then b else f x) = if x = a then c else f x
  by_cases e : x = a
  · rw [if_pos e, if_pos e]
  · rw [if_neg e, if_neg e, if_neg e]
theorem sm_succ (f : Nat → Nat) (n : Nat) : sm f (n + 1) = sm f n + f n := rfl
theorem jN_skip {x : Nat} (h : jN x = 0) (y z : Nat) (c : Prop) [Decidable c] : jN (y + (if c then x * z else 0)) = jN y := by
  by_cases e : c
  · rw [if_pos e, ← jN_add, ← jN_mul, h, Int64.zero_mul, Int64.add_zero]
  · rw [if_neg e, Nat.add_zero]
theorem iN_ifmin (a b : Nat) (ha : a < 2 ^ 31) (hb : b < 2 ^ 31) : (if iN a < iN b then iN a else iN b) = iN (min a b) := by
  by_cases e : a < b
  · rw [if_pos ((iN_lt ha hb).mpr e), Nat.min_eq_left (by omega)]
  · rw [if_neg (fun w => e ((iN_lt ha hb).mp w)), Nat.min_eq_right (by omega)]
theorem iN_ifmax (a b : Nat) (ha : a < 2 ^ 31) (hb : b < 2 ^ 31) : (if iN b < iN a then iN a else iN b) = iN (max a b) := by
  by_cases e : b < a
  · rw [if_pos ((iN_lt hb ha).mpr e), Nat.max_eq_left (by omega)]
  · rw [if_neg (fun w => e ((iN_lt hb ha).mp w)), Nat.max_eq_right (by omega)]
/-- a thing's table in the reference's arrays -/
def JT (J : MJ) (x : Tb) (t : Nat) : Prop := (∀ i, i < 121 → J 122 (121 * t + i) = jN (x.1 i) ∧ J 123 (121 * t + i) = jN (x.2.1 i)) ∧ J 124 t = jN x.2.2
theorem JT.up {J : MJ} {x : Tb} {t q : Nat} {f : Nat → Int64} (h : JT J x t) (h1 : q ≠ 122) (h2 : q ≠ 123) (h3 : q ≠ 124) : JT (va_up J q f) x t := by
  unfold JT at h ⊢
  rw [va_up_ne _ _ h1.symm, va_up_ne _ _ h2.symm, va_up_ne _ _ h3.symm]
  exact h
theorem JT.fr {J J' : MJ} {x : Tb} {t : Nat} {P : List Nat} (h : JT J x t) (hF : Fr P J J') (h1 : 122 ∉ P) (h2 : 123 ∉ P) (h3 : 124 ∉ P) : JT J' x t := by
  unfold JT at h ⊢
  rw [hF _ h1, hF _ h2, hF _ h3]
  exact h
/-- what is made, to far beyond -/
def MP (J : MJ) (x : Tb) : Prop := ∀ i, i < 600 → J 126 i = jN (x.1 i) ∧ J 127 i = jN (x.2.1 i)
/-- the reference's ints of the things -/
def MI1 (s : St) (I : MI) : Prop := I 1 6 = iN (s 6 0) ∧ ∀ k, k < s 6 0 → I 107 k = iN (s 7 k) ∧ (∀ i, i < 4 → I 108 (4 * k + i) = if i < s 1 k then iN (prt s k i) else -1) ∧ I 109 k = iN (s 9 k) ∧ I 110 k = iN (s 10 k) ∧ I 111 k = iN (s 11 k) - 1 ∧ I 115 k = iN (s 15 k) ∧ (s 7 k = 0 → ∀ g i, g < s 12 k → i < 60 → I 114 (60 * (3 * k + g) + i) = iN (s 14 (60 * (3 * k + g) + i)))
theorem MI1.of {s : St} {I : MI} (h : MI1 s I) {k i : Nat} (hk : k < s 6 0) (hi : i < 4) (hp : i < s 1 k) : I 108 (4 * k + i) = iN (prt s k i) := by
  rw [(h.2 k hk).2.1 i hi, if_pos hp]
theorem MI1.none {s : St} {I : MI} (h : MI1 s I) {k i : Nat} (hk : k < s 6 0) (hi : i < 4) (hp : ¬ i < s 1 k) : I 108 (4 * k + i) = -1 := by
  rw [(h.2 k hk).2.1 i hi, if_neg hp]
/-! a hedge -/
def F_X2_makeHedge : SPF := fun As C I J R K => ∃ (s : St) (t : Nat) (a : Tb), As = [aR (some 1), aI (iN t)] ∧ MS C R ∧ Vd s ∧ MI1 s I ∧ t < s 6 0 ∧ s 7 t = 5 ∧ JT J a (prt s t 0) ∧ (∀ i, i < 600 → J 126 i = 0 ∧ J 127 i = 0) ∧ ∀ J' : MJ, Fr [126, 127] J J' → MP J' (hedT (s 9 t) a) → K (.inl none) C I J' R
def V_X2_makeHedge_19 (n : Nat) (K : AK) (x0 : Nat) (x2 : Int32) (x3 : Int32) (x4 : Int32) (C : MC) (I : MI) (J : MJ) (R : MR) : Prop := ∃ (J0 : MJ) (p h k : Nat) (a : Tb), x0 = 1 ∧ x2 = iN p ∧ x3 = iN h ∧ x4 = iN k ∧ p < 20 ∧ h ≤ 60 ∧ k ≤ 121 ∧ n = (121 - k) * 200 ∧ MS C R ∧ JT J a p ∧ Fr [126, 127] J0 J ∧ (∀ t, t < 600 → J 126 t = jN (sm (hxO a h t) k) ∧ J 127 t = jN (sm (hxF a h t) k)) ∧ ∀ J' : MJ, Fr [126, 127] J0 J' → MP J' (hedT h a) → K (.inl none) C I J' R
def V_X2_makeHedge_94 (n : Nat) (K : AK) (x0 : Nat) (x2 : Int32) (x3 : Int32) (x4 : Int32) (x5 : Int32) (C : MC) (I : MI) (J : MJ) (R : MR) : Prop := ∃ (J0 : MJ) (p h k u : Nat) (a : Tb), x0 = 1 ∧ x2 = iN p ∧ x3 = iN h ∧ x4 = iN k ∧ x5 = iN u ∧ p < 20 ∧ h ≤ 60 ∧ h < k ∧ k < 121 ∧ u ≤ 121 ∧ n = (121 - k) * 200 - 1 - u ∧ MS C R ∧ JT J a p ∧ Fr [126, 127] J0 J ∧ (∀ t, t < 600 → J 126 t = jN (sm (hxO a h t) k + sm (hcO a h t k) u) ∧ J 127 t = jN (sm (hxF a h t) k + sm (hcF a h t k) u)) ∧ ∀ J' : MJ, Fr [126, 127] J0 J' → MP J' (hedT h a) → K (.inl none) C I J' R
theorem S_X2_makeHedge (l : Launch) : SpX2_makeHedge l F_X2_makeHedge := by
  refine wX2_makeHedge (S_X2_at l) V_X2_makeHedge_19 V_X2_makeHedge_94 ?_ ?_ ?_
  · rintro As C I J R K ⟨s, t, a, rfl, hM, hV, hI, ht, h7, hJ, hz, hK⟩
    refine ⟨1, iN t, rfl, ?_⟩
    have hn := hV.1
    have hv := hV.2 t ht
    have h5 := hv.2.1.2.2.2.2.2 h7
    have hp := (hv.1.2.2.1 0 (by omega)).1
    have e8 := hI.of ht (i := 0) (by omega) (by omega)
    rw [Nat.add_zero] at e8
    have e9 := (hI.2 t ht).2.2.1
    unfold PX2_makeHedge_0
    simp (config := { contextual := true }) (disch := omega) only [MS.o hM, MS.r8 hM, MS.c8 hM, MS.r9 hM, MS.c9 hM, le_l_4, lt_l_4, lt_r_4, le_r_4, eq_r_4, mul_l_4, add_r_4, Option.some.injEq, Sum.inl.injEq, Sum.inr.injEq, exists_eq_left', forall_eq, true_and, and_true, false_implies, true_implies, not_false_eq_true, not_true_eq_false, vpT, vp0, tn0, iN_nat, nI_iN, iN_add, iN_lt, iN_le, aI_inj, aJ_inj, aR_inj, e8, e9]
    refine ⟨_, J, prt s t 0, s 9 t, 0, a, rfl, rfl, rfl, rfl, by omega, h5.2, by omega, rfl, hM, hJ, Fr.refl, fun u hu => hz u hu, hK⟩
  · rintro n K x0 x2 x3 x4 C I J R ⟨J0, p, h, k, a, rfl, rfl, rfl, rfl, hp, hh, hk, rfl, hM, hJ, hF, hv, hK⟩
    unfold PX2_makeHedge_19 PX2_makeHedge_255
    simp (config := { contextual := true }) (disch := omega) only [at_eq, MS.o hM, MS.r22 hM, MS.c22 hM, MS.r23 hM, MS.c23 hM, MS.r24 hM, MS.c24 hM, MS.r26 hM, MS.c26 hM, MS.r27 hM, MS.c27 hM, le_l_1, lt_l_1, lt_r_1, le_r_1, eq_r_1, mul_l_1, add_r_1, le_l_121, lt_l_121, lt_r_121, le_r_121, eq_r_121, mul_l_121, add_r_121, Option.some.injEq, Sum.inl.injEq, Sum.inr.injEq, exists_eq_left', forall_eq, true_and, and_true, false_implies, true_implies, not_false_eq_true, not_true_eq_false, vpT, vp0, tn0, iN_nat, nI_iN, iN_add, iN_lt, iN_le, aI_inj, aJ_inj, aR_inj, va_up_self, va_up_ne, acu_eq]
    refine ⟨fun c => ?_, fun c => ⟨fun c2 => ?_, fun c2 => ?_⟩⟩
    · obtain rfl : k = 121 := by omega
      exact hK J hF hv
    · refine ⟨(121 - k) * 200 - 1 - 0, by omega, J0, p, h, k, 0, a, rfl, rfl, rfl, rfl, rfl, hp, hh, c2, by omega, by omega, rfl, hM, hJ, hF, fun t ht => ?_, hK⟩
      exact hv t ht
    · refine ⟨(121 - (k + 1)) * 200, by omega, J0, p, h, k + 1, a, rfl, rfl, rfl, rfl, hp, hh, by omega, rfl, hM, (hJ.up (by decide) (by decide) (by decide)).up (by decide) (by decide) (by decide), (hF.up (by decide)).up (by decide), fun t ht => ?_, hK⟩
      have hj := hJ.1 k (by omega)
      have h1 := hv t ht
      simp (disch := omega) only [va_up_self, va_up_ne, acu_at, h1.1, h1.2, hj.1, hj.2, hJ.2, jN_mul, jN_if, jN_add, sm_succ]
      unfold hxO hxF
      rw [if_pos (show k ≤ h by omega), if_pos (show k ≤ h by omega)]
      exact ⟨rfl, rfl⟩
  · rintro n K x0 x2 x3 x4 x5 C I J R ⟨J0, p, h, k, u, a, rfl, rfl, rfl, rfl, rfl, hp, hh, hhk, hk, hu, rfl, hM, hJ, hF, hv, hK⟩
    have e1 := iN_ifmin (h + u) k (by omega) (by omega)
    have e2 := iN_ifmax (h + u) k (by omega) (by omega)
    rw [← iN_add] at e1 e2
    unfold PX2_makeHedge_94 PX2_makeHedge_255
    simp only [e1, e2]
    simp (config := { contextual := true }) (disch := omega) only [at_eq, MS.o hM, MS.r22 hM, MS.c22 hM, MS.r23 hM, MS.c23 hM, MS.r26 hM, MS.c26 hM, MS.r27 hM, MS.c27 hM, le_l_1, lt_l_1, lt_r_1, le_r_1, eq_r_1, mul_l_1, add_r_1, le_l_121, lt_l_121, lt_r_121, le_r_121, eq_r_121, mul_l_121, add_r_121, Option.some.injEq, Sum.inl.injEq, Sum.inr.injEq, exists_eq_left', forall_eq, true_and, and_true, false_implies, true_implies, not_false_eq_true, not_true_eq_false, vpT, vp0, tn0, iN_nat, nI_iN, iN_add, iN_lt, iN_le, aI_inj, aJ_inj, aR_inj, va_up_self, va_up_ne, acu_eq]
    refine ⟨fun c => ?_, fun c => ?_⟩
    · obtain rfl : u = 121 := by omega
      refine ⟨(121 - (k + 1)) * 200, by omega, J0, p, h, k + 1, a, rfl, rfl, rfl, rfl, hp, hh, by omega, rfl, hM, hJ, hF, fun t ht => ?_, hK⟩
      have h1 := hv t ht
      have q1 : hxO a h t k = sm (hcO a h t k) 121 := if_neg (by omega)
      have q2 : hxF a h t k = sm (hcF a h t k) 121 := if_neg (by omega)
      rw [h1.1, h1.2, sm_succ (hxO a h t) k, sm_succ (hxF a h t) k, q1, q2]
      exact ⟨rfl, rfl⟩
    · refine ⟨(121 - k) * 200 - 1 - (u + 1), by omega, J0, p, h, k, u + 1, a, rfl, rfl, rfl, rfl, rfl, hp, hh, hhk, hk, by omega, rfl, hM, ?_, ?_, fun t ht => ?_, hK⟩
      · exact (((hJ.up (by decide) (by decide) (by decide)).up (by decide) (by decide) (by decide)).up (by decide) (by decide) (by decide)).up (by decide) (by decide) (by decide)
      · exact (((hF.up (by decide)).up (by decide)).up (by decide)).up (by decide)
      · have hj := hJ.1 k (by omega)
        have hj2 := hJ.1 u (by omega)
        have h1 := hv t ht
        simp (disch := omega) only [va_up_self, va_up_ne, acu_at, h1.1, h1.2, hj.1, hj.2, hj2.1, hj2.2, jN_mul, jN_if, jN_add, sm_succ]
        unfold hcO hcF
        rw [Nat.min_comm (h + u) k, Nat.max_comm (h + u) k]
        simp only [Nat.add_assoc, and_self]
