/-! CONTRACTS 18: table() of fans -/
set_option maxRecDepth 100000
set_option linter.unusedVariables false
def F_J8_bitCount : SPF := fun As C I J R K => ∃ (x0 : Int32), As = [aI x0] ∧ PJ8_bitCount_0 K x0 C I J R
theorem S_J8_bitCount (l : Launch) : SpJ8_bitCount l F_J8_bitCount := wJ8_bitCount (fun _ _ _ _ _ _ h => h)
def bcE (x0 : Int32) : Int32 := ((((((((x0 - (((x0.toUInt32 >>> ((1 : Int32).toUInt32 &&& Int32.toUInt32 31)).toInt32) &&& (1431655765 : Int32))) &&& (858993459 : Int32)) + ((((x0 - (((x0.toUInt32 >>> ((1 : Int32).toUInt32 &&& Int32.toUInt32 31)).toInt32) &&& (1431655765 : Int32))).toUInt32 >>> ((2 : Int32).toUInt32 &&& Int32.toUInt32 31)).toInt32) &&& (858993459 : Int32))) + (((((x0 - (((x0.toUInt32 >>> ((1 : Int32).toUInt32 &&& Int32.toUInt32 31)).toInt32) &&& (1431655765 : Int32))) &&& (858993459 : Int32)) + ((((x0 - (((x0.toUInt32 >>> ((1 : Int32).toUInt32 &&& Int32.toUInt32 31)).toInt32) &&& (1431655765 : Int32))).toUInt32 >>> ((2 : Int32).toUInt32 &&& Int32.toUInt32 31)).toInt32) &&& (858993459 : Int32))).toUInt32 >>> ((4 : Int32).toUInt32 &&& Int32.toUInt32 31)).toInt32)) &&& (252645135 : Int32)) + (((((((x0 - (((x0.toUInt32 >>> ((1 : Int32).toUInt32 &&& Int32.toUInt32 31)).toInt32) &&& (1431655765 : Int32))) &&& (858993459 : Int32)) + ((((x0 - (((x0.toUInt32 >>> ((1 : Int32).toUInt32 &&& Int32.toUInt32 31)).toInt32) &&& (1431655765 : Int32))).toUInt32 >>> ((2 : Int32).toUInt32 &&& Int32.toUInt32 31)).toInt32) &&& (858993459 : Int32))) + (((((x0 - (((x0.toUInt32 >>> ((1 : Int32).toUInt32 &&& Int32.toUInt32 31)).toInt32) &&& (1431655765 : Int32))) &&& (858993459 : Int32)) + ((((x0 - (((x0.toUInt32 >>> ((1 : Int32).toUInt32 &&& Int32.toUInt32 31)).toInt32) &&& (1431655765 : Int32))).toUInt32 >>> ((2 : Int32).toUInt32 &&& Int32.toUInt32 31)).toInt32) &&& (858993459 : Int32))).toUInt32 >>> ((4 : Int32).toUInt32 &&& Int32.toUInt32 31)).toInt32)) &&& (252645135 : Int32)).toUInt32 >>> ((8 : Int32).toUInt32 &&& Int32.toUInt32 31)).toInt32)) + ((((((((x0 - (((x0.toUInt32 >>> ((1 : Int32).toUInt32 &&& Int32.toUInt32 31)).toInt32) &&& (1431655765 : Int32))) &&& (858993459 : Int32)) + ((((x0 - (((x0.toUInt32 >>> ((1 : Int32).toUInt32 &&& Int32.toUInt32 31)).toInt32) &&& (1431655765 : Int32))).toUInt32 >>> ((2 : Int32).toUInt32 &&& Int32.toUInt32 31)).toInt32) &&& (858993459 : Int32))) + (((((x0 - (((x0.toUInt32 >>> ((1 : Int32).toUInt32 &&& Int32.toUInt32 31)).toInt32) &&& (1431655765 : Int32))) &&& (858993459 : Int32)) + ((((x0 - (((x0.toUInt32 >>> ((1 : Int32).toUInt32 &&& Int32.toUInt32 31)).toInt32) &&& (1431655765 : Int32))).toUInt32 >>> ((2 : Int32).toUInt32 &&& Int32.toUInt32 31)).toInt32) &&& (858993459 : Int32))).toUInt32 >>> ((4 : Int32).toUInt32 &&& Int32.toUInt32 31)).toInt32)) &&& (252645135 : Int32)) + (((((((x0 - (((x0.toUInt32 >>> ((1 : Int32).toUInt32 &&& Int32.toUInt32 31)).toInt32) &&& (1431655765 : Int32))) &&& (858993459 : Int32)) + ((((x0 - (((x0.toUInt32 >>> ((1 : Int32).toUInt32 &&& Int32.toUInt32 31)).toInt32) &&& (1431655765 : Int32))).toUInt32 >>> ((2 : Int32).toUInt32 &&& Int32.toUInt32 31)).toInt32) &&& (858993459 : Int32))) + (((((x0 - (((x0.toUInt32 >>> ((1 : Int32).toUInt32 &&& Int32.toUInt32 31)).toInt32) &&& (1431655765 : Int32))) &&& (858993459 : Int32)) + ((((x0 - (((x0.toUInt32 >>> ((1 : Int32).toUInt32 &&& Int32.toUInt32 31)).toInt32) &&& (1431655765 : Int32))).toUInt32 >>> ((2 : Int32).toUInt32 &&& Int32.toUInt32 31)).toInt32) &&& (858993459 : Int32))).toUInt32 >>> ((4 : Int32).toUInt32 &&& Int32.toUInt32 31)).toInt32)) &&& (252645135 : Int32)).toUInt32 >>> ((8 : Int32).toUInt32 &&& Int32.toUInt32 31)).toInt32)).toUInt32 >>> ((16 : Int32).toUInt32 &&& Int32.toUInt32 31)).toInt32)) &&& (63 : Int32))
theorem bcE_ok : ∀ x, x < 16 → bcE (iN x) = iN (pcn x 4) := by decide +kernel
theorem F_bitCount_ok {C : MC} {I : MI} {J : MJ} {R : MR} {K : AK} {x : Nat} (hx : x < 16) (hK : K (.inl (some (aI (iN (pcn x 4))))) C I J R) : F_J8_bitCount [aI (iN x)] C I J R K := by
  refine ⟨iN x, rfl, ?_⟩
  show K (.inl (some (aI (bcE (iN x))))) C I J R
  rw [bcE_ok x hx]
  exact hK
theorem bit_ok : ∀ x, x < 16 → ∀ k, k < 4 → (((iN x >>> (iN k &&& 31)) &&& (1 : Int32)) = (1 : Int32) ↔ bt x k = 1) := by decide +kernel
theorem shl_ok : ∀ m, m < 5 → ((1 : Int32) <<< (iN m &&& 31)) = iN (2 ^ m) := by decide +kernel
theorem pcn_cut : ∀ m, m < 5 → ∀ x, x < 2 ^ m → pcn x 4 = pcn x m := by decide +kernel
theorem pow_le16 : ∀ m, m < 5 → 2 ^ m ≤ 16 := by decide +kernel
theorem FrR.up15 {s : St} {k i q : Nat} {R R' : MR} (hV : Vd s) (hk : k < s 6 0) (h7 : s 7 k ≠ 0) (hq : tnm s q) (h : FrR s k R R') : FrR s k R (va_up R' (th k + 15) (va_up (R' (th k + 15)) i (some q))) := by
  refine ⟨fun x hx => ?_, fun x j r hx => ?_⟩
  · rw [va_up_ne _ _ (fun e => hx (by rw [e]; exact ⟨sc_own hV hk h7 (by omega), by unfold th; omega⟩))]
    exact h.1 x hx
  · by_cases e : x = th k + 15
    · subst e
      rw [va_up_self] at hx
      by_cases e2 : j = i
      · subst e2
        rw [va_up_self] at hx
        cases hx
        exact Or.inr hq
      · rw [va_up_ne _ _ e2] at hx
        exact h.2 _ j r hx
    · rw [va_up_ne _ _ e] at hx
      exact h.2 x j r hx
/-- the answers of i parts are held -/
def FaC (s : St) (k i : Nat) (K : AK) (C : MC) (I : MI) (J0 : MJ) (R0 : MR) (J : MJ) (R : MR) (qs : Nat → Nat) : Prop := s 7 k = 2 ∧ TKc s k K C I J0 R0 J R ∧ ∀ j, j < i → ¬ grt s (prt s k j) ∧ R (th k + 15) j = some (qs j) ∧ TbS C R (qs j) ∧ RpB J (qs j) (tbl s (prt s k j)) ∧ RS s (prt s k j) (qs j)
theorem FaC.own {s : St} {k i : Nat} {K : AK} {C : MC} {I : MI} {J0 : MJ} {R0 : MR} {J J' : MJ} {R : MR} {qs : Nat → Nat} (h : FaC s k i K C I J0 R0 J R qs) (hi : i ≤ s 1 k) (hJ : ∀ y, (∀ o, o < 40 → y ≠ th k + o) → J' y = J y) : FaC s k i K C I J0 R0 J' R qs := by
  obtain ⟨h7, hT, hq⟩ := h
  refine ⟨h7, hT.toJ (hT.fr hJ), fun j hj => ?_⟩
  obtain ⟨b1, b2, b3, b4, b5⟩ := hq j hj
  exact ⟨b1, b2, b3, b5.keepJ hT.1.1 hT.2.1 (by omega) (by omega) b4 hJ, b5⟩
theorem FaC.up {s : St} {k i o : Nat} {K : AK} {C : MC} {I : MI} {J0 : MJ} {R0 : MR} {J : MJ} {R : MR} {qs : Nat → Nat} {f : Nat → Int64} (h : FaC s k i K C I J0 R0 J R qs) (hi : i ≤ s 1 k) (ho : o < 40) : FaC s k i K C I J0 R0 (va_up J (th k + o) f) R qs := h.own hi (fun y hy => va_up_ne _ _ (hy o ho))
theorem FaC.facts {s : St} {k i : Nat} {K : AK} {C : MC} {I : MI} {J0 : MJ} {R0 : MR} {J : MJ} {R : MR} {qs : Nat → Nat} (h : FaC s k i K C I J0 R0 J R qs) : C (th k) = (7, 0) ∧ C (th k + 1) = (26, s 1 k) ∧ R (th k) 0 = some (th k + 1) ∧ R (th k) 1 = some (th k + 2) ∧ TbS C R (th k + 2) ∧ R (th k) 9 = some (th k + 15) ∧ C (th k + 15) = (27, s 1 k) ∧ R (th k) 10 = some (th k + 16) ∧ C (th k + 16) = (21, s 1 k) ∧ R (th k) 11 = some (th k + 17) ∧ C (th k + 17) = (21, s 1 k) ∧ I (th k) 8 = iN (s 9 k) ∧ (1 ≤ s 9 k ∧ s 9 k ≤ s 1 k ∧ s 1 k ≤ 4) ∧ raw s (tbl s) k = fanT (s 1 k) (s 9 k) (tbl s) (prt s k) ∧ ∀ j, j < s 1 k → R (th k + 1) j = some (th (prt s k j)) := by
  obtain ⟨h7, hT, hq⟩ := h
  have hc := hT.1.2.2 k hT.2.1
  obtain ⟨⟨c1, c2, c3, c4, c5, c6, c7, c8, c9⟩, -, -, cf, -⟩ := hc.1
  have hn := (hT.1.1.2 k hT.2.1).2.1.2.2.1 h7
  have h14 := (hT.1.1.2 k hT.2.1).1.2.1
  have cf := cf h7
  have i8 := hc.2.1.2.2.1 h7
  rw [h7] at c1
  exact ⟨c1, c2, c3, c5, c7, cf.1, cf.2.1, cf.2.2.1, cf.2.2.2.1, cf.2.2.2.2.1, cf.2.2.2.2.2, i8, ⟨hn.1, hn.2, h14⟩, raw_2 h7, c4⟩
theorem FaC.ok {s : St} {k i : Nat} {K : AK} {C : MC} {I : MI} {J0 : MJ} {R0 : MR} {J : MJ} {R : MR} {qs : Nat → Nat} (h : FaC s k i K C I J0 R0 J R qs) {j : Nat} (hj : j < i) (hi : i ≤ s 1 k) : TOk (tbl s (prt s k j)) := by
  have hp := ((h.2.1.1.1.2 k h.2.1.2.1).1.2.2.1 j (by omega)).1
  have := h.2.1.2.1
  exact tbl_ok h.2.1.1.1 _ (by omega) (h.2.2 j hj).1
def V_X7_table_17 (d n : Nat) (K : AK) (x0 : Nat) (x1 : Int32) (x2 : Nat) (x3 : Int32) (C : MC) (I : MI) (J : MJ) (R : MR) : Prop := ∃ (s : St) (k i : Nat) (qs : Nat → Nat) (J0 : MJ) (R0 : MR), x0 = th k ∧ x1 = iN (s 1 k) ∧ x2 = th k + 2 ∧ x3 = iN i ∧ i ≤ s 1 k ∧ k ≤ d + 1 ∧ n = 1000000 - i ∧ FaC s k i K C I J0 R0 J R qs ∧ J (th k + 2) 2 = jN (rowN (tbl s) (prt s k) i).2.2 ∧ (rowN (tbl s) (prt s k) i).2.2 < 2 ^ 62 ∧ (∀ u, u < 121 → J (th k + 2 + 1) u = 0 ∧ J (th k + 2 + 2) u = 0) ∧ (∀ j, j < i → J (th k + 16) j = 0 ∧ J (th k + 17) j = 0)
/-- ahead of tick t -/
def FaT (s : St) (k t : Nat) (J : MJ) : Prop := J (th k + 2) 2 = jN (rowN (tbl s) (prt s k) (s 1 k)).2.2 ∧ (rowN (tbl s) (prt s k) (s 1 k)).2.2 < 2 ^ 62 ∧ (∀ u, u < 121 → J (th k + 2 + 1) u = jN (if u < t then dif (fnO (tbl s) (prt s k) (s 1 k) (s 9 k)) u else 0) ∧ J (th k + 2 + 2) u = jN (if u < t then dif (fnF (tbl s) (prt s k) (s 1 k) (s 9 k)) u else 0))
theorem FaT.kept {s : St} {k t : Nat} {J J' : MJ} (h : FaT s k t J) (h0 : J' (th k + 2) = J (th k + 2)) (h1 : J' (th k + 2 + 1) = J (th k + 2 + 1)) (h2 : J' (th k + 2 + 2) = J (th k + 2 + 2)) : FaT s k t J' := by
  unfold FaT at h ⊢
  rw [h0, h1, h2]
  exact h
def V_X7_table_85 (d n : Nat) (K : AK) (x0 : Nat) (x1 : Int32) (x2 : Nat) (x3 : Int64) (x5 : Int64) (x7 : Int32) (C : MC) (I : MI) (J : MJ) (R : MR) : Prop := ∃ (s : St) (k t : Nat) (qs : Nat → Nat) (J0 : MJ) (R0 : MR), x0 = th k ∧ x1 = iN (s 1 k) ∧ x2 = th k + 2 ∧ x3 = jN (prv (fnO (tbl s) (prt s k) (s 1 k) (s 9 k)) t) ∧ x5 = jN (prv (fnF (tbl s) (prt s k) (s 1 k) (s 9 k)) t) ∧ x7 = iN t ∧ t ≤ 121 ∧ n = (121 - t) * 1000 ∧ FaC s k (s 1 k) K C I J0 R0 J R qs ∧ FaT s k t J ∧ (∀ j, j < s 1 k → J (th k + 16) j = jN (sm (tbl s (prt s k j)).1 t) ∧ J (th k + 17) j = jN (sm (tbl s (prt s k j)).2.1 t))
def V_X7_table_95 (d n : Nat) (K : AK) (x0 : Nat) (x1 : Int32) (x2 : Nat) (x3 : Int64) (x5 : Int64) (x7 : Int32) (x8 : Int32) (C : MC) (I : MI) (J : MJ) (R : MR) : Prop := ∃ (s : St) (k t i : Nat) (qs : Nat → Nat) (J0 : MJ) (R0 : MR), x0 = th k ∧ x1 = iN (s 1 k) ∧ x2 = th k + 2 ∧ x3 = jN (prv (fnO (tbl s) (prt s k) (s 1 k) (s 9 k)) t) ∧ x5 = jN (prv (fnF (tbl s) (prt s k) (s 1 k) (s 9 k)) t) ∧ x7 = iN t ∧ x8 = iN i ∧ t < 121 ∧ i ≤ s 1 k ∧ n = (121 - t) * 1000 - 1 - i ∧ FaC s k (s 1 k) K C I J0 R0 J R qs ∧ FaT s k t J ∧ (∀ j, j < s 1 k → J (th k + 16) j = jN (sm (tbl s (prt s k j)).1 (if j < i then t + 1 else t)) ∧ J (th k + 17) j = jN (sm (tbl s (prt s k j)).2.1 (if j < i then t + 1 else t)))
/-- by tick t's end -/
def FaW (s : St) (k t : Nat) (J : MJ) : Prop := ∀ j, j < s 1 k → J (th k + 16) j = jN (fyes (tbl s) (prt s k) t j) ∧ J (th k + 17) j = jN (fill (tbl s) (prt s k) t j)
def fnow (s : St) (k t c : Nat) : Nat := sm (fun x => if s 9 k ≤ pcn x (s 1 k) then stP (fyes (tbl s) (prt s k) t) (fno (tbl s) (prt s k) t) x (s 1 k) else 0) c
def fgon (s : St) (k t c : Nat) : Nat := sm (fun x => if s 9 k ≤ pcn x (s 1 k) then 0 else stP (fyes (tbl s) (prt s k) t) (fill (tbl s) (prt s k) t) x (s 1 k)) c
def V_X7_table_162 (d n : Nat) (K : AK) (x0 : Nat) (x1 : Int32) (x2 : Nat) (x3 : Int64) (x5 : Int64) (x7 : Int32) (x8 : Int64) (x10 : Int64) (x12 : Int32) (C : MC) (I : MI) (J : MJ) (R : MR) : Prop := ∃ (s : St) (k t c : Nat) (qs : Nat → Nat) (J0 : MJ) (R0 : MR), x0 = th k ∧ x1 = iN (s 1 k) ∧ x2 = th k + 2 ∧ x3 = jN (prv (fnO (tbl s) (prt s k) (s 1 k) (s 9 k)) t) ∧ x5 = jN (prv (fnF (tbl s) (prt s k) (s 1 k) (s 9 k)) t) ∧ x7 = iN t ∧ x8 = jN (fnow s k t c) ∧ x10 = jN (fgon s k t c) ∧ x12 = iN c ∧ t < 121 ∧ c ≤ 2 ^ s 1 k ∧ n = (121 - t) * 1000 - 10 - c * 10 ∧ FaC s k (s 1 k) K C I J0 R0 J R qs ∧ FaT s k t J ∧ FaW s k t J
def V_X7_table_179 (d n : Nat) (K : AK) (x0 : Nat) (x1 : Int32) (x2 : Nat) (x3 : Int64) (x5 : Int64) (x7 : Int32) (x8 : Int64) (x10 : Int64) (x12 : Int32) (x13 : Int64) (x15 : Int64) (x17 : Int32) (C : MC) (I : MI) (J : MJ) (R : MR) : Prop := ∃ (s : St) (k t c i : Nat) (qs : Nat → Nat) (J0 : MJ) (R0 : MR), x0 = th k ∧ x1 = iN (s 1 k) ∧ x2 = th k + 2 ∧ x3 = jN (prv (fnO (tbl s) (prt s k) (s 1 k) (s 9 k)) t) ∧ x5 = jN (prv (fnF (tbl s) (prt s k) (s 1 k) (s 9 k)) t) ∧ x7 = iN t ∧ x8 = jN (fnow s k t c) ∧ x10 = jN (fgon s k t c) ∧ x12 = iN c ∧ x13 = jN (stP (fyes (tbl s) (prt s k) t) (fno (tbl s) (prt s k) t) c i) ∧ x15 = jN (stP (fyes (tbl s) (prt s k) t) (fill (tbl s) (prt s k) t) c i) ∧ x17 = iN i ∧ t < 121 ∧ c < 2 ^ s 1 k ∧ i ≤ s 1 k ∧ n = (121 - t) * 1000 - 10 - c * 10 - 1 - i ∧ FaC s k (s 1 k) K C I J0 R0 J R qs ∧ FaT s k t J ∧ FaW s k t J
theorem S_X7_table (l : Launch) (d : Nat) (SV : SpVtable l d (F_T d)) : SpX7_table l (d + 1) (rkF 7 (F_T (d + 1))) := by
  refine wX7_table (S_X3_anew l) SV (S_X0_times l) (S_X3_less l) (S_J8_bitCount l) (V_X7_table_17 d) (V_X7_table_85 d) (V_X7_table_95 d) (V_X7_table_162 d) (V_X7_table_179 d) ?_ ?_ ?_ ?_ ?_ ?_
  · rintro As C I J R K ⟨⟨s, k, rfl, hd, hk, hX, hK⟩, q, L, hq, hk8⟩
    cases hq
    have hX0 := hX
    obtain ⟨hV, hG, hc⟩ := hX0
    obtain ⟨⟨c1, c2, c3, c4, c5, c6, c7, c8, c9⟩, -⟩ := (hc k hk).1
    have h7 : s 7 k = 2 := by
      rw [c1] at hk8
      have h5 : 5 + s 7 k = 7 := hk8
      omega
    have hT0 : TKc s k K C I J R J R := ⟨hX, hk, by omega, FrJ.refl, FrR.refl, hK⟩
    refine ⟨th k, rfl, ?_⟩
    unfold PX7_table_0
    simp (disch := omega) only [Option.some.injEq, Sum.inl.injEq, Sum.inr.injEq, exists_eq_left', forall_eq, true_and, and_true, false_implies, true_implies, not_false_eq_true, not_true_eq_false, vpT, vp0, tn0, iN_nat, nI_iN, iN_add, iN_lt, iN_le, aI_inj, aJ_inj, aR_inj, c1, c2, c3, c5, h7]
    refine ⟨⟨by decide, by decide⟩, c7.1, ?_⟩
    refine ⟨th k + 2, _, rfl, c7, fun J3 hJ3 hz hw3 => ⟨_, rfl, 1000000 - 0, s, k, 0, fun _ => 0, J, R, rfl, rfl, rfl, rfl, Nat.zero_le _, hd, rfl, ?_, hw3, by show 1 < 2 ^ 62; omega, hz, fun j hj => absurd hj (Nat.not_lt_zero j)⟩⟩
    exact ⟨h7, hT0.toJ (hT0.fr (fun x hx => hJ3 x (hx 2 (by omega)) (hx 3 (by omega)) (hx 4 (by omega)))), fun j hj => absurd hj (Nat.not_lt_zero j)⟩
  · rintro n K x0 x1 x2 x3 C I J R ⟨s, k, i, qs, J0, R0, rfl, rfl, rfl, rfl, hi, hd, rfl, hF, hq2, hw, hz, hwi⟩
    obtain ⟨c1, c2, c3, c5, c7, c9, c10, c11, c12, c13, c14, i8, hl, eraw, c4⟩ := hF.facts
    have hF0 := hF
    obtain ⟨h7, hT, hq⟩ := hF0
    have hV := hT.1.1
    have hk := hT.2.1
    unfold PX7_table_17
    rw [iN_le (by omega) (by omega)]
    refine ⟨fun c => ?_, fun c => ?_⟩
    · obtain rfl : i = s 1 k := by omega
      refine ⟨(121 - 0) * 1000, by omega, s, k, 0, qs, J0, R0, rfl, rfl, rfl, rfl, rfl, rfl, by omega, rfl, hF, ⟨hq2, hw, fun u hu => ?_⟩, fun j hj => ?_⟩
      · rw [if_neg (Nat.not_lt_zero u), if_neg (Nat.not_lt_zero u)]
        exact hz u hu
      · exact hwi j hj
    · have hi2 : i < s 1 k := by omega
      have hp := ((hV.2 k hk).1.2.2.1 i hi2).1
      refine ⟨by rw [c1], _, c3, by rw [c2]; exact ⟨show 25 ≤ 26 by decide, show 26 < 30 by decide⟩, by rw [c2]; exact iN_in (by omega) hi2, th (prt s k i), by rw [iN_nat (by omega)]; exact c4 i hi2, kTh_of hT.1 (by omega), ?_⟩
      refine T_part (i := i) hT hi2 hd (fun hg J' R' qa hJ hR hT' h1 h2 h3 h4 h5 => ?_)
      have hcR : R' (th k + 15) = R (th k + 15) := hR.1 _ (fun w => sc_not_own hV hk hi2 (by omega) w.1)
      have hcJ : ∀ o, o < 40 → J' (th k + o) = J (th k + o) := fun o ho => hJ _ (sc_not_own hV hk hi2 ho)
      have hT2 : TKc s k K C I J0 R0 J' (va_up R' (th k + 15) (va_up (R' (th k + 15)) i (some qa))) := hT'.to FrJ.refl (FrR.up15 hV hk (by omega) h5 FrR.refl)
      have ne15 : ∀ j qj, j < s 1 k → RS s (prt s k j) qj → qj ≠ th k + 15 := fun j qj hj hr => hr.ne hV hk (by omega) hj qj 15 (by omega) (by omega) (by omega)
      have hF2 : FaC s k (i + 1) K C I J0 R0 J' (va_up R' (th k + 15) (va_up (R' (th k + 15)) i (some qa))) (fun j => if j = i then qa else qs j) := by
        refine ⟨h7, hT2, fun j hj => ?_⟩
        by_cases e : j = i
        · subst e
          have eq1 : (fun j_1 => if j_1 = j then qa else qs j_1) j = qa := if_pos rfl
          rw [va_up_self, va_up_self, eq1]
          exact ⟨hg, rfl, h1.kept (va_up_ne _ _ (ne15 _ _ hi2 h4)), h2, h4⟩
        · obtain ⟨b1, b2, b3, b4, b5⟩ := hq j (by omega)
          have eq2 : (fun j => if j = i then qa else qs j) j = qs j := if_neg e
          rw [va_up_self, va_up_ne _ _ e, eq2, hcR]
          refine ⟨b1, b2, b3.kept ?_, b4.kept (fun x a b => hJ.keep hV hk (by omega) hi2 e b5 x a b), b5⟩
          rw [va_up_ne _ _ (ne15 _ _ (by omega) b5)]
          exact hR.1 _ (fun w => inT_apart hV hk (by omega) hi2 e w.1.2.2.2.1 (b5 _ (by omega) (by omega) w.1.1 w.1.2.1 w.1.2.2.1) w.1.2.2.2.2)
      obtain ⟨d1, d2, d3, d5, d7, d9, d10, d11, d12, d13, d14, -, -, -, d4⟩ := hF2.facts
      refine ⟨qa, rfl, th k + 15, c9, by rw [c10]; exact ⟨show 25 ≤ 27 by decide, show 27 < 29 by decide⟩, by rw [c10, h1.1]; exact Or.inr (Or.inr (Or.inl ⟨rfl, rfl⟩)), by rw [c10]; exact iN_in (by omega) hi2, ?_⟩
      rintro R17 rfl
      rw [iN_nat (show i < 2 ^ 31 by omega)]
      refine ⟨c7.1, by rw [c1], th k + 15, d9, by rw [c10]; exact ⟨show 25 ≤ 27 by decide, show 27 < 30 by decide⟩, by rw [c10]; exact iN_in (by omega) hi2, qa, by rw [va_up_self, va_up_self], h1.1, ?_⟩
      have hq2' : J' (th k + 2) 2 = jN (rowN (tbl s) (prt s k) i).2.2 := by rw [hcJ 2 (by omega)]; exact hq2
      rw [hq2', h2.2]
      have bad : 2 ^ 62 ≤ (rowN (tbl s) (prt s k) (i + 1)).2.2 → grt s k := fun w => Classical.byContradiction (fun hgk => by
        have hng := fun z => hgk ((grt_iff hV hk).mpr z)
        have hpo := part_ok hV hk (fun z => hng (Or.inl z))
        have hw3 : ¬ 2 ^ 62 ≤ (rowN (tbl s) (prt s k) (s 1 k)).2.2 := fun z => hng (Or.inr (Or.inl (by rw [eraw]; exact z)))
        have key : ∀ dd m, m + dd = s 1 k → (rowN (tbl s) (prt s k) m).2.2 < 2 ^ 62 := by
          intro dd
          induction dd with
          | zero => intro m hm; rw [show m = s 1 k by omega]; omega
          | succ dd ih =>
            intro m hm
            have h1 := ih (m + 1) (by omega)
            exact Nat.lt_of_le_of_lt (Nat.le_mul_of_pos_right _ (hpo m (by omega)).1.2.2) h1
        have := key (s 1 k - (i + 1)) (i + 1) (by omega)
        omega)
      refine F_times_ok hw h3.1.2.2 h3.2 (fun hw2 => Or.inl ⟨_, rfl, c7.1, ?_⟩) (fun hw2 => tg_lift (hT2.great (bad hw2)))
      rintro J31 rfl
      refine ⟨by rw [c1], th k + 16, d11, by rw [c12], by rw [c12]; exact iN_in (by omega) hi2, ?_⟩
      rintro J36 rfl
      refine ⟨th k + 17, d13, by rw [c14], by rw [c14]; exact iN_in (by omega) hi2, ?_⟩
      rintro J40 rfl
      refine ⟨1000000 - (i + 1), by omega, s, k, i + 1, _, J0, R0, rfl, rfl, rfl, iN_add i 1, by omega, hd, rfl, ((hF2.up (o := 2) (by omega) (by omega)).up (o := 16) (by omega) (by omega)).up (o := 17) (by omega) (by omega), ?_, hw2, fun u hu => ?_, fun j hj => ?_⟩
      · rw [va_up_ne _ _ (show th k + 2 ≠ th k + 17 by omega), va_up_ne _ _ (show th k + 2 ≠ th k + 16 by omega), va_up_self, va_up_self]
        rfl
      · rw [va_up_ne _ _ (show th k + 2 + 1 ≠ th k + 17 by omega), va_up_ne _ _ (show th k + 2 + 1 ≠ th k + 16 by omega), va_up_ne _ _ (show th k + 2 + 1 ≠ th k + 2 by omega), va_up_ne _ _ (show th k + 2 + 2 ≠ th k + 17 by omega), va_up_ne _ _ (show th k + 2 + 2 ≠ th k + 16 by omega), va_up_ne _ _ (show th k + 2 + 2 ≠ th k + 2 by omega)]
        rw [show th k + 2 + 1 = th k + 3 by omega, show th k + 2 + 2 = th k + 4 by omega, hcJ 3 (by omega), hcJ 4 (by omega)]
        exact hz u hu
      · rw [va_up_self, va_up_ne _ _ (show th k + 16 ≠ th k + 17 by omega), va_up_self, va_up_ne _ _ (show th k + 17 ≠ th k + 16 by omega), va_up_ne _ _ (show th k + 17 ≠ th k + 2 by omega), va_up_ne _ _ (show th k + 16 ≠ th k + 2 by omega), up_val, up_val]
        by_cases e : j = i
        · rw [if_pos e, if_pos e]
          exact ⟨rfl, rfl⟩
        · rw [if_neg e, if_neg e, hcJ 16 (by omega), hcJ 17 (by omega)]
          exact hwi j (by omega)
  · rintro n K x0 x1 x2 x3 x5 x7 C I J R ⟨s, k, t, qs, J0, R0, rfl, rfl, rfl, rfl, rfl, rfl, ht, rfl, hF, hFT, hv⟩
    obtain ⟨c1, c2, c3, c5, c7, c9, c10, c11, c12, c13, c14, i8, hl, eraw, c4⟩ := hF.facts
    have hF0 := hF
    obtain ⟨h7, hT, hq⟩ := hF0
    unfold PX7_table_85
    refine ⟨fun c => ?_, fun c => ?_⟩
    · have h1 := (iN_lt (a := 120) (by decide) (by omega)).mp c
      obtain rfl : t = 121 := by omega
      have hok2 : TOk (raw s (tbl s) k) := by
        rw [eraw]
        exact ⟨ts_fan hl.2.2 (fun j hj => (hF.ok hj (Nat.le_refl _)).1), hFT.2.1⟩
      refine ⟨c7.1, T_less (o := 2) hT (by omega) c7 ?_ hok2 (own_good hT.1.1 hT.2.1 rfl (fun j hj => (hq j hj).1) hok2)⟩
      rw [eraw]
      refine ⟨fun u hu => ?_, hFT.1⟩
      have h2 := hFT.2.2 u hu
      rw [if_pos hu, if_pos hu] at h2
      exact h2
    · have ht1 : t < 121 := Nat.lt_of_not_le (fun w => c ((iN_lt (a := 120) (by decide) (by omega)).mpr (by omega)))
      refine ⟨(121 - t) * 1000 - 1 - 0, by omega, s, k, t, 0, qs, J0, R0, rfl, rfl, rfl, rfl, rfl, rfl, rfl, ht1, by omega, rfl, hF, hFT, fun j hj => ?_⟩
      rw [if_neg (Nat.not_lt_zero j)]
      exact hv j hj
  · rintro n K x0 x1 x2 x3 x5 x7 x8 C I J R ⟨s, k, t, i, qs, J0, R0, rfl, rfl, rfl, rfl, rfl, rfl, rfl, ht, hi, rfl, hF, hFT, hv⟩
    obtain ⟨c1, c2, c3, c5, c7, c9, c10, c11, c12, c13, c14, i8, hl, eraw, c4⟩ := hF.facts
    have hF0 := hF
    obtain ⟨h7, hT, hq⟩ := hF0
    have hV := hT.1.1
    have hk := hT.2.1
    unfold PX7_table_95
    rw [iN_le (by omega) (by omega)]
    refine ⟨fun c => ?_, fun c => ?_⟩
    · obtain rfl : i = s 1 k := by omega
      refine ⟨(121 - t) * 1000 - 10 - 0 * 10, by omega, s, k, t, 0, qs, J0, R0, rfl, rfl, rfl, rfl, rfl, rfl, rfl, rfl, rfl, ht, Nat.zero_le _, rfl, hF, hFT, fun j hj => ?_⟩
      have h1 := hv j hj
      rw [if_pos hj] at h1
      exact h1
    · have hi2 : i < s 1 k := by omega
      obtain ⟨b1, b2, b3, b4, b5⟩ := hq i hi2
      have hvi := hv i hi2
      rw [if_neg (Nat.lt_irrefl i)] at hvi
      refine ⟨by rw [c1], th k + 16, c11, by rw [c12], by rw [c12]; exact iN_in (by omega) hi2, th k + 15, c9, by rw [c10]; exact ⟨show 25 ≤ 27 by decide, show 27 < 30 by decide⟩, by rw [c10]; exact iN_in (by omega) hi2, qs i, by rw [iN_nat (by omega)]; exact b2, b3.1, _, b3.2.1, by rw [b3.2.2.2.1], iN_in (by omega) (by rw [b3.2.2.2.1]; omega), ?_⟩
      rintro J1 rfl
      refine ⟨th k + 17, c13, by rw [c14], by rw [c14]; exact iN_in (by omega) hi2, _, b3.2.2.1, by rw [b3.2.2.2.2], iN_in (by omega) (by rw [b3.2.2.2.2]; omega), ?_⟩
      rintro J2 rfl
      rw [iN_nat (show i < 2 ^ 31 by omega), iN_nat (show t < 2 ^ 31 by omega), va_up_ne J _ (show th k + 17 ≠ th k + 16 by omega), va_up_ne J _ (b5.ne hV hk (by omega) hi2 (qs i + 2) 16 (by omega) (by omega) (by omega)), (b4.1 t ht).1, (b4.1 t ht).2, hvi.1, hvi.2, jN_add, jN_add]
      refine ⟨(121 - t) * 1000 - 1 - (i + 1), by omega, s, k, t, i + 1, qs, J0, R0, rfl, rfl, rfl, rfl, rfl, rfl, iN_add i 1, ht, by omega, rfl, (hF.up (o := 16) (by omega) (by omega)).up (o := 17) (by omega) (by omega), (hFT.kept (va_up_ne _ _ (by omega)) (va_up_ne _ _ (by omega)) (va_up_ne _ _ (by omega))).kept (va_up_ne _ _ (by omega)) (va_up_ne _ _ (by omega)) (va_up_ne _ _ (by omega)), fun j hj => ?_⟩
      rw [va_up_self, va_up_ne _ _ (show th k + 16 ≠ th k + 17 by omega), va_up_self, up_val, up_val]
      have h1 := hv j hj
      by_cases e : j = i
      · rw [if_pos e, if_pos e, if_pos (by omega), e]
        exact ⟨rfl, rfl⟩
      · rw [if_neg e, if_neg e, h1.1, h1.2]
        by_cases e2 : j < i
        · rw [if_pos e2, if_pos (by omega)]
          exact ⟨rfl, rfl⟩
        · rw [if_neg e2, if_neg (by omega)]
          exact ⟨rfl, rfl⟩
  · rintro n K x0 x1 x2 x3 x5 x7 x8 x10 x12 C I J R ⟨s, k, t, c, qs, J0, R0, rfl, rfl, rfl, rfl, rfl, rfl, rfl, rfl, rfl, ht, hc, rfl, hF, hFT, hW⟩
    obtain ⟨c1, c2, c3, c5, c7, c9, c10, c11, c12, c13, c14, i8, hl, eraw, c4⟩ := hF.facts
    have hF0 := hF
    obtain ⟨h7, hT, hq⟩ := hF0
    have hpow := pow_le16 (s 1 k) (by omega)
    have hTS : ∀ j, j < s 1 k → TS 120 (tbl s (prt s k j)) := fun j hj => (hF.ok hj (Nat.le_refl _)).1
    unfold PX7_table_162
    rw [shl_ok (s 1 k) (by omega), iN_le (by omega) (by omega)]
    refine ⟨fun z => ?_, fun z => ?_⟩
    · obtain rfl : c = 2 ^ s 1 k := by omega
      have e1 : fnow s k t (2 ^ s 1 k) = fnO (tbl s) (prt s k) (s 1 k) (s 9 k) t := sets_ge _ _ hl.2.2
      have e2 : fgon s k t (2 ^ s 1 k) = fnF (tbl s) (prt s k) (s 1 k) (s 9 k) t := sets_lt _ _ hl.2.2
      have m1 := prv_le (g := fnO (tbl s) (prt s k) (s 1 k) (s 9 k)) (fun u hu => fnO_mono hl.2.2 hTS hu) ht
      have m2 := prv_le (g := fnF (tbl s) (prt s k) (s 1 k) (s 9 k)) (fun u hu => fnF_mono) ht
      rw [e1, e2, jN_sub m1, jN_sub m2]
      refine ⟨c7.1, th k + 2 + 1, c7.2.1, by rw [c7.2.2.2.1], iN_in (by omega) (by rw [c7.2.2.2.1]; omega), ?_⟩
      rintro J1 rfl
      refine ⟨th k + 2 + 2, c7.2.2.1, by rw [c7.2.2.2.2], iN_in (by omega) (by rw [c7.2.2.2.2]; omega), ?_⟩
      rintro J2 rfl
      rw [iN_nat (show t < 2 ^ 31 by omega)]
      refine ⟨(121 - (t + 1)) * 1000, by omega, s, k, t + 1, qs, J0, R0, rfl, rfl, rfl, ?_, ?_, iN_add t 1, by omega, rfl, (hF.up (o := 3) (by omega) (by omega)).up (o := 4) (by omega) (by omega), ⟨?_, hFT.2.1, fun u hu => ?_⟩, fun j hj => ?_⟩
      · unfold prv
        rw [if_neg (Nat.succ_ne_zero t), Nat.add_sub_cancel]
      · unfold prv
        rw [if_neg (Nat.succ_ne_zero t), Nat.add_sub_cancel]
      · rw [va_up_ne _ _ (show th k + 2 ≠ th k + 2 + 2 by omega), va_up_ne _ _ (show th k + 2 ≠ th k + 2 + 1 by omega)]
        exact hFT.1
      · rw [va_up_self, va_up_ne _ _ (show th k + 2 + 1 ≠ th k + 2 + 2 by omega), va_up_self, va_up_ne _ _ (show th k + 2 + 2 ≠ th k + 2 + 1 by omega), up_val, up_val]
        have h2 := hFT.2.2 u hu
        by_cases e : u = t
        · rw [if_pos e, if_pos e, if_pos (by omega), if_pos (by omega), e, dif_prv _ ht, dif_prv _ ht]
          exact ⟨rfl, rfl⟩
        · rw [if_neg e, if_neg e, h2.1, h2.2]
          by_cases e2 : u < t
          · rw [if_pos e2, if_pos e2, if_pos (by omega), if_pos (by omega)]
            exact ⟨rfl, rfl⟩
          · rw [if_neg e2, if_neg e2, if_neg (by omega), if_neg (by omega)]
            exact ⟨rfl, rfl⟩
      · rw [va_up_ne _ _ (show th k + 16 ≠ th k + 2 + 2 by omega), va_up_ne _ _ (show th k + 16 ≠ th k + 2 + 1 by omega), va_up_ne _ _ (show th k + 17 ≠ th k + 2 + 2 by omega), va_up_ne _ _ (show th k + 17 ≠ th k + 2 + 1 by omega)]
        exact hW j hj
    · exact ⟨(121 - t) * 1000 - 10 - c * 10 - 1 - 0, by omega, s, k, t, c, 0, qs, J0, R0, rfl, rfl, rfl, rfl, rfl, rfl, rfl, rfl, rfl, rfl, rfl, rfl, ht, by omega, by omega, rfl, hF, hFT, hW⟩
  · rintro n K x0 x1 x2 x3 x5 x7 x8 x10 x12 x13 x15 x17 C I J R ⟨s, k, t, c, i, qs, J0, R0, rfl, rfl, rfl, rfl, rfl, rfl, rfl, rfl, rfl, rfl, rfl, rfl, ht, hc, hi, rfl, hF, hFT, hW⟩
    obtain ⟨c1, c2, c3, c5, c7, c9, c10, c11, c12, c13, c14, i8, hl, eraw, c4⟩ := hF.facts
    have hF0 := hF
    obtain ⟨h7, hT, hq⟩ := hF0
    have hpow := pow_le16 (s 1 k) (by omega)
    unfold PX7_table_179 PX7_table_201 PX7_table_238 PX7_table_265 PX7_table_303
    rw [iN_le (by omega) (by omega)]
    refine ⟨fun z => ?_, fun z => ?_⟩
    · obtain rfl : i = s 1 k := by omega
      refine F_bitCount_ok (by omega) ⟨_, rfl, by rw [c1], ?_⟩
      rw [pcn_cut (s 1 k) (by omega) c hc, i8]
      have hpc := pcn_le c (s 1 k)
      rw [iN_lt (by omega) (by omega), jN_add, jN_add]
      refine ⟨fun w => ⟨(121 - t) * 1000 - 10 - (c + 1) * 10, by omega, s, k, t, c + 1, qs, J0, R0, rfl, rfl, rfl, rfl, rfl, rfl, ?_, ?_, iN_add c 1, ht, by omega, rfl, hF, hFT, hW⟩, fun w => ⟨(121 - t) * 1000 - 10 - (c + 1) * 10, by omega, s, k, t, c + 1, qs, J0, R0, rfl, rfl, rfl, rfl, rfl, rfl, ?_, ?_, iN_add c 1, ht, by omega, rfl, hF, hFT, hW⟩⟩
      · show jN (fnow s k t c) = jN (fnow s k t c + (if s 9 k ≤ pcn c (s 1 k) then _ else 0))
        rw [if_neg (by omega)]
        rfl
      · show _ = jN (fgon s k t c + (if s 9 k ≤ pcn c (s 1 k) then 0 else _))
        rw [if_neg (by omega)]
      · show _ = jN (fnow s k t c + (if s 9 k ≤ pcn c (s 1 k) then _ else 0))
        rw [if_pos (by omega)]
      · show jN (fgon s k t c) = jN (fgon s k t c + (if s 9 k ≤ pcn c (s 1 k) then 0 else _))
        rw [if_pos (by omega)]
        rfl
    · have hi2 : i < s 1 k := by omega
      obtain ⟨b1, b2, b3, b4, b5⟩ := hq i hi2
      have hWi := hW i hi2
      have hle := fyes_le ((hF.ok hi2 (Nat.le_refl _)).1) ht
      have hbt := bit_ok c (by omega) i (by omega)
      have go : ∀ (a b : Nat), a = (if bt c i = 1 then fyes (tbl s) (prt s k) t i else fno (tbl s) (prt s k) t i) → b = (if bt c i = 1 then fyes (tbl s) (prt s k) t i else fill (tbl s) (prt s k) t i) → ∃ m, m < (121 - t) * 1000 - 10 - c * 10 - 1 - i ∧ V_X7_table_179 d m K (th k) (iN (s 1 k)) (th k + 2) (jN (prv (fnO (tbl s) (prt s k) (s 1 k) (s 9 k)) t)) (jN (prv (fnF (tbl s) (prt s k) (s 1 k) (s 9 k)) t)) (iN t) (jN (fnow s k t c)) (jN (fgon s k t c)) (iN c) (jN (stP (fyes (tbl s) (prt s k) t) (fno (tbl s) (prt s k) t) c i) * jN a) (jN (stP (fyes (tbl s) (prt s k) t) (fill (tbl s) (prt s k) t) c i) * jN b) (iN i + 1) C I J R := fun a b ha hb => by
        rw [jN_mul, jN_mul, ha, hb]
        exact ⟨(121 - t) * 1000 - 10 - c * 10 - 1 - (i + 1), by omega, s, k, t, c, i + 1, qs, J0, R0, rfl, rfl, rfl, rfl, rfl, rfl, rfl, rfl, rfl, rfl, rfl, iN_add i 1, ht, hc, by omega, rfl, hF, hFT, hW⟩
      have w10 : vp_in (iN i) (C (th k + 16)).2 := by rw [c12]; exact iN_in (by omega) hi2
      have w11 : vp_in (iN i) (C (th k + 17)).2 := by rw [c14]; exact iN_in (by omega) hi2
      have w9 : vp_in (iN i) (C (th k + 15)).2 := by rw [c10]; exact iN_in (by omega) hi2
      rw [hbt, iN_nat (show i < 2 ^ 31 by omega)]
      refine ⟨fun w => ⟨fun _ => ⟨by rw [c1], th k + 15, c9, by rw [c10]; exact ⟨show 25 ≤ 27 by decide, show 27 < 30 by decide⟩, w9, qs i, b2, b3.1, th k + 16, c11, by rw [c12], w10, ⟨fun _ => ⟨by rw [c1], th k + 17, c13, by rw [c14], w11, ?_⟩, fun h => absurd rfl h⟩⟩, fun h => absurd rfl h⟩, fun w => ⟨fun h => absurd h (by decide), fun _ => ⟨by rw [c1], th k + 16, c11, by rw [c12], w10, ⟨fun h => absurd h (by decide), fun _ => ⟨by rw [c1], th k + 16, c11, by rw [c12], w10, ?_⟩⟩⟩⟩⟩
      · rw [hWi.1, hWi.2, b4.2, jN_sub (by omega)]
        refine go _ _ ?_ ?_
        · rw [if_neg w]
          rfl
        · rw [if_neg w]
      · rw [hWi.1]
        refine go _ _ ?_ ?_
        · rw [if_pos w]
        · rw [if_pos w]
