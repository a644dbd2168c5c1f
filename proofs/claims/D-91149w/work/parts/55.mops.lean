/-! OPS 7: the reference's side of weight, by, fails, over, chosen, traces, promise, part, price -/
set_option maxRecDepth 100000
set_option linter.unusedVariables false
theorem isTk_iff2 (x : Int32) : isTk x ↔ ¬ x < 0 ∧ x < (121 : Int32) := by
  constructor
  · rintro ⟨k, hk, rfl⟩
    exact ⟨iN_nn (by omega), (iN_lt (b := 121) (by omega) (by omega)).mpr hk⟩
  · rintro ⟨h1, h2⟩
    obtain ⟨k, hk, rfl, -⟩ := iN_of h1
    exact ⟨k, (iN_lt (b := 121) hk (by omega)).mp h2, rfl⟩
def F_X2_weight : SPF := fun As C I J R K => ∃ x y z : Int32, OpM [aI x, aI y, aI z] (W_weight x y z) As C I J R K
theorem S_X2_weight (l : Launch) : SpX2_weight l F_X2_weight := by
  refine wX2_weight (S_X2_wrongTable l) (S_X2_at l) (S_X2_refuse l) ?_
  rintro As C I J R K ⟨x, y, z, s, v, st, a, b, Kc, rfl, hR, hW, hK⟩
  have h0 := MidM.start hR
  have hM := h0.1.1
  have hn := h0.n20
  refine ⟨1, x, y, z, rfl, ?_⟩
  have bad : ¬ isTk y → PX2_weight_19 F_X2_wrongTable F_X2_at F_X2_refuse K 1 x y z 1 C I J R := fun w => ⟨fun c => absurd c (by decide), fun _ => ⟨h0.o, h0.refJ (hW.1 (Or.inr w)) hK⟩⟩
  refine ⟨fun c => bad (fun w => ((isTk_iff2 y).mp w).1 c), fun c => ⟨fun c2 => ⟨h0.o, ?_⟩, fun c2 => bad (fun w => c2 ((isTk_iff2 y).mp w).2)⟩⟩
  obtain ⟨t, ht, rfl⟩ := (isTk_iff2 y).mpr ⟨c, c2⟩
  refine ⟨s, v, a, b, x, rfl, h0.1, fun w => ⟨_, rfl, fun c => absurd c (by decide), fun _ => ⟨h0.o, h0.refJ (hW.1 (Or.inl w)) hK⟩⟩, fun k hx hk I' J' hF => ⟨fun hg => ⟨_, rfl, fun c => absurd c (by decide), fun _ => ⟨h0.o, (h0.tab hF).refJ ((hW.2 k t hx hk rfl ht).1 hg) hK⟩⟩, fun hg hj => ⟨_, rfl, fun _ => ⟨h0.o, ?_⟩, fun c => absurd (by decide) c⟩⟩⟩
  have hw := (hW.2 k t hx hk rfl ht).2 hg
  have hjt := hj.1 t ht
  subst hx
  intro I9 e9
  obtain rfl : I9 = setI I' 1 0 0 := e9
  have hm := (h0.tab hF).si (x := 0)
  refine ⟨fun c3 => ?_, fun c3 => ?_⟩
  · rw [if_pos c3] at hw
    rw [at_eq]
    refine ⟨_, rfl, 123, hM.r23, by rw [hM.c23], by rw [hM.c23]; exact iN_in (by omega) (by show 121 * k + t < 2420; omega), ?_⟩
    rw [iN_nat (by omega), hjt.2]
    exact hm.done (setI_at _ _ _ _) hw hK
  · rw [if_neg c3] at hw
    rw [at_eq]
    refine ⟨_, rfl, 122, hM.r22, by rw [hM.c22], by rw [hM.c22]; exact iN_in (by omega) (by show 121 * k + t < 2420; omega), ?_⟩
    rw [iN_nat (by omega), hjt.1]
    exact hm.done (setI_at _ _ _ _) hw hK
theorem F_by0_tab {C : MC} {I : MI} {J : MJ} {R : MR} {K : AK} {k t : Nat} {x : Tb} (hM : MS C R) (hk : k < 20) (ht : t < 121) (hj : JT J x k) (h : K (.inl (some (aJ (jN (sm x.1 (t + 1)))))) C I J R) : F_X2_by0 [aR (some 1), aI (iN k), aI (iN t)] C I J R K := by
  refine ⟨k, t, rfl, hk, ht, hM, ?_⟩
  rw [sJ_nat (g := x.1) (fun i hi => (hj.1 i (by omega)).1)]
  exact h
def F_X2_by : SPF := fun As C I J R K => ∃ x y : Int32, OpM [aI x, aI y] (W_by x y) As C I J R K
theorem S_X2_by (l : Launch) : SpX2_by l F_X2_by := by
  refine wX2_by (S_X2_wrongTable l) (S_X2_by0 l) (S_X2_tells l) (S_X2_refuse l) ?_
  rintro As C I J R K ⟨x, y, s, v, st, a, b, Kc, rfl, hR, hW, hK⟩
  have h0 := MidM.start hR
  have hM := h0.1.1
  have hn := h0.n20
  refine ⟨1, x, y, rfl, ?_⟩
  have bad : ¬ isTk y → PX2_by_19 F_X2_wrongTable F_X2_by0 F_X2_tells F_X2_refuse K 1 x y 1 C I J R := fun w => ⟨fun c => absurd c (by decide), fun _ => ⟨h0.o, h0.refI (hW.1 (Or.inr w)) hK⟩⟩
  refine ⟨fun c => bad (fun w => ((isTk_iff2 y).mp w).1 c), fun c => ⟨fun c2 => ⟨h0.o, ?_⟩, fun c2 => bad (fun w => c2 ((isTk_iff2 y).mp w).2)⟩⟩
  obtain ⟨t, ht, rfl⟩ := (isTk_iff2 y).mpr ⟨c, c2⟩
  refine ⟨s, v, a, b, x, rfl, h0.1, fun w => ⟨_, rfl, fun c => absurd c (by decide), fun _ => ⟨h0.o, h0.refI (hW.1 (Or.inl w)) hK⟩⟩, fun k hx hk I' J' hF => ⟨fun hg => ⟨_, rfl, fun c => absurd c (by decide), fun _ => ⟨h0.o, (h0.tab hF).refI ((hW.2 k t hx hk rfl ht).1 hg) hK⟩⟩, fun hg hj => ⟨_, rfl, fun _ => ⟨h0.o, ?_⟩, fun c => absurd (by decide) c⟩⟩⟩
  have hw := (hW.2 k t hx hk rfl ht).2 hg
  have hok := tbl_ok h0.1.2.2.2.2.1 k hk hg
  subst hx
  have hc := c24 hM (show k < 20 by omega)
  refine F_by0_tab hM (by omega) ht hj ⟨_, rfl, h0.o, 124, hM.r24, hc.1, hc.2, ?_⟩
  have h3 := (sm_le121 hok (n := t + 1) (by omega)).1
  have h4 := hok.2
  rw [iN_nat (by omega), hj.2]
  exact (h0.tab hF).tells (by omega) (by omega) hok.1.2.2 hw hK
def F_X2_fails : SPF := fun As C I J R K => ∃ x : Int32, OpM [aI x] (W_fails x) As C I J R K
theorem S_X2_fails (l : Launch) : SpX2_fails l F_X2_fails := by
  refine wX2_fails (S_X2_wrongTable l) (S_X2_by0 l) (S_X2_tells l) (S_X2_refuse l) ?_
  rintro As C I J R K ⟨x, s, v, st, a, b, Kc, rfl, hR, hW, hK⟩
  have h0 := MidM.start hR
  have hM := h0.1.1
  have hn := h0.n20
  refine ⟨1, x, rfl, h0.o, s, v, a, b, x, rfl, h0.1, fun w => ⟨_, rfl, fun c => absurd c (by decide), fun _ => ⟨h0.o, h0.refI (hW.1 w) hK⟩⟩, fun k hx hk I' J' hF => ⟨fun hg => ⟨_, rfl, fun c => absurd c (by decide), fun _ => ⟨h0.o, (h0.tab hF).refI ((hW.2 k hx hk).1 hg) hK⟩⟩, fun hg hj => ⟨_, rfl, fun _ => ⟨h0.o, ?_⟩, fun c => absurd (by decide) c⟩⟩⟩
  have hw := (hW.2 k hx hk).2 hg
  have hok := tbl_ok h0.1.2.2.2.2.1 k hk hg
  subst hx
  have hc := c24 hM (show k < 20 by omega)
  refine ⟨124, hM.r24, hc.1, hc.2, F_by0_tab (t := 120) hM (by omega) (by omega) hj ⟨_, rfl, h0.o, 124, hM.r24, hc.1, hc.2, ?_⟩⟩
  have h3 := sm_le121 hok (n := 121) (by omega)
  have h4 := hok.2
  have h5 := hok.1.sum
  have e : (tbl s k).2.2 - sm (tbl s k).1 (120 + 1) = sm (tbl s k).2.1 121 := by
    have : sm (tbl s k).1 (120 + 1) = sm (tbl s k).1 121 := rfl
    omega
  rw [iN_nat (by omega), hj.2, jN_sub h3.1, e]
  exact (h0.tab hF).tells (by omega) (by omega) hok.1.2.2 hw hK
theorem cArr {C : MC} {c k n : Nat} {kd : Nat} (h : C c = (kd, n)) (hk : k < n) (hn : n ≤ 4000) : (C c).1 = kd ∧ vp_in (iN k) (C c).2 := ⟨by rw [h], by rw [h]; exact iN_in (by omega) hk⟩
def F_X2_over : SPF := fun As C I J R K => ∃ x : Int32, OpM [aI x] (W_over x) As C I J R K
theorem S_X2_over (l : Launch) : SpX2_over l F_X2_over := by
  refine wX2_over (S_X2_isLeaf l) (S_X2_refuse l) ?_
  rintro As C I J R K ⟨x, s, v, st, a, b, Kc, rfl, hR, hW, hK⟩
  have h0 := MidM.start hR
  have hM := h0.1.1
  have hn := h0.n20
  refine ⟨1, x, rfl, h0.o, F_isLeaf_ok h0.1.2.1 hM h0.1.2.2.2.2.1 (fun hl => ⟨_, rfl, fun _ => ⟨h0.o, ?_⟩, fun c => absurd c (by decide)⟩) (fun hl => ⟨_, rfl, fun c => absurd rfl c, fun _ => ⟨h0.o, h0.refI (hW.1 hl) hK⟩⟩)⟩
  obtain ⟨k, hk, h7, rfl⟩ := hl
  intro I9 e9
  obtain rfl : I9 = setI I 1 0 0 := e9
  have hc := cArr hM.c20 (show k < 20 by omega) (by omega)
  refine ⟨120, hM.r20, hc.1, hc.2, ?_⟩
  rw [iN_nat (by omega), setI_far _ _ (by decide), (h0.1.2.2.1 k hk).2.2.2.2.2.1]
  exact h0.si.done (setI_at _ _ _ _) (hW.2 k rfl hk h7) hK
def F_X2_chosen : SPF := fun As C I J R K => ∃ x : Int32, OpM [aI x] (W_chosen x) As C I J R K
theorem iNm1 {n : Nat} (h : n < 2 ^ 31) : ((iN n - 1 : Int32) = -1) ↔ n = 0 := by
  constructor
  · intro w
    refine Classical.byContradiction (fun e => ?_)
    rw [iN_dec e] at w
    exact iN_m1 (by omega) w
  · rintro rfl
    decide
theorem S_X2_chosen (l : Launch) : SpX2_chosen l F_X2_chosen := by
  refine wX2_chosen (S_X2_isLeaf l) (S_X2_refuse l) ?_
  rintro As C I J R K ⟨x, s, v, st, a, b, Kc, rfl, hR, hW, hK⟩
  have h0 := MidM.start hR
  have hM := h0.1.1
  have hn := h0.n20
  refine ⟨1, x, rfl, h0.o, F_isLeaf_ok h0.1.2.1 hM h0.1.2.2.2.2.1 (fun hl => ⟨_, rfl, fun _ => ⟨h0.o, ?_⟩, fun c => absurd c (by decide)⟩) (fun hl => ⟨_, rfl, fun c => absurd rfl c, fun _ => ⟨h0.o, h0.refI (hW.1 hl) hK⟩⟩)⟩
  obtain ⟨k, hk, h7, rfl⟩ := hl
  have hw := hW.2 k rfl hk h7
  have hv := (h0.1.2.2.2.2.1.2 k hk).2.1.1 h7
  have e17 := (h0.1.2.2.1 k hk).2.2.1
  refine ⟨fun c => h0.refI (hw.1 (h0.1.2.2.2.2.2.2.2 c k hk)) hK, fun c => ?_⟩
  have hc := cArr hM.c17 (show k < 20 by omega) (by omega)
  refine ⟨117, hM.r17, hc.1, hc.2, ?_⟩
  rw [iN_nat (by omega), e17, iNm1 (by omega)]
  refine ⟨fun c2 => ?_, fun c2 => h0.refI (hw.1 c2) hK⟩
  intro I9 e9
  obtain rfl : I9 = setI I 1 0 0 := e9
  rw [setI_far _ _ (by decide), e17, iN_dec c2]
  exact h0.si.done (setI_at _ _ _ _) (hw.2 c2) hK
def F_X2_traces : SPF := fun As C I J R K => ∃ x y : Int32, OpM [aI x, aI y] (W_traces x y) As C I J R K
theorem is01_iff2 (y : Int32) : (y = 0 ∨ y = 1) ↔ ¬ y < 0 ∧ y ≤ (1 : Int32) := by
  constructor
  · rintro (rfl | rfl)
    · decide
    · decide
  · rintro ⟨h1, h2⟩
    obtain ⟨k, hk, rfl, -⟩ := iN_of h1
    have h3 := (iN_le (b := 1) hk (by omega)).mp h2
    have h4 : k = 0 ∨ k = 1 := by omega
    rcases h4 with rfl | rfl
    · exact Or.inl rfl
    · exact Or.inr rfl
theorem S_X2_traces (l : Launch) : SpX2_traces l F_X2_traces := by
  refine wX2_traces (S_X2_isThing l) (S_X2_refuse l) ?_
  rintro As C I J R K ⟨x, y, s, v, st, a, b, Kc, rfl, hR, hW, hK⟩
  have h0 := MidM.start hR
  have hM := h0.1.1
  have hn := h0.n20
  refine ⟨1, x, y, rfl, h0.o, F_isThing_ok h0.1.2.1 hM hn (fun hl => ⟨_, rfl, fun c => absurd c (by decide), fun _ => ?_⟩) (fun hl => ⟨_, rfl, fun _ => ⟨h0.o, h0.refI (hW.1 (Or.inl hl)) hK⟩, fun c => absurd rfl c⟩)⟩
  obtain ⟨k, hk, rfl⟩ := hl
  have hw := hW.2 k rfl hk
  have bad : ¬ (y = 0 ∨ y = 1) → (C 1).1 = 3 ∧ F_X2_refuse [aR (some 1), aI (1 : Int32)] C I J R (fun o C9 I10 J11 R12 => ∃ r13 : Int32, o = .inl (some (aI r13)) ∧ K (.inl (some (aI r13))) C9 I10 J11 R12) := fun w => ⟨h0.o, h0.refI (hW.1 (Or.inr w)) hK⟩
  refine ⟨fun c => bad (fun w => ((is01_iff2 y).mp w).1 c), fun c => ⟨fun c2 => ⟨h0.o, ?_⟩, fun c2 => bad (fun w => c2 ((is01_iff2 y).mp w).2)⟩⟩
  have h01 := (is01_iff2 y).mpr ⟨c, c2⟩
  intro I9 e9
  obtain rfl : I9 = setI I 1 0 0 := e9
  refine ⟨fun c3 => ?_, fun c3 => ?_⟩
  · have hc := cArr hM.c19 (show k < 20 by omega) (by omega)
    refine ⟨119, hM.r19, hc.1, hc.2, ?_⟩
    rw [iN_nat (by omega), setI_far _ _ (by decide), (h0.1.2.2.1 k hk).2.2.2.2.1]
    exact h0.si.done (setI_at _ _ _ _) (hw.2 (h01.resolve_left c3)) hK
  · have hc := cArr hM.c18 (show k < 20 by omega) (by omega)
    refine ⟨118, hM.r18, hc.1, hc.2, ?_⟩
    rw [iN_nat (by omega), setI_far _ _ (by decide), (h0.1.2.2.1 k hk).2.2.2.1]
    exact h0.si.done (setI_at _ _ _ _) (hw.1 c3) hK
theorem F_isShare2_ok {C : MC} {I : MI} {J : MJ} {R : MR} {K : AK} {x y : Int32} (h1 : isSh x y → K (.inl (some (aI 1))) C I J R) (h0 : ¬ isSh x y → K (.inl (some (aI 0))) C I J R) : F_X2_isShare [aI x, aI y] C I J R K := by
  obtain ⟨x', y', e, h⟩ := F_isShare_ok (C := C) (I := I) (J := J) (R := R) h1 h0
  exact ⟨x', y', e, h⟩
def F_X2_promise : SPF := fun As C I J R K => ∃ x y z : Int32, OpM [aI x, aI y, aI z] (W_promise x y z) As C I J R K
def V_X2_promise_39 (n : Nat) (K : AK) (x0 : Nat) (x1 : Int32) (x2 : Int32) (x3 : Int32) (x5 : Int32) (C : MC) (I : MI) (J : MJ) (R : MR) : Prop := ∃ (s : St) (v : Tv) (a b : Int64) (Kc : KC) (I0 : MI) (J0 : MJ) (k p d t : Nat) (X : Tb), x0 = 1 ∧ x1 = iN k ∧ x2 = iN p ∧ x3 = iN d ∧ x5 = iN t ∧ k < 20 ∧ 1 ≤ d ∧ d ≤ 1000000 ∧ p ≤ d ∧ t ≤ 121 ∧ n = 121 - t ∧ MidM s v a b C I0 J0 R I J ∧ I 1 0 = 0 ∧ JT J X k ∧ TOk X ∧ W_prm (fsP (fun t => p * X.2.2 ≤ sm X.1 (t + 1) * d) t (121 - t)) s v a b Kc ∧ OpKM Kc C I0 J0 R K
theorem S_X2_promise (l : Launch) : SpX2_promise l F_X2_promise := by
  refine wX2_promise (S_X2_isShare l) (S_X2_wrongTable l) (S_X2_refuse l) (S_X2_by0 l) (S_X2_isEnough l) V_X2_promise_39 ?_ ?_
  · rintro As C I J R K ⟨x, y, z, s, v, st, a, b, Kc, rfl, hR, hW, hK⟩
    have h0 := MidM.start hR
    have hM := h0.1.1
    have hn := h0.n20
    refine ⟨1, x, y, z, rfl, ?_⟩
    refine F_isShare2_ok (fun hs => ⟨1, rfl, fun _ => ⟨h0.o, ?_⟩, fun c => absurd c (by decide)⟩) (fun hs => ⟨0, rfl, fun c => absurd rfl c, fun _ => ⟨fun c => absurd c (by decide), fun _ => ⟨h0.o, h0.refI (hW.1 (Or.inr hs)) hK⟩⟩⟩)
    obtain ⟨p, d, rfl, rfl, d1, d2, d3⟩ := hs
    refine ⟨s, v, a, b, x, rfl, h0.1, fun w => ⟨_, rfl, fun c => absurd c (by decide), fun _ => ⟨h0.o, h0.refI (hW.1 (Or.inl w)) hK⟩⟩, fun k hx hk I' J' hF => ⟨fun hg => ⟨_, rfl, fun c => absurd c (by decide), fun _ => ⟨h0.o, (h0.tab hF).refI ((hW.2 k p d hx hk rfl rfl d1 d2 d3).1 hg) hK⟩⟩, fun hg hj => ⟨_, rfl, fun _ => ⟨h0.o, ?_⟩, fun c => absurd (by decide) c⟩⟩⟩
    have hw := (hW.2 k p d hx hk rfl rfl d1 d2 d3).2 hg
    have hok := tbl_ok h0.1.2.2.2.2.1 k hk hg
    subst hx
    intro I9 e9
    obtain rfl : I9 = setI I' 1 0 0 := e9
    exact ⟨121 - 0, s, v, a, b, Kc, I, J, k, p, d, 0, tbl s k, rfl, rfl, rfl, rfl, rfl, by omega, d1, d2, d3, by omega, rfl, (h0.tab hF).si, setI_at _ _ _ _, hj, hok, hw, hK⟩
  · rintro n K x0 x1 x2 x3 x5 C I J R ⟨s, v, a, b, Kc, I0, J0, k, p, d, t, X, rfl, rfl, rfl, rfl, rfl, hk, d1, d2, d3, ht, rfl, h0, hs, hj, hok, hw, hK⟩
    have hX := hok.2
    have hM := h0.1.1
    unfold PX2_promise_39
    by_cases e : t = 121
    · subst e
      exact ⟨fun c => ⟨h0.o, h0.refI (hw.2 (by show ¬ 121 < 121; omega)) hK⟩, fun c => absurd (by decide) c⟩
    · have hc : ¬ (121 : Int32) ≤ iN t := fun w => by have := (iN_le (a := 121) (by decide) (by omega)).mp w; omega
      have hc4 := c24 hM hk
      refine ⟨fun c => absurd c hc, fun _ => ⟨h0.o, F_by0_tab hM hk (by omega) hj ⟨_, rfl, h0.o, 124, hM.r24, hc4.1, hc4.2, ?_⟩⟩⟩
      have h3 := (sm_le121 hok (n := t + 1) (by omega)).1
      rw [iN_nat (by omega), hj.2, iN_64 (by omega), iN_64 (by omega)]
      have e1 : 121 - t = (121 - (t + 1)) + 1 := by omega
      rw [e1] at hw
      refine ⟨_, _, _, _, rfl, by omega, by omega, by omega, by omega, hok.1.2.2, by omega, ⟨_, rfl, fun c2 => ?_, fun c2 => ?_⟩⟩
      · have hp : ¬ p * X.2.2 ≤ sm X.1 (t + 1) * d := fun w => by
          rw [en_yes w] at c2
          exact absurd c2 (by decide)
        have hf : fsP (fun t => p * X.2.2 ≤ sm X.1 (t + 1) * d) t (121 - (t + 1) + 1) = fsP (fun t => p * X.2.2 ≤ sm X.1 (t + 1) * d) (t + 1) (121 - (t + 1)) := if_neg hp
        rw [hf] at hw
        exact ⟨121 - (t + 1), by omega, s, v, a, b, Kc, I0, J0, k, p, d, t + 1, X, rfl, rfl, rfl, rfl, iN_add t 1, hk, d1, d2, d3, by omega, rfl, h0, hs, hj, hok, hw, hK⟩
      · have hp : p * X.2.2 ≤ sm X.1 (t + 1) * d := Classical.byContradiction (fun w => c2 (en_no w))
        have hf : fsP (fun t => p * X.2.2 ≤ sm X.1 (t + 1) * d) t (121 - (t + 1) + 1) = t := if_pos hp
        rw [hf] at hw
        exact h0.done hs (hw.1 (by omega)) hK
/-- the reference's ints of a leaf are set -/
theorem MidM.ints {s s' : St} {v : Tv} {a b : Int64} {C : MC} {I I1 I' : MI} {J J1 : MJ} {R : MR} (hm : MidM s v a b C I J R I1 J1) (h : SmS s s') (hV : Vd s') (hI : ∀ q, q ≠ 113 → q ≠ 116 → q ≠ 117 → q ≠ 118 → q ≠ 119 → q ≠ 120 → I' q = I1 q) (h15 : ∀ k, k < s 6 0 → s' 15 k = 0) (hC : ∀ k, k < s 6 0 → I' 116 k = iN (s' 16 k) - 1 ∧ I' 117 k = iN (s' 17 k) - 1 ∧ I' 118 k = iN (s' 18 k) ∧ I' 119 k = iN (s' 19 k) ∧ I' 120 k = iN (s' 20 k) ∧ (s 7 k = 0 → ∀ g, g < s 12 k → I' 113 (3 * k + g) = iN (s' 13 (3 * k + g)))) (hb : I1 1 21 = 0 → ∀ k, k < s 6 0 → s' 17 k = 0) : MidM s' v a b C I J R I' J1 := by
  have e6 := h 6 (by decide) (by decide) (by decide) (by decide) (by decide) (by decide) (by decide)
  have e7 := h 7 (by decide) (by decide) (by decide) (by decide) (by decide) (by decide) (by decide)
  have e1 := h 1 (by decide) (by decide) (by decide) (by decide) (by decide) (by decide) (by decide)
  have e3 := h 3 (by decide) (by decide) (by decide) (by decide) (by decide) (by decide) (by decide)
  have e4 := h 4 (by decide) (by decide) (by decide) (by decide) (by decide) (by decide) (by decide)
  have e8 := h 8 (by decide) (by decide) (by decide) (by decide) (by decide) (by decide) (by decide)
  have e9 := h 9 (by decide) (by decide) (by decide) (by decide) (by decide) (by decide) (by decide)
  have e10 := h 10 (by decide) (by decide) (by decide) (by decide) (by decide) (by decide) (by decide)
  have e11 := h 11 (by decide) (by decide) (by decide) (by decide) (by decide) (by decide) (by decide)
  have e12 := h 12 (by decide) (by decide) (by decide) (by decide) (by decide) (by decide) (by decide)
  have e14 := h 14 (by decide) (by decide) (by decide) (by decide) (by decide) (by decide) (by decide)
  obtain ⟨⟨h1, h2, h3, h4, h5, h6, h7, h8⟩, hf⟩ := hm
  have g := fun q (hq : q ≠ 113 ∧ q ≠ 116 ∧ q ≠ 117 ∧ q ≠ 118 ∧ q ≠ 119 ∧ q ≠ 120) => hI q hq.1 hq.2.1 hq.2.2.1 hq.2.2.2.1 hq.2.2.2.2.1 hq.2.2.2.2.2
  refine ⟨⟨h1, ?_, fun k hk => ?_, fun t ht => ?_, hV, h6, h7, fun w => ?_⟩, hf.trans (fun q _ hq => ⟨g q (by omega), rfl⟩)⟩
  · refine ⟨by rw [g 1 (by decide), e6]; exact h2.1, fun k hk => ?_⟩
    rw [e6] at hk
    obtain ⟨a1, a2, a3, a4, a5, a6, a7⟩ := h2.2 k hk
    have a15 := (h3 k hk).2.2.2.2.2.2.2
    rw [g 107 (by decide), g 108 (by decide), g 109 (by decide), g 110 (by decide), g 111 (by decide), g 115 (by decide), g 114 (by decide)]
    unfold prt at a2 ⊢
    rw [e7, e1, e8, e9, e10, e11, e12, e14, h15 k hk]
    exact ⟨a1, a2, a3, a4, a5, by rw [a6, a15], a7⟩
  · rw [e6] at hk
    obtain ⟨b1, b2, b3, b4, b5, b6⟩ := hC k hk
    rw [g 112 (by decide), e12, e7]
    exact ⟨(h3 k hk).1, b1, b2, b3, b4, b5, b6, h15 k hk⟩
  · rw [g 103 (by decide), g 104 (by decide), e3, e4]
    exact h4 t ht
  · rw [g 1 (by decide)] at w
    rw [e6]
    exact hb w
def F_X2_part : SPF := fun As C I J R K => ∃ x y : Int32, OpM [aI x, aI y] (W_part x y) As C I J R K
theorem isPt_iff2 (y : Int32) : isPt y ↔ ¬ y < (-1 : Int32) ∧ y < (121 : Int32) := by
  rw [isPt_iff]
  constructor
  · rintro ⟨h1, h2⟩
    refine ⟨h1, Classical.byContradiction (fun w => h2 ?_)⟩
    exact Int32.lt_of_lt_of_le (by decide) (Int32.not_lt.mp w)
  · rintro ⟨h1, h2⟩
    refine ⟨h1, fun w => ?_⟩
    have a1 := Int32.lt_iff_toInt_lt.mp w
    have a2 := Int32.lt_iff_toInt_lt.mp h2
    have a3 : (120 : Int32).toInt = 120 := by decide
    have a4 : (121 : Int32).toInt = 121 := by decide
    omega
theorem S_X2_part (l : Launch) : SpX2_part l F_X2_part := by
  refine wX2_part (S_X2_isLeaf l) (S_X2_is l) ?_
  rintro As C I J R K ⟨x, y, s, v, st, a, b, Kc, rfl, hR, hW, hK⟩
  have h0 := MidM.start hR
  have hM := h0.1.1
  have hn := h0.n20
  have hV := h0.1.2.2.2.2.1
  have bad : (¬ isLf s x ∨ ¬ isPt y) → (C 1).1 = 3 ∧ F_X2_is [aR (some 1), aI (1 : Int32)] C I J R (fun o C9 I10 J11 R12 => ∃ r13 : Int32, o = .inl (some (aI r13)) ∧ (r13 = 0 ∨ r13 = 1) ∧ K (.inl (some (aI r13))) C9 I10 J11 R12) := fun w => ⟨h0.o, h0.is (by rw [if_neg (by decide)]; exact hW.1 w) hK⟩
  refine ⟨1, x, y, rfl, h0.o, F_isLeaf_ok h0.1.2.1 hM hV (fun hl => ⟨_, rfl, fun c => absurd c (by decide), fun _ => ?_⟩) (fun hl => ⟨_, rfl, fun _ => bad (Or.inl hl), fun c => absurd rfl c⟩)⟩
  obtain ⟨k, hk, h7, rfl⟩ := hl
  refine ⟨fun c => bad (Or.inr (fun w => ((isPt_iff2 y).mp w).1 c)), fun c => ⟨fun c2 => ⟨h0.o, ?_⟩, fun c2 => bad (Or.inr (fun w => c2 ((isPt_iff2 y).mp w).2))⟩⟩
  obtain ⟨p, hp, rfl⟩ := (isPt_iff2 y).mpr ⟨c, c2⟩
  have hc := cArr hM.c16 (show k < 20 by omega) (by omega)
  refine ⟨116, hM.r16, hc.1, hc.2, ?_⟩
  intro I8 e8
  rw [iN_nat (by omega)] at e8
  obtain rfl : I8 = setI I 116 k (iN p - 1) := e8
  have hS : SmS s (su s 16 k p) := SmS.su (by omega)
  have hm : MidM (su s 16 k p) v a b C I J R (setI I 116 k (iN p - 1)) J := by
    refine h0.ints hS (hS.vd hV (fun j hj h7 => ?_)) (fun q _ q6 _ _ _ _ => setI_far _ _ q6) (fun j hj => ?_) (fun j hj => ?_) (fun w j hj => ?_)
    · obtain ⟨b1, b2, b3, b4, b5, b6, b7⟩ := (hV.2 j hj).2.1.1 h7
      rw [su_f s k p (by decide : (15 : Nat) ≠ 16), su_f s k p (by decide : (17 : Nat) ≠ 16), su_f s k p (by decide : (13 : Nat) ≠ 16)]
      refine ⟨b4, b5, ?_, fun g hg => (b7 g hg).2⟩
      by_cases e : j = k
      · rw [e, su_at]
        exact hp
      · rw [su_i s 16 p e]
        exact b6
    · rw [su_f s k p (by decide : (15 : Nat) ≠ 16)]
      exact (h0.1.2.2.1 j hj).2.2.2.2.2.2.2
    · obtain ⟨d1, d2, d3, d4, d5, d6, d7, d8⟩ := h0.1.2.2.1 j hj
      rw [setI_far I (f := k) (iN p - 1) (show (117 : Nat) ≠ 116 by decide), setI_far I (f := k) (iN p - 1) (show (118 : Nat) ≠ 116 by decide), setI_far I (f := k) (iN p - 1) (show (119 : Nat) ≠ 116 by decide), setI_far I (f := k) (iN p - 1) (show (120 : Nat) ≠ 116 by decide), setI_far I (f := k) (iN p - 1) (show (113 : Nat) ≠ 116 by decide), su_f s k p (by decide : (17 : Nat) ≠ 16), su_f s k p (by decide : (18 : Nat) ≠ 16), su_f s k p (by decide : (19 : Nat) ≠ 16), su_f s k p (by decide : (20 : Nat) ≠ 16), su_f s k p (by decide : (13 : Nat) ≠ 16)]
      refine ⟨?_, d3, d4, d5, d6, d7⟩
      by_cases e : j = k
      · rw [e, setI_at, su_at]
      · rw [setI_ne _ _ (Or.inr e), su_i s 16 p e]
        exact d2
    · rw [su_f s k p (by decide : (17 : Nat) ≠ 16)]
      exact h0.1.2.2.2.2.2.2.2 w j hj
  exact hm.is (by rw [if_pos rfl]; exact hW.2 k p rfl hk h7 hp rfl) hK
def F_X2_price : SPF := fun As C I J R K => ∃ x y : Int32, OpM [aI x, aI y] (W_price x y) As C I J R K
theorem F_isPrice_ok {C : MC} {I : MI} {J : MJ} {R : MR} {K : AK} {y : Int32} (h1 : isPc y → K (.inl (some (aI 1))) C I J R) (h0 : ¬ isPc y → K (.inl (some (aI 0))) C I J R) : F_X2_isPrice [aI y] C I J R K :=
  ⟨y, rfl, fun c => h0 (fun w => ((isPc_iff y).mp w).1 c), fun c => ⟨fun c2 => h0 (fun w => ((isPc_iff y).mp w).2 c2), fun c2 => h1 ((isPc_iff y).mpr ⟨c, c2⟩)⟩⟩
theorem S_X2_price (l : Launch) : SpX2_price l F_X2_price := by
  refine wX2_price (S_X2_isLeaf l) (S_X2_is l) (S_X2_isPrice l) ?_
  rintro As C I J R K ⟨x, y, s, v, st, a, b, Kc, rfl, hR, hW, hK⟩
  have h0 := MidM.start hR
  have hM := h0.1.1
  have hn := h0.n20
  have hV := h0.1.2.2.2.2.1
  have bad : (¬ isLf s x ∨ ¬ isPc y) → (C 1).1 = 3 ∧ F_X2_is [aR (some 1), aI (1 : Int32)] C I J R (fun o C9 I10 J11 R12 => ∃ r13 : Int32, o = .inl (some (aI r13)) ∧ (r13 = 0 ∨ r13 = 1) ∧ K (.inl (some (aI r13))) C9 I10 J11 R12) := fun w => ⟨h0.o, h0.is (by rw [if_neg (by decide)]; exact hW.1 w) hK⟩
  refine ⟨1, x, y, rfl, h0.o, F_isLeaf_ok h0.1.2.1 hM hV (fun hl => ⟨_, rfl, fun c => absurd c (by decide), fun _ => F_isPrice_ok (fun hp => ⟨_, rfl, fun _ => ⟨h0.o, ?_⟩, fun c => absurd c (by decide)⟩) (fun hp => ⟨_, rfl, fun c => absurd rfl c, fun _ => bad (Or.inr hp)⟩)⟩) (fun hl => ⟨_, rfl, fun _ => bad (Or.inl hl), fun c => absurd rfl c⟩)⟩
  obtain ⟨k, hk, h7, rfl⟩ := hl
  obtain ⟨p, hp, rfl⟩ := hp
  rw [mul_l_3]
  have hc := cArr hM.c13 (show 3 * k < 60 by omega) (by omega)
  refine ⟨113, hM.r13, hc.1, hc.2, ?_⟩
  intro I8 e8
  rw [iN_nat (by omega)] at e8
  obtain rfl : I8 = setI I 113 (3 * k) (iN p) := e8
  have hS : SmS s (su s 13 (3 * k) p) := SmS.su (by omega)
  have hm : MidM (su s 13 (3 * k) p) v a b C I J R (setI I 113 (3 * k) (iN p)) J := by
    refine h0.ints hS (hS.vd hV (fun j hj h7 => ?_)) (fun q q3 _ _ _ _ _ => setI_far _ _ q3) (fun j hj => ?_) (fun j hj => ?_) (fun w j hj => ?_)
    · obtain ⟨b1, b2, b3, b4, b5, b6, b7⟩ := (hV.2 j hj).2.1.1 h7
      rw [su_f s (3 * k) p (by decide : (15 : Nat) ≠ 13), su_f s (3 * k) p (by decide : (17 : Nat) ≠ 13), su_f s (3 * k) p (by decide : (16 : Nat) ≠ 13)]
      refine ⟨b4, b5, b6, fun g hg => ?_⟩
      by_cases e : 3 * j + g = 3 * k
      · rw [e, su_at]
        exact hp
      · rw [su_i s 13 p e]
        exact (b7 g hg).2
    · rw [su_f s (3 * k) p (by decide : (15 : Nat) ≠ 13)]
      exact (h0.1.2.2.1 j hj).2.2.2.2.2.2.2
    · obtain ⟨d1, d2, d3, d4, d5, d6, d7, d8⟩ := h0.1.2.2.1 j hj
      rw [setI_far I (f := (3 * k)) (iN p) (show (116 : Nat) ≠ 113 by decide), setI_far I (f := (3 * k)) (iN p) (show (117 : Nat) ≠ 113 by decide), setI_far I (f := (3 * k)) (iN p) (show (118 : Nat) ≠ 113 by decide), setI_far I (f := (3 * k)) (iN p) (show (119 : Nat) ≠ 113 by decide), setI_far I (f := (3 * k)) (iN p) (show (120 : Nat) ≠ 113 by decide), su_f s (3 * k) p (by decide : (16 : Nat) ≠ 13), su_f s (3 * k) p (by decide : (17 : Nat) ≠ 13), su_f s (3 * k) p (by decide : (18 : Nat) ≠ 13), su_f s (3 * k) p (by decide : (19 : Nat) ≠ 13), su_f s (3 * k) p (by decide : (20 : Nat) ≠ 13)]
      refine ⟨d2, d3, d4, d5, d6, fun h7 g hg => ?_⟩
      by_cases e : 3 * j + g = 3 * k
      · rw [e, setI_at, su_at]
      · rw [setI_ne _ _ (Or.inr e), su_i s 13 p e]
        exact d7 h7 g hg
    · rw [su_f s (3 * k) p (by decide : (17 : Nat) ≠ 13)]
      exact h0.1.2.2.2.2.2.2.2 w j hj
  exact hm.is (by rw [if_pos rfl]; exact hW.2 k p rfl hk h7 hp rfl) hK
