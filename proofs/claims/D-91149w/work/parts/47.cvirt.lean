/-! CONTRACTS 19: table() of any thing; kinds, asks, leaves -/
set_option maxRecDepth 100000
set_option linter.unusedVariables false
theorem Spec.none {l : Launch} {y : MethodName} {ws : List Cond} {rm : Room} {b : Nat × Nat × Nat × Nat} {F : SPF} (h : ∀ As C I J R K, F As C I J R K → False) : Spec l y ws rm b F := fun _ D dA ad C I J R As K sz hF => (h _ _ _ _ _ _ hF).elim
theorem F_T0_none {c : Nat} (hc : c ≠ 5) (As : List AV) (C : MC) (I : MI) (J : MJ) (R : MR) (K : AK) (h : rkF c (F_T 0) As C I J R K) : False := by
  obtain ⟨⟨s, k, rfl, hd, hk, hX, hK⟩, q, L, hq, hkc⟩ := h
  cases hq
  have hv := hX.1.2 k hk
  have c1 := (hX.2.2 k hk).1.1.1
  rw [c1] at hkc
  have h5 : 5 + s 7 k = c := hkc
  obtain ⟨⟨h7, h1, hp, -⟩, ⟨v0, v1, v2, v3, v4, v5⟩, -⟩ := hv
  have hnp : s 1 k = 0 := by
    rcases Nat.eq_zero_or_pos (s 1 k) with e | e
    · exact e
    · have := (hp 0 e).1
      omega
  have h9 : s 7 k = 1 ∨ s 7 k = 2 ∨ s 7 k = 3 ∨ s 7 k = 4 ∨ s 7 k = 5 := by omega
  rcases h9 with e | e | e | e | e
  · have := v1 e
    omega
  · have := v2 e
    omega
  · have := v3 e
    omega
  · have := v4 e
    omega
  · have := v5 e
    omega
theorem SV_table (l : Launch) : ∀ d, SpVtable l d (F_T d)
  | 0 => ⟨S_X5_table l 0, Spec.none (F_T0_none (by decide)), Spec.none (F_T0_none (by decide)), Spec.none (F_T0_none (by decide)), Spec.none (F_T0_none (by decide)), Spec.none (F_T0_none (by decide))⟩
  | d + 1 => ⟨S_X5_table l (d + 1), S_X6_table l d (SV_table l d), S_X7_table l d (SV_table l d), S_X8_table l d (SV_table l d), S_X9_table l d (SV_table l d), S_X10_table l d (SV_table l d)⟩
def F_K : SPF := fun As C I J R K => ∃ q : Nat, As = [aR (some q)] ∧ kTh (C q).1 ∧ K (.inl (some (aI (iN ((C q).1 - 5))))) C I J R
theorem K_of {c : Nat} {As : List AV} {C : MC} {I : MI} {J : MJ} {R : MR} {K : AK} (h : rkF c F_K As C I J R K) : ∃ q : Nat, As = [aR (some q)] ∧ K (.inl (some (aI (iN (c - 5))))) C I J R := by
  obtain ⟨⟨q, rfl, hk, hK⟩, q', L, he, hc⟩ := h
  cases he
  rw [hc] at hK
  exact ⟨q, rfl, hK⟩
theorem SV_kind (l : Launch) : SpVkind l F_K := ⟨wX5_kind (fun As C I J R K h => K_of h), wX6_kind (fun As C I J R K h => K_of h), wX7_kind (fun As C I J R K h => K_of h), wX8_kind (fun As C I J R K h => K_of h), wX9_kind (fun As C I J R K h => K_of h), wX10_kind (fun As C I J R K h => K_of h)⟩
def F_A : SPF := fun As C I J R K => ∃ (s : St) (k : Nat), As = [aR (some (th k))] ∧ k < s 6 0 ∧ CtX s C I J R ∧ K (.inl (some (aI (iN (tms s k))))) C I J R
theorem A_of {c : Nat} {As : List AV} {C : MC} {I : MI} {J : MJ} {R : MR} {K : AK} (h : rkF c F_A As C I J R K) : ∃ (s : St) (k : Nat), As = [aR (some (th k))] ∧ k < s 6 0 ∧ CtX s C I J R ∧ 5 + s 7 k = c ∧ (C (th k)).1 = c ∧ K (.inl (some (aI (iN (tms s k))))) C I J R := by
  obtain ⟨⟨s, k, rfl, hk, hX, hK⟩, q, L, hq, hc⟩ := h
  cases hq
  have c1 := (hX.2.2 k hk).1.1.1
  have hc0 := hc
  rw [c1] at hc
  exact ⟨s, k, rfl, hk, hX, hc, hc0, hK⟩
theorem A_one {c : Nat} (hc : c ≠ 9 ∧ c ≠ 10) {As : List AV} {C : MC} {I : MI} {J : MJ} {R : MR} {K : AK} (h : rkF c F_A As C I J R K) : ∃ q : Nat, As = [aR (some q)] ∧ K (.inl (some (aI (1 : Int32)))) C I J R := by
  obtain ⟨s, k, rfl, hk, hX, h5, -, hK⟩ := A_of h
  unfold tms at hK
  rw [if_neg (by omega), if_neg (by omega)] at hK
  exact ⟨th k, rfl, hK⟩
theorem SV_asks (l : Launch) : SpVasks l F_A := by
  refine ⟨wX4_asks (fun As C I J R K h => A_one (by decide) h), wX4_asks (fun As C I J R K h => A_one (by decide) h), wX4_asks (fun As C I J R K h => A_one (by decide) h), wX4_asks (fun As C I J R K h => A_one (by decide) h), wX9_asks (fun As C I J R K h => ?_), wX10_asks (fun As C I J R K h => ?_)⟩
  · obtain ⟨s, k, rfl, hk, hX, h5, hc, hK⟩ := A_of h
    have i7 := ((hX.2.2 k hk).2.1.2.2.2.1 (Or.inr (by omega))).2
    unfold tms at hK
    rw [if_pos (by omega), ← iN_add] at hK
    refine ⟨th k, rfl, hc, ?_⟩
    rw [i7]
    exact hK
  · obtain ⟨s, k, rfl, hk, hX, h5, hc, hK⟩ := A_of h
    unfold tms at hK
    rw [if_neg (by omega), if_pos (by omega)] at hK
    exact ⟨th k, rfl, hK⟩
/-! leaves -/
def nln (s : St) : Nat → Nat → Nat
  | 0, _ => 0
  | m + 1, k => if s 7 k = 0 then 1 else sm (fun i => nln s m (prt s k i)) (s 1 k)
def nlv (s : St) (k : Nat) : Nat := nln s (k + 1) k
theorem nln_ok {s : St} (hV : Vd s) : ∀ (m k : Nat), k < m → k < s 6 0 → nln s m k = nlv s k := by
  have key : ∀ (n m m' k : Nat), k < n → k < m → k < m' → k < s 6 0 → nln s m k = nln s m' k := by
    intro n
    induction n with
    | zero => intro m m' k h; exact absurd h (Nat.not_lt_zero _)
    | succ n ih =>
      intro m m' k h hm hm' hk
      obtain ⟨a, rfl⟩ : ∃ a, m = a + 1 := ⟨m - 1, by omega⟩
      obtain ⟨b, rfl⟩ : ∃ b, m' = b + 1 := ⟨m' - 1, by omega⟩
      show (if s 7 k = 0 then 1 else _) = (if s 7 k = 0 then 1 else _)
      by_cases e : s 7 k = 0
      · rw [if_pos e, if_pos e]
      · rw [if_neg e, if_neg e]
        refine sm_congr (fun i hi => ?_)
        have := ((hV.2 k hk).1.2.2.1 i hi).1
        exact ih a b _ (by omega) (by omega) (by omega) (by omega)
  intro m k h hk
  exact key (k + 1) m (k + 1) k (by omega) h (by omega) hk
theorem nlv_leaf {s : St} {k : Nat} (h : s 7 k = 0) : nlv s k = 1 := if_pos h
theorem nlv_sum {s : St} (hV : Vd s) {k : Nat} (hk : k < s 6 0) (h : s 7 k ≠ 0) : nlv s k = sm (fun i => nlv s (prt s k i)) (s 1 k) := by
  show (if s 7 k = 0 then 1 else sm (fun i => nln s k (prt s k i)) (s 1 k)) = _
  rw [if_neg h]
  refine sm_congr (fun i hi => ?_)
  have := ((hV.2 k hk).1.2.2.1 i hi).1
  exact nln_ok hV k _ this (by omega)
theorem inT_cases {s : St} (hV : Vd s) {k j : Nat} (hk : k < s 6 0) (hj : j < s 6 0) (h : inT s k j) : j = k ∨ ∃ i, i < s 1 k ∧ inT s (prt s k i) j := by
  obtain ⟨m, hm⟩ := h
  rcases m with _ | m
  · have h1 : j + 1 = k + 1 := hm
    exact Or.inl (by omega)
  · right
    have h1 : (if anc s m j = 0 then 0 else s 11 (anc s m j - 1)) = k + 1 := hm
    by_cases e : anc s m j = 0
    · rw [if_pos e] at h1
      omega
    · rw [if_neg e] at h1
      have hle := (anc_up hV hj m).1
      obtain ⟨-, i, hi, hp⟩ := (hV.2 (anc s m j - 1) (by omega)).2.2.2 (by omega)
      rw [h1, Nat.add_sub_cancel] at hi hp
      exact ⟨i, hi, m, by rw [hp]; omega⟩
noncomputable def inB (s : St) (k j : Nat) : Nat := @ite Nat (inT s k j) (Classical.propDecidable _) 1 0
theorem inB_yes {s : St} {k j : Nat} (h : inT s k j) : inB s k j = 1 := if_pos h
theorem inB_no {s : St} {k j : Nat} (h : ¬ inT s k j) : inB s k j = 0 := if_neg h
theorem inB_sum {s : St} (hV : Vd s) {k j : Nat} (hk : k < s 6 0) (hj : j < s 6 0) (hne : j ≠ k) : inB s k j = sm (fun i => inB s (prt s k i) j) (s 1 k) := by
  by_cases h : inT s k j
  · rw [inB_yes h]
    rcases inT_cases hV hk hj h with e | ⟨i, hi, h1⟩
    · exact absurd e hne
    · have e1 : ∀ a, a < s 1 k → inB s (prt s k a) j = if a = i then 1 else 0 := fun a ha => by
        by_cases e : a = i
        · rw [if_pos e, e, inB_yes h1]
        · rw [if_neg e, inB_no (inT_apart hV hk hi ha (fun w => e w.symm) hj h1)]
      rw [sm_congr (g := fun a => if a = i then 1 else 0) e1, sm_one, if_pos hi]
  · rw [inB_no h]
    exact (sm_zero (fun i hi => inB_no (fun w => h (inT_part hV hk hi w)))).symm
/-- leaves of a thing, counted along the numbers -/
noncomputable def cntL (s : St) (k N : Nat) : Nat := sm (fun j => if s 7 j = 0 then inB s k j else 0) N
theorem nlv_cnt {s : St} (hV : Vd s) : ∀ (k : Nat), k < s 6 0 → nlv s k = cntL s k (s 6 0) := by
  have key : ∀ (n k : Nat), k < n → k < s 6 0 → nlv s k = cntL s k (s 6 0) := by
    intro n
    induction n with
    | zero => intro k h; exact absurd h (Nat.not_lt_zero _)
    | succ n ih =>
      intro k h hk
      by_cases e : s 7 k = 0
      · rw [nlv_leaf e]
        unfold cntL
        rw [sm_congr (g := fun j => if j = k then 1 else 0) (fun j hj => ?_), sm_one, if_pos hk]
        by_cases e2 : j = k
        · rw [if_pos e2, e2, if_pos e, inB_yes (inT_self s k)]
        · rw [if_neg e2]
          by_cases e3 : s 7 j = 0
          · rw [if_pos e3, inB_no (fun w => ?_)]
            rcases inT_cases hV hk hj w with e4 | ⟨i, hi, -⟩
            · exact e2 e4
            · have := ((hV.2 k hk).2.1.1 e).1
              omega
          · rw [if_neg e3]
      · rw [nlv_sum hV hk e]
        unfold cntL
        rw [sm_congr (g := fun j => sm (fun i => if s 7 j = 0 then inB s (prt s k i) j else 0) (s 1 k)) (n := s 6 0) (fun j hj => ?_)]
        · rw [sm_swap (fun j i => if s 7 j = 0 then inB s (prt s k i) j else 0) (s 1 k) (s 6 0)]
          refine sm_congr (fun i hi => ?_)
          have := ((hV.2 k hk).1.2.2.1 i hi).1
          exact ih _ (by omega) (by omega)
        · by_cases e3 : s 7 j = 0
          · rw [if_pos e3, inB_sum hV hk hj (fun w => e (by rw [← w]; exact e3))]
            exact sm_congr (fun i _ => (if_pos e3).symm)
          · rw [if_neg e3]
            exact (sm_zero (fun i _ => if_neg e3)).symm
  intro k hk
  exact key (k + 1) k (by omega) hk
theorem inB_le (s : St) (k j : Nat) : inB s k j ≤ 1 := by
  by_cases h : inT s k j
  · rw [inB_yes h]
    exact Nat.le_refl _
  · rw [inB_no h]
    exact Nat.zero_le _
theorem cntL_le (s : St) (k : Nat) : ∀ N, cntL s k N ≤ N
  | 0 => Nat.le_refl 0
  | N + 1 => by
    have h := cntL_le s k N
    have h2 := inB_le s k N
    show cntL s k N + (if s 7 N = 0 then inB s k N else 0) ≤ N + 1
    by_cases e : s 7 N = 0
    · rw [if_pos e]
      omega
    · rw [if_neg e]
      omega
def F_L (d : Nat) : SPF := fun As C I J R K => ∃ (s : St) (k : Nat), As = [aR (some (th k))] ∧ k ≤ d ∧ k < s 6 0 ∧ CtX s C I J R ∧ K (.inl (some (aI (iN (nlv s k))))) C I J R
def V_X4_leaves_13 (d n : Nat) (K : AK) (x1 : Int32) (x2 : Option Nat) (x3 : Int32) (x4 : Int32) (C : MC) (I : MI) (J : MJ) (R : MR) : Prop := ∃ (s : St) (k i : Nat), x1 = iN (sm (fun j => nlv s (prt s k j)) i) ∧ x2 = some (th k + 1) ∧ x3 = iN (s 1 k) ∧ x4 = iN i ∧ i ≤ s 1 k ∧ k ≤ d + 1 ∧ n = s 1 k - i ∧ k < s 6 0 ∧ CtX s C I J R ∧ K (.inl (some (aI (iN (sm (fun j => nlv s (prt s k j)) (s 1 k)))))) C I J R
theorem S_X4_leaves (l : Launch) (d c : Nat) (hc : c ≠ 5) (SV : SpVleaves l d (F_L d)) : SpX4_leaves l (d + 1) (rkF c (F_L (d + 1))) := by
  refine wX4_leaves SV (V_X4_leaves_13 d) ?_ ?_
  · rintro As C I J R K ⟨⟨s, k, rfl, hd, hk, hX, hK⟩, q, L, hq, hkc⟩
    cases hq
    have hX0 := hX
    obtain ⟨hV, hG, hcc⟩ := hX0
    obtain ⟨⟨c1, c2, c3, c4, -⟩, -⟩ := (hcc k hk).1
    have h7 : s 7 k ≠ 0 := fun e => by
      rw [c1, e] at hkc
      exact hc hkc.symm
    rw [nlv_sum hV hk h7] at hK
    refine ⟨th k, rfl, kTh_of hX hk, th k + 1, c3, by rw [c2]; exact ⟨show 20 ≤ 26 by decide, show 26 ≤ 30 by decide⟩, ?_⟩
    rw [c3, c2]
    exact ⟨s 1 k - 0, s, k, 0, rfl, rfl, rfl, rfl, Nat.zero_le _, hd, rfl, hk, hX, hK⟩
  · rintro n K x1 x2 x3 x4 C I J R ⟨s, k, i, rfl, rfl, rfl, rfl, hi, hd, rfl, hk, hX, hK⟩
    have hX0 := hX
    obtain ⟨hV, hG, hcc⟩ := hX0
    obtain ⟨⟨c1, c2, c3, c4, -⟩, -⟩ := (hcc k hk).1
    have h14 := (hV.2 k hk).1.2.1
    unfold PX4_leaves_13
    rw [iN_le (by omega) (by omega)]
    refine ⟨fun c => ?_, fun c => ?_⟩
    · obtain rfl : i = s 1 k := by omega
      exact hK
    · have hp := ((hV.2 k hk).1.2.2.1 i (by omega)).1
      refine ⟨th k + 1, rfl, by rw [c2]; exact ⟨show 25 ≤ 26 by decide, show 26 < 30 by decide⟩, by rw [c2]; exact iN_in (by omega) (by show i < s 1 k; omega), th (prt s k i), by rw [iN_nat (by omega)]; exact c4 i (by omega), kTh_of hX (by omega), ?_⟩
      refine ⟨s, prt s k i, rfl, by omega, by omega, hX, ⟨_, rfl, s 1 k - (i + 1), by omega, s, k, i + 1, iN_add _ _, rfl, rfl, iN_add i 1, by omega, hd, rfl, hk, hX, hK⟩⟩
theorem S_X5_leaves (l : Launch) (d : Nat) : SpX5_leaves l d (rkF 5 (F_L d)) := by
  refine wX5_leaves ?_
  rintro As C I J R K ⟨⟨s, k, rfl, hd, hk, hX, hK⟩, q, L, hq, hkc⟩
  cases hq
  have c1 := (hX.2.2 k hk).1.1.1
  rw [c1] at hkc
  have h5 : 5 + s 7 k = 5 := hkc
  rw [nlv_leaf (by omega)] at hK
  exact ⟨th k, rfl, hK⟩
theorem F_L0_none {c : Nat} (hc : c ≠ 5) (As : List AV) (C : MC) (I : MI) (J : MJ) (R : MR) (K : AK) (h : rkF c (F_L 0) As C I J R K) : False := by
  obtain ⟨⟨s, k, rfl, hd, hk, hX, hK⟩, q, L, hq, hkc⟩ := h
  cases hq
  have hv := hX.1.2 k hk
  have c1 := (hX.2.2 k hk).1.1.1
  rw [c1] at hkc
  have h5 : 5 + s 7 k = c := hkc
  obtain ⟨⟨h7, h1, hp, -⟩, ⟨v0, v1, v2, v3, v4, v5⟩, -⟩ := hv
  have hnp : s 1 k = 0 := by
    rcases Nat.eq_zero_or_pos (s 1 k) with e | e
    · exact e
    · have := (hp 0 e).1
      omega
  have h9 : s 7 k = 1 ∨ s 7 k = 2 ∨ s 7 k = 3 ∨ s 7 k = 4 ∨ s 7 k = 5 := by omega
  rcases h9 with e | e | e | e | e
  · have := v1 e
    omega
  · have := v2 e
    omega
  · have := v3 e
    omega
  · have := v4 e
    omega
  · have := v5 e
    omega
theorem SV_leaves (l : Launch) : ∀ d, SpVleaves l d (F_L d)
  | 0 => ⟨S_X5_leaves l 0, Spec.none (F_L0_none (by decide)), Spec.none (F_L0_none (by decide)), Spec.none (F_L0_none (by decide)), Spec.none (F_L0_none (by decide)), Spec.none (F_L0_none (by decide))⟩
  | d + 1 => ⟨S_X5_leaves l (d + 1), S_X4_leaves l d 6 (by decide) (SV_leaves l d), S_X4_leaves l d 7 (by decide) (SV_leaves l d), S_X4_leaves l d 8 (by decide) (SV_leaves l d), S_X4_leaves l d 9 (by decide) (SV_leaves l d), S_X4_leaves l d 10 (by decide) (SV_leaves l d)⟩
