/-! CONTRACTS 14: table() of leaves, rows, caches -/
set_option maxRecDepth 100000
set_option linter.unusedVariables false
/-- in the midst of table() of k -/
def TKc (s : St) (k : Nat) (K : AK) (C : MC) (I : MI) (J0 : MJ) (R0 : MR) (J : MJ) (R : MR) : Prop := CtX s C I J R ∧ k < s 6 0 ∧ s 7 k ≠ 0 ∧ FrJ s k J0 J ∧ FrR s k R0 R ∧ TK s k K C I J0 R0
theorem TKc.great {s : St} {k : Nat} {K : AK} {C : MC} {I : MI} {J0 J : MJ} {R0 R : MR} (h : TKc s k K C I J0 R0 J R) (hg : grt s k) : TG K C I J R := h.2.2.2.2.2.1 hg J R h.2.2.2.1 h.2.2.2.2.1
theorem TKc.to {s : St} {k : Nat} {K : AK} {C : MC} {I : MI} {J0 J J' : MJ} {R0 R R' : MR} (h : TKc s k K C I J0 R0 J R) (hJ : FrJ s k J J') (hR : FrR s k R R') : TKc s k K C I J0 R0 J' R' := ⟨h.1.kept hJ hR, h.2.1, h.2.2.1, h.2.2.2.1.trans hJ, h.2.2.2.2.1.trans hR, h.2.2.2.2.2⟩
theorem TKc.toJ {s : St} {k : Nat} {K : AK} {C : MC} {I : MI} {J0 J J' : MJ} {R0 R : MR} (h : TKc s k K C I J0 R0 J R) (hJ : FrJ s k J J') : TKc s k K C I J0 R0 J' R := h.to hJ FrR.refl
/-- own cells written -/
theorem TKc.fr {s : St} {k : Nat} {K : AK} {C : MC} {I : MI} {J0 J J' : MJ} {R0 R : MR} (h : TKc s k K C I J0 R0 J R) (hJ : ∀ x, (∀ o, o < 40 → x ≠ th k + o) → J' x = J x) : FrJ s k J J' := fun x hx => hJ x (fun o ho e => hx (by rw [e]; exact sc_own h.1.1 h.2.1 h.2.2.1 ho))
theorem T_part {s : St} {k i d : Nat} {K P : AK} {C : MC} {I : MI} {J0 J : MJ} {R0 R : MR} (h : TKc s k K C I J0 R0 J R) (hi : i < s 1 k) (hd : k ≤ d + 1) (hN : ¬ grt s (prt s k i) → ∀ (J' : MJ) (R' : MR) (q : Nat), FrJ s (prt s k i) J J' → FrR s (prt s k i) R R' → TKc s k K C I J0 R0 J' R' → TbS C R' q → RpB J' q (tbl s (prt s k i)) → TOk (tbl s (prt s k i)) → RS s (prt s k i) q → tnm s q → P (.inl (some (aR (some q)))) C I J' R') :
    F_T d [aR (some (th (prt s k i)))] C I J R (fun o C' I' J' R' => P o C' I' J' R' ∨ (∃ q : Nat, o = .inr q ∧ ((C' q).1 = 11 ∧ K (.inr q) C' I' J' R'))) := by
  have hV := h.1.1
  have hp := ((hV.2 k h.2.1).1.2.2.1 i hi).1
  have hk := h.2.1
  refine ⟨s, prt s k i, rfl, by omega, by omega, h.1, fun hg J' R' hJ hR => ?_, fun hg J' R' q hJ hR hT hq hS hb => Or.inl ?_⟩
  · exact tg_lift ((h.to (hJ.part hV hk hi) (hR.part hV hk hi)).great ((grt_iff hV hk).mpr (Or.inl ⟨i, hi, hg⟩)))
  · exact hN hg J' R' q hJ hR (h.to (hJ.part hV hk hi) (hR.part hV hk hi)) hT hq (tbl_ok hV _ (by omega) hg) hS hb
/-- the end of table(): made less, the answer -/
theorem T_less {s : St} {k o : Nat} {K : AK} {C : MC} {I : MI} {J0 J : MJ} {R0 R : MR} (h : TKc s k K C I J0 R0 J R) (ho : o = 2 ∨ o = 5) (hT : TbS C R (th k + o)) (hq : RpB J (th k + o) (raw s (tbl s) k)) (hok : TOk (raw s (tbl s) k)) (hg : ¬ grt s k) :
    F_X3_less [aR (some (th k + o))] C I J R (fun o' C' I' J' R' => ∃ r : Nat, o' = .inl (some (aR (some r))) ∧ K (.inl (some (aR (some r)))) C' I' J' R') := by
  have hV := h.1.1
  refine ⟨th k + o, _, _, _, rfl, hT, hq, ⟨fun i hi => ?_, hok.1.2.2, by have := hok.2; omega⟩, fun J' hJ hR => ⟨_, rfl, ?_⟩⟩
  · have h1 := hok.1.le i
    have h2 := hok.2
    omega
  · have hF : FrJ s k J J' := h.fr (fun x hx => hJ x (hx o (by omega)) (hx (o + 1) (by omega)) (hx (o + 2) (by omega)))
    refine h.2.2.2.2.2.2 hg J' R _ (h.2.2.2.1.trans hF) h.2.2.2.2.1 hT ?_ (RS.own (by omega)) ⟨k, h.2.1, ho.elim (fun z => Or.inl (by rw [z])) (fun z => Or.inr (Or.inl (by rw [z])))⟩
    rw [tbl_eq hV h.2.1]
    exact hR
theorem T_fold {qa qb q e e2 : Nat} {a b : Tb} {oi fi : Nat → Nat} {K : AK} {C : MC} {I : MI} {J : MJ} {R : MR} (ta : TbS C R qa) (tb : TbS C R qb) (tq : TbS C R q) (ha : RpB J qa a) (hb : RpB J qb b) (sa : TS 120 a) (sb : TS 120 b) (haw2 : a.2.2 < 2 ^ 62) (he2 : 0 < e2) (hw : a.2.2 * b.2.2 * e2 < 2 ^ 62) (he : e ≤ e2)
    (ap : ∀ x y, qa ≤ x → x ≤ qa + 2 → q ≤ y → y ≤ q + 2 → x ≠ y) (bp : ∀ x y, qb ≤ x → x ≤ qb + 2 → q ≤ y → y ≤ q + 2 → x ≠ y) (hN : ∀ t, t < 121 → J (q + 1) t = jN (oi t) ∧ J (q + 2) t = jN (fi t)) (hK : FoldK a.1 a.2.1 b.1 b.2.1 oi fi b.2.2 e q K C I J R) :
    F_X0_fold [aR (some qa), aR (some qb), aJ (jN e), aR (some q)] C I J R K := by
  have hm : ∀ x y : Nat, x ≤ a.2.2 → y ≤ b.2.2 → x * y * e < 2 ^ 62 := fun x y hx hy => Nat.lt_of_le_of_lt (Nat.mul_le_mul (Nat.mul_le_mul hx hy) he) hw
  have hl : ∀ i, a.1 i ≤ a.2.2 ∧ a.2.1 i ≤ a.2.2 := fun i => by
    have := sa.le i
    omega
  have hl2 : ∀ i, b.1 i ≤ b.2.2 ∧ b.2.1 i ≤ b.2.2 := fun i => by
    have := sb.le i
    omega
  have he0 : e < 2 ^ 62 := by
    have h1 := hm 1 1 sa.2.2 sb.2.2
    omega
  refine ⟨qa, qb, q, a.1, a.2.1, b.1, b.2.1, oi, fi, b.2.2, e, rfl, ⟨⟨ta, tb, tq⟩, ⟨⟨ap _ _ (by omega) (by omega) (by omega) (by omega), ap _ _ (by omega) (by omega) (by omega) (by omega)⟩, ⟨ap _ _ (by omega) (by omega) (by omega) (by omega), ap _ _ (by omega) (by omega) (by omega) (by omega)⟩, ⟨bp _ _ (by omega) (by omega) (by omega) (by omega), bp _ _ (by omega) (by omega) (by omega) (by omega)⟩, ⟨bp _ _ (by omega) (by omega) (by omega) (by omega), bp _ _ (by omega) (by omega) (by omega) (by omega)⟩, ⟨bp _ _ (by omega) (by omega) (by omega) (by omega), bp _ _ (by omega) (by omega) (by omega) (by omega)⟩⟩, ha.1, hb.1, hb.2, fun i j _ _ => ⟨hm _ _ (hl i).1 (hl2 j).1, hm _ _ (hl i).1 (hl2 j).2⟩, fun i _ => ⟨hm _ _ (hl i).2 (Nat.le_refl _), by have := (hl i).1; omega⟩, he0⟩, hN, hK⟩
theorem raw_0 {s : St} {T : Nat → Tb} {k : Nat} (h : s 7 k = 0) : raw s T k = leafT s k := by unfold raw; rw [h]; rfl
theorem raw_1 {s : St} {T : Nat → Tb} {k : Nat} (h : s 7 k = 1) : raw s T k = rowN T (prt s k) (s 1 k) := by unfold raw; rw [h]; rfl
theorem raw_2 {s : St} {T : Nat → Tb} {k : Nat} (h : s 7 k = 2) : raw s T k = fanT (s 1 k) (s 9 k) T (prt s k) := by unfold raw; rw [h]; rfl
theorem raw_3 {s : St} {T : Nat → Tb} {k : Nat} (h : s 7 k = 3) : raw s T k = cacT (s 9 k) (s 10 k) (T (prt s k 0)) (T (prt s k 1)) := by unfold raw; rw [h]; rfl
theorem raw_4 {s : St} {T : Nat → Tb} {k : Nat} (h : s 7 k = 4) : raw s T k = retT (s 9 k) (s 10 k) (T (prt s k 0)) := by unfold raw; rw [h]; rfl
theorem raw_5 {s : St} {T : Nat → Tb} {k : Nat} (h : s 7 k = 5) : raw s T k = hedT (s 9 k) (T (prt s k 0)) := by unfold raw; rw [h]; rfl
theorem leaf_raw {s : St} (hV : Vd s) {k : Nat} (hk : k < s 6 0) (h7 : s 7 k = 0) : raw s (tbl s) k = leafT s k ∧ 0 < (leafT s k).2.2 ∧ (leafT s k).2.2 ≤ 1000 := by
  have h := (hV.2 k hk).2.1.1 h7
  have h2 := (h.2.2.2.2.2.2 _ h.2.2.2.1).1
  exact ⟨raw_0 h7, h2.1, h2.2⟩
theorem leaf_not {s : St} (hV : Vd s) {k : Nat} (hk : k < s 6 0) (h7 : s 7 k = 0) : ¬ grt s k := by
  have h := leaf_raw hV hk h7
  rw [grt_iff hV hk]
  rintro (⟨i, hi, -⟩ | w | w)
  · have := ((hV.2 k hk).2.1.1 h7).1
    omega
  · rw [h.1] at w
    omega
  · rw [h.1] at w
    exact ((TS.leaf h.2.1).wide (B := 120) (by omega)).notfar w
theorem leaf_tbl {s : St} (hV : Vd s) {k : Nat} (hk : k < s 6 0) (h7 : s 7 k = 0) : tbl s k = lgT s k (s 15 k) := by
  rw [tbl_eq hV hk, (leaf_raw hV hk h7).1]
  rfl
theorem gq_RS {s : St} {k g : Nat} (h7 : s 7 k = 0) (hg : g < 3) : RS s k (gq s k g) := fun x h1 h2 h3 h4 h5 => by
  unfold gq at h1 h2
  by_cases e : g = 0
  · rw [if_pos e] at h1
    omega
  · rw [if_neg e] at h1 h2
    obtain ⟨d, rfl⟩ : ∃ d, x = th k + (13 + 3 * g + d) := ⟨x - (th k + 13 + 3 * g), by omega⟩
    rw [ow_th (by omega)]
    exact inT_self s k
theorem S_X5_table (l : Launch) (d : Nat) : SpX5_table l d (rkF 5 (F_T d)) := by
  refine wX5_table ?_
  rintro As C I J R K ⟨⟨s, k, rfl, hd, hk, hX, hK⟩, q, L, hq, hk5⟩
  cases hq
  obtain ⟨hV, hG, hc⟩ := hX
  obtain ⟨⟨c1, c2, c3, c4, c5, c6, c7, c8, c9⟩, cl, -⟩ := (hc k hk).1
  have h7 : s 7 k = 0 := by
    rw [c1] at hk5
    have h5 : 5 + s 7 k = 5 := hk5
    omega
  obtain ⟨l1, l2, l3, l4, l5⟩ := cl h7
  have hv := (hV.2 k hk).2.1.1 h7
  have i9 := ((hc k hk).2.1.2.1 h7).2.1
  have l6 := l5 _ hv.2.2.2.1
  refine ⟨th k, rfl, ?_⟩
  unfold PX5_table_0
  simp (disch := omega) only [Option.some.injEq, Sum.inl.injEq, Sum.inr.injEq, exists_eq_left', forall_eq, true_and, and_true, false_implies, true_implies, not_false_eq_true, not_true_eq_false, vpT, vp0, tn0, iN_nat, nI_iN, iN_add, iN_lt, iN_le, aI_inj, aJ_inj, aR_inj, c1, h7, l1, l2, i9, l6.1]
  refine ⟨⟨by decide, by decide⟩, hK.2 (leaf_not hV hk h7) J R _ FrJ.refl FrR.refl l6.2 ?_ (gq_RS h7 (by omega)) ⟨k, hk, Or.inr (Or.inr ⟨h7, _, hv.2.2.2.1, rfl⟩)⟩⟩
  rw [leaf_tbl hV hk h7]
  exact (hc k hk).2.2 h7 _ hv.2.2.2.1
/-! a row -/
theorem row_pre {s : St} (hV : Vd s) {k : Nat} (hk : k < s 6 0) (h7 : s 7 k = 1) (hg : ¬ grt s k) : ∀ m, m ≤ s 1 k → TS 120 (rowN (tbl s) (prt s k) m) ∧ (rowN (tbl s) (prt s k) m).2.2 < 2 ^ 62 := by
  rw [grt_iff hV hk] at hg
  have hp := part_ok hV hk (fun w => hg (Or.inl w))
  have e : raw s (tbl s) k = rowN (tbl s) (prt s k) (s 1 k) := raw_1 h7
  refine rowN_near (fun i hi => (hp i hi).1) (fun w => hg (Or.inr (Or.inr (by rw [e]; exact w)))) ?_
  refine Nat.lt_of_not_le (fun w => hg (Or.inr (Or.inl (by rw [e]; exact w))))
def roff (i : Nat) : Nat := if i % 2 = 0 then 5 else 2
def V_X6_table_12 (d n : Nat) (K : AK) (x0 : Nat) (x1 : Nat) (x2 : Int32) (C : MC) (I : MI) (J : MJ) (R : MR) : Prop := ∃ (s : St) (k i : Nat) (J0 : MJ) (R0 : MR), x0 = th k ∧ x2 = iN i ∧ 1 ≤ i ∧ i ≤ s 1 k ∧ n = s 1 k - i ∧ k ≤ d + 1 ∧ s 7 k = 1 ∧ TKc s k K C I J0 R0 J R ∧ TbS C R x1 ∧ RpB J x1 (rowN (tbl s) (prt s k) i) ∧ TOk (rowN (tbl s) (prt s k) i) ∧ (i = 1 → RS s (prt s k 0) x1) ∧ (2 ≤ i → x1 = th k + roff (i - 1)) ∧ ∀ j, j < i → ¬ grt s (prt s k j)
theorem S_X6_table (l : Launch) (d : Nat) (SV : SpVtable l d (F_T d)) : SpX6_table l (d + 1) (rkF 6 (F_T (d + 1))) := by
  refine wX6_table SV (S_X3_less l) (S_X0_times l) (S_X3_anew l) (S_X0_fold l) (V_X6_table_12 d) ?_ ?_
  · rintro As C I J R K ⟨⟨s, k, rfl, hd, hk, hX, hK⟩, q, L, hq, hk6⟩
    cases hq
    have hX0 := hX
    obtain ⟨hV, hG, hc⟩ := hX0
    obtain ⟨⟨c1, c2, c3, c4, c5, c6, c7, c8, c9⟩, -⟩ := (hc k hk).1
    have h7 : s 7 k = 1 := by
      rw [c1] at hk6
      have h5 : 5 + s 7 k = 6 := hk6
      omega
    have hn := (hV.2 k hk).2.1.2.1 h7
    have hp0 := ((hV.2 k hk).1.2.2.1 0 (by omega)).1
    refine ⟨th k, rfl, ?_⟩
    unfold PX6_table_0
    simp (disch := omega) only [Option.some.injEq, Sum.inl.injEq, Sum.inr.injEq, exists_eq_left', forall_eq, true_and, and_true, false_implies, true_implies, not_false_eq_true, not_true_eq_false, vpT, vp0, tn0, iN_nat, nI_iN, iN_add, iN_lt, iN_le, aI_inj, aJ_inj, aR_inj, c1, c2, c3, c4]
    refine ⟨Or.inl (by omega), ⟨by decide, by decide⟩, kTh_of hX (by omega), ?_⟩
    refine T_part (s := s) (k := k) (i := 0) (J0 := J) (R0 := R) ⟨hX, hk, by omega, FrJ.refl, FrR.refl, hK⟩ (by omega) hd (fun hg J' R' q hJ hR hT h1 h2 h3 h4 h5 => ?_)
    refine ⟨q, rfl, s 1 k - 1, s, k, 1, J, R, rfl, rfl, by omega, by omega, rfl, hd, h7, hT, h1, ?_, ?_, fun _ => h4, fun w => by omega, fun j hj => by rw [show j = 0 by omega]; exact hg⟩
    · show RpB J' q (rowS row0 (tbl s (prt s k 0)))
      rw [rowS_row0]
      exact h2
    · show TOk (rowS row0 (tbl s (prt s k 0)))
      rw [rowS_row0]
      exact h3
  · rintro n K x0 x1 x2 C I J R ⟨s, k, i, J0, R0, rfl, rfl, hi1, hi2, rfl, hd, h7, hT, htb, hrp, hok, hs1, hs2, hng⟩
    have hT0 := hT
    obtain ⟨hX, hk, -⟩ := hT0
    have hX0 := hX
    obtain ⟨hV, hG, hc⟩ := hX0
    obtain ⟨⟨c1, c2, c3, c4, c5, c6, c7, c8, c9⟩, -⟩ := (hc k hk).1
    have hn := (hV.2 k hk).2.1.2.1 h7
    have h14 := (hV.2 k hk).1.2.1
    have eraw : raw s (tbl s) k = rowN (tbl s) (prt s k) (s 1 k) := raw_1 h7
    unfold PX6_table_12 PX6_table_48
    by_cases hin : i < s 1 k
    · have hp := ((hV.2 k hk).1.2.2.1 i hin).1
      have step : ∀ o, o = roff i → (o = 2 ∨ o = 5) → ¬ grt s (prt s k i) → ∀ (J' : MJ) (R' : MR) (qb : Nat), FrJ s (prt s k i) J J' → FrR s (prt s k i) R R' → TKc s k K C I J0 R0 J' R' → TbS C R' qb → RpB J' qb (tbl s (prt s k i)) → TOk (tbl s (prt s k i)) → RS s (prt s k i) qb →
          ((C x1).1 = 4 ∧ (C qb).1 = 4 ∧ F_X0_times [aJ (J' x1 2), aJ (J' qb 2)] C I J' R' (fun o' C3 I4 J5 R6 => (∃ r7 : Int64, o' = .inl (some (aJ r7)) ∧ ∃ q8 : Nat, some (th k + o) = some q8 ∧ (C3 q8).1 = 4 ∧ F_X3_anew [aR (some q8), aJ r7] C3 I4 J5 R6 (fun o' C10 I11 J12 R13 => ∃ r14 : Nat, o' = .inl (some (aR (some r14))) ∧ F_X0_fold [aR (some x1), aR (some qb), aJ (1 : Int64), aR (some r14)] C10 I11 J12 R13 (fun o' C15 I16 J17 R18 => (o' = .inl none ∧ ∃ m, m < s 1 k - i ∧ V_X6_table_12 d m K (th k) r14 (iN i + 1) C15 I16 J17 R18) ∨ (∃ q20 : Nat, o' = .inr q20 ∧ ((C15 q20).1 = 11 ∧ K (.inr q20) C15 I16 J17 R18))))) ∨ (∃ q22 : Nat, o' = .inr q22 ∧ ((C3 q22).1 = 11 ∧ K (.inr q22) C3 I4 J5 R6)))) := by
        intro o ho ho2 hgp J' R' qb hJ hR hT' htb' hrp' hok' hRS
        have hc' := (hT'.1.2.2 k hk).1.1
        have c7' := hc'.2.2.2.2.2.2.1
        have c8' := hc'.2.2.2.2.2.2.2.1
        have tq : TbS C R' (th k + o) := by
          rcases ho2 with rfl | rfl
          · exact c7'
          · exact c8'
        -- the row so far is untouched by the part's table
        have keep : ∀ x, x1 ≤ x → x ≤ x1 + 2 → J' x = J x ∧ ∀ y, th k + o ≤ y → y ≤ th k + o + 2 → x ≠ y := by
          intro x h1 h2
          by_cases e : i = 1
          · have hr := hs1 e
            refine ⟨hJ.keep hV hk (by omega) hin (by omega) hr x h1 h2, fun y h3 h4 => ?_⟩
            obtain ⟨z, rfl⟩ : ∃ z, y = th k + z := ⟨y - th k, by omega⟩
            exact hr.ne hV hk (by omega) (by omega) x z h1 h2 (by omega)
          · have hx := hs2 (by omega)
            have hro : roff (i - 1) ≤ 5 ∧ (roff (i - 1) + 3 ≤ o ∨ o + 3 ≤ roff (i - 1)) := by
              rw [ho]
              unfold roff
              by_cases e1 : i % 2 = 0
              · rw [if_pos e1, if_neg (by omega)]
                omega
              · rw [if_neg e1, if_pos (by omega)]
                omega
            refine ⟨?_, fun y h3 h4 => by omega⟩
            obtain ⟨z, rfl⟩ : ∃ z, x = th k + z := ⟨x - th k, by omega⟩
            exact hJ _ (sc_not_own hV hk hin (by omega))
        have htb2 : TbS C R' x1 := by
          refine htb.kept (hR.1 _ (fun w => ?_))
          by_cases e : i = 1
          · exact inT_apart hV hk (by omega) hin (by omega) w.1.2.2.2.1 (hs1 e x1 (by omega) (by omega) w.1.1 w.1.2.1 w.1.2.2.1) w.1.2.2.2.2
          · rw [hs2 (by omega)] at w
            exact sc_not_own hV hk hin (by unfold roff; split <;> omega) w.1
        have hrp2 : RpB J' x1 (rowN (tbl s) (prt s k) i) := hrp.kept (fun y h1 h2 => (keep y h1 h2).1)
        have bad : (¬ TS 120 (rowN (tbl s) (prt s k) (i + 1)) ∨ 2 ^ 62 ≤ (rowN (tbl s) (prt s k) (i + 1)).2.2) → grt s k := fun w => Classical.byContradiction (fun hg => by
          have h1 := row_pre hV hk h7 hg (i + 1) (by omega)
          rcases w with w | w
          · exact w h1.1
          · omega)
        refine ⟨htb2.1, htb'.1, ?_⟩
        rw [hrp2.2, hrp'.2]
        refine F_times_ok hok.2 hok'.1.2.2 hok'.2 (fun hw => Or.inl ⟨_, rfl, th k + o, rfl, tq.1, ?_⟩) (fun hw => tg_lift (hT'.great (bad (Or.inr hw))))
        refine ⟨th k + o, _, rfl, tq, fun J2 hJ2 hz hw2 => ⟨_, rfl, ?_⟩⟩
        have hF2 : FrJ s k J' J2 := hT'.fr (fun x hx => hJ2 x (hx o (by omega)) (hx (o + 1) (by omega)) (hx (o + 2) (by omega)))
        have hT2 := hT'.toJ hF2
        have kb : ∀ x, qb ≤ x → x ≤ qb + 2 → ∀ y, th k + o ≤ y → y ≤ th k + o + 2 → x ≠ y := fun x h1 h2 y h3 h4 => by
          obtain ⟨z, rfl⟩ : ∃ z, y = th k + z := ⟨y - th k, by omega⟩
          exact hRS.ne hV hk (by omega) hin x z h1 h2 (by omega)
        have hrp3 : RpB J2 x1 (rowN (tbl s) (prt s k) i) := hrp2.kept (fun y h1 h2 => by
          have hne := (keep y h1 h2).2
          exact hJ2 y (hne _ (by omega) (by omega)) (hne _ (by omega) (by omega)) (hne _ (by omega) (by omega)))
        have hrp4 : RpB J2 qb (tbl s (prt s k i)) := hrp'.kept (fun y h1 h2 => by
          have hne := kb y h1 h2
          exact hJ2 y (hne _ (by omega) (by omega)) (hne _ (by omega) (by omega)) (hne _ (by omega) (by omega)))
        refine T_fold (e := 1) (e2 := 1) htb2 htb' tq hrp3 hrp4 hok.1 hok'.1 hok.2 (by omega) (by rw [Nat.mul_one]; exact hw) (by omega) (fun x y a1 a2 a3 a4 => (keep x a1 a2).2 y a3 a4) (fun x y a1 a2 a3 a4 => kb x a1 a2 y a3 a4) (oi := fun _ => 0) (fi := fun _ => 0) (fun t ht => hz t ht) ⟨fun hNF J3 hJ3 => ?_, fun hNF J3 hJ3 hv => Or.inl ⟨rfl, ?_⟩⟩
        · rw [noFar_row hok.1 hok'.1 (by omega)] at hNF
          have hF3 : FrJ s k J2 J3 := hT2.fr (fun x hx => hJ3 x (hx (o + 1) (by omega)) (hx (o + 2) (by omega)))
          exact tg_lift ((hT2.toJ hF3).great (bad (Or.inl (fun w => hNF w.notfar))))
        · rw [noFar_row hok.1 hok'.1 (by omega)] at hNF
          have hF3 : FrJ s k J2 J3 := hT2.fr (fun x hx => hJ3 x (hx (o + 1) (by omega)) (hx (o + 2) (by omega)))
          have hTS : TS 120 (rowN (tbl s) (prt s k) (i + 1)) := (ts_rowS hok.1 hok'.1).near hNF
          refine ⟨s 1 k - (i + 1), by omega, s, k, i + 1, J0, R0, rfl, iN_add i 1, by omega, by omega, rfl, hd, h7, hT2.toJ hF3, tq, ⟨fun t ht => ?_, ?_⟩, ⟨hTS, hw⟩, fun w => by omega, fun _ => by rw [Nat.add_sub_cancel, ← ho], fun j hj => by
            by_cases e : j = i
            · rw [e]
              exact hgp
            · exact hng j (by omega)⟩
          · have h1 := hv t ht
            rw [h1.1, h1.2]
            refine ⟨congrArg jN ?_, congrArg jN ?_⟩
            · show 0 + cvl _ _ t * 1 = cvl _ _ t
              omega
            · show 0 + _ * 1 + cvl _ _ t * 1 = _ + cvl _ _ t
              omega
          · rw [hJ3 _ (by omega) (by omega), hw2]
            rfl
      have hodd : ((¬ (iN i - iN i / (2 : Int32) * (2 : Int32)) = 0) ∧ roff i = 2) ∨ ((iN i - iN i / (2 : Int32) * (2 : Int32)) = 0 ∧ roff i = 5) := by
        have h4 : i = 1 ∨ i = 2 ∨ i = 3 := by omega
        rcases h4 with rfl | rfl | rfl
        · exact Or.inl ⟨by decide, by decide⟩
        · exact Or.inr ⟨by decide, by decide⟩
        · exact Or.inl ⟨by decide, by decide⟩
      simp (disch := omega) only [Option.some.injEq, Sum.inl.injEq, Sum.inr.injEq, exists_eq_left', forall_eq, true_and, and_true, false_implies, true_implies, not_false_eq_true, not_true_eq_false, vpT, vp0, tn0, iN_nat, nI_iN, iN_add, iN_lt, iN_le, aI_inj, aJ_inj, aR_inj, c1, c2, c3, c4]
      refine ⟨Or.inl (by omega), ⟨by decide, by decide⟩, fun c => absurd c (by omega), fun _ => ⟨⟨by decide, by decide⟩, kTh_of hX (by omega), ?_⟩⟩
      refine T_part (s := s) (k := k) (i := i) hT hin hd (fun hg J' R' qb hJ hR hT' h1 h2 h3 h4 h5 => ?_)
      have hc' := (hT'.1.2.2 k hk).1.1
      have c5' := hc'.2.2.2.2.1
      have c6' := hc'.2.2.2.2.2.1
      refine ⟨qb, rfl, fun w => ⟨Or.inl (by rw [c1]; show 5 + s 7 k = 6; omega), ?_⟩, fun w => ⟨Or.inl (by rw [c1]; show 5 + s 7 k = 6; omega), ?_⟩⟩
      · rw [c5']
        have ho : roff i = 2 := hodd.elim (fun z => z.2) (fun z => absurd z.1 w)
        exact step 2 ho.symm (Or.inl rfl) hg J' R' qb hJ hR hT' h1 h2 h3 h4
      · rw [c6']
        have ho : roff i = 5 := hodd.elim (fun z => absurd w z.1) (fun z => z.2)
        exact step 5 ho.symm (Or.inr rfl) hg J' R' qb hJ hR hT' h1 h2 h3 h4
    · obtain rfl : i = s 1 k := by omega
      have hx := hs2 (by omega)
      subst hx
      simp (disch := omega) only [Option.some.injEq, Sum.inl.injEq, Sum.inr.injEq, exists_eq_left', forall_eq, true_and, and_true, false_implies, true_implies, not_false_eq_true, not_true_eq_false, vpT, vp0, tn0, iN_nat, nI_iN, iN_add, iN_lt, iN_le, aI_inj, aJ_inj, aR_inj, c1, c2, c3]
      refine ⟨Or.inl (by omega), ⟨by decide, by decide⟩, fun c => ⟨htb.1, ?_⟩, fun c => absurd (Nat.le_refl _) c⟩
      rw [← eraw] at hrp hok
      refine T_less hT (by unfold roff; split <;> omega) htb hrp hok (fun w => ?_)
      rcases (grt_iff hV hk).mp w with ⟨j, hj, w2⟩ | w2 | w2
      · exact hng j hj w2
      · have := hok.2
        omega
      · exact hok.1.notfar w2
