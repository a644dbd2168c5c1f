/-! CONTRACTS 15: table() of caches, hedges -/
set_option maxRecDepth 100000
set_option linter.unusedVariables false
/-- a part's answer is kept when own cells are written -/
theorem RS.keepJ {s : St} {J J' : MJ} {k i q : Nat} {x : Tb} (hV : Vd s) (hk : k < s 6 0) (h7 : s 7 k ≠ 0) (hi : i < s 1 k) (h : RS s (prt s k i) q) (hr : RpB J q x) (hJ : ∀ y, (∀ o, o < 40 → y ≠ th k + o) → J' y = J y) : RpB J' q x :=
  hr.kept (fun y h1 h2 => hJ y (fun o ho => h.ne hV hk h7 hi y o h1 h2 ho))
theorem own_bad {s : St} (hV : Vd s) {k : Nat} (hk : k < s 6 0) {x : Tb} (e : raw s (tbl s) k = x) (h : 2 ^ 62 ≤ x.2.2 ∨ far x) : grt s k := (grt_iff hV hk).mpr (Or.inr (by unfold own; rw [e]; exact h))
theorem own_good {s : St} (hV : Vd s) {k : Nat} (hk : k < s 6 0) {x : Tb} (e : raw s (tbl s) k = x) (hp : ∀ i, i < s 1 k → ¬ grt s (prt s k i)) (h : TOk x) : ¬ grt s k := fun w => by
  rcases (grt_iff hV hk).mp w with ⟨i, hi, w⟩ | w | w
  · exact hp i hi w
  · rw [e] at w
    have := h.2
    omega
  · rw [e] at w
    exact h.1.notfar w
/-- a sum's place, added to -/
theorem add_at {f g : Nat → Int64} {tk : Nat} {w : Int64} (h : g = va_up f tk (f tk + w)) (u : Nat) : g u = f u + (if u = tk then w else 0) := by
  rw [h]
  exact acu_at f tk w u
def V_X8_table_50 (d n : Nat) (K : AK) (x0 : Nat) (x1 : Nat) (x2 : Nat) (x3 : Nat) (x4 : Int32) (C : MC) (I : MI) (J : MJ) (R : MR) : Prop := ∃ (s : St) (k t : Nat) (J0 : MJ) (R0 : MR), x0 = th k ∧ x3 = th k + 2 ∧ x4 = iN t ∧ t ≤ 121 ∧ n = 121 - t ∧ s 7 k = 3 ∧ TKc s k K C I J0 R0 J R ∧ TbS C R x1 ∧ TbS C R x2 ∧ RpB J x1 (tbl s (prt s k 0)) ∧ RpB J x2 (tbl s (prt s k 1)) ∧ RS s (prt s k 0) x1 ∧ RS s (prt s k 1) x2 ∧ (∀ i, i < s 1 k → ¬ grt s (prt s k i)) ∧
  (tbl s (prt s k 0)).2.2 * (tbl s (prt s k 1)).2.2 * s 10 k < 2 ^ 62 ∧ J (th k + 2) 2 = jN ((tbl s (prt s k 0)).2.2 * (tbl s (prt s k 1)).2.2 * s 10 k) ∧
  (∀ u, u < 121 → J (th k + 2 + 1) u = jN (if u < t then (tbl s (prt s k 0)).1 u * (tbl s (prt s k 1)).2.2 * s 9 k else 0) ∧ J (th k + 2 + 2) u = jN (if u < t then (tbl s (prt s k 0)).2.1 u * (tbl s (prt s k 1)).2.2 * s 9 k else 0))
theorem S_X8_table (l : Launch) (d : Nat) (SV : SpVtable l d (F_T d)) : SpX8_table l (d + 1) (rkF 8 (F_T (d + 1))) := by
  refine wX8_table SV (S_X0_times l) (S_X3_anew l) (S_X0_fold l) (S_X3_less l) (S_X3_add l) (V_X8_table_50 d) ?_ ?_
  · rintro As C I J R K ⟨⟨s, k, rfl, hd, hk, hX, hK⟩, q, L, hq, hk8⟩
    cases hq
    have hX0 := hX
    obtain ⟨hV, hG, hc⟩ := hX0
    obtain ⟨⟨c1, c2, c3, c4, c5, c6, c7, c8, c9⟩, -⟩ := (hc k hk).1
    have h7 : s 7 k = 3 := by
      rw [c1] at hk8
      have h5 : 5 + s 7 k = 8 := hk8
      omega
    have hn := (hV.2 k hk).2.1.2.2.2.1 h7
    have hp0 := ((hV.2 k hk).1.2.2.1 0 (by omega)).1
    have hp1 := ((hV.2 k hk).1.2.2.1 1 (by omega)).1
    have i7 := ((hc k hk).2.1.2.2.2.1 (Or.inl h7)).2
    have hT0 : TKc s k K C I J R J R := ⟨hX, hk, by omega, FrJ.refl, FrR.refl, hK⟩
    refine ⟨th k, rfl, ?_⟩
    unfold PX8_table_0
    simp (disch := omega) only [Option.some.injEq, Sum.inl.injEq, Sum.inr.injEq, exists_eq_left', forall_eq, true_and, and_true, false_implies, true_implies, not_false_eq_true, not_true_eq_false, vpT, vp0, tn0, iN_nat, nI_iN, iN_add, iN_lt, iN_le, aI_inj, aJ_inj, aR_inj, c1, c2, c3, c4, h7]
    refine ⟨⟨by decide, by decide⟩, kTh_of hX (by omega), ?_⟩
    refine T_part (i := 0) hT0 (by omega) hd (fun hg J' R' qa hJ hR hT h1 h2 h3 h4 h5 => ?_)
    obtain ⟨⟨d1, d2, d3, d4, d5, d6, d7, d8, d9⟩, -⟩ := (hT.1.2.2 k hk).1
    refine ⟨qa, rfl, by rw [c1, h7], th k + 1, d3, by rw [c2]; exact ⟨show 25 ≤ 26 by decide, show 26 < 30 by decide⟩, by rw [c2]; exact iN_in (a := 1) (by decide) (by show 1 < s 1 k; omega), th (prt s k 1), ?_, kTh_of hX (by omega), ?_⟩
    · exact d4 1 (by omega)
    refine T_part (i := 1) hT (by omega) hd (fun hg' J2 R2 qb hJ2 hR2 hT2 h1' h2' h3' h4' h5' => ?_)
    obtain ⟨⟨e1, e2, e3, e4, e5, e6, e7, e8, e9⟩, -⟩ := (hT2.1.2.2 k hk).1
    have ra : RpB J2 qa (tbl s (prt s k 0)) := h2.kept (fun x a b => hJ2.keep hV hk (i := 0) (i' := 1) (by omega) (by omega) (by omega) h4 x a b)
    have ta : TbS C R2 qa := h1.kept (hR2.1 _ (fun w => inT_apart hV hk (i := 0) (i' := 1) (by omega) (by omega) (by omega) w.1.2.2.2.1 (h4 qa (by omega) (by omega) w.1.1 w.1.2.1 w.1.2.2.1) w.1.2.2.2.2))
    refine ⟨qb, rfl, by rw [c1, h7], ta.1, h1'.1, ?_⟩
    rw [ra.2, h2'.2]
    have eraw : raw s (tbl s) k = cacT (s 9 k) (s 10 k) (tbl s (prt s k 0)) (tbl s (prt s k 1)) := raw_3 h7
    have hmul : (tbl s (prt s k 0)).2.2 * (tbl s (prt s k 1)).2.2 ≤ (tbl s (prt s k 0)).2.2 * (tbl s (prt s k 1)).2.2 * s 10 k := Nat.le_mul_of_pos_right _ (by omega)
    refine F_times_ok h3.2 h3'.1.2.2 h3'.2 (fun hw => Or.inl ⟨_, rfl, by rw [c1, h7], ?_⟩) (fun hw => tg_lift (hT2.great (own_bad hV hk eraw (Or.inl (Nat.le_trans hw hmul)))))
    rw [i7, iN_64 (by omega)]
    refine F_times_ok hw (by omega) (by omega) (fun hw2 => Or.inl ⟨_, rfl, th k + 2, e5, e7.1, ?_⟩) (fun hw2 => tg_lift (hT2.great (own_bad hV hk eraw (Or.inl hw2))))
    refine ⟨th k + 2, _, rfl, e7, fun J3 hJ3 hz hw3 => ⟨_, rfl, 121 - 0, s, k, 0, J, R, rfl, rfl, rfl, by omega, rfl, h7, ?_, ta, h1', ?_, ?_, h4, h4', ?_, hw2, hw3, fun u hu => ?_⟩⟩
    · exact hT2.toJ (hT2.fr (fun x hx => hJ3 x (hx 2 (by omega)) (hx 3 (by omega)) (hx 4 (by omega))))
    · exact h4.keepJ hV hk (by omega) (by omega) ra (fun x hx => hJ3 x (hx 2 (by omega)) (hx 3 (by omega)) (hx 4 (by omega)))
    · exact h4'.keepJ hV hk (by omega) (by omega) h2' (fun x hx => hJ3 x (hx 2 (by omega)) (hx 3 (by omega)) (hx 4 (by omega)))
    · intro i hi
      have h01 : i = 0 ∨ i = 1 := by omega
      rcases h01 with rfl | rfl
      · exact hg
      · exact hg'
    · rw [if_neg (Nat.not_lt_zero u), if_neg (Nat.not_lt_zero u)]
      exact hz u hu
  · rintro n K x0 x1 x2 x3 x4 C I J R ⟨s, k, t, J0, R0, rfl, rfl, rfl, ht, rfl, h7, hT, ta, tb, ra, rb, sa, sb, hg, hw, hq2, hv⟩
    have hT0 := hT
    obtain ⟨hX, hk, -⟩ := hT0
    have hX0 := hX
    obtain ⟨hV, hG, hc⟩ := hX0
    obtain ⟨⟨c1, c2, c3, c4, c5, c6, c7, c8, c9⟩, -⟩ := (hc k hk).1
    have hn := (hV.2 k hk).2.1.2.2.2.1 h7
    have i67 := (hc k hk).2.1.2.2.2.1 (Or.inl h7)
    have hpo := part_ok hV hk (fun ⟨i, hi, w⟩ => hg i hi w)
    have oa := hpo 0 (by omega)
    have ob := hpo 1 (by omega)
    have eraw : raw s (tbl s) k = cacT (s 9 k) (s 10 k) (tbl s (prt s k 0)) (tbl s (prt s k 1)) := raw_3 h7
    have na : ∀ x o, x1 ≤ x → x ≤ x1 + 2 → o < 40 → x ≠ th k + o := fun x o h1 h2 h3 => sa.ne hV hk (by omega) (by omega) x o h1 h2 h3
    have nb : ∀ x o, x2 ≤ x → x ≤ x2 + 2 → o < 40 → x ≠ th k + o := fun x o h1 h2 h3 => sb.ne hV hk (by omega) (by omega) x o h1 h2 h3
    unfold PX8_table_50
    refine ⟨fun c => ?_, fun c => ?_⟩
    · have h1 := (iN_lt (a := 120) (by decide) (by omega)).mp c
      obtain rfl : t = 121 := by omega
      refine ⟨by rw [c1, h7], ?_⟩
      rw [i67.1, i67.2, iN_sub hn.2.1, iN_64 (by omega)]
      refine T_fold (e := s 10 k - s 9 k) (e2 := s 10 k) ta tb c7 ra rb oa.1 ob.1 oa.2 (by omega) hw (by omega) (fun x y a1 a2 a3 a4 => ?_) (fun x y a1 a2 a3 a4 => ?_) (oi := fun u => (tbl s (prt s k 0)).1 u * (tbl s (prt s k 1)).2.2 * s 9 k) (fi := fun u => (tbl s (prt s k 0)).2.1 u * (tbl s (prt s k 1)).2.2 * s 9 k) (fun u hu => ?_) ⟨fun hNF J3 hJ3 => ?_, fun hNF J3 hJ3 hv3 => Or.inl ⟨rfl, c7.1, ?_⟩⟩
      · rw [show y = th k + (y - th k) by omega]
        exact na x _ a1 a2 (by omega)
      · rw [show y = th k + (y - th k) by omega]
        exact nb x _ a1 a2 (by omega)
      · have h2 := hv u hu
        rw [if_pos hu, if_pos hu] at h2
        exact h2
      · rw [noFar_cac oa.1 ob.1] at hNF
        have hF3 : FrJ s k J J3 := hT.fr (fun x hx => hJ3 x (hx 3 (by omega)) (hx 4 (by omega)))
        exact tg_lift ((hT.toJ hF3).great (own_bad hV hk eraw (Or.inr (Classical.byContradiction hNF))))
      · rw [noFar_cac oa.1 ob.1] at hNF
        have hF3 : FrJ s k J J3 := hT.fr (fun x hx => hJ3 x (hx 3 (by omega)) (hx 4 (by omega)))
        have hok : TOk (raw s (tbl s) k) := by
          rw [eraw]
          exact ⟨(TS.cac hn.2.1 hn.2.2.1 oa.1 ob.1).near hNF, hw⟩
        refine T_less (o := 2) (hT.toJ hF3) (by omega) c7 ?_ hok (own_good hV hk rfl hg hok)
        rw [eraw]
        refine ⟨fun u hu => ?_, ?_⟩
        · exact hv3 u hu
        · rw [hJ3 _ (by omega) (by omega)]
          exact hq2
    · have ht1 : t < 121 := Nat.lt_of_not_le (fun w => c ((iN_lt (a := 120) (by decide) (by omega)).mpr (by omega)))
      refine ⟨ta.1, _, ta.2.1, by rw [ta.2.2.2.1], iN_in (by omega) (by rw [ta.2.2.2.1]; omega), tb.1, by rw [c1, h7], c7.1, ?_⟩
      rw [iN_nat (by omega), (ra.1 t ht1).1, rb.2, i67.1, iN_64 (by omega), jN_mul, jN_mul]
      refine F_add_ok c7 (by omega) (Or.inr (by omega)) (fun J1 g1 g2 => Or.inl ⟨rfl, ?_⟩)
      have a1 : ∀ x, x ≠ th k + 2 + 1 → J1 x = J x := fun x hx => g1 x hx
      have a3 : J1 (th k + 2 + 1) = va_up (J (th k + 2 + 1)) t (J (th k + 2 + 1) t + jN ((tbl s (prt s k 0)).1 t * (tbl s (prt s k 1)).2.2 * s 9 k)) := g2
      refine ⟨ta.1, _, ta.2.2.1, by rw [ta.2.2.2.2], iN_in (by omega) (by rw [ta.2.2.2.2]; omega), tb.1, by rw [c1, h7], c7.1, ?_⟩
      rw [a1 _ (na (x1 + 2) 3 (by omega) (by omega) (by omega)), a1 _ (nb x2 3 (by omega) (by omega) (by omega)), (ra.1 t ht1).2, rb.2, i67.1, iN_64 (by omega), jN_mul, jN_mul]
      refine F_add_ok c7 (by omega) (Or.inr (by omega)) (fun J2 g3 g4 => Or.inl ⟨rfl, ?_⟩)
      have b1 : ∀ x, x ≠ th k + 2 + 1 → x ≠ th k + 2 + 2 → J2 x = J x := fun x hx hx2 => (g3 x hx2).trans (a1 x hx)
      have b2 : J2 (th k + 2 + 1) = J1 (th k + 2 + 1) := g3 _ (show th k + 2 + 1 ≠ th k + 2 + 2 by omega)
      have b3 : J2 (th k + 2 + 2) = va_up (J1 (th k + 2 + 2)) t (J1 (th k + 2 + 2) t + jN ((tbl s (prt s k 0)).2.1 t * (tbl s (prt s k 1)).2.2 * s 9 k)) := g4
      have b4 : J1 (th k + 2 + 2) = J (th k + 2 + 2) := a1 _ (by omega)
      have bo : ∀ x, (∀ o, o < 40 → x ≠ th k + o) → J2 x = J x := fun x hx => b1 x (hx 3 (by omega)) (hx 4 (by omega))
      refine ⟨121 - (t + 1), by omega, s, k, t + 1, J0, R0, rfl, rfl, iN_add t 1, by omega, rfl, h7, hT.toJ (hT.fr bo), ta, tb, sa.keepJ hV hk (by omega) (by omega) ra bo, sb.keepJ hV hk (by omega) (by omega) rb bo, sa, sb, hg, hw, ?_, fun u hu => ?_⟩
      · rw [b1 _ (by omega) (by omega)]
        exact hq2
      · have h2 := hv u hu
        rw [b2, add_at a3 u, add_at b3 u, b4, h2.1, h2.2, jN_if, jN_if, jN_add, jN_add]
        by_cases e : u = t
        · subst e
          rw [if_neg (Nat.lt_irrefl u), if_neg (Nat.lt_irrefl u), if_pos rfl, if_pos rfl, if_pos (Nat.lt_succ_self u), if_pos (Nat.lt_succ_self u), Nat.zero_add, Nat.zero_add]
          exact ⟨rfl, rfl⟩
        · rw [if_neg e, if_neg e, Nat.add_zero, Nat.add_zero]
          by_cases e2 : u < t
          · rw [if_pos e2, if_pos e2, if_pos (by omega), if_pos (by omega)]
            exact ⟨rfl, rfl⟩
          · rw [if_neg e2, if_neg e2, if_neg (by omega), if_neg (by omega)]
            exact ⟨rfl, rfl⟩
/-! a hedge -/
def V_X10_table_31 (d n : Nat) (K : AK) (x0 : Nat) (x1 : Nat) (x2 : Nat) (x3 : Int32) (C : MC) (I : MI) (J : MJ) (R : MR) : Prop := ∃ (s : St) (k x : Nat) (J0 : MJ) (R0 : MR), x0 = th k ∧ x2 = th k + 2 ∧ x3 = iN x ∧ x ≤ 121 ∧ n = (121 - x) * 200 ∧ s 7 k = 5 ∧ TKc s k K C I J0 R0 J R ∧ TbS C R x1 ∧ RpB J x1 (tbl s (prt s k 0)) ∧ RS s (prt s k 0) x1 ∧ (∀ i, i < s 1 k → ¬ grt s (prt s k i)) ∧
  (tbl s (prt s k 0)).2.2 * (tbl s (prt s k 0)).2.2 < 2 ^ 62 ∧ J (th k + 2) 2 = jN ((tbl s (prt s k 0)).2.2 * (tbl s (prt s k 0)).2.2) ∧
  (∀ u, u < 121 → J (th k + 2 + 1) u = jN (sm (hxO (tbl s (prt s k 0)) (s 9 k) u) x) ∧ J (th k + 2 + 2) u = jN (sm (hxF (tbl s (prt s k 0)) (s 9 k) u) x)) ∧ (∀ y j, y < x → j < 121 → hNoFar (tbl s (prt s k 0)) (s 9 k) y j)
def V_X10_table_85 (d n : Nat) (K : AK) (x0 : Nat) (x1 : Nat) (x2 : Nat) (x3 : Int32) (x4 : Int32) (C : MC) (I : MI) (J : MJ) (R : MR) : Prop := ∃ (s : St) (k x j : Nat) (J0 : MJ) (R0 : MR), x0 = th k ∧ x2 = th k + 2 ∧ x3 = iN x ∧ x4 = iN j ∧ s 9 k < x ∧ x < 121 ∧ j ≤ 121 ∧ n = (121 - x) * 200 - 1 - j ∧ s 7 k = 5 ∧ TKc s k K C I J0 R0 J R ∧ TbS C R x1 ∧ RpB J x1 (tbl s (prt s k 0)) ∧ RS s (prt s k 0) x1 ∧ (∀ i, i < s 1 k → ¬ grt s (prt s k i)) ∧
  (tbl s (prt s k 0)).2.2 * (tbl s (prt s k 0)).2.2 < 2 ^ 62 ∧ J (th k + 2) 2 = jN ((tbl s (prt s k 0)).2.2 * (tbl s (prt s k 0)).2.2) ∧
  (∀ u, u < 121 → J (th k + 2 + 1) u = jN (sm (hxO (tbl s (prt s k 0)) (s 9 k) u) x + sm (hcO (tbl s (prt s k 0)) (s 9 k) u x) j) ∧ J (th k + 2 + 2) u = jN (sm (hxF (tbl s (prt s k 0)) (s 9 k) u) x + sm (hcF (tbl s (prt s k 0)) (s 9 k) u x) j)) ∧ (∀ y j, y < x → j < 121 → hNoFar (tbl s (prt s k 0)) (s 9 k) y j) ∧ (∀ j', j' < j → hNoFar (tbl s (prt s k 0)) (s 9 k) x j')
theorem S_X10_table (l : Launch) (d : Nat) (SV : SpVtable l d (F_T d)) : SpX10_table l (d + 1) (rkF 10 (F_T (d + 1))) := by
  refine wX10_table SV (S_X0_times l) (S_X3_anew l) (S_X3_less l) (S_X3_add l) (V_X10_table_31 d) (V_X10_table_85 d) ?_ ?_ ?_
  · rintro As C I J R K ⟨⟨s, k, rfl, hd, hk, hX, hK⟩, q, L, hq, hk8⟩
    cases hq
    have hX0 := hX
    obtain ⟨hV, hG, hc⟩ := hX0
    obtain ⟨⟨c1, c2, c3, c4, c5, c6, c7, c8, c9⟩, -⟩ := (hc k hk).1
    have h7 : s 7 k = 5 := by
      rw [c1] at hk8
      have h5 : 5 + s 7 k = 10 := hk8
      omega
    have hn := (hV.2 k hk).2.1.2.2.2.2.2 h7
    have hp0 := ((hV.2 k hk).1.2.2.1 0 (by omega)).1
    have hT0 : TKc s k K C I J R J R := ⟨hX, hk, by omega, FrJ.refl, FrR.refl, hK⟩
    refine ⟨th k, rfl, ?_⟩
    unfold PX10_table_0
    simp (disch := omega) only [Option.some.injEq, Sum.inl.injEq, Sum.inr.injEq, exists_eq_left', forall_eq, true_and, and_true, false_implies, true_implies, not_false_eq_true, not_true_eq_false, vpT, vp0, tn0, iN_nat, nI_iN, iN_add, iN_lt, iN_le, aI_inj, aJ_inj, aR_inj, c1, c2, c3, c4, h7]
    refine ⟨⟨by decide, by decide⟩, kTh_of hX (by omega), ?_⟩
    refine T_part (i := 0) hT0 (by omega) hd (fun hg J' R' qa hJ hR hT h1 h2 h3 h4 h5 => ?_)
    obtain ⟨⟨e1, e2, e3, e4, e5, e6, e7, e8, e9⟩, -⟩ := (hT.1.2.2 k hk).1
    have eraw : raw s (tbl s) k = hedT (s 9 k) (tbl s (prt s k 0)) := raw_5 h7
    refine ⟨qa, rfl, by rw [c1, h7], h1.1, ?_⟩
    rw [h2.2]
    refine F_times_ok h3.2 h3.1.2.2 h3.2 (fun hw => Or.inl ⟨_, rfl, th k + 2, e5, e7.1, ?_⟩) (fun hw => tg_lift (hT.great (own_bad hV hk eraw (Or.inl hw))))
    refine ⟨th k + 2, _, rfl, e7, fun J3 hJ3 hz hw3 => ⟨_, rfl, (121 - 0) * 200, s, k, 0, J, R, rfl, rfl, rfl, by omega, rfl, h7, ?_, h1, ?_, h4, ?_, hw, hw3, fun u hu => hz u hu, fun y j hy => absurd hy (Nat.not_lt_zero y)⟩⟩
    · exact hT.toJ (hT.fr (fun x hx => hJ3 x (hx 2 (by omega)) (hx 3 (by omega)) (hx 4 (by omega))))
    · exact h4.keepJ hV hk (by omega) (by omega) h2 (fun x hx => hJ3 x (hx 2 (by omega)) (hx 3 (by omega)) (hx 4 (by omega)))
    · intro i hi
      obtain rfl : i = 0 := by omega
      exact hg
  · rintro n K x0 x1 x2 x3 C I J R ⟨s, k, x, J0, R0, rfl, rfl, rfl, hx, rfl, h7, hT, ta, ra, sa, hg, hw, hq2, hv, hnf⟩
    have hT0 := hT
    obtain ⟨hX, hk, -⟩ := hT0
    have hX0 := hX
    obtain ⟨hV, hG, hc⟩ := hX0
    obtain ⟨⟨c1, c2, c3, c4, c5, c6, c7, c8, c9⟩, -⟩ := (hc k hk).1
    have hn := (hV.2 k hk).2.1.2.2.2.2.2 h7
    have i6 := (hc k hk).2.1.2.2.2.2 h7
    have oa := part_ok hV hk (fun ⟨i, hi, w⟩ => hg i hi w) 0 (by omega)
    have eraw : raw s (tbl s) k = hedT (s 9 k) (tbl s (prt s k 0)) := raw_5 h7
    have na : ∀ x o, x1 ≤ x → x ≤ x1 + 2 → o < 40 → x ≠ th k + o := fun x o h1 h2 h3 => sa.ne hV hk (by omega) (by omega) x o h1 h2 h3
    unfold PX10_table_31 PX10_table_198
    refine ⟨fun c => ?_, fun c => ?_⟩
    · have h1 := (iN_lt (a := 120) (by decide) (by omega)).mp c
      obtain rfl : x = 121 := by omega
      have hNF := (noFar_hed oa.1).mp (fun y j hy hj => hnf y j hy hj)
      have hok : TOk (raw s (tbl s) k) := by
        rw [eraw]
        exact ⟨(TS.hed hn.2 oa.1).near hNF, hw⟩
      refine ⟨c7.1, T_less (o := 2) hT (by omega) c7 ?_ hok (own_good hV hk rfl hg hok)⟩
      rw [eraw]
      exact ⟨hv, hq2⟩
    · have hx1 : x < 121 := Nat.lt_of_not_le (fun w => c ((iN_lt (a := 120) (by decide) (by omega)).mpr (by omega)))
      refine ⟨by rw [c1, h7], ?_⟩
      rw [i6, iN_lt (by omega) (by omega)]
      refine ⟨fun c2 => ⟨(121 - x) * 200 - 1 - 0, by omega, s, k, x, 0, J0, R0, rfl, rfl, rfl, rfl, c2, hx1, by omega, rfl, h7, hT, ta, ra, sa, hg, hw, hq2, hv, hnf, fun j' hj => absurd hj (Nat.not_lt_zero j')⟩, fun c2 => ?_⟩
      refine ⟨ta.1, _, ta.2.1, by rw [ta.2.2.2.1], iN_in (by omega) (by rw [ta.2.2.2.1]; omega), c7.1, ?_⟩
      rw [iN_nat (by omega), (ra.1 x hx1).1, ra.2, jN_mul]
      refine F_add_ok c7 (by omega) (Or.inr (by omega)) (fun J1 g1 g2 => Or.inl ⟨rfl, ?_⟩)
      have a1 : ∀ y, y ≠ th k + 2 + 1 → J1 y = J y := fun y hy => g1 y hy
      have a3 : J1 (th k + 2 + 1) = va_up (J (th k + 2 + 1)) x (J (th k + 2 + 1) x + jN ((tbl s (prt s k 0)).1 x * (tbl s (prt s k 0)).2.2)) := g2
      refine ⟨ta.1, _, ta.2.2.1, by rw [ta.2.2.2.2], iN_in (by omega) (by rw [ta.2.2.2.2]; omega), c7.1, ?_⟩
      rw [a1 _ (na (x1 + 2) 3 (by omega) (by omega) (by omega)), a1 _ (na x1 3 (by omega) (by omega) (by omega)), (ra.1 x hx1).2, ra.2, jN_mul]
      refine F_add_ok c7 (by omega) (Or.inr (by omega)) (fun J2 g3 g4 => Or.inl ⟨rfl, ?_⟩)
      have b1 : ∀ y, y ≠ th k + 2 + 1 → y ≠ th k + 2 + 2 → J2 y = J y := fun y hy hy2 => (g3 y hy2).trans (a1 y hy)
      have b2 : J2 (th k + 2 + 1) = J1 (th k + 2 + 1) := g3 _ (show th k + 2 + 1 ≠ th k + 2 + 2 by omega)
      have b3 : J2 (th k + 2 + 2) = va_up (J1 (th k + 2 + 2)) x (J1 (th k + 2 + 2) x + jN ((tbl s (prt s k 0)).2.1 x * (tbl s (prt s k 0)).2.2)) := g4
      have b4 : J1 (th k + 2 + 2) = J (th k + 2 + 2) := a1 _ (by omega)
      have bo : ∀ y, (∀ o, o < 40 → y ≠ th k + o) → J2 y = J y := fun y hy => b1 y (hy 3 (by omega)) (hy 4 (by omega))
      refine ⟨(121 - (x + 1)) * 200, by omega, s, k, x + 1, J0, R0, rfl, rfl, iN_add x 1, by omega, rfl, h7, hT.toJ (hT.fr bo), ta, sa.keepJ hV hk (by omega) (by omega) ra bo, sa, hg, hw, ?_, fun u hu => ?_, fun y j hy hj => ?_⟩
      · rw [b1 _ (by omega) (by omega)]
        exact hq2
      · have h2 := hv u hu
        rw [b2, add_at a3 u, add_at b3 u, b4, h2.1, h2.2, jN_if, jN_if, jN_add, jN_add, sm_succ, sm_succ]
        have q1 : hxO (tbl s (prt s k 0)) (s 9 k) u x = if u = x then (tbl s (prt s k 0)).1 x * (tbl s (prt s k 0)).2.2 else 0 := if_pos (by omega)
        have q2 : hxF (tbl s (prt s k 0)) (s 9 k) u x = if u = x then (tbl s (prt s k 0)).2.1 x * (tbl s (prt s k 0)).2.2 else 0 := if_pos (by omega)
        rw [q1, q2]
        exact ⟨rfl, rfl⟩
      · by_cases e : y = x
        · subst e
          exact fun w => absurd w c2
        · exact hnf y j (by omega) hj
  · rintro n K x0 x1 x2 x3 x4 C I J R ⟨s, k, x, j, J0, R0, rfl, rfl, rfl, rfl, hhx, hx1, hj, hn0, h7, hT, ta, ra, sa, hg, hw, hq2, hv, hnf, hnf2⟩
    have hT0 := hT
    obtain ⟨hX, hk, -⟩ := hT0
    have hX0 := hX
    obtain ⟨hV, hG, hc⟩ := hX0
    obtain ⟨⟨c1, c2, c3, c4, c5, c6, c7, c8, c9⟩, -⟩ := (hc k hk).1
    have hn := (hV.2 k hk).2.1.2.2.2.2.2 h7
    have i6 := (hc k hk).2.1.2.2.2.2 h7
    have oa := part_ok hV hk (fun ⟨i, hi, w⟩ => hg i hi w) 0 (by omega)
    have eraw : raw s (tbl s) k = hedT (s 9 k) (tbl s (prt s k 0)) := raw_5 h7
    have na : ∀ x o, x1 ≤ x → x ≤ x1 + 2 → o < 40 → x ≠ th k + o := fun x o h1 h2 h3 => sa.ne hV hk (by omega) (by omega) x o h1 h2 h3
    have e1 := iN_ifmin (s 9 k + j) x (by omega) (by omega)
    have e2 := iN_ifmax (s 9 k + j) x (by omega) (by omega)
    unfold PX10_table_85 PX10_table_198
    rw [i6, iN_add, e1, e2]
    refine ⟨fun c => ?_, fun c => ?_⟩
    · have h1 := (iN_lt (a := 120) (by decide) (by omega)).mp c
      obtain rfl : j = 121 := by omega
      refine ⟨(121 - (x + 1)) * 200, by omega, s, k, x + 1, J0, R0, rfl, rfl, iN_add x 1, by omega, rfl, h7, hT, ta, ra, sa, hg, hw, hq2, fun u hu => ?_, fun y j' hy hj' => ?_⟩
      · have h2 := hv u hu
        have q1 : hxO (tbl s (prt s k 0)) (s 9 k) u x = sm (hcO (tbl s (prt s k 0)) (s 9 k) u x) 121 := if_neg (by omega)
        have q2 : hxF (tbl s (prt s k 0)) (s 9 k) u x = sm (hcF (tbl s (prt s k 0)) (s 9 k) u x) 121 := if_neg (by omega)
        rw [sm_succ (hxO (tbl s (prt s k 0)) (s 9 k) u) x, sm_succ (hxF (tbl s (prt s k 0)) (s 9 k) u) x, q1, q2]
        exact h2
      · by_cases e : y = x
        · subst e
          exact hnf2 j' hj'
        · exact hnf y j' (by omega) hj'
    · have hj1 : j < 121 := Nat.lt_of_not_le (fun w => c ((iN_lt (a := 120) (by decide) (by omega)).mpr (by omega)))
      have hm9 : (121 - x) * 200 - 1 - (j + 1) < n := by omega
      have hbd : ∀ y z : Nat, y ≤ (tbl s (prt s k 0)).2.2 → z ≤ (tbl s (prt s k 0)).2.2 → y * z < 2 ^ 63 := fun y z hy hz => Nat.lt_of_le_of_lt (Nat.mul_le_mul hy hz) (by omega)
      have hl : ∀ i, (tbl s (prt s k 0)).1 i ≤ (tbl s (prt s k 0)).2.2 ∧ (tbl s (prt s k 0)).2.1 i ≤ (tbl s (prt s k 0)).2.2 := fun i => by
        have := oa.1.le i
        omega
      have great : ¬ hNoFar (tbl s (prt s k 0)) (s 9 k) x j → ∀ J' : MJ, (∀ y, (∀ o, o < 40 → y ≠ th k + o) → J' y = J y) → TG K C I J' R := fun w J' hJ' => (hT.toJ (hT.fr hJ')).great (own_bad hV hk eraw (Or.inr (Classical.byContradiction (fun z => w ((noFar_hed oa.1).mpr z x j hx1 hj1)))))
      refine ⟨by rw [c1, h7], ta.1, _, ta.2.1, by rw [ta.2.2.2.1], iN_in (by omega) (by rw [ta.2.2.2.1]; omega), iN_in (by omega) (by rw [ta.2.2.2.1]; omega), c7.1, ?_⟩
      rw [iN_nat (show x < 2 ^ 31 by omega), iN_nat (show j < 2 ^ 31 by omega), (ra.1 x hx1).1, (ra.1 j hj1).1, jN_mul]
      refine F_add_ok c7 (by omega) (Or.inr (by omega)) (fun J1 g1 g2 => Or.inl ⟨rfl, ?_⟩)
      have a1 : ∀ y, y ≠ th k + 2 + 1 → J1 y = J y := fun y hy => g1 y hy
      have a3 : J1 (th k + 2 + 1) = va_up (J (th k + 2 + 1)) (min (s 9 k + j) x) (J (th k + 2 + 1) (min (s 9 k + j) x) + jN ((tbl s (prt s k 0)).1 x * (tbl s (prt s k 0)).1 j)) := g2
      have r1 : RpB J1 x1 (tbl s (prt s k 0)) := sa.keepJ hV hk (by omega) (by omega) ra (fun y hy => a1 y (hy 3 (by omega)))
      refine ⟨ta.1, _, ta.2.1, by rw [ta.2.2.2.1], iN_in (by omega) (by rw [ta.2.2.2.1]; omega), _, ta.2.2.1, by rw [ta.2.2.2.2], iN_in (by omega) (by rw [ta.2.2.2.2]; omega), c7.1, ?_⟩
      rw [(r1.1 x hx1).1, (r1.1 j hj1).2, jN_mul]
      refine F_add_ok c7 (by omega) (Or.inr (by omega)) (fun J2 g3 g4 => Or.inl ⟨rfl, ?_⟩)
      have b1 : ∀ y, y ≠ th k + 2 + 1 → J2 y = J y := fun y hy => (g3 y hy).trans (a1 y hy)
      have b3 : J2 (th k + 2 + 1) = va_up (J1 (th k + 2 + 1)) x (J1 (th k + 2 + 1) x + jN ((tbl s (prt s k 0)).1 x * (tbl s (prt s k 0)).2.1 j)) := g4
      have r2 : RpB J2 x1 (tbl s (prt s k 0)) := sa.keepJ hV hk (by omega) (by omega) ra (fun y hy => b1 y (hy 3 (by omega)))
      refine ⟨ta.1, _, ta.2.2.1, by rw [ta.2.2.2.2], iN_in (by omega) (by rw [ta.2.2.2.2]; omega), _, ta.2.1, by rw [ta.2.2.2.1], iN_in (by omega) (by rw [ta.2.2.2.1]; omega), c7.1, ?_⟩
      rw [(r2.1 x hx1).2, (r2.1 j hj1).1, jN_mul]
      by_cases w1 : (tbl s (prt s k 0)).2.1 x * (tbl s (prt s k 0)).1 j ≠ 0 ∧ 120 < s 9 k + j
      · exact F_add_great (by omega) (fun w => w1.1 ((jN_eq0 (hbd _ _ (hl x).2 (hl j).1)).mp w)) w1.2 (tg_lift (great (fun w => w1.1 (w hhx w1.2).1) J2 (fun y hy => b1 y (hy 3 (by omega)))))
      have w1' : jN ((tbl s (prt s k 0)).2.1 x * (tbl s (prt s k 0)).1 j) = 0 ∨ s 9 k + j ≤ 120 := by
        by_cases g : s 9 k + j ≤ 120
        · exact Or.inr g
        · exact Or.inl ((jN_eq0 (hbd _ _ (hl x).2 (hl j).1)).mpr (Classical.byContradiction (fun w => w1 ⟨w, by omega⟩)))
      refine F_add_ok c7 (by omega) w1' (fun J3 g5 g6 => Or.inl ⟨rfl, ?_⟩)
      have d1 : ∀ y, y ≠ th k + 2 + 1 → J3 y = J y := fun y hy => (g5 y hy).trans (b1 y hy)
      have d3 : J3 (th k + 2 + 1) = va_up (J2 (th k + 2 + 1)) (s 9 k + j) (J2 (th k + 2 + 1) (s 9 k + j) + jN ((tbl s (prt s k 0)).2.1 x * (tbl s (prt s k 0)).1 j)) := g6
      have r3 : RpB J3 x1 (tbl s (prt s k 0)) := sa.keepJ hV hk (by omega) (by omega) ra (fun y hy => d1 y (hy 3 (by omega)))
      refine ⟨ta.1, _, ta.2.2.1, by rw [ta.2.2.2.2], iN_in (by omega) (by rw [ta.2.2.2.2]; omega), iN_in (by omega) (by rw [ta.2.2.2.2]; omega), c7.1, ?_⟩
      rw [(r3.1 x hx1).2, (r3.1 j hj1).2, jN_mul]
      by_cases w2 : (tbl s (prt s k 0)).2.1 x * (tbl s (prt s k 0)).2.1 j ≠ 0 ∧ 120 < s 9 k + j
      · exact F_add_great (by omega) (fun w => w2.1 ((jN_eq0 (hbd _ _ (hl x).2 (hl j).2)).mp w)) (by omega) (tg_lift (great (fun w => w2.1 (w hhx w2.2).2) J3 (fun y hy => d1 y (hy 3 (by omega)))))
      have w2' : jN ((tbl s (prt s k 0)).2.1 x * (tbl s (prt s k 0)).2.1 j) = 0 ∨ max (s 9 k + j) x ≤ 120 := by
        by_cases g : s 9 k + j ≤ 120
        · exact Or.inr (by omega)
        · exact Or.inl ((jN_eq0 (hbd _ _ (hl x).2 (hl j).2)).mpr (Classical.byContradiction (fun w => w2 ⟨w, by omega⟩)))
      refine F_add_ok c7 (by omega) w2' (fun J4 g7 g8 => Or.inl ⟨rfl, ?_⟩)
      have f1 : ∀ y, y ≠ th k + 2 + 1 → y ≠ th k + 2 + 2 → J4 y = J y := fun y hy hy2 => (g7 y hy2).trans (d1 y hy)
      have f2 : J4 (th k + 2 + 1) = J3 (th k + 2 + 1) := g7 _ (show th k + 2 + 1 ≠ th k + 2 + 2 by omega)
      have f3 : J4 (th k + 2 + 2) = va_up (J3 (th k + 2 + 2)) (max (s 9 k + j) x) (J3 (th k + 2 + 2) (max (s 9 k + j) x) + jN ((tbl s (prt s k 0)).2.1 x * (tbl s (prt s k 0)).2.1 j)) := g8
      have f4 : J3 (th k + 2 + 2) = J (th k + 2 + 2) := d1 _ (by omega)
      have fo : ∀ y, (∀ o, o < 40 → y ≠ th k + o) → J4 y = J y := fun y hy => f1 y (hy 3 (by omega)) (hy 4 (by omega))
      refine ⟨(121 - x) * 200 - 1 - (j + 1), hm9, s, k, x, j + 1, J0, R0, rfl, rfl, rfl, iN_add j 1, hhx, hx1, by omega, rfl, h7, hT.toJ (hT.fr fo), ta, sa.keepJ hV hk (by omega) (by omega) ra fo, sa, hg, hw, ?_, fun u hu => ?_, hnf, fun j' hj' => ?_⟩
      · rw [f1 _ (by omega) (by omega)]
        exact hq2
      · have h2 := hv u hu
        rw [f2, add_at d3 u, add_at b3 u, add_at a3 u, add_at f3 u, f4, h2.1, h2.2, jN_if, jN_if, jN_if, jN_if, jN_add, jN_add, jN_add, jN_add, sm_succ, sm_succ]
        unfold hcO hcF
        rw [Nat.min_comm (s 9 k + j) x, Nat.max_comm (s 9 k + j) x]
        simp only [Nat.add_assoc, and_self]
      · by_cases e : j' = j
        · subst e
          exact fun _ h2 => ⟨Classical.byContradiction (fun w => w1 ⟨w, h2⟩), Classical.byContradiction (fun w => w2 ⟨w, h2⟩)⟩
        · exact hnf2 j' (by omega)
