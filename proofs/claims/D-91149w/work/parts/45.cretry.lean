/-! CONTRACTS 17: table() of retries: the walk's conditions -/
set_option maxRecDepth 100000
set_option linter.unusedVariables false
theorem S_X9_table (l : Launch) (d : Nat) (SV : SpVtable l d (F_T d)) : SpX9_table l (d + 1) (rkF 9 (F_T (d + 1))) := by
  refine wX9_table SV (S_X3_anew l) (S_X0_times l) (S_X3_add l) (S_X11_init l) (S_X3_less l) (V_X9_table_24 d) (V_X9_table_111 d) (V_X9_table_144 d) (V_X9_table_183 d) (V_X9_table_204 d) (V_X9_table_228 d) (V_X9_table_238 d) (V_X9_table_384 d) ?_ ?_ ?_ ?_ ?_ ?_ ?_ ?_ ?_
  · rintro As C I J R K ⟨⟨s, k, rfl, hd, hk, hX, hK⟩, q, L, hq, hk8⟩
    cases hq
    have hX0 := hX
    obtain ⟨hV, hG, hc⟩ := hX0
    obtain ⟨⟨c1, c2, c3, c4, c5, c6, c7, c8, c9⟩, -⟩ := (hc k hk).1
    have h7 : s 7 k = 4 := by
      rw [c1] at hk8
      have h5 : 5 + s 7 k = 9 := hk8
      omega
    have hn := (hV.2 k hk).2.1.2.2.2.2.1 h7
    have hp0 := ((hV.2 k hk).1.2.2.1 0 (by omega)).1
    have hT0 : TKc s k K C I J R J R := ⟨hX, hk, by omega, FrJ.refl, FrR.refl, hK⟩
    refine ⟨th k, rfl, ?_⟩
    unfold PX9_table_0
    simp (disch := omega) only [Option.some.injEq, Sum.inl.injEq, Sum.inr.injEq, exists_eq_left', forall_eq, true_and, and_true, false_implies, true_implies, not_false_eq_true, not_true_eq_false, vpT, vp0, tn0, iN_nat, nI_iN, iN_add, iN_lt, iN_le, aI_inj, aJ_inj, aR_inj, c1, c2, c3, c4, h7]
    refine ⟨⟨by decide, by decide⟩, kTh_of hX (by omega), ?_⟩
    refine T_part (i := 0) hT0 (by omega) hd (fun hg J' R' qa hJ hR hT h1 h2 h3 h4 h5 => ?_)
    obtain ⟨⟨e1, e2, e3, e4, e5, e6, e7, e8, e9⟩, -⟩ := (hT.1.2.2 k hk).1
    refine ⟨qa, rfl, by rw [c1, h7], h1.1, th k + 5, e6, e8.1, ?_⟩
    refine ⟨th k + 5, _, rfl, e8, fun J3 hJ3 hz hw3 => ⟨_, rfl, 9000000 - 0, s, k, 0, J, R, rfl, rfl, rfl, by omega, rfl, ?_, fun u hu => ?_⟩⟩
    · refine RyC.own ⟨h7, hT, h1, h2, h4, fun i hi => ?_⟩ (fun x hx => hJ3 x (hx 5 (by omega)) (hx 6 (by omega)) (hx 7 (by omega)))
      obtain rfl : i = 0 := by omega
      exact hg
    · rw [if_neg (Nat.not_lt_zero u)]
      exact hz u hu
  · rintro n K x0 x1 x2 x3 C I J R ⟨s, k, t, J0, R0, rfl, rfl, rfl, ht, rfl, hY, hv⟩
    obtain ⟨c1, c5, c6, c7, c8, c10, c11, c12, c13, i6, i7, hl, hok, eraw⟩ := hY.facts
    obtain ⟨h7, hT, ta, ra, sa, hg⟩ := hY
    have hY : RyC s k K C I J0 R0 J R x1 := ⟨h7, hT, ta, ra, sa, hg⟩
    have hV := hT.1.1
    have hk := hT.2.1
    have na : ∀ x o, x1 ≤ x → x ≤ x1 + 2 → o < 40 → x ≠ th k + o := fun x o h1 h2 h3 => sa.ne hV hk (by omega) (by have := (hV.2 k hk).2.1.2.2.2.2.1 h7; omega) x o h1 h2 h3
    have e1 := iN_ifmin (s 9 k) t (by omega) (by omega)
    unfold PX9_table_24 PX9_table_71
    rw [i6, e1]
    refine ⟨fun c => ?_, fun c => ?_⟩
    · have h1 := (iN_lt (a := 120) (by decide) (by omega)).mp c
      obtain rfl : t = 121 := by omega
      refine ⟨by rw [c1], th k + 2, c5, c7.1, ?_⟩
      refine ⟨th k + 2, _, rfl, c7, fun J3 hJ3 hz hw3 => ⟨_, rfl, 8000000 - 0, by omega, s, k, 0, J0, R0, rfl, rfl, rfl, rfl, by omega, rfl, ?_, fun u hu => ?_, hw3, by rw [Nat.pow_zero]; omega, hz⟩⟩
      · exact hY.own (fun x hx => hJ3 x (hx 2 (by omega)) (hx 3 (by omega)) (hx 4 (by omega)))
      · rw [hJ3 _ (by omega) (by omega) (by omega), hJ3 _ (by omega) (by omega) (by omega)]
        have h2 := hv u hu
        rw [if_pos hu] at h2
        exact h2
    · have ht1 : t < 121 := Nat.lt_of_not_le (fun w => c ((iN_lt (a := 120) (by decide) (by omega)).mpr (by omega)))
      refine ⟨by rw [c1], ?_⟩
      rw [iN_lt (show s 9 k < 2 ^ 31 by omega) (by omega)]
      refine ⟨fun c2 => ?_, fun c2 => ?_⟩
      · refine ⟨c8.1, _, c8.2.2.1, by rw [c8.2.2.2.2], iN_in (by omega) (by rw [c8.2.2.2.2]; omega), ta.1, _, ta.2.1, by rw [ta.2.2.2.1], iN_in (by omega) (by rw [ta.2.2.2.1]; omega), ?_⟩
        rintro J1 rfl
        rw [iN_nat (show t < 2 ^ 31 by omega), iN_nat (show s 9 k < 2 ^ 31 by omega), iN_nat (show min (s 9 k) t < 2 ^ 31 by omega), (ra.1 t ht1).1]
        refine ⟨c8.1, by rw [c1], _, c8.2.2.1, by rw [c8.2.2.2.2], iN_in (by omega) (by rw [c8.2.2.2.2]; omega), ta.1, _, ta.2.2.1, by rw [ta.2.2.2.2], iN_in (by omega) (by rw [ta.2.2.2.2]; omega), ?_⟩
        rintro J2 rfl
        rw [va_up_self, va_up_ne J _ (na (x1 + 2) 7 (by omega) (by omega) (by omega)), (ra.1 t ht1).2, acu_eq, acu_eq]
        refine ⟨9000000 - (t + 1), by omega, s, k, t + 1, J0, R0, rfl, rfl, iN_add t 1, by omega, rfl, (hY.up (o := 7) (by omega)).up (o := 7) (by omega), fun u hu => ?_⟩
        have h2 := hv u hu
        rw [va_up_self, va_up_ne _ _ (show th k + 5 + 1 ≠ th k + 5 + 2 by omega), va_up_ne _ _ (show th k + 5 + 1 ≠ th k + 5 + 2 by omega), acu_at, acu_at, h2.1, h2.2, jN_if, jN_if, jN_add, jN_add, sm_succ]
        refine ⟨congrArg jN ?_, congrArg jN ?_⟩
        · by_cases e : u < t
          · rw [if_pos e, if_pos (by omega)]
          · rw [if_neg e]
            by_cases e2 : u < t + 1
            · rw [if_pos e2, rtO_zero u (by omega)]
            · rw [if_neg e2]
        · rw [Nat.add_assoc]
          congr 1
          unfold rtc
          rw [if_pos c2, Nat.min_comm t (s 9 k)]
      · refine ⟨c8.1, ta.1, _, ta.2.1, by rw [ta.2.2.2.1], iN_in (by omega) (by rw [ta.2.2.2.1]; omega), _, c8.2.1, by rw [c8.2.2.2.1], iN_in (by omega) (by rw [c8.2.2.2.1]; omega), ?_⟩
        rintro J1 rfl
        rw [iN_nat (show t < 2 ^ 31 by omega), iN_nat (show min (s 9 k) t < 2 ^ 31 by omega), (ra.1 t ht1).1]
        refine ⟨c8.1, by rw [c1], _, c8.2.2.1, by rw [c8.2.2.2.2], iN_in (by omega) (by rw [c8.2.2.2.2]; omega), ta.1, _, ta.2.2.1, by rw [ta.2.2.2.2], iN_in (by omega) (by rw [ta.2.2.2.2]; omega), ?_⟩
        rintro J2 rfl
        rw [va_up_ne J _ (na (x1 + 2) 6 (by omega) (by omega) (by omega)), (ra.1 t ht1).2, va_up_ne J _ (show th k + 5 + 2 ≠ th k + 5 + 1 by omega), acu_eq]
        refine ⟨9000000 - (t + 1), by omega, s, k, t + 1, J0, R0, rfl, rfl, iN_add t 1, by omega, rfl, (hY.up (o := 6) (by omega)).up (o := 7) (by omega), fun u hu => ?_⟩
        have h2 := hv u hu
        rw [va_up_self, va_up_ne _ _ (show th k + 5 + 1 ≠ th k + 5 + 2 by omega), va_up_self, acu_at, up_val, h2.1, h2.2, jN_if, jN_add, sm_succ]
        refine ⟨?_, congrArg jN ?_⟩
        · by_cases e : u = t
          · rw [if_pos e, if_pos (by omega), e]
            exact congrArg jN (if_pos (show t ≤ s 9 k by omega)).symm
          · rw [if_neg e]
            by_cases e2 : u < t
            · rw [if_pos e2, if_pos (by omega)]
            · rw [if_neg e2, if_neg (by omega)]
        · congr 1
          unfold rtc
          rw [if_neg c2, Nat.min_comm t (s 9 k), ite_self, Nat.zero_add]
  · rintro n K x0 x1 x2 x3 x4 C I J R ⟨s, k, i, J0, R0, rfl, rfl, rfl, rfl, hi, rfl, hY, hO, hq2, hw, hz⟩
    obtain ⟨c1, c5, c6, c7, c8, c10, c11, c12, c13, i6, i7, hl, hok, eraw⟩ := hY.facts
    obtain ⟨h7, hT, ta, ra, sa, hg⟩ := hY
    have hY : RyC s k K C I J0 R0 J R x1 := ⟨h7, hT, ta, ra, sa, hg⟩
    have hV := hT.1.1
    have hk := hT.2.1
    unfold PX9_table_111
    rw [i7, iN_lt (by omega) (by omega)]
    refine ⟨by rw [c1], fun c => ?_, fun c => ?_⟩
    · obtain rfl : i = s 10 k + 1 := by omega
      exact ⟨7000000 - 0, by omega, s, k, 0, J0, R0, rfl, rfl, rfl, rfl, by omega, rfl, hY, hO, hq2, hw, hz, fun u hu => absurd hu (Nat.not_lt_zero u)⟩
    · refine ⟨c7.1, ta.1, ?_⟩
      rw [hq2, ra.2]
      have hpow : (ryT s k).2.2 ^ i * (ryT s k).2.2 = (ryT s k).2.2 ^ (i + 1) := (Nat.pow_succ _ _).symm
      refine F_times_ok hw hok.1.2.2 hok.2 (fun hw2 => Or.inl ⟨_, rfl, c7.1, ?_⟩) (fun hw2 => tg_lift (hT.great (ret_bad hV hk eraw hl.2.1 hok.1 (i := i + 1) (by omega) (Or.inl (by rw [← hpow]; exact hw2)))))
      rintro J1 rfl
      refine ⟨8000000 - (i + 1), by omega, s, k, i + 1, J0, R0, rfl, rfl, rfl, iN_add i 1, by omega, rfl, hY.up (o := 2) (by omega), hO.kept (va_up_ne _ _ (by omega)) (va_up_ne _ _ (by omega)), ?_, by rw [← hpow]; exact hw2, fun u hu => ?_⟩
      · rw [va_up_self, va_up_self, hpow]
      · rw [va_up_ne _ _ (show th k + 2 + 1 ≠ th k + 2 by omega), va_up_ne _ _ (show th k + 2 + 2 ≠ th k + 2 by omega)]
        exact hz u hu
  · rintro n K x0 x1 x2 x3 x4 C I J R ⟨s, k, t, J0, R0, rfl, rfl, rfl, rfl, ht, rfl, hY, hO, hq2, hw, hz, hv⟩
    obtain ⟨c1, c5, c6, c7, c8, c10, c11, c12, c13, i6, i7, hl, hok, eraw⟩ := hY.facts
    unfold PX9_table_144 PX9_table_167
    refine ⟨fun c => ?_, fun c => ?_⟩
    · have h1 := (iN_lt (a := 120) (by decide) (by omega)).mp c
      obtain rfl : t = 121 := by omega
      refine ⟨c7.1, (5 - 0) * 100000 + 5000, by omega, s, k, 0, J0, R0, rfl, rfl, rfl, hq2, rfl, by omega, rfl, hY, ⟨hO, hq2, hw, fun u hu => (hz u hu).2, TS.row0' , fun u hu => hv u (by omega)⟩, fun u hu => ?_⟩
      rw [(hz u hu).1]
      show (0 : Int64) = jN (0 * _)
      rw [Nat.zero_mul]
      rfl
    · have ht1 : t < 121 := Nat.lt_of_not_le (fun w => c ((iN_lt (a := 120) (by decide) (by omega)).mpr (by omega)))
      have go : ∀ v : Nat, v = dlt t → ∃ m, m < 7000000 - t ∧ V_X9_table_144 d m K (th k) x1 (th k + 5) (th k + 2) (iN t + 1) C I (va_up J (th k + 8) (va_up (J (th k + 8)) t (jN v))) R := fun v hv2 => by
        refine ⟨7000000 - (t + 1), by omega, s, k, t + 1, J0, R0, rfl, rfl, rfl, iN_add t 1, by omega, rfl, hY.up (by omega), hO.kept (va_up_ne _ _ (by omega)) (va_up_ne _ _ (by omega)), ?_, hw, fun u hu => ?_, fun u hu => ?_⟩
        · rw [va_up_ne _ _ (show th k + 2 ≠ th k + 8 by omega)]
          exact hq2
        · rw [va_up_ne _ _ (show th k + 2 + 1 ≠ th k + 8 by omega), va_up_ne _ _ (show th k + 2 + 2 ≠ th k + 8 by omega)]
          exact hz u hu
        · rw [va_up_self, up_val]
          by_cases e : u = t
          · rw [if_pos e, hv2, e]
          · rw [if_neg e]
            exact hv u (by omega)
      have key : ∀ v : Nat, v = dlt t → ∃ q1 : Nat, R (th k) 8 = some q1 ∧ (C q1).1 = 21 ∧ vp_in (iN t) (C q1).2 ∧ ∀ J4 : MJ, J4 = va_up J q1 (va_up (J q1) (iN t).toNatClampNeg (jN v)) → ∃ m, m < 7000000 - t ∧ V_X9_table_144 d m K (th k) x1 (th k + 5) (th k + 2) (iN t + 1) C I J4 R := fun v hv2 => by
        refine ⟨th k + 8, c10, by rw [c11], iN_in (by omega) (by rw [c11]; omega), ?_⟩
        rintro J4 rfl
        rw [iN_nat (by omega)]
        exact go v hv2
      refine ⟨by rw [c1], fun c2 => key 0 ?_, fun c2 => key 1 ?_⟩
      · have h0 : ¬ t = 0 := fun w => c2 (by rw [w]; rfl)
        exact (if_neg h0).symm
      · have h0 : t = 0 := (iN_inj (b := 0) (by omega) (by decide)).mp c2
        exact (if_pos h0).symm
  · rintro n K x0 x1 x2 x3 x4 x6 C I J R ⟨s, k, i, J0, R0, rfl, rfl, rfl, rfl, rfl, hi, rfl, hY, hI2, hv⟩
    obtain ⟨c1, c5, c6, c7, c8, c10, c11, c12, c13, i6, i7, hl, hok, eraw⟩ := hY.facts
    obtain ⟨h7, hT, ta, ra, sa, hg⟩ := hY
    have hY : RyC s k K C I J0 R0 J R x1 := ⟨h7, hT, ta, ra, sa, hg⟩
    unfold PX9_table_183
    rw [i7, iN_lt (by omega) (by omega)]
    refine ⟨by rw [c1], fun c => ?_, fun c => ?_⟩
    · obtain rfl : i = s 10 k + 1 := by omega
      refine ⟨200 - 0, by omega, s, k, 0, x1, J0, R0, rfl, rfl, rfl, by omega, rfl, hY, hI2.2.1, hI2.2.2.1, hI2.2.2.2.2.1, fun u hu => ⟨hI2.2.2.2.2.2 u hu, ?_, ?_⟩⟩
      · have h1 := hv u hu
        rw [Nat.sub_self, Nat.pow_zero, Nat.mul_one] at h1
        exact h1
      · rw [if_neg (Nat.not_lt_zero u)]
        exact hI2.2.2.2.1 u hu
    · have hw0 : 0 < (ryT s k).2.2 := hok.1.2.2
      have hle : (ryT s k).2.2 ^ (s 10 k + 1 - i) ≤ (ryT s k).2.2 ^ (s 10 k + 1) := Nat.pow_le_pow_right hw0 (by omega)
      have hlt := hI2.2.2.1
      have hdv : (ryT s k).2.2 ^ (s 10 k + 1 - i) / (ryT s k).2.2 = (ryT s k).2.2 ^ (s 10 k - i) := by
        rw [show s 10 k + 1 - i = (s 10 k - i) + 1 by omega, Nat.pow_succ]
        exact Nat.mul_div_cancel _ hw0
      have hb := hok.2
      refine ⟨ta.1, ?_⟩
      rw [ra.2]
      refine ⟨fun z => absurd ((jN_eq0 (by omega)).mp z) (by omega), ?_⟩
      rw [jN_div (by omega) (by omega), hdv]
      exact ⟨(4 - i) * 100000 + 95000 - 0, by omega, s, k, i, 0, J0, R0, rfl, rfl, rfl, rfl, rfl, rfl, by omega, by omega, rfl, hY, hI2, hv, fun u hu => absurd hu (Nat.not_lt_zero u)⟩
  · rintro n K x0 x1 x2 x3 x4 x6 x7 C I J R ⟨s, k, i, t, J0, R0, rfl, rfl, rfl, rfl, rfl, rfl, hi, ht, rfl, hY, hI2, hv, hz⟩
    obtain ⟨c1, c5, c6, c7, c8, c10, c11, c12, c13, i6, i7, hl, hok, eraw⟩ := hY.facts
    unfold PX9_table_204
    refine ⟨fun c => ?_, fun c => ?_⟩
    · have h1 := (iN_lt (a := 120) (by decide) (by omega)).mp c
      obtain rfl : t = 121 := by omega
      refine ⟨(4 - i) * 100000 + 5010 + (121 - 0) * 200, by omega, s, k, i, 0, J0, R0, rfl, rfl, rfl, rfl, rfl, rfl, hi, by omega, rfl, hY, hI2, fun u hu => ⟨?_, ?_⟩, fun x y hx => absurd hx (Nat.not_lt_zero x)⟩
      · rw [hv u hu]
        refine congrArg jN ?_
        show _ = _ + 0 * _
        rw [Nat.zero_mul]
        exact (Nat.add_zero _).symm
      · exact hz u hu
    · have ht1 : t < 121 := Nat.lt_of_not_le (fun w => c ((iN_lt (a := 120) (by decide) (by omega)).mpr (by omega)))
      refine ⟨by rw [c1], th k + 9, c12, by rw [c13], iN_in (by omega) (by rw [c13]; omega), ?_⟩
      rintro J1 rfl
      rw [iN_nat (by omega)]
      refine ⟨(4 - i) * 100000 + 95000 - (t + 1), by omega, s, k, i, t + 1, J0, R0, rfl, rfl, rfl, rfl, rfl, iN_add t 1, hi, by omega, rfl, hY.up (by omega), hI2.keep9, fun u hu => ?_, fun u hu => ?_⟩
      · rw [va_up_ne _ _ (show th k + 2 + 1 ≠ th k + 9 by omega)]
        exact hv u hu
      · rw [va_up_self, up_val]
        by_cases e : u = t
        · rw [if_pos e]
        · rw [if_neg e]
          exact hz u (by omega)
  · rintro n K x0 x1 x2 x3 x4 x6 x7 C I J R ⟨s, k, i, v, J0, R0, rfl, rfl, rfl, rfl, rfl, rfl, hi, hv1, rfl, hY, hI2, hv, hNF⟩
    obtain ⟨c1, c5, c6, c7, c8, c10, c11, c12, c13, i6, i7, hl, hok, eraw⟩ := hY.facts
    unfold PX9_table_228
    refine ⟨fun c => ?_, fun c => ?_⟩
    · have h1 := (iN_lt (a := 120) (by decide) (by omega)).mp c
      obtain rfl : v = 121 := by omega
      have hTS := hI2.2.2.2.2.1
      have hB := ts_rtB hl.2.1 hok.1
      have hnf : ¬ far (rtN (ryT s k) (s 9 k) (i + 1)) := (noFar_row hTS hB (by omega)).mp hNF
      have hTS1 : TS 120 (rtN (ryT s k) (s 9 k) (i + 1)) := (ts_rowS hTS hB).near hnf
      refine ⟨by rw [c1], th k + 8, c10, th k + 9, c12, by rw [c13], by rw [c11], by rw [c13]; decide, by rw [c11]; decide, ?_⟩
      rintro J1 rfl
      refine ⟨(5 - (i + 1)) * 100000 + 5000, by omega, s, k, i + 1, J0, R0, rfl, rfl, rfl, ?_, iN_add i 1, by omega, rfl, hY.up (by omega), ⟨hI2.1.kept (va_up_ne _ _ (by omega)) (va_up_ne _ _ (by omega)), ?_, hI2.2.2.1, fun u hu => ?_, hTS1, fun u hu => ?_⟩, fun u hu => ?_⟩
      · rw [show s 10 k + 1 - (i + 1) = s 10 k - i by omega]
      · rw [va_up_ne _ _ (show th k + 2 ≠ th k + 8 by omega)]
        exact hI2.2.1
      · rw [va_up_ne _ _ (show th k + 2 + 2 ≠ th k + 8 by omega)]
        exact hI2.2.2.2.1 u hu
      · rw [va_up_self, cpy_at _ _ hu, (hv u hu).2, acw_all (fun x hx => (hTS.1 x (by omega)).1)]
        rfl
      · rw [va_up_ne _ _ (show th k + 2 + 1 ≠ th k + 8 by omega), (hv u hu).1, acw_all (fun x hx => (hTS.1 x (by omega)).1)]
        refine congrArg jN ?_
        show _ = ((rtN (ryT s k) (s 9 k) i).2.1 u * (ryT s k).2.2 + cvl (rtN (ryT s k) (s 9 k) i).1 (rtO (ryT s k) (s 9 k)) u) * _
        rw [show s 10 k + 1 - (i + 1) = s 10 k - i by omega, Nat.add_mul, show s 10 k + 1 - i = (s 10 k - i) + 1 by omega, Nat.pow_succ, Nat.mul_assoc, Nat.mul_comm (ryT s k).2.2]
    · have hv2 : v < 121 := Nat.lt_of_not_le (fun w => c ((iN_lt (a := 120) (by decide) (by omega)).mpr (by omega)))
      refine ⟨(4 - i) * 100000 + 5010 + (121 - v) * 200 - 1 - 0, by omega, s, k, i, v, 0, J0, R0, rfl, rfl, rfl, rfl, rfl, rfl, rfl, hi, hv2, by omega, rfl, hY, hI2, fun u hu => ?_, hNF, fun y hy => absurd hy (Nat.not_lt_zero y)⟩
      rw [acp_zero, acp_zero, Nat.add_zero, Nat.add_zero]
      exact hv u hu
  · rintro n K x0 x1 x2 x3 x4 x6 x7 x8 C I J R ⟨s, k, i, v, j, J0, R0, rfl, rfl, rfl, rfl, rfl, rfl, rfl, hi, hv1, hj, hn0, hY, hI2, hv, hNF, hN2⟩
    obtain ⟨c1, c5, c6, c7, c8, c10, c11, c12, c13, i6, i7, hl, hok, eraw⟩ := hY.facts
    obtain ⟨h7, hT, ta, ra, sa, hg⟩ := hY
    have hY : RyC s k K C I J0 R0 J R x1 := ⟨h7, hT, ta, ra, sa, hg⟩
    have hV := hT.1.1
    have hk := hT.2.1
    have hTS := hI2.2.2.2.2.1
    have hB := ts_rtB hl.2.1 hok.1
    have hw0 : 0 < (ryT s k).2.2 := hok.1.2.2
    have hch := hTS.le v
    rw [rtN_whole] at hch
    have hwi : (ryT s k).2.2 ^ i ≤ (ryT s k).2.2 ^ (s 10 k + 1) := Nat.pow_le_pow_right hw0 (by omega)
    have hlt := hI2.2.2.1
    have out : (j = s 9 k + 1 ∨ (rtN (ryT s k) (s 9 k) i).1 v = 0) → ∃ m, m < n ∧ V_X9_table_228 d m K (th k) x1 (th k + 5) (th k + 2) (jN ((ryT s k).2.2 ^ (s 10 k - i))) (iN i) (iN v + 1) C I J R := fun w => by
      have hacp : ∀ h : Nat → Nat, (∀ y, s 9 k + 1 ≤ y → h y = 0) → ∀ u, acp (rtN (ryT s k) (s 9 k) i).1 h u v j = if v ≤ u then (rtN (ryT s k) (s 9 k) i).1 v * h (u - v) else 0 := fun h hh u => by
        rcases w with w | w
        · exact acp_full (fun y hy => hh y (by omega))
        · unfold acp
          rw [w, Nat.zero_mul, ite_self, ite_self]
      refine ⟨(4 - i) * 100000 + 5010 + (121 - (v + 1)) * 200, by omega, s, k, i, v + 1, J0, R0, rfl, rfl, rfl, rfl, rfl, iN_add v 1, hi, by omega, rfl, hY, hI2, fun u hu => ?_, fun x y hx hy hxy => ?_⟩
      · have h1 := hv u hu
        rw [hacp _ (fun y hy => rtO_zero y hy), hacp _ (fun y hy => rtF_zero y hy)] at h1
        exact h1
      · by_cases e : x = v
        · subst e
          by_cases e2 : y < j
          · exact hN2 y e2 hxy
          · rcases w with w | w
            · rw [rtF_zero y (by omega), rtO_zero y (by omega)]
              exact ⟨rfl, rfl⟩
            · rw [w, Nat.zero_mul, Nat.zero_mul, Nat.zero_mul, Nat.zero_mul]
              exact ⟨rfl, rfl⟩
        · exact hNF x y (by omega) hy hxy
    unfold PX9_table_238 PX9_table_348 PX9_table_354
    rw [i6, iN_lt (by omega) (by omega)]
    refine ⟨by rw [c1], fun c => out (Or.inl (by omega)), fun c => ?_⟩
    refine ⟨th k + 8, c10, by rw [c11], iN_in (by omega) (by rw [c11]; omega), ?_⟩
    rw [iN_nat (show v < 2 ^ 31 by omega), iN_nat (show j < 2 ^ 31 by omega), hI2.2.2.2.2.2 v hv1, jN_le0 (by omega)]
    refine ⟨fun c2 => out (Or.inr c2), fun c2 => ?_⟩
    have hO := hI2.1
    have hm9 : (4 - i) * 100000 + 5010 + (121 - v) * 200 - 1 - (j + 1) < n := by omega
    have hr1 : rtO (ryT s k) (s 9 k) j ≤ (ryT s k).2.2 := by
      have := hB.le j
      exact Nat.le_trans (Nat.le_add_left _ _) this
    have hr2 : rtF (ryT s k) (s 9 k) j ≤ (ryT s k).2.2 := by
      have := hB.le j
      exact Nat.le_trans (Nat.le_add_right _ _) this
    have hprod : (rtN (ryT s k) (s 9 k) i).1 v * rtO (ryT s k) (s 9 k) j * (ryT s k).2.2 ^ (s 10 k - i) ≤ (ryT s k).2.2 ^ (s 10 k + 1) := by
      refine Nat.le_trans (Nat.mul_le_mul_right _ (Nat.mul_le_mul (show _ ≤ (ryT s k).2.2 ^ i by omega) hr1)) ?_
      rw [← Nat.pow_succ, ← Nat.pow_add]
      exact Nat.pow_le_pow_right hw0 (by omega)
    have bad : ∀ J' : MJ, (∀ y, (∀ o, o < 40 → y ≠ th k + o) → J' y = J y) → 120 < v + j → ¬ ((rtN (ryT s k) (s 9 k) i).1 v * rtF (ryT s k) (s 9 k) j * 1 = 0 ∧ (rtN (ryT s k) (s 9 k) i).1 v * rtO (ryT s k) (s 9 k) j * 1 = 0) → TG K C I J' R := fun J' hJ' hf w =>
      (hT.toJ (hT.fr hJ')).great (ret_bad hV hk eraw hl.2.1 hok.1 (i := i + 1) (by omega) (Or.inr (Classical.byContradiction (fun z => w ((noFar_row hTS hB (by omega)).mpr z v j hv1 (by omega) hf)))))
    refine ⟨c8.1, _, c8.2.1, by rw [c8.2.2.2.1], iN_in (by omega) (by rw [c8.2.2.2.1]; omega), c7.1, ?_⟩
    rw [(hO j (by omega)).1, jN_mul, jN_mul, iN_add]
    by_cases w1 : (rtN (ryT s k) (s 9 k) i).1 v * rtO (ryT s k) (s 9 k) j * (ryT s k).2.2 ^ (s 10 k - i) ≠ 0 ∧ 120 < v + j
    · refine F_add_great (by omega) (fun w => w1.1 ((jN_eq0 (by omega)).mp w)) w1.2 (tg_lift (bad J (fun _ _ => rfl) w1.2 (fun w => w1.1 ?_)))
      have h9 := w.2
      rw [Nat.mul_one] at h9
      rw [h9, Nat.zero_mul]
    have w1' : jN ((rtN (ryT s k) (s 9 k) i).1 v * rtO (ryT s k) (s 9 k) j * (ryT s k).2.2 ^ (s 10 k - i)) = 0 ∨ v + j ≤ 120 := by
      by_cases g : v + j ≤ 120
      · exact Or.inr g
      · exact Or.inl ((jN_eq0 (by omega)).mpr (Classical.byContradiction (fun w => w1 ⟨w, by omega⟩)))
    refine F_add_ok c7 (by omega) w1' (fun J1 g1 g2 => Or.inl ⟨rfl, ?_⟩)
    have a1 : ∀ y, y ≠ th k + 2 + 1 → J1 y = J y := fun y hy => g1 y hy
    have a3 : J1 (th k + 2 + 1) = va_up (J (th k + 2 + 1)) (v + j) (J (th k + 2 + 1) (v + j) + jN ((rtN (ryT s k) (s 9 k) i).1 v * rtO (ryT s k) (s 9 k) j * (ryT s k).2.2 ^ (s 10 k - i))) := g2
    have hY1 : RyC s k K C I J0 R0 J1 R x1 := hY.own (fun y hy => a1 y (hy 3 (by omega)))
    have hI1 : RyI s k i J1 := ⟨hO.kept (a1 _ (by omega)) (a1 _ (by omega)), by rw [a1 _ (by omega)]; exact hI2.2.1, hI2.2.2.1, by rw [a1 _ (by omega)]; exact hI2.2.2.2.1, hTS, by rw [a1 _ (by omega)]; exact hI2.2.2.2.2.2⟩
    refine ⟨c8.1, _, c8.2.2.1, by rw [c8.2.2.2.2], iN_in (by omega) (by rw [c8.2.2.2.2]; omega), ?_⟩
    rw [(hI1.1 j (by omega)).2, jN_eq0 (show rtF (ryT s k) (s 9 k) j < 2 ^ 63 by have := hok.2; omega)]
    have okv1 : ∀ u, u < 121 → J1 (th k + 2 + 1) u = jN ((rtN (ryT s k) (s 9 k) i).2.1 u * (ryT s k).2.2 ^ (s 10 k + 1 - i) + (acw (rtN (ryT s k) (s 9 k) i).1 (rtO (ryT s k) (s 9 k)) u v + acp (rtN (ryT s k) (s 9 k) i).1 (rtO (ryT s k) (s 9 k)) u v (j + 1)) * (ryT s k).2.2 ^ (s 10 k - i)) := fun u hu => by
      rw [add_at a3 u, (hv u hu).1, jN_if, jN_add, acp_succ]
      refine congrArg jN ?_
      by_cases e : u = v + j
      · rw [if_pos e, if_pos e, ← Nat.add_assoc, Nat.add_mul _ (_ * _), Nat.add_assoc]
      · simp only [if_neg e, Nat.add_zero]
    have nf1 : ∀ y, y < j → 120 < v + y → (rtN (ryT s k) (s 9 k) i).1 v * rtF (ryT s k) (s 9 k) y * 1 = 0 ∧ (rtN (ryT s k) (s 9 k) i).1 v * rtO (ryT s k) (s 9 k) y * 1 = 0 := hN2
    have nfO : 120 < v + j → (rtN (ryT s k) (s 9 k) i).1 v * rtO (ryT s k) (s 9 k) j * 1 = 0 := fun g => by
      rw [Nat.mul_one]
      refine Classical.byContradiction (fun w => w1 ⟨fun z => ?_, g⟩)
      rcases Nat.mul_eq_zero.mp z with z | z
      · exact w z
      · exact absurd z (Nat.ne_of_gt (Nat.pow_pos hw0))
    refine ⟨fun c3 => ⟨fun c4 => ?_, fun c4 => ?_⟩, fun c3 => ?_⟩
    · have g := (iN_le (b := 120) (by omega) (by decide)).mp c4
      refine ⟨by rw [c1], th k + 9, c12, by rw [c13], iN_in (by omega) (by rw [c13]; omega), th k + 8, c10, by rw [c11], iN_in (by omega) (by rw [c11]; omega), ?_⟩
      rintro J2 rfl
      rw [iN_nat (show v + j < 2 ^ 31 by omega), a1 _ (show th k + 9 ≠ th k + 2 + 1 by omega), a1 _ (show th k + 8 ≠ th k + 2 + 1 by omega), hI2.2.2.2.2.2 v hv1, jN_mul, acu_eq]
      refine ⟨_, hm9, s, k, i, v, j + 1, J0, R0, rfl, rfl, rfl, rfl, rfl, rfl, iN_add j 1, hi, hv1, by omega, rfl, hY1.up (by omega), hI1.keep9, fun u hu => ⟨?_, ?_⟩, hNF, fun y hy hy2 => ?_⟩
      · rw [va_up_ne _ _ (show th k + 2 + 1 ≠ th k + 9 by omega)]
        exact okv1 u hu
      · rw [va_up_self, acu_at, (hv u hu).2, jN_if, jN_add, acp_succ, Nat.add_assoc]
      · exact nf1 y (by omega) hy2
    · have g : 120 < v + j := Nat.lt_of_not_le (fun w => c4 ((iN_le (b := 120) (by omega) (by decide)).mpr w))
      have htg := bad J1 (fun y hy => a1 y (hy 3 (by omega))) g (fun w => c3 ?_)
      · exact tg_raise htg
      · have h9 := w.1
        rw [Nat.mul_one] at h9
        exact (Nat.mul_eq_zero.mp h9).resolve_left c2
    · refine ⟨_, hm9, s, k, i, v, j + 1, J0, R0, rfl, rfl, rfl, rfl, rfl, rfl, iN_add j 1, hi, hv1, by omega, rfl, hY1, hI1, fun u hu => ⟨okv1 u hu, ?_⟩, hNF, fun y hy hy2 => ?_⟩
      · rw [a1 _ (show th k + 9 ≠ th k + 2 + 1 by omega), (hv u hu).2, acp_succ, c3, Nat.mul_zero, ite_self, Nat.add_zero]
      · by_cases e : y = j
        · subst e
          exact ⟨by rw [c3, Nat.mul_zero, Nat.zero_mul], nfO hy2⟩
        · exact nf1 y (by omega) hy2
  · rintro n K x0 x3 x6 C I J R ⟨s, k, t, qa, J0, R0, rfl, rfl, rfl, ht, rfl, hY, hq2, hw, hTS, hv⟩
    obtain ⟨c1, c5, c6, c7, c8, c10, c11, c12, c13, i6, i7, hl, hok, eraw⟩ := hY.facts
    obtain ⟨h7, hT, ta, ra, sa, hg⟩ := hY
    have hY : RyC s k K C I J0 R0 J R qa := ⟨h7, hT, ta, ra, sa, hg⟩
    unfold PX9_table_384
    refine ⟨fun c => ?_, fun c => ?_⟩
    · have h1 := (iN_lt (a := 120) (by decide) (by omega)).mp c
      obtain rfl : t = 121 := by omega
      have hok2 : TOk (raw s (tbl s) k) := by
        rw [eraw]
        refine ⟨(TS.ret hl.2.1 hok.1).near (fun w => hTS.notfar (far_ret.mp w)), ?_⟩
        show (rtN (ryT s k) (s 9 k) (s 10 k + 1)).2.2 < 2 ^ 62
        rw [rtN_whole]
        exact hw
      refine ⟨c7.1, T_less (o := 2) hT (by omega) c7 ?_ hok2 (own_good hT.1.1 hT.2.1 rfl hg hok2)⟩
      rw [eraw]
      refine ⟨fun u hu => ?_, ?_⟩
      · have h2 := hv u hu
        rw [if_pos hu] at h2
        exact h2.2
      · rw [hq2]
        show _ = jN (rtN (ryT s k) (s 9 k) (s 10 k + 1)).2.2
        rw [rtN_whole]
    · have ht1 : t < 121 := Nat.lt_of_not_le (fun w => c ((iN_lt (a := 120) (by decide) (by omega)).mpr (by omega)))
      refine ⟨by rw [c1], th k + 8, c10, by rw [c11], iN_in (by omega) (by rw [c11]; omega), c7.1, ?_⟩
      rw [iN_nat (by omega), (hv t ht1).1]
      refine F_add_ok c7 (by omega) (Or.inr (by omega)) (fun J1 g1 g2 => Or.inl ⟨rfl, ?_⟩)
      have a1 : ∀ y, y ≠ th k + 2 + 2 → J1 y = J y := fun y hy => g1 y hy
      have a3 : J1 (th k + 2 + 2) = va_up (J (th k + 2 + 2)) t (J (th k + 2 + 2) t + jN ((rtN (ryT s k) (s 9 k) (s 10 k + 1)).1 t)) := g2
      refine ⟨200 - (t + 1), by omega, s, k, t + 1, qa, J0, R0, rfl, rfl, iN_add t 1, by omega, rfl, hY.own (fun y hy => a1 y (hy 4 (by omega))), by rw [a1 _ (by omega)]; exact hq2, hw, hTS, fun u hu => ?_⟩
      have h2 := hv u hu
      rw [a1 _ (show th k + 8 ≠ th k + 2 + 2 by omega), a1 _ (show th k + 2 + 1 ≠ th k + 2 + 2 by omega), add_at a3 u, h2.2.2, jN_if, jN_add]
      refine ⟨h2.1, h2.2.1, congrArg jN ?_⟩
      by_cases e : u = t
      · subst e
        rw [if_neg (Nat.lt_irrefl u), if_pos rfl, if_pos (Nat.lt_succ_self u), Nat.zero_add]
      · rw [if_neg e, Nat.add_zero]
        by_cases e2 : u < t
        · rw [if_pos e2, if_pos (by omega)]
        · rw [if_neg e2, if_neg (by omega)]
