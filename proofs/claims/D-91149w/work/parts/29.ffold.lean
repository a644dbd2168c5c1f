/-! CONTRACTS 5: fold, in naturals -/
set_option maxRecDepth 100000
set_option linter.unusedVariables false
/-- what the first i of a row send to t -/
def acc (g h : Nat → Nat) (e t : Nat) (i : Nat) : Nat := sm (fun x => if x ≤ t then g x * h (t - x) * e else 0) i
theorem acc_succ (g h : Nat → Nat) (e t i : Nat) : acc g h e t (i + 1) = acc g h e t i + (if i ≤ t then g i * h (t - i) * e else 0) := rfl
theorem acc_all (g h : Nat → Nat) (e : Nat) {t n : Nat} (ht : t < n) : acc g h e t n = cvl g h t * e := by
  unfold acc cvl
  rw [sm_ext (n := t + 1) (by omega) (fun i h1 _ => if_neg (by omega)), ← sm_mulR]
  exact sm_congr (fun i hi => if_pos (by omega))
def apT (q x : Nat) : Prop := x ≠ q + 1 ∧ x ≠ q + 2
/-- where fold works: tables a and b, into q -/
def FoldS (C : MC) (R : MR) (J : MJ) (qa qb q : Nat) (oa fa ob fb : Nat → Nat) (wb e : Nat) : Prop :=
  (TbS C R qa ∧ TbS C R qb ∧ TbS C R q) ∧ (apT q (qa + 1) ∧ apT q (qa + 2) ∧ apT q qb ∧ apT q (qb + 1) ∧ apT q (qb + 2)) ∧
  (∀ i, i < 121 → J (qa + 1) i = jN (oa i) ∧ J (qa + 2) i = jN (fa i)) ∧ (∀ i, i < 121 → J (qb + 1) i = jN (ob i) ∧ J (qb + 2) i = jN (fb i)) ∧ J qb 2 = jN wb ∧
  (∀ i j, i < 121 → j < 121 → oa i * ob j * e < 2 ^ 62 ∧ oa i * fb j * e < 2 ^ 62) ∧ (∀ i, i < 121 → fa i * wb * e < 2 ^ 62 ∧ oa i < 2 ^ 63) ∧ e < 2 ^ 62
/-- nothing goes behind the last tick, out of a's ticks before i -/
def NoFar (oa ob fb : Nat → Nat) (e i : Nat) : Prop := ∀ x j, x < i → j < 121 → 120 < x + j → oa x * ob j * e = 0 ∧ oa x * fb j * e = 0
theorem FoldS.to {C : MC} {R : MR} {J J' : MJ} {qa qb q : Nat} {oa fa ob fb : Nat → Nat} {wb e : Nat} (h : FoldS C R J qa qb q oa fa ob fb wb e) (hJ : ∀ x, x ≠ q + 1 → x ≠ q + 2 → J' x = J x) : FoldS C R J' qa qb q oa fa ob fb wb e := by
  obtain ⟨h1, h2, h3, h4, h5, h6⟩ := h
  obtain ⟨a1, a2, b0, b1, b2⟩ := h2
  exact ⟨h1, ⟨a1, a2, b0, b1, b2⟩, fun i hi => by rw [hJ _ a1.1 a1.2, hJ _ a2.1 a2.2]; exact h3 i hi, fun i hi => by rw [hJ _ b1.1 b1.2, hJ _ b2.1 b2.2]; exact h4 i hi, by rw [hJ _ b0.1 b0.2]; exact h5, h6⟩
def FoldK (oa fa ob fb oi fi : Nat → Nat) (wb e : Nat) (q : Nat) (K : AK) (C : MC) (I : MI) (J : MJ) (R : MR) : Prop :=
  (¬ NoFar oa ob fb e 121 → ∀ J' : MJ, (∀ x, x ≠ q + 1 → x ≠ q + 2 → J' x = J x) → TG K C I J' R) ∧
  (NoFar oa ob fb e 121 → ∀ J' : MJ, (∀ x, x ≠ q + 1 → x ≠ q + 2 → J' x = J x) → (∀ t, t < 121 → J' (q + 1) t = jN (oi t + cvl oa ob t * e) ∧ J' (q + 2) t = jN (fi t + fa t * wb * e + cvl oa fb t * e)) → K (.inl none) C I J' R)
theorem FoldK.to {oa fa ob fb oi fi : Nat → Nat} {wb e q : Nat} {K : AK} {C : MC} {I : MI} {J J' : MJ} {R : MR} (h : FoldK oa fa ob fb oi fi wb e q K C I J R) (hJ : ∀ x, x ≠ q + 1 → x ≠ q + 2 → J' x = J x) : FoldK oa fa ob fb oi fi wb e q K C I J' R :=
  ⟨fun a J1 h1 => h.1 a J1 (fun x b c => (h1 x b c).trans (hJ x b c)), fun a J1 h1 => h.2 a J1 (fun x b c => (h1 x b c).trans (hJ x b c))⟩
def F_X0_fold : SPF := fun As C I J R K => ∃ (qa qb q : Nat) (oa fa ob fb oi fi : Nat → Nat) (wb e : Nat), As = [aR (some qa), aR (some qb), aJ (jN e), aR (some q)] ∧ FoldS C R J qa qb q oa fa ob fb wb e ∧ (∀ t, t < 121 → J (q + 1) t = jN (oi t) ∧ J (q + 2) t = jN (fi t)) ∧ FoldK oa fa ob fb oi fi wb e q K C I J R
/-- ahead of a's tick i -/
def FoldO (n : Nat) (K : AK) (qa qb : Nat) (x2 : Int64) (q : Nat) (x5 : Int32) (C : MC) (I : MI) (J : MJ) (R : MR) : Prop := ∃ (oa fa ob fb oi fi : Nat → Nat) (wb e i : Nat), x2 = jN e ∧ x5 = iN i ∧ i ≤ 121 ∧ n = (121 - i) * 200 ∧ FoldS C R J qa qb q oa fa ob fb wb e ∧
  (∀ t, t < 121 → J (q + 1) t = jN (oi t + acc oa ob e t i) ∧ J (q + 2) t = jN (fi t + (if t < i then fa t * wb * e else 0) + acc oa fb e t i)) ∧ NoFar oa ob fb e i ∧ FoldK oa fa ob fb oi fi wb e q K C I J R
/-- ahead of b's tick j -/
def FoldI (n : Nat) (K : AK) (qa qb : Nat) (x2 : Int64) (q : Nat) (x5 x6 : Int32) (C : MC) (I : MI) (J : MJ) (R : MR) : Prop := ∃ (oa fa ob fb oi fi : Nat → Nat) (wb e i j : Nat), x2 = jN e ∧ x5 = iN i ∧ x6 = iN j ∧ i < 121 ∧ j ≤ 121 ∧ n = (121 - i) * 200 - 1 - j ∧ FoldS C R J qa qb q oa fa ob fb wb e ∧
  (∀ t, t < 121 → J (q + 1) t = jN (oi t + acc oa ob e t i + (if i ≤ t ∧ t - i < j then oa i * ob (t - i) * e else 0)) ∧ J (q + 2) t = jN (fi t + (if t < i + 1 then fa t * wb * e else 0) + acc oa fb e t i + (if i ≤ t ∧ t - i < j then oa i * fb (t - i) * e else 0))) ∧
  NoFar oa ob fb e i ∧ (∀ y, y < j → 120 < i + y → oa i * ob y * e = 0 ∧ oa i * fb y * e = 0) ∧ FoldK oa fa ob fb oi fi wb e q K C I J R
theorem fold_out {n m : Nat} {K : AK} {qa qb q : Nat} {C : MC} {I : MI} {J : MJ} {R : MR} {oa fa ob fb oi fi : Nat → Nat} {wb e i j : Nat} (hi : i < 121) (hj : j ≤ 121) (hm : m = (121 - (i + 1)) * 200) (hS : FoldS C R J qa qb q oa fa ob fb wb e)
    (hN : ∀ t, t < 121 → J (q + 1) t = jN (oi t + acc oa ob e t i + (if i ≤ t ∧ t - i < j then oa i * ob (t - i) * e else 0)) ∧ J (q + 2) t = jN (fi t + (if t < i + 1 then fa t * wb * e else 0) + acc oa fb e t i + (if i ≤ t ∧ t - i < j then oa i * fb (t - i) * e else 0)))
    (hF : NoFar oa ob fb e i) (hF2 : ∀ y, y < j → 120 < i + y → oa i * ob y * e = 0 ∧ oa i * fb y * e = 0) (hK : FoldK oa fa ob fb oi fi wb e q K C I J R) (hend : j = 121 ∨ oa i = 0) : FoldO m K qa qb (jN e) q (iN i + 1) C I J R := by
  refine ⟨oa, fa, ob, fb, oi, fi, wb, e, i + 1, rfl, iN_add i 1, by omega, hm, hS, fun t ht => ?_, fun x y hx hy hxy => ?_, hK⟩
  · have h := hN t ht
    rw [h.1, h.2, acc_succ, acc_succ]
    by_cases hit : i ≤ t
    · rcases hend with rfl | h0
      · have h9 : t - i < 121 := by omega
        simp [hit, h9, Nat.add_assoc]
      · simp [h0]
    · simp [hit]
  · by_cases hx2 : x < i
    · exact hF x y hx2 hy hxy
    · have e1 : x = i := by omega
      subst e1
      rcases hend with rfl | h0
      · exact hF2 y hy hxy
      · simp [h0]
theorem tg_lift {K : AK} {P : AK} {C : MC} {I : MI} {J : MJ} {R : MR} (h : TG K C I J R) : TG (fun o C' I' J' R' => P o C' I' J' R' ∨ (∃ q : Nat, o = .inr q ∧ ((C' q).1 = 11 ∧ K (.inr q) C' I' J' R'))) C I J R :=
  ⟨h.1, fun C' I' J' R' hC hx => Or.inr ⟨nG, rfl, by rw [hC, va_up_self], h.2 C' I' J' R' hC hx⟩⟩
theorem jN_le0 {x : Nat} (hx : x < 2 ^ 63) : jN x ≤ (0 : Int64) ↔ x = 0 := by
  rw [show (0 : Int64) = jN 0 from rfl, jN_le hx (by omega)]
  omega
theorem S_X0_fold (l : Launch) : SpX0_fold l F_X0_fold := by
  refine wX0_fold (S_X3_add l) FoldO FoldI ?_ ?_ ?_
  · rintro As C I J R K ⟨qa, qb, q, oa, fa, ob, fb, oi, fi, wb, e, rfl, hS, hN, hK⟩
    refine ⟨qa, qb, _, q, rfl, ?_⟩
    unfold PX0_fold_0
    have he := hS.2.2.2.2.2.2.2
    refine ⟨fun w => ⟨_, oa, fa, ob, fb, oi, fi, wb, e, 0, rfl, rfl, Nat.zero_le _, rfl, hS, fun t ht => ?_, fun x y hx => absurd hx (Nat.not_lt_zero x), hK⟩, fun w => ?_⟩
    · have h := hN t ht
      simpa [acc, sm] using h
    · have e0 : e = 0 := (jN_eq0 (by omega)).mp w
      subst e0
      refine hK.2 (fun x y _ _ _ => ⟨Nat.mul_zero _, Nat.mul_zero _⟩) J (fun _ _ _ => rfl) (fun t ht => ?_)
      have h := hN t ht
      simpa using h
  · rintro n K x0 x1 x2 x4 x5 C I J R ⟨oa, fa, ob, fb, oi, fi, wb, e, i, rfl, rfl, hi, hn, hS, hN, hF, hK⟩
    have hS0 := hS
    obtain ⟨⟨ta, tb, tq⟩, ap, ra, rb, rw, s1, s2, s3⟩ := hS0
    unfold PX0_fold_10
    refine ⟨fun c => ?_, fun c => ?_⟩
    · have h1 := (iN_lt (a := 120) (by decide) (by omega)).mp c
      have e1 : i = 121 := by omega
      subst e1
      refine hK.2 hF J (fun _ _ _ => rfl) (fun t ht => ?_)
      have h := hN t ht
      rw [acc_all oa ob e ht, acc_all oa fb e ht, if_pos ht] at h
      exact h
    · have h1 : ¬ 120 < i := fun z => c ((iN_lt (a := 120) (by decide) (by omega)).mpr z)
      refine ⟨ta.1, _, ta.2.2.1, by rw [ta.2.2.2.2], iN_in (by omega) (by rw [ta.2.2.2.2]; omega), tb.1, tq.1, ?_⟩
      rw [iN_nat (by omega), (ra i (by omega)).2, rw, jN_mul, jN_mul]
      refine F_add_ok tq (by omega) (Or.inr (by omega)) (fun J' g1 g2 => Or.inl ⟨rfl, ?_⟩)
      have g3 : ∀ x, x ≠ x4 + 1 → x ≠ x4 + 2 → J' x = J x := fun x _ hx => g1 x hx
      have g4 : J' (x4 + 1) = J (x4 + 1) := g1 _ (show x4 + 1 ≠ x4 + 2 by omega)
      have g5 : J' (x4 + 2) = va_up (J (x4 + 2)) i (J (x4 + 2) i + jN (fa i * wb * e)) := g2
      refine ⟨(121 - i) * 200 - 1 - 0, by omega, oa, fa, ob, fb, oi, fi, wb, e, i, 0, rfl, rfl, rfl, by omega, by omega, rfl, hS.to g3, fun t ht => ?_, hF, fun y hy => absurd hy (Nat.not_lt_zero y), hK.to g3⟩
      have h := hN t ht
      rw [g4, g5, h.1]
      refine ⟨by simp, ?_⟩
      by_cases et : t = i
      · subst et
        rw [va_up_self, h.2, jN_add]
        congr 1
        simp
        omega
      · rw [va_up_ne _ _ et, h.2]
        congr 1
        by_cases e2 : t < i
        · simp [e2, show t < i + 1 by omega]
        · simp [e2, show ¬ t < i + 1 by omega]
  · rintro n K x0 x1 x2 x4 x5 x6 C I J R ⟨oa, fa, ob, fb, oi, fi, wb, e, i, j, rfl, rfl, rfl, hi, hj, hn, hS, hN, hF, hF2, hK⟩
    have hS0 := hS
    obtain ⟨⟨ta, tb, tq⟩, ap, ra, rb, rw', s1, s2, s3⟩ := hS0
    unfold PX0_fold_42 PX0_fold_123
    have out : (j = 121 ∨ oa i = 0) → ∃ m, m < n ∧ FoldO m K x0 x1 (jN e) x4 (iN i + 1) C I J R := fun w => ⟨(121 - (i + 1)) * 200, by omega, fold_out (n := 0) hi hj rfl hS hN hF hF2 hK w⟩
    refine ⟨fun c => out (Or.inl ?_), fun c => ?_⟩
    · have := (iN_lt (a := 120) (by decide) (by omega)).mp c
      omega
    have hj1 : j < 121 := Nat.lt_of_not_le (fun w => c ((iN_lt (a := 120) (by decide) (by omega)).mpr (by omega)))
    have hm9 : (121 - i) * 200 - 1 - (j + 1) < n := by omega
    refine ⟨ta.1, _, ta.2.1, by rw [ta.2.2.2.1], iN_in (by omega) (by rw [ta.2.2.2.1]; omega), ?_⟩
    rw [iN_nat (show i < 2 ^ 31 by omega), iN_nat (show j < 2 ^ 31 by omega), (ra i hi).1]
    refine ⟨fun c2 => out (Or.inr ((jN_le0 (s2 i hi).2).mp c2)), fun c2 => ?_⟩
    refine ⟨tb.1, _, tb.2.1, by rw [tb.2.2.2.1], iN_in (by omega) (by rw [tb.2.2.2.1]; omega), tq.1, ?_⟩
    rw [(rb j hj1).1, jN_mul, jN_mul, iN_add]
    have hb := s1 i j hi hj1
    by_cases g : oa i * ob j * e ≠ 0 ∧ 120 < i + j
    · exact F_add_great (by omega) (fun w => g.1 ((jN_eq0 (by omega)).mp w)) g.2 (tg_lift (hK.1 (fun w => g.1 (w i j hi hj1 g.2).1) J (fun _ _ _ => rfl)))
    · have g0 : jN (oa i * ob j * e) = 0 ∨ i + j ≤ 120 := by
        by_cases g1 : i + j ≤ 120
        · exact Or.inr g1
        · refine Or.inl ((jN_eq0 (by omega)).mpr (Classical.byContradiction (fun w => g ⟨w, by omega⟩)))
      refine F_add_ok tq (by omega) g0 (fun J1 g1 g2 => Or.inl ⟨rfl, ?_⟩)
      have a1 : ∀ x, x ≠ x4 + 1 → x ≠ x4 + 2 → J1 x = J x := fun x hx _ => g1 x hx
      have a2 : J1 (x4 + 2) = J (x4 + 2) := g1 _ (show x4 + 2 ≠ x4 + 1 by omega)
      have a3 : J1 (x4 + 1) = va_up (J (x4 + 1)) (i + j) (J (x4 + 1) (i + j) + jN (oa i * ob j * e)) := g2
      refine ⟨ta.1, _, ta.2.1, by rw [ta.2.2.2.1], iN_in (by omega) (by rw [ta.2.2.2.1]; omega), tb.1, _, tb.2.2.1, by rw [tb.2.2.2.2], iN_in (by omega) (by rw [tb.2.2.2.2]; omega), tq.1, ?_⟩
      rw [a1 _ ap.1.1 ap.1.2, a1 _ ap.2.2.2.2.1 ap.2.2.2.2.2, (ra i hi).1, (rb j hj1).2, jN_mul, jN_mul]
      by_cases h : oa i * fb j * e ≠ 0 ∧ 120 < i + j
      · exact F_add_great (by omega) (fun w => h.1 ((jN_eq0 (by omega)).mp w)) h.2 (tg_lift (hK.1 (fun w => h.1 (w i j hi hj1 h.2).2) J1 a1))
      · have h0 : jN (oa i * fb j * e) = 0 ∨ i + j ≤ 120 := by
          by_cases g1 : i + j ≤ 120
          · exact Or.inr g1
          · refine Or.inl ((jN_eq0 (by omega)).mpr (Classical.byContradiction (fun w => h ⟨w, by omega⟩)))
        refine F_add_ok tq (by omega) h0 (fun J2 h1 h2 => Or.inl ⟨rfl, ?_⟩)
        have b1 : ∀ x, x ≠ x4 + 1 → x ≠ x4 + 2 → J2 x = J x := fun x hx hx2 => (h1 x hx2).trans (a1 x hx hx2)
        have b2 : J2 (x4 + 1) = J1 (x4 + 1) := h1 _ (show x4 + 1 ≠ x4 + 2 by omega)
        have b3 : J2 (x4 + 2) = va_up (J1 (x4 + 2)) (i + j) (J1 (x4 + 2) (i + j) + jN (oa i * fb j * e)) := h2
        refine ⟨(121 - i) * 200 - 1 - (j + 1), hm9, oa, fa, ob, fb, oi, fi, wb, e, i, j + 1, rfl, rfl, iN_add j 1, hi, by omega, rfl, hS.to b1, fun t ht => ?_, hF, fun y hy hy2 => ?_, hK.to b1⟩
        · have h := hN t ht
          rw [b2, b3, a2, a3]
          by_cases et : t = i + j
          · subst et
            rw [va_up_self, va_up_self, h.1, h.2, jN_add, jN_add, if_neg (show ¬ (i ≤ i + j ∧ i + j - i < j) by omega), if_neg (show ¬ (i ≤ i + j ∧ i + j - i < j) by omega), if_pos (show i ≤ i + j ∧ i + j - i < j + 1 by omega), if_pos (show i ≤ i + j ∧ i + j - i < j + 1 by omega), show i + j - i = j by omega, Nat.add_zero, Nat.add_zero]
            exact ⟨rfl, rfl⟩
          · rw [va_up_ne _ _ et, va_up_ne _ _ et, h.1, h.2]
            by_cases e2 : i ≤ t ∧ t - i < j
            · rw [if_pos e2, if_pos e2, if_pos (show i ≤ t ∧ t - i < j + 1 by omega), if_pos (show i ≤ t ∧ t - i < j + 1 by omega)]
              exact ⟨rfl, rfl⟩
            · rw [if_neg e2, if_neg e2, if_neg (show ¬ (i ≤ t ∧ t - i < j + 1) by omega), if_neg (show ¬ (i ≤ t ∧ t - i < j + 1) by omega)]
              exact ⟨rfl, rfl⟩
        · by_cases ey : y = j
          · subst ey
            exact ⟨Classical.byContradiction (fun w => g ⟨w, hy2⟩), Classical.byContradiction (fun w => h ⟨w, hy2⟩)⟩
          · exact hF2 y (by omega) hy2
