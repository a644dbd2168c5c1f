/-! the component's free: parts told are found -/
set_option maxRecDepth 100000
set_option linter.unusedVariables false
def FeK (s : St) (X : Nat → Int32) (r : Nat) (C : MC) (I : MI) (J : MJ) (R : MR) (K : AK) : Prop := ((¬ ∃ m p, PtsX s X m p) → ∀ (C' : MC) (I' : MI) (J' : MJ) (R' : MR), (∀ x, x ≠ r → C' x = C x ∧ I' x = I x ∧ J' x = J x ∧ R' x = R x) → K (.inr 504) C' (setI I' 504 6 1) J' R') ∧ ∀ m p, PtsX s X m p → ∀ (C' : MC) (I' : MI) (J' : MJ) (R' : MR), (∀ x, x ≠ r → C' x = C x ∧ I' x = I x ∧ J' x = J x ∧ R' x = R x) → C' r = (26, m) → (∀ i, i < m → R' r i = some (th (p i))) → (∀ i, ¬ i < m → R' r i = none) → K (.inl (some (aR (some r)))) C' I' J' R'
def FeI (s : St) (X : Nat → Int32) (x1 r : Nat) (C : MC) (I : MI) (J : MJ) (R : MR) : Prop := C x1 = (20, 4) ∧ (∀ i, i < 4 → I x1 i = X i) ∧ BenS s C I R ∧ CtY s C I J R
def F_X0_free : SPF := fun As C I J R K => ∃ (s : St) (X : Nat → Int32) (x1 r : Nat), As = [aR (some 500), aR (some x1)] ∧ FeI s X x1 r C I J R ∧ r ≠ x1 ∧ 505 ≤ r ∧ (∀ k, k < s 6 0 → r ≠ th k) ∧ (C r).1 = 0 ∧ FeK s X r C I J R K
def V_X0_free_2 (n : Nat) (K : AK) (x0 : Nat) (x1 : Nat) (x2 : Int32) (C : MC) (I : MI) (J : MJ) (R : MR) : Prop := ∃ (s : St) (X : Nat → Int32) (r i : Nat), x0 = 500 ∧ x2 = iN i ∧ i ≤ 4 ∧ n = 200 - i ∧ (∀ j, j < i → X j ≠ -1) ∧ FeI s X x1 r C I J R ∧ r ≠ x1 ∧ 505 ≤ r ∧ (∀ k, k < s 6 0 → r ≠ th k) ∧ (C r).1 = 0 ∧ FeK s X r C I J R K
def V_X0_free_23 (n : Nat) (K : AK) (x0 : Nat) (x1 : Nat) (x2 : Int32) (x3 : Int32) (C : MC) (I : MI) (J : MJ) (R : MR) : Prop := ∃ (s : St) (X : Nat → Int32) (r m j : Nat), x0 = 500 ∧ x2 = iN m ∧ x3 = iN j ∧ m ≤ j ∧ j ≤ 4 ∧ n = 100 - j ∧ (∀ j, j < m → X j ≠ -1) ∧ (m < 4 → X m = -1) ∧ (∀ t, m ≤ t → t < j → X t = -1) ∧ FeI s X x1 r C I J R ∧ r ≠ x1 ∧ 505 ≤ r ∧ (∀ k, k < s 6 0 → r ≠ th k) ∧ (C r).1 = 0 ∧ FeK s X r C I J R K
def V_X0_free_60 (n : Nat) (K : AK) (x0 : Nat) (x1 : Nat) (x2 : Int32) (x3 : Nat) (x4 : Int32) (C : MC) (I : MI) (J : MJ) (R : MR) : Prop := ∃ (s : St) (X : Nat → Int32) (Cb : MC) (Ib : MI) (Jb : MJ) (Rb : MR) (m i : Nat) (p : Nat → Nat), x0 = 500 ∧ x2 = iN m ∧ x4 = iN i ∧ i ≤ m ∧ m ≤ 4 ∧ n = 50 - i ∧ (∀ j, j < m → X j ≠ -1) ∧ (∀ t, m ≤ t → t < 4 → X t = -1) ∧ (∀ j, j < i → X j = iN (p j) ∧ p j < s 6 0) ∧ C x1 = (20, 4) ∧ (∀ i, i < 4 → I x1 i = X i) ∧ BenS s C I R ∧ CtY s Cb Ib Jb Rb ∧ (∀ k, k < s 6 0 → x3 ≠ th k) ∧ 505 ≤ x3 ∧ (∀ x, x ≠ x3 → C x = Cb x ∧ I x = Ib x ∧ J x = Jb x ∧ R x = Rb x) ∧ C x3 = (26, m) ∧ (∀ j, j < i → R x3 j = some (th (p j))) ∧ (∀ j, i ≤ j → R x3 j = none) ∧ FeK s X x3 Cb Ib Jb Rb K
theorem S_X0_free (l : Launch) : SpX0_free l F_X0_free := by
  refine wX0_free (S_X0_want l) (S_X0_thing l) V_X0_free_2 V_X0_free_23 V_X0_free_60 ?_ ?_ ?_ ?_
  · rintro As C I J R K ⟨s, X, x1, r, rfl, hI, h1, h2, h3, h4, hK⟩
    exact ⟨500, x1, rfl, 200 - 0, s, X, r, 0, rfl, rfl, Nat.zero_le _, rfl, fun j hj => absurd hj (Nat.not_lt_zero _), hI, h1, h2, h3, h4, hK⟩
  · rintro n K x0 x1 x2 C I J R ⟨s, X, r, i, rfl, rfl, hi, rfl, hx, hI, h1, h2, h3, h4, hK⟩
    obtain ⟨c1, ix, hB, hY⟩ := id hI
    unfold PX0_free_2 PX0_free_21
    rw [c1]
    have go : (i < 4 → X i = -1) → ∃ m, m < 200 - i ∧ V_X0_free_23 m K 500 x1 (iN i) (iN i) C I J R := fun hm => ⟨100 - i, by omega, s, X, r, i, i, rfl, rfl, rfl, Nat.le_refl _, hi, rfl, hx, hm, fun t a b => absurd b (by omega), hI, h1, h2, h3, h4, hK⟩
    refine ⟨⟨show 20 ≤ 20 by decide, show 20 ≤ 30 by decide⟩, fun z => go (fun w => by have := (iN_le (a := 4) (by decide) (by omega)).mp z; omega), fun z => ⟨rfl, ?_⟩⟩
    have i4 : i < 4 := Nat.lt_of_not_le (fun w => z ((iN_le (a := 4) (by decide) (by omega)).mpr w))
    refine ⟨iN_in (by omega) i4, ?_⟩
    rw [iN_nat (by omega), ix i i4]
    refine ⟨fun z2 => go (fun _ => z2), fun z2 => ⟨200 - (i + 1), by omega, s, X, r, i + 1, rfl, iN_add i 1, by omega, rfl, fun j hj => ?_, hI, h1, h2, h3, h4, hK⟩⟩
    by_cases e : j = i
    · rw [e]
      exact z2
    · exact hx j (by omega)
  · rintro n K x0 x1 x2 x3 C I J R ⟨s, X, r, m, j, rfl, rfl, rfl, hmj, hj, rfl, hx, hxm, hz, hI, h1, h2, h3, h4, hK⟩
    obtain ⟨c1, ix, hB, hY⟩ := id hI
    have hb : (C 500).1 = 1 := by rw [hB.1.1]
    have h504 : (C 504).1 = 2 := by rw [hB.1.2.2.2.2]
    unfold PX0_free_23 PX0_free_42
    rw [c1]
    refine ⟨⟨show 20 ≤ 20 by decide, show 20 ≤ 30 by decide⟩, fun z => ⟨iN_nn (by omega), by rw [iN_nat (by omega)]; omega, r, h4, ?_⟩, fun z => ⟨rfl, ?_⟩⟩
    · have j4 : j = 4 := by
        have := (iN_le (a := 4) (by decide) (by omega)).mp z
        omega
      subst j4
      rintro C7 I8 J9 R10 rfl rfl rfl rfl
      rw [iN_nat (by omega)]
      have hf : ∀ x, x ≠ r → va_up C r (26, m) x = C x ∧ va_up I r (fun _ => 0) x = I x ∧ va_up J r (fun _ => 0) x = J x ∧ va_up R r (fun _ => none) x = R x := fun x hx => by
        rw [va_up_ne _ _ hx, va_up_ne _ _ hx, va_up_ne _ _ hx, va_up_ne _ _ hx]
        exact ⟨rfl, rfl, rfl, rfl⟩
      refine ⟨50 - 0, by omega, s, X, C, I, J, R, m, 0, fun _ => 0, rfl, rfl, rfl, Nat.zero_le _, hmj, rfl, hx, hz, fun j hj => absurd hj (Nat.not_lt_zero _), by rw [va_up_ne _ _ h1.symm]; exact c1, by rw [va_up_ne _ _ h1.symm]; exact ix, ?_, hY, h3, h2, hf, va_up_self _ _ _, fun j hj => absurd hj (Nat.not_lt_zero _), fun j _ => by rw [va_up_self], hK⟩
      unfold BenS
      rw [(hf 500 (by omega)).1, (hf 501 (by omega)).1, (hf 502 (by omega)).1, (hf 503 (by omega)).1, (hf 504 (by omega)).1, (hf 500 (by omega)).2.1, (hf 500 (by omega)).2.2.2, (hf 503 (by omega)).2.2.2]
      exact hB
    · have j4 : j < 4 := Nat.lt_of_not_le (fun w => z ((iN_le (a := 4) (by decide) (by omega)).mpr w))
      refine ⟨iN_in (by omega) j4, ?_⟩
      rw [iN_nat (by omega), ix j j4]
      refine ⟨fun z2 => ⟨hb, F_want_no hB (Or.inr ⟨504, rfl, h504, hK.1 (fun ⟨m', p', P'⟩ => ?_) C I J R (fun _ _ => ⟨rfl, rfl, rfl, rfl⟩)⟩)⟩, fun z2 => ⟨hb, F_want_yes (Or.inl ⟨rfl, 100 - (j + 1), by omega, s, X, r, m, j + 1, rfl, rfl, iN_add j 1, by omega, by omega, rfl, hx, hxm, fun t a b => ?_, hI, h1, h2, h3, h4, hK⟩)⟩⟩
      · have hn := hY.1.1
        have jm : j < m' := Nat.lt_of_not_le (fun w => z2 (P'.2.2 j w j4))
        have a := P'.2.1 m (by omega)
        by_cases e : m = j
        · rw [← e] at z2
          exact z2 (hxm (by omega))
        · have b := hz m (Nat.le_refl _) (by omega)
          rw [a.1] at b
          exact iN_m1 (by omega) b
      · by_cases e : t = j
        · rw [e]
          exact z2
        · exact hz t a (by omega)
  · rintro n K x0 x1 x2 x3 x4 C I J R ⟨s, X, Cb, Ib, Jb, Rb, m, i, p, rfl, rfl, rfl, hi, hm, rfl, hx, hz, hp, c1, ix, hB, hY, h3, h2, hf, cr, hr, hr2, hK⟩
    have hb : (C 500).1 = 1 := by rw [hB.1.1]
    have h504 : (C 504).1 = 2 := by rw [hB.1.2.2.2.2]
    have hn := hY.1.1
    unfold PX0_free_60
    rw [iN_le (by omega) (by omega)]
    refine ⟨fun z => ?_, fun z => ⟨by rw [c1], by rw [c1]; exact iN_in (by omega) (by show i < 4; omega), hb, ?_⟩⟩
    · obtain rfl : i = m := by omega
      exact hK.2 i p ⟨hm, hp, hz⟩ C I J R hf cr hr (fun j hj => hr2 j (by omega))
    · rw [iN_nat (by omega), ix i (by omega)]
      refine F_thing_ok hB hn (fun k hxk hk => Or.inl ⟨th k, rfl, by rw [cr]; exact ⟨show 25 ≤ 26 by decide, show 26 < 29 by decide⟩, Or.inr (Or.inl ⟨by rw [cr], ?_⟩), by rw [cr]; exact iN_in (by omega) (by show i < m; omega), ?_⟩) (fun w => Or.inr ⟨504, rfl, h504, hK.1 (fun ⟨m', p', P'⟩ => ?_) C I J R hf⟩)
      · rw [(hf (th k) (fun w => h3 k hk w.symm)).1]
        exact kth0 hY hk
      · rintro R13 rfl
        refine ⟨50 - (i + 1), by omega, s, X, Cb, Ib, Jb, Rb, m, i + 1, va_up p i k, rfl, rfl, iN_add i 1, by omega, hm, rfl, hx, hz, fun j hj => ?_, c1, ix, ?_, hY, h3, h2, fun x hx => ⟨(hf x hx).1, (hf x hx).2.1, (hf x hx).2.2.1, by rw [va_up_ne _ _ hx]; exact (hf x hx).2.2.2⟩, cr, fun j hj => ?_, fun j hj => ?_, hK⟩
        · by_cases e : j = i
          · rw [e, va_up_self]
            exact ⟨hxk, hk⟩
          · rw [va_up_ne _ _ e]
            exact hp j (by omega)
        · unfold BenS
          rw [va_up_ne _ _ (show 500 ≠ x3 by omega), va_up_ne _ _ (show 503 ≠ x3 by omega)]
          exact hB
        · rw [va_up_self]
          by_cases e : j = i
          · rw [e, va_up_self, va_up_self]
          · rw [va_up_ne _ _ e, va_up_ne _ _ e]
            exact hr j (by omega)
        · rw [va_up_self, va_up_ne _ _ (by omega)]
          exact hr2 j (by omega)
      · have im : i < m' := Nat.lt_of_not_le (fun w2 => hx i (by omega) (P'.2.2 i w2 (by omega)))
        exact w ⟨p' i, (P'.2.1 i im).2, (P'.2.1 i im).1⟩
