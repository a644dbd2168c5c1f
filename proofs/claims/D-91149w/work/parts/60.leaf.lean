/-! A LEAF IS MADE: the component's side -/
set_option maxRecDepth 100000
set_option linter.unusedVariables false
/-- names that an op may fill and leave -/
def Tm (s : St) (q : Nat) : Prop := (520 ≤ q ∧ q < 530) ∨ (s 6 0 < 20 ∧ Nw (s 6 0) q)
theorem CtY.off {s : St} {C C' : MC} {I I' : MI} {J J' : MJ} {R R' : MR} (h : CtY s C I J R) (he : ∀ q, ¬ Tm s q → C' q = C q ∧ I' q = I q ∧ J' q = J q ∧ R' q = R q) : CtY s C' I' J' R' := by
  refine ⟨h.1, fun k hk => ?_⟩
  have hn := h.1.1
  have eo : ∀ o, o < 40 → C' (th k + o) = C (th k + o) ∧ I' (th k + o) = I (th k + o) ∧ J' (th k + o) = J (th k + o) ∧ R' (th k + o) = R (th k + o) := fun o ho => he _ (by
    unfold Tm Nw th
    omega)
  have e0 := eo 0 (by omega)
  have eg : ∀ g x, g < 3 → gq s k g ≤ x → x ≤ gq s k g + 2 → C' x = C x ∧ I' x = I x ∧ J' x = J x ∧ R' x = R x := fun g x hg z1 z2 => he _ (by
    unfold gq at z1 z2
    unfold Tm Nw
    by_cases e : g = 0
    · rw [if_pos e] at z1 z2
      unfold th
      omega
    · rw [if_neg e] at z1 z2
      unfold th at z1 z2 ⊢
      have : g = 1 ∨ g = 2 := by omega
      rcases this with rfl | rfl <;> omega)
  have tb : ∀ o, o + 2 < 40 → TbS C R (th k + o) → TbS C' R' (th k + o) := fun o ho t => by
    have a := eo o (by omega)
    have b := eo (o + 1) (by omega)
    have c := eo (o + 2) (by omega)
    unfold TbS at t ⊢
    rw [a.1, a.2.2.2, Nat.add_assoc, Nat.add_assoc, b.1, c.1]
    exact t
  obtain ⟨⟨⟨c1, c2, c3, c4, c5, c6, c7, c8, c9⟩, cl, cr, cf, ct⟩, ci, clt⟩ := h.2 k hk
  have hv := h.1.2 k hk
  refine ⟨⟨⟨?_, ?_, ?_, ?_, ?_, ?_, tb 2 (by omega) c7, tb 5 (by omega) c8, ?_⟩, fun z => ?_, fun z => ?_, fun z => ?_, fun z => ?_⟩, ?_, fun z g hg => ?_⟩
  · exact e0.1.trans c1
  · rw [(eo 1 (by omega)).1]; exact c2
  · exact (congrFun e0.2.2.2 0).trans c3
  · rw [(eo 1 (by omega)).2.2.2]; exact c4
  · exact (congrFun e0.2.2.2 1).trans c5
  · exact (congrFun e0.2.2.2 2).trans c6
  · exact (congrFun e0.2.2.2 3).trans c9
  · obtain ⟨b1, b2, b3, b4, b5⟩ := cl z
    have h12 := (hv.2.1.1 z).2.2.1
    refine ⟨(congrFun e0.2.2.2 6).trans b1, by rw [(eo 8 (by omega)).1]; exact b2, (congrFun e0.2.2.2 7).trans b3, by rw [(eo 9 (by omega)).1]; exact b4, fun g hg => ?_⟩
    rw [(eo 8 (by omega)).2.2.2]
    refine ⟨(b5 g hg).1, ?_⟩
    have t := (b5 g hg).2
    have a := eg g (gq s k g) (by omega) (Nat.le_refl _) (by omega)
    have b := eg g (gq s k g + 1) (by omega) (by omega) (by omega)
    have c := eg g (gq s k g + 2) (by omega) (by omega) (by omega)
    unfold TbS at t ⊢
    rw [a.1, a.2.2.2, b.1, c.1]
    exact t
  · obtain ⟨b1, b2, b3, b4, b5⟩ := cr z
    have m1 := hv.1.2.1
    refine ⟨(congrFun e0.2.2.2 6).trans b1, by rw [(eo 8 (by omega)).1]; exact b2, (congrFun e0.2.2.2 7).trans b3, by rw [(eo 14 (by omega)).1]; exact b4, fun i hi => ?_⟩
    rw [(eo 8 (by omega)).2.2.2, (eo (9 + i) (by omega)).1]
    exact b5 i hi
  · obtain ⟨b1, b2, b3, b4, b5, b6⟩ := cf z
    refine ⟨(congrFun e0.2.2.2 9).trans b1, by rw [(eo 15 (by omega)).1]; exact b2, (congrFun e0.2.2.2 10).trans b3, by rw [(eo 16 (by omega)).1]; exact b4, (congrFun e0.2.2.2 11).trans b5, by rw [(eo 17 (by omega)).1]; exact b6⟩
  · obtain ⟨b1, b2, b3, b4⟩ := ct z
    exact ⟨(congrFun e0.2.2.2 8).trans b1, by rw [(eo 8 (by omega)).1]; exact b2, (congrFun e0.2.2.2 9).trans b3, by rw [(eo 9 (by omega)).1]; exact b4⟩
  · exact ci.far e0.2.1 (eo 9 (by omega)).2.1
  · have h12 := (hv.2.1.1 z).2.2.1
    exact (clt z g hg).kept (fun y h1 h2 => (eg g y (by omega) h1 h2).2.2.1)
theorem LV_Tm {s : St} {v : Tv} {C : MC} {I : MI} {J : MJ} {R : MR} (h : TrS s v C I J R) (hn : s 6 0 ≤ 20) {q : Nat} (hq : LV s q) : ¬ Tm s q := by
  rintro (⟨h1, h2⟩ | ⟨h1, h2⟩)
  · rcases hq with w | w | ⟨f, hf, w⟩ | w | ⟨u, hu, h4, w⟩ | ⟨k, o, hk, ho, hl, w⟩ | ⟨k, x, e', hk, h7, hw, he, w⟩
    · omega
    · omega
    · have := mkd_lt hf
      omega
    · omega
    · have := trn_lt h hu
      omega
    · have := th_ge k
      omega
    · omega
  · exact Nw_dead h h1 h2 hq
theorem RelB.off {s : St} {v : Tv} {a b : Int64} {C C' : MC} {I I' : MI} {J J' : MJ} {R R' : MR} (h : RelB s v a b C I J R) (he : ∀ q, ¬ Tm s q → C' q = C q ∧ I' q = I q ∧ J' q = J q ∧ R' q = R q) : RelB s v a b C' I' J' R' := by
  obtain ⟨h1, h2, h3, h4, h5, h6⟩ := h
  have hl := fun q (hq : q < 520) => he q (by
    unfold Tm Nw th
    omega)
  have hv := fun q (hq : LV s q) => he q (LV_Tm h2 h3.1.1 hq)
  refine ⟨?_, fun t ht => ?_, h3.off he, ⟨fun q hq => ?_, fun q i r hq hr => ?_⟩, ?_, ?_⟩
  · unfold BenS
    rw [(hl 500 (by omega)).1, (hl 501 (by omega)).1, (hl 502 (by omega)).1, (hl 503 (by omega)).1, (hl 504 (by omega)).1, (hl 500 (by omega)).2.1, (hl 500 (by omega)).2.2.2, (hl 503 (by omega)).2.2.2]
    exact h1
  · have h7 := trn_lt h2 ht
    have h8 := hl (trn s t) (by omega)
    rw [h8.1, h8.2.1, h8.2.2.1, (hl 501 (by omega)).2.2.2]
    exact h2 t ht
  · rw [(hv q hq).1]
    exact h4.1 q hq
  · rw [(hv q hq).2.2.2] at hr
    exact h4.2 q i r hq hr
  · rw [(hl 500 (by omega)).2.2.1]
    exact h5
  · rw [(hl 500 (by omega)).2.2.1]
    exact h6
theorem Mid.off {s : St} {v : Tv} {a b : Int64} {C C1 C' : MC} {I I1 I' : MI} {J J1 J' : MJ} {R R1 R' : MR} (h : Mid s v a b C I J R C1 I1 J1 R1) (he : ∀ q, ¬ Tm s q → C' q = C1 q ∧ I' q = I1 q ∧ J' q = J1 q ∧ R' q = R1 q) : Mid s v a b C I J R C' I' J' R' :=
  ⟨h.1.off he, h.2.trans (fun q hq => he q (by
    unfold Tm Nw th
    omega))⟩
def isMn (y : Int32) : Prop := ∃ c, 1 ≤ c ∧ c ≤ 60 ∧ y = iN c
theorem isMn_iff (y : Int32) : isMn y ↔ ¬ y < 1 ∧ ¬ (60 : Int32) < y := by
  constructor
  · rintro ⟨c, h1, h2, rfl⟩
    exact ⟨fun w => by have := (iN_lt (b := 1) (by omega) (by omega)).mp w; omega, fun w => by have := (iN_lt (a := 60) (by omega) (by omega)).mp w; omega⟩
  · rintro ⟨h1, h2⟩
    have h0 : ¬ y < 0 := fun w => h1 (Int32.lt_trans w (by decide))
    obtain ⟨c, hc, rfl, -⟩ := iN_of h0
    exact ⟨c, Nat.le_of_not_lt (fun w => h1 ((iN_lt (b := 1) hc (by omega)).mpr w)), Nat.le_of_not_lt (fun w => h2 ((iN_lt (a := 60) (by omega) hc).mpr w)), rfl⟩
theorem F_wantMany_ok {s : St} {C : MC} {I : MI} {J : MJ} {R : MR} {K : AK} {y : Int32} (hB : BenS s C I R) (h1 : isMn y → K (.inl none) C I J R) (h0 : ¬ isMn y → K (.inr 504) C (setI I 504 6 1) J R) : F_X0_wantMany [aR (some 500), aI y] C I J R K := by
  have hb := hB.1.1
  have h504 : (C 504).1 = 2 := by rw [hB.1.2.2.2.2]
  refine ⟨500, y, rfl, fun c => ⟨by rw [hb], F_want_no hB (Or.inr ⟨504, rfl, h504, h0 (fun w => ((isMn_iff y).mp w).1 c)⟩)⟩, fun c => ⟨fun c2 => ⟨by rw [hb], F_want_no hB (Or.inr ⟨504, rfl, h504, h0 (fun w => ((isMn_iff y).mp w).2 c2)⟩)⟩, fun c2 => ⟨by rw [hb], F_want_yes (Or.inl ⟨rfl, h1 ((isMn_iff y).mpr ⟨c, c2⟩)⟩)⟩⟩⟩
theorem F_sizeOf_ok {s : St} {v : Tv} {C : MC} {I : MI} {J : MJ} {R : MR} {K : AK} {t : Nat} (hT : TrS s v C I J R) (ht : t < 4) (h4 : s 4 t ≠ 0) (h : K (.inl (some (aI (iN (s 4 t - 1))))) C I J R) : F_X0_sizeOf [aR (some (trn s t))] C I J R K := by
  obtain ⟨⟨g1, g2, g3⟩, -, g5⟩ := hT t ht
  obtain ⟨g6, g7, g8⟩ := g5 h4
  have h3 : s 3 t = 0 ∨ s 3 t = 1 ∨ s 3 t = 2 ∨ s 3 t = 3 := by omega
  have hk : kPr (tkd (s 3 t)) ∧ (20 ≤ tkd (s 3 t) ∧ tkd (s 3 t) ≤ 30) ∧ (¬ tkd (s 3 t) = 22 → ¬ tkd (s 3 t) = 23 → ¬ tkd (s 3 t) = 20 → tkd (s 3 t) = 21) := by
    unfold kPr
    rcases h3 with e | e | e | e <;> rw [e] <;> decide
  refine ⟨trn s t, rfl, ?_⟩
  unfold PX0_sizeOf_0
  rw [g7]
  exact ⟨hk.1, fun _ => ⟨hk.2.1, h⟩, fun c1 => ⟨fun _ => ⟨hk.2.1, h⟩, fun c2 => ⟨fun _ => ⟨hk.2.1, h⟩, fun c3 => ⟨hk.2.2 c1 c2 c3, hk.2.1, h⟩⟩⟩⟩
/-- weights that make a leaf -/
def WtOk (v : Tv) (t c : Nat) (w : Nat → Nat) : Prop := (∀ i, i < c → v (60 * t + i) = jN (w i) ∧ w i ≤ 1000) ∧ (∀ i, c ≤ i → w i = 0) ∧ 1 ≤ sm w 60 ∧ sm w 60 ≤ 1000
def wTb (w : Nat → Nat) : Tb := tdiv (fun i => if i < 60 then w i else 0, fun _ => 0, sm w 60)
def NTb (q : Nat) (C : MC) (I : MI) (J : MJ) (R : MR) (C' : MC) (I' : MI) (J' : MJ) (R' : MR) : Prop := ∀ x, x ≠ q → x ≠ q + 1 → x ≠ q + 2 → C' x = C x ∧ I' x = I x ∧ J' x = J x ∧ R' x = R x
def CloT (q : Nat) (R : MR) : Prop := ∀ x i r, q ≤ x → x ≤ q + 2 → R x i = some r → r = q + 1 ∨ r = q + 2
def F_X0_weights : SPF := fun As C I J R K => ∃ (s : St) (v : Tv) (x : Int32) (c q : Nat), As = [aR (some 500), aI x, aI (iN c)] ∧ 1 ≤ c ∧ c ≤ 60 ∧ 520 ≤ q ∧ (C q).1 = 0 ∧ (C (q + 1)).1 = 0 ∧ (C (q + 2)).1 = 0 ∧ (C 8).1 = 0 ∧ BenS s C I R ∧ TrS s v C I J R ∧
  (¬ isTr x → K (.inr 504) C (setI I 504 6 1) J R) ∧ ∀ t, t < 4 → x = iN t → (s 4 t = 0 → K (.inr 504) C (setI I 504 6 2) J R) ∧ (s 4 t ≠ 0 → (s 4 t - 1 < c → K (.inr 504) C (setI I 504 6 3) J R) ∧ (c ≤ s 4 t - 1 →
   ((¬ ∃ w, WtOk v t c w) → ∀ (C' : MC) (I' : MI) (J' : MJ) (R' : MR), NTb q C I J R C' I' J' R' → K (.inr 504) C' (setI I' 504 6 1) J' R') ∧ ∀ w, WtOk v t c w → ∀ (C' : MC) (I' : MI) (J' : MJ) (R' : MR), NTb q C I J R C' I' J' R' → TbS C' R' q → RpB J' q (wTb w) → CloT q R' → K (.inl (some (aR (some q)))) C' I' J' R'))
def V_X0_weights_36 (n : Nat) (K : AK) (x0 : Nat) (x2 : Int32) (x3 : Nat) (x4 : Nat) (x5 : Int32) (C : MC) (I : MI) (J : MJ) (R : MR) : Prop := ∃ (s : St) (v : Tv) (Cb : MC) (Ib : MI) (Jb : MJ) (Rb : MR) (t c q i : Nat) (w : Nat → Nat), x0 = 500 ∧ x2 = iN c ∧ x3 = trn s t ∧ q = x4 ∧ x5 = iN i ∧ 1 ≤ c ∧ c ≤ 60 ∧ 520 ≤ q ∧ t < 4 ∧ s 4 t ≠ 0 ∧ c ≤ s 4 t - 1 ∧ i ≤ c ∧ n = c - i ∧ (C 8).1 = 0 ∧ BenS s C I R ∧ TrS s v C I J R ∧ TbS C R q ∧ CloT q R ∧ NTb q Cb Ib Jb Rb C I J R ∧ (∀ j, j < i → v (60 * t + j) = jN (w j) ∧ w j ≤ 1000) ∧ (∀ j, i ≤ j → w j = 0) ∧ J q 2 = jN (sm w i) ∧ (∀ j, J (q + 1) j = jN (w j) ∧ J (q + 2) j = 0) ∧
   ((¬ ∃ w, WtOk v t c w) → ∀ (C' : MC) (I' : MI) (J' : MJ) (R' : MR), NTb q Cb Ib Jb Rb C' I' J' R' → K (.inr 504) C' (setI I' 504 6 1) J' R') ∧ ∀ w, WtOk v t c w → ∀ (C' : MC) (I' : MI) (J' : MJ) (R' : MR), NTb q Cb Ib Jb Rb C' I' J' R' → TbS C' R' q → RpB J' q (wTb w) → CloT q R' → K (.inl (some (aR (some q)))) C' I' J' R'
theorem sm_bound {w : Nat → Nat} (B : Nat) : ∀ {n : Nat}, (∀ j, j < n → w j ≤ B) → sm w n ≤ n * B
  | 0, _ => Nat.zero_le _
  | n + 1, h => by
    have h1 := sm_bound B (n := n) (fun j hj => h j (by omega))
    have h2 := h n (by omega)
    show sm w n + w n ≤ (n + 1) * B
    rw [Nat.add_mul, Nat.one_mul]
    omega
theorem S_X0_weights (l : Launch) : SpX0_weights l F_X0_weights := by
  refine wX0_weights (S_X0_on l) (S_X0_sizeOf l) (S_X0_want l) (S_X3_inew l) (S_X0_number l) (S_X3_less l) V_X0_weights_36 ?_ ?_
  · rintro As C I J R K ⟨s, v, x, c, q, rfl, hc1, hc2, hq, q0, q1, q2, h8, hB, hT, h1, h2⟩
    have h504 : (C 504).1 = 2 := by rw [hB.1.2.2.2.2]
    have hb : (C 500).1 = 1 := by rw [hB.1.1]
    refine ⟨500, x, iN c, rfl, hb, F_on_ok hB hT (fun w => Or.inr ⟨504, rfl, h504, h1 w⟩) (fun t ht hx h4 => Or.inr ⟨504, rfl, h504, (h2 t ht hx).1 h4⟩) (fun t ht hx h4 => Or.inl ⟨_, rfl, ?_⟩)⟩
    obtain ⟨⟨g1, g2, g3⟩, -, g5⟩ := hT t ht
    obtain ⟨g6, g7, g8⟩ := g5 h4
    have hw := (h2 t ht hx).2 h4
    have tl := trn_lt hT ht
    have sz : ∀ P : AK, P (.inl (some (aI (iN (s 4 t - 1))))) C I J R → F_X0_sizeOf [aR (some (trn s t))] C I J R P := fun P hP => F_sizeOf_ok hT ht h4 hP
    refine sz _ ⟨_, rfl, ?_⟩
    rw [iN_lt (by omega) (by omega)]
    refine ⟨fun z => ⟨hb, F_want_no hB (Or.inr ⟨504, rfl, h504, hw.1 z⟩)⟩, fun z => ⟨hb, F_want_yes (Or.inl ⟨rfl, q, q0, ?_⟩)⟩⟩
    rintro C9 I10 J11 R12 rfl rfl rfl rfl
    refine ⟨q, rfl, by rw [va_up_self], by rw [va_up_ne _ _ (by omega)]; exact q1, by rw [va_up_ne _ _ (by omega)]; exact q2, ?_⟩
    intro C13 I14 J15 R16 fC fR tT tv tf
    have nt : NTb q C I J R C13 I14 J15 R16 := fun x a b c => by
      have f := fC x b c
      rw [f.1, f.2.1, f.2.2, fR x a b c, va_up_ne _ _ a, va_up_ne _ _ a, va_up_ne _ _ a, va_up_ne _ _ a]
      exact ⟨rfl, rfl, rfl, rfl⟩
    have low : ∀ x, x < 520 → C13 x = C x ∧ I14 x = I x ∧ J15 x = J x ∧ R16 x = R x := fun x hx => nt x (by omega) (by omega) (by omega)
    refine ⟨rfl, c - 0, s, v, C, I, J, R, t, c, q, 0, fun _ => 0, rfl, rfl, rfl, rfl, rfl, hc1, hc2, hq, ht, h4, by omega, Nat.zero_le _, rfl, by rw [(low 8 (by omega)).1]; exact h8, ?_, fun u hu => ?_, tT, fun x i r h1 h2 hr => ?_, nt, fun j hj => absurd hj (Nat.not_lt_zero _), fun _ _ => rfl, ?_, fun j => ⟨(tv j).1, (tv j).2.1⟩, (hw.2 (by omega)).1, (hw.2 (by omega)).2⟩
    · unfold BenS
      rw [(low 500 (by omega)).1, (low 501 (by omega)).1, (low 502 (by omega)).1, (low 503 (by omega)).1, (low 504 (by omega)).1, (low 500 (by omega)).2.1, (low 500 (by omega)).2.2.2, (low 503 (by omega)).2.2.2]
      exact hB
    · have h7 := trn_lt hT hu
      have h9 := low (trn s u) (by omega)
      rw [h9.1, h9.2.1, h9.2.2.1, (low 501 (by omega)).2.2.2]
      exact hT u hu
    · by_cases e : x = q
      · subst e
        by_cases a : i = 0
        · rw [a, tT.2.1] at hr
          cases hr
          exact Or.inl rfl
        · by_cases b : i = 1
          · rw [b, tT.2.2.1] at hr
            cases hr
            exact Or.inr rfl
          · rw [tf i a b, va_up_self] at hr
            cases hr
      · by_cases e2 : x = q + 1
        · rw [e2, (tv i).2.2.1] at hr
          cases hr
        · rw [show x = q + 2 by omega, (tv i).2.2.2] at hr
          cases hr
    · rw [(fC q (by omega) (by omega)).2.2, va_up_self]
      rfl
  · rintro n K x0 x2 x3 x4 x5 C I J R ⟨s, v, Cb, Ib, Jb, Rb, t, c, q, i, w, rfl, rfl, rfl, rfl, rfl, hc1, hc2, hq, ht, h4, hcs, hi, rfl, h8, hB, hT, tT, hclo, nt, hw, hz, hs, hv, k1, k2⟩
    have h504 : (C 504).1 = 2 := by rw [hB.1.2.2.2.2]
    have hb : (C 500).1 = 1 := by rw [hB.1.1]
    have smb := sm_bound 1000 (w := w) (n := i) (fun j hj => (hw j hj).2)
    have sm60 : sm w 60 = sm w i := sm_ext (by omega) (fun j h1 _ => hz j h1)
    have s4 := (hT t ht).1.2.2
    unfold PX0_weights_36 PX0_weights_141 PX0_weights_142 PX0_weights_71 PX0_weights_72
    rw [iN_le (by omega) (by omega)]
    refine ⟨fun z => ⟨tT.1, ?_⟩, fun z => ?_⟩
    · obtain rfl : i = c := by omega
      rw [hs, show (jN (sm w i) < (1 : Int64)) = (sm w i < 1) from propext (jN_lt (b := 1) (by omega) (by decide)), show ((1000 : Int64) < jN (sm w i)) = (1000 < sm w i) from propext (jN_lt (a := 1000) (by decide) (by omega))]
      have uniq : ∀ w', WtOk v t i w' → sm w' 60 = sm w 60 := fun w' hw' => sm_congr (fun j hj => by
        by_cases e : j < i
        · have a := hw'.1 j e
          have b := hw j e
          exact (jN_inj (by omega) (by omega)).mp (a.1.symm.trans b.1)
        · rw [hw'.2.1 j (by omega), hz j (by omega)])
      refine ⟨fun a => ⟨hb, F_want_no hB (Or.inr ⟨504, rfl, h504, k1 (fun ⟨w', hw'⟩ => ?_) _ _ _ _ nt⟩)⟩, fun a => ⟨fun a2 => ⟨hb, F_want_no hB (Or.inr ⟨504, rfl, h504, k1 (fun ⟨w', hw'⟩ => ?_) _ _ _ _ nt⟩)⟩, fun a2 => ⟨hb, F_want_yes (Or.inl ⟨rfl, tT.1, ?_⟩)⟩⟩⟩
      · have h5 := uniq w' hw'
        have := hw'.2.2.1
        omega
      · have h5 := uniq w' hw'
        have := hw'.2.2.2
        omega
      · have ok : WtOk v t i w := ⟨hw, hz, by omega, by omega⟩
        refine ⟨q, fun i => if i < 60 then w i else 0, fun _ => 0, sm w 60, rfl, tT, ⟨fun j hj => ⟨?_, ?_⟩, ?_⟩, ⟨fun j hj => ⟨?_, by show (0 : Nat) < 2 ^ 63; decide⟩, by omega, by omega⟩, fun J' hJ hr => ⟨q, rfl, k2 w ok _ _ _ _ (fun x e1 e2 e3 => ?_) tT hr hclo⟩⟩
        · rw [(hv j).1]
          show _ = jN (if j < 60 then w j else 0)
          by_cases e : j < 60
          · rw [if_pos e]
          · rw [if_neg e, hz j (by omega)]
        · rw [(hv j).2]
          rfl
        · rw [hs, sm60]
        · show (if j < 60 then w j else 0) < 2 ^ 63
          by_cases e : j < 60
          · rw [if_pos e]
            by_cases e2 : j < i
            · have := (hw j e2).2
              omega
            · rw [hz j (by omega)]
              omega
          · rw [if_neg e]
            omega
        · have h9 := nt x e1 e2 e3
          exact ⟨h9.1, h9.2.1, (hJ x e1 e2 e3).trans h9.2.2.1, h9.2.2.2⟩
    · have rd : ∀ P : AK, P (.inl (some (aJ (v (60 * t + i))))) C I J R → F_X0_number [aR (some (trn s t)), aI (iN i)] C I J R P := fun P hP => F_number_ok hT ht h4 h8 (fun i' hi' he => by
        obtain rfl := (iN_inj (a := i) (b := i') (by omega) (by omega)).mp he
        exact hP) (fun hno => absurd ⟨i, by omega, rfl⟩ hno)
      refine rd _ ⟨_, rfl, fun a => ⟨hb, F_want_no hB (Or.inr ⟨504, rfl, h504, k1 (fun ⟨w', hw'⟩ => ?_) _ _ _ _ nt⟩)⟩, fun a => rd _ ⟨_, rfl, fun a2 => ⟨hb, F_want_no hB (Or.inr ⟨504, rfl, h504, k1 (fun ⟨w', hw'⟩ => ?_) _ _ _ _ nt⟩)⟩, fun a2 => ⟨hb, F_want_yes (Or.inl ⟨rfl, tT.1, rd _ ⟨_, rfl, ?_⟩⟩)⟩⟩⟩
      · have h5 := hw'.1 i (by omega)
        rw [h5.1] at a
        exact jN_nn (by omega) a
      · have h5 := hw'.1 i (by omega)
        rw [h5.1] at a2
        have := (jN_lt (a := 1000) (by decide) (by omega)).mp a2
        omega
      · obtain ⟨u, hu, hvu⟩ : ∃ u : Nat, u ≤ 1000 ∧ v (60 * t + i) = jN u := by
          have b1 : (0 : Int64).toInt ≤ (v (60 * t + i)).toInt := Int64.le_iff_toInt_le.mp (Int64.not_lt.mp a)
          have b2 : (v (60 * t + i)).toInt ≤ (1000 : Int64).toInt := Int64.le_iff_toInt_le.mp (Int64.not_lt.mp a2)
          have b3 : (0 : Int64).toInt = 0 := by decide
          have b4 : (1000 : Int64).toInt = 1000 := by decide
          refine ⟨(v (60 * t + i)).toInt.toNat, by omega, ?_⟩
          refine Int64.toInt_inj.mp ?_
          rw [jN_int (by omega)]
          omega
        refine ⟨q + 1, tT.2.1, by rw [tT.2.2.2.1], by rw [tT.2.2.2.1]; exact iN_in (by omega) (by show i < 121; omega), ?_⟩
        rintro J16 rfl
        refine ⟨tT.1, q + 1, tT.2.1, by rw [tT.2.2.2.1], by rw [tT.2.2.2.1]; exact iN_in (by omega) (by show i < 121; omega), ?_⟩
        rintro J21 rfl
        rw [iN_nat (by omega), va_up_ne _ _ (show q ≠ q + 1 by omega), va_up_self, va_up_self, hs, hvu, jN_add]
        have ws : sm (va_up w i u) (i + 1) = sm w i + u := by
          show sm (va_up w i u) i + va_up w i u i = _
          rw [va_up_self, sm_congr (g := w) (fun j hj => va_up_ne _ _ (by omega))]
        have hx : ∀ x, x ≠ q → x ≠ q + 1 → va_up (va_up J (q + 1) (va_up (J (q + 1)) i (jN u))) q (va_up (J q) 2 (jN (sm w i + u))) x = J x := fun x e1 e2 => by
          rw [va_up_ne _ _ e1, va_up_ne _ _ e2]
        refine ⟨c - (i + 1), by omega, s, v, Cb, Ib, Jb, Rb, t, c, q, i + 1, va_up w i u, rfl, rfl, rfl, rfl, iN_add i 1, hc1, hc2, hq, ht, h4, hcs, by omega, rfl, h8, hB, fun u' hu' => ?_, tT, hclo, fun x e1 e2 e3 => ?_, fun j hj => ?_, fun j hj => ?_, ?_, fun j => ⟨?_, ?_⟩, k1, k2⟩
        · have h7 := trn_lt hT hu'
          rw [hx _ (by omega) (by omega)]
          exact hT u' hu'
        · have h9 := nt x e1 e2 e3
          exact ⟨h9.1, h9.2.1, (hx x e1 e2).trans h9.2.2.1, h9.2.2.2⟩
        · by_cases e : j = i
          · rw [e, va_up_self]
            exact ⟨hvu, hu⟩
          · rw [va_up_ne _ _ e]
            exact hw j (by omega)
        · rw [va_up_ne _ _ (by omega)]
          exact hz j (by omega)
        · rw [va_up_self, va_up_self, ws]
        · rw [va_up_ne _ _ (by omega), va_up_self]
          by_cases e : j = i
          · rw [e, va_up_self, va_up_self]
          · rw [va_up_ne _ _ e, va_up_ne _ _ e]
            exact (hv j).1
        · rw [hx _ (by omega) (by omega)]
          exact (hv j).2
