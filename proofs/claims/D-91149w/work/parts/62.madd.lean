/-! A THING IS ADDED: the reference's side; its leaf -/
set_option maxRecDepth 100000
set_option linter.unusedVariables false
def F_X2_adds : SPF := fun As C I J R K => ∃ (s : St) (v : Tv) (aa bb : Int64) (Kc : KC) (I0 : MI) (J0 : MJ) (kd m a c : Nat) (p w : Nat → Nat) (X : Nat → Int32), As = [aR (some 1), aI (iN kd), aI (X 0), aI (X 1), aI (X 2), aI (X 3), aI (iN a), aI (iN c)] ∧ (∀ i, i < 4 → X i = if i < m then iN (p i) else -1) ∧ MidM s v aa bb C I0 J0 R I J ∧ s 6 0 < 20 ∧ NewK s kd m a c p w ∧ (kd = 0 → ∀ i, i < 60 → I 114 (60 * (3 * s 6 0 + 0) + i) = iN (w i)) ∧ Kc (aI (iN (s 6 0))) (adS s kd m a c p w) v 0 aa bb ∧ OpKM Kc C I0 J0 R K
def V_X2_adds_91 (n : Nat) (K : AK) (x0 : Nat) (x8 : Int32) (x9 : Int32) (C : MC) (I : MI) (J : MJ) (R : MR) : Prop := ∃ (s : St) (v : Tv) (aa bb : Int64) (Kc : KC) (I0 Ib : MI) (J0 : MJ) (kd m a c i : Nat) (p w : Nat → Nat), x0 = 1 ∧ x8 = iN (s 6 0) ∧ x9 = iN i ∧ i ≤ 4 ∧ n = 4 - i ∧ MidM s v aa bb C I0 J0 R Ib J ∧ s 6 0 < 20 ∧ NewK s kd m a c p w ∧ (kd = 0 → ∀ i, i < 60 → Ib 114 (60 * (3 * s 6 0 + 0) + i) = iN (w i)) ∧ (∀ q, q ≠ 107 → q ≠ 108 → q ≠ 109 → q ≠ 110 → q ≠ 111 → I q = Ib q) ∧ (∀ k, I 107 k = if k = s 6 0 then iN kd else Ib 107 k) ∧ (∀ j, ¬ (4 * s 6 0 ≤ j ∧ j < 4 * s 6 0 + 4) → I 108 j = Ib 108 j) ∧ (∀ i, i < 4 → I 108 (4 * s 6 0 + i) = if i < m then iN (p i) else -1) ∧ (∀ k, I 109 k = if k = s 6 0 then iN a else Ib 109 k) ∧ (∀ k, I 110 k = if k = s 6 0 then iN c else Ib 110 k) ∧ I 111 (s 6 0) = -1 ∧ (∀ k, k < s 6 0 → I 111 k = iN (pup p (s 6 0 + 1) (min i m) (s 11) k) - 1) ∧ Kc (aI (iN (s 6 0))) (adS s kd m a c p w) v 0 aa bb ∧ OpKM Kc C I0 J0 R K
theorem S_X2_adds (l : Launch) : SpX2_adds l F_X2_adds := by
  refine wX2_adds V_X2_adds_91 ?_ ?_
  · rintro As C I J R K ⟨s, v, aa, bb, Kc, I0, J0, kd, m, a, c, p, w, X, rfl, hX, h0, hn, hN, hw, hc, hK⟩
    have hM := h0.1.1
    have hI := h0.1.2.1
    refine ⟨1, _, _, _, _, _, _, _, rfl, hM.o, 107, hM.r7, ?_⟩
    rw [hI.1]
    have c7 := cArr hM.c7 hn (by omega)
    have c9 := cArr hM.c9 hn (by omega)
    have c10 := cArr hM.c10 hn (by omega)
    have c11 := cArr hM.c11 hn (by omega)
    refine ⟨c7.1, c7.2, ?_⟩
    rw [mul_l_4, show iN (4 * s 6 0) + (1 : Int32) = iN (4 * s 6 0 + 1) from iN_add _ 1, show iN (4 * s 6 0) + (2 : Int32) = iN (4 * s 6 0 + 2) from iN_add _ 2, show iN (4 * s 6 0) + (3 : Int32) = iN (4 * s 6 0 + 3) from iN_add _ 3, iN_nat (show 4 * s 6 0 < 2 ^ 31 by omega), iN_nat (show 4 * s 6 0 + 1 < 2 ^ 31 by omega), iN_nat (show 4 * s 6 0 + 2 < 2 ^ 31 by omega), iN_nat (show 4 * s 6 0 + 3 < 2 ^ 31 by omega), iN_nat (show s 6 0 < 2 ^ 31 by omega)]
    rintro I5 rfl
    refine ⟨108, hM.r8, (cArr hM.c8 (show 4 * s 6 0 < 80 by omega) (by omega)).1, (cArr hM.c8 (show 4 * s 6 0 < 80 by omega) (by omega)).2, ?_⟩
    rintro I9 rfl
    refine ⟨(cArr hM.c8 (show 4 * s 6 0 + 1 < 80 by omega) (by omega)).2, ?_⟩
    rintro I11 rfl
    refine ⟨(cArr hM.c8 (show 4 * s 6 0 + 2 < 80 by omega) (by omega)).2, ?_⟩
    rintro I13 rfl
    refine ⟨(cArr hM.c8 (show 4 * s 6 0 + 3 < 80 by omega) (by omega)).2, ?_⟩
    rintro I15 rfl
    refine ⟨109, hM.r9, c9.1, c9.2, ?_⟩
    rintro I19 rfl
    refine ⟨110, hM.r10, c10.1, c10.2, ?_⟩
    rintro I23 rfl
    refine ⟨111, hM.r11, c11.1, c11.2, ?_⟩
    rintro I27 rfl
    refine ⟨4 - 0, s, v, aa, bb, Kc, I0, I, J0, kd, m, a, c, 0, p, w, rfl, rfl, rfl, Nat.zero_le _, rfl, h0, hn, hN, hw, fun q q7 q8 q9 q10 q11 => ?_, fun k => ?_, fun j hj => ?_, fun i hi => ?_, fun k => ?_, fun k => ?_, ?_, fun k hk => ?_, hc, hK⟩
    · simp (disch := assumption) only [va_up_ne]
    · simp (disch := omega) only [va_up_self, va_up_ne]
      rfl
    · simp (disch := omega) only [va_up_self, va_up_ne]
    · rw [← hX i hi]
      have h4 : i = 0 ∨ i = 1 ∨ i = 2 ∨ i = 3 := by omega
      rcases h4 with rfl | rfl | rfl | rfl <;> simp (disch := omega) only [va_up_self, va_up_ne, Nat.add_zero]
    · simp (disch := omega) only [va_up_self, va_up_ne]
      rfl
    · simp (disch := omega) only [va_up_self, va_up_ne]
      rfl
    · simp (disch := omega) only [va_up_self, va_up_ne]
    · simp (disch := omega) only [va_up_self, va_up_ne, Nat.zero_min]
      exact (hI.2 k hk).2.2.2.2.1
  · rintro n K x0 x8 x9 C I J R ⟨s, v, aa, bb, Kc, I0, Ib, J0, kd, m, a, c, i, p, w, rfl, rfl, rfl, hi, rfl, h0, hn, hN, hw, f0, f7, f8, f8n, f9, f10, f11n, f11, hc, hK⟩
    have hM := h0.1.1
    have hI := h0.1.2.1
    have hV := h0.1.2.2.2.2.1
    obtain ⟨k1, k2, k3, k4, -⟩ := id hN
    unfold PX2_adds_91 PX2_adds_132
    rw [le_l_4 (by omega)]
    refine ⟨fun z => ?_, fun z => ⟨hM.o, 108, hM.r8, ?_⟩⟩
    · obtain rfl : i = 4 := by omega
      rw [mul_l_3]
      refine ⟨hM.o, 112, hM.r12, (cArr hM.c12 hn (by omega)).1, (cArr hM.c12 hn (by omega)).2, ?_⟩
      rw [iN_nat (show s 6 0 < 2 ^ 31 by omega), iN_nat (show 3 * s 6 0 < 2 ^ 31 by omega)]
      rintro I6 rfl
      refine ⟨113, hM.r13, (cArr hM.c13 (show 3 * s 6 0 < 60 by omega) (by omega)).1, (cArr hM.c13 (show 3 * s 6 0 < 60 by omega) (by omega)).2, ?_⟩
      rintro I10 rfl
      refine ⟨115, hM.r15, (cArr hM.c15 hn (by omega)).1, (cArr hM.c15 hn (by omega)).2, ?_⟩
      rintro I14 rfl
      refine ⟨116, hM.r16, (cArr hM.c16 hn (by omega)).1, (cArr hM.c16 hn (by omega)).2, ?_⟩
      rintro I18 rfl
      refine ⟨117, hM.r17, (cArr hM.c17 hn (by omega)).1, (cArr hM.c17 hn (by omega)).2, ?_⟩
      rintro I22 rfl
      refine ⟨118, hM.r18, (cArr hM.c18 hn (by omega)).1, (cArr hM.c18 hn (by omega)).2, ?_⟩
      rintro I26 rfl
      refine ⟨119, hM.r19, (cArr hM.c19 hn (by omega)).1, (cArr hM.c19 hn (by omega)).2, ?_⟩
      rintro I30 rfl
      refine ⟨120, hM.r20, (cArr hM.c20 hn (by omega)).1, (cArr hM.c20 hn (by omega)).2, ?_⟩
      rintro I34 rfl I35 rfl I36 rfl
      have e6 : I 1 6 = iN (s 6 0) := by rw [f0 1 (by omega) (by omega) (by omega) (by omega) (by omega)]; exact hI.1
      have m4 : min 4 m = m := by omega
      rw [m4] at f11
      refine hK _ _ _ _ _ _ _ _ hc ⟨⟨hM, ⟨?_, fun k hk => ?_⟩, fun k hk => ?_, fun t ht => ?_, hV.ad hn hN, h0.1.2.2.2.2.2.1, h0.1.2.2.2.2.2.2.1, fun z k hk => ?_⟩, ?_⟩ (h0.2.trans (fun q q1 q2 => ⟨?_, rfl⟩))
      · simp (disch := omega) only [va_up_self, va_up_ne, e6]
        exact iN_add (s 6 0) 1
      · rw [ad_n] at hk
        simp (disch := omega) only [va_up_self, va_up_ne]
        by_cases e : k = s 6 0
        · subst e
          have A := ad_new (s := s) (kd := kd) (m := m) (a := a) (c := c) (p := p) (w := w)
          rw [A.2.2.1, A.1, A.2.2.2.1, A.2.2.2.2.1, A.2.2.2.2.2.1, A.2.2.2.2.2.2.1, A.2.2.2.2.2.2.2.1, f7, if_pos rfl, f9, if_pos rfl, f10, if_pos rfl, f11n]
          refine ⟨rfl, fun i hi => ?_, rfl, rfl, rfl, ?_, fun hz g j hg hj => ?_⟩
          · rw [f8n i hi, ad_p hi]
          · rw [va_up_self]
            rfl
          · obtain rfl : g = 0 := by omega
            rw [f0 114 (by omega) (by omega) (by omega) (by omega) (by omega), hw hz j hj, ad_w hj]
        · have A := ad_old (s := s) (kd := kd) (m := m) (a := a) (c := c) (p := p) (w := w) e
          obtain ⟨b1, b2, b3, b4, b5, b6, b7⟩ := hI.2 k (by omega)
          have hv := (hV.2 k (by omega)).2.1.1
          rw [A.2.2.1, A.1, A.2.2.2.1, A.2.2.2.2.1, A.2.2.2.2.2.1, A.2.2.2.2.2.2.1, A.2.2.2.2.2.2.2.1, f7, if_neg e, f9, if_neg e, f10, if_neg e, f11 k (by omega)]
          refine ⟨b1, fun i hi => ?_, b3, b4, rfl, ?_, fun hz g j hg hj => ?_⟩
          · rw [f8 _ (by omega), ad_po e hi]
            exact b2 i hi
          · rw [va_up_ne _ _ e, f0 115 (by omega) (by omega) (by omega) (by omega) (by omega)]
            exact b6
          · have := (hv hz).2.2.1
            rw [f0 114 (by omega) (by omega) (by omega) (by omega) (by omega), ad_wo e (by omega) hj]
            exact b7 hz g j hg hj
      · rw [ad_n] at hk
        simp (disch := omega) only [va_up_self, va_up_ne]
        by_cases e : k = s 6 0
        · subst e
          have A := ad_new (s := s) (kd := kd) (m := m) (a := a) (c := c) (p := p) (w := w)
          rw [A.2.2.1, A.2.2.2.2.2.2.1, A.2.2.2.2.2.2.2.1, A.2.2.2.2.2.2.2.2.1, A.2.2.2.2.2.2.2.2.2.1, A.2.2.2.2.2.2.2.2.2.2.1, A.2.2.2.2.2.2.2.2.2.2.2.1, A.2.2.2.2.2.2.2.2.2.2.2.2]
          refine ⟨va_up_self _ _ _, (va_up_self _ _ _).trans (by decide), (va_up_self _ _ _).trans (by decide), va_up_self _ _ _, va_up_self _ _ _, va_up_self _ _ _, fun hz g hg => ?_, rfl⟩
          obtain rfl : g = 0 := by omega
          rw [ad_13, Nat.add_zero, va_up_self]
          rfl
        · have A := ad_old (s := s) (kd := kd) (m := m) (a := a) (c := c) (p := p) (w := w) e
          have b := h0.1.2.2.1 k (by omega)
          have hv := (hV.2 k (by omega)).2.1.1
          rw [A.2.2.1, A.2.2.2.2.2.2.1, A.2.2.2.2.2.2.2.1, A.2.2.2.2.2.2.2.2.1, A.2.2.2.2.2.2.2.2.2.1, A.2.2.2.2.2.2.2.2.2.2.1, A.2.2.2.2.2.2.2.2.2.2.2.1, A.2.2.2.2.2.2.2.2.2.2.2.2]
          rw [va_up_ne _ _ e, va_up_ne _ _ e, va_up_ne _ _ e, va_up_ne _ _ e, va_up_ne _ _ e, va_up_ne _ _ e]
          rw [f0 112 (by omega) (by omega) (by omega) (by omega) (by omega), f0 116 (by omega) (by omega) (by omega) (by omega) (by omega), f0 117 (by omega) (by omega) (by omega) (by omega) (by omega), f0 118 (by omega) (by omega) (by omega) (by omega) (by omega), f0 119 (by omega) (by omega) (by omega) (by omega) (by omega), f0 120 (by omega) (by omega) (by omega) (by omega) (by omega), f0 113 (by omega) (by omega) (by omega) (by omega) (by omega)]
          refine ⟨b.1, b.2.1, b.2.2.1, b.2.2.2.1, b.2.2.2.2.1, b.2.2.2.2.2.1, fun hz g hg => ?_, b.2.2.2.2.2.2.2⟩
          have := (hv hz).2.2.1
          rw [va_up_ne _ _ (by omega), ad_13o e (by omega)]
          exact b.2.2.2.2.2.2.1 hz g hg
      · simp (disch := omega) only [va_up_self, va_up_ne]
        rw [f0 103 (by omega) (by omega) (by omega) (by omega) (by omega), f0 104 (by omega) (by omega) (by omega) (by omega) (by omega)]
        exact h0.1.2.2.2.1 t ht
      · simp (disch := omega) only [va_up_self, va_up_ne] at z
        rw [f0 1 (by omega) (by omega) (by omega) (by omega) (by omega)] at z
        rw [ad_n] at hk
        by_cases e : k = s 6 0
        · rw [e]
          exact ad_new.2.2.2.2.2.2.2.2.2.1
        · rw [(ad_old e).2.2.2.2.2.2.2.2.2.1]
          exact h0.1.2.2.2.2.2.2.2 z k (by omega)
      · simp (disch := omega) only [va_up_self, va_up_ne]
      · simp (disch := omega) only [va_up_self, va_up_ne]
        exact f0 q (by omega) (by omega) (by omega) (by omega) (by omega)
    · rw [mul_l_4, iN_add]
      have c8 := cArr hM.c8 (show 4 * s 6 0 + i < 80 by omega) (by omega)
      refine ⟨c8.1, c8.2, ?_⟩
      rw [iN_nat (show 4 * s 6 0 + i < 2 ^ 31 by omega), f8n i (by omega)]
      by_cases e : i < m
      · have hp := k3 i e
        rw [if_pos e]
        refine ⟨fun z2 => absurd z2 (iN_m1 (by omega)), fun z2 => ⟨111, hM.r11, (cArr hM.c11 (show p i < 20 by omega) (by omega)).1, (cArr hM.c11 (show p i < 20 by omega) (by omega)).2, ?_⟩⟩
        rw [iN_nat (by omega)]
        rintro I45 rfl
        refine ⟨4 - (i + 1), by omega, s, v, aa, bb, Kc, I0, Ib, J0, kd, m, a, c, i + 1, p, w, rfl, rfl, iN_add i 1, by omega, rfl, h0, hn, hN, hw, fun q q7 q8 q9 q10 q11 => ?_, ?_, ?_, ?_, ?_, ?_, ?_, fun k hk => ?_, hc, hK⟩
        · rw [va_up_ne _ _ q11]
          exact f0 q q7 q8 q9 q10 q11
        · rw [va_up_ne _ _ (by decide)]
          exact f7
        · rw [va_up_ne _ _ (by decide)]
          exact f8
        · rw [va_up_ne _ _ (by decide)]
          exact f8n
        · rw [va_up_ne _ _ (by decide)]
          exact f9
        · rw [va_up_ne _ _ (by decide)]
          exact f10
        · rw [va_up_self, va_up_ne _ _ (by omega)]
          exact f11n
        · rw [va_up_self, show min (i + 1) m = i + 1 by omega]
          show _ = iN (if k = p i then s 6 0 + 1 else pup p (s 6 0 + 1) i (s 11) k) - 1
          by_cases e2 : k = p i
          · rw [e2, va_up_self, if_pos rfl, iN_dec (Nat.succ_ne_zero _)]
            rfl
          · rw [va_up_ne _ _ e2, if_neg e2, f11 k hk, show min i m = i by omega]
      · rw [if_neg e]
        refine ⟨fun _ => ⟨4 - (i + 1), by omega, s, v, aa, bb, Kc, I0, Ib, J0, kd, m, a, c, i + 1, p, w, rfl, rfl, iN_add i 1, by omega, rfl, h0, hn, hN, hw, f0, f7, f8, f8n, f9, f10, f11n, fun k hk => ?_, hc, hK⟩, fun z2 => absurd rfl z2⟩
        rw [f11 k hk, show min (i + 1) m = min i m by omega]
theorem OpKM.int {Kc : KC} {C : MC} {I : MI} {J : MJ} {R : MR} {K : AK} {x : Int32} (h : OpKM Kc C I J R K) : OpKM (fun ans s' v' st' a' b' => ans = aI x ∧ Kc ans s' v' st' a' b') C I J R (fun o C9 I10 J11 R12 => ∃ r13 : Int32, o = .inl (some (aI r13)) ∧ K (.inl (some (aI r13))) C9 I10 J11 R12) := by
  rintro ans s' v' st' a' b' I' J' ⟨rfl, hc⟩ hR hF
  exact ⟨_, rfl, h _ _ _ _ _ _ _ _ hc hR hF⟩
def F_X2_leaf : SPF := fun As C I J R K => ∃ x y : Int32, OpM [aI x, aI y] (W_leaf x y) As C I J R K
theorem S_X2_leaf (l : Launch) : SpX2_leaf l F_X2_leaf := by
  refine wX2_leaf (S_X2_wrongWeights l) (S_X2_takeWeights l) (S_X2_adds l) (S_X2_refuse l) ?_
  rintro As C I J R K ⟨x, y, s, v, st, a, b, Kc, rfl, hR, hW, hK⟩
  have h0 := MidM.start hR
  have hM := h0.1.1
  have hT := h0.1.2.2.2.1
  have hI := h0.1.2.1
  have hn20 := h0.n20
  have bad : ∀ w : Int32, ¬ w = 0 → ¬ w ≤ 0 → Kc (aI (-1)) s v w a b → (¬ w = 0 → PX2_leaf_22 F_X2_wrongWeights F_X2_takeWeights F_X2_adds F_X2_refuse K 1 x y w C I J R) ∧ (w = 0 → (C 1).1 = 3 ∧ ((¬ (I 1 6) = (20 : Int32) → PX2_leaf_22 F_X2_wrongWeights F_X2_takeWeights F_X2_adds F_X2_refuse K 1 x y w C I J R) ∧ ((I 1 6) = (20 : Int32) → PX2_leaf_22 F_X2_wrongWeights F_X2_takeWeights F_X2_adds F_X2_refuse K 1 x y (4 : Int32) C I J R))) := fun w w1 w2 hc => ⟨fun _ => ⟨fun z => absurd z w2, fun _ => ⟨h0.o, h0.refI hc hK⟩⟩, fun z => absurd z w1⟩
  refine ⟨1, x, y, rfl, h0.o, s, v, x, y, rfl, hM, hT, fun w => ⟨_, rfl, bad 1 (by decide) (by decide) (hW.1 w)⟩, fun t c ht hx c1 c2 hy => ⟨fun h4 => ⟨_, rfl, bad 2 (by decide) (by decide) ((hW.2 t c ht hx c1 c2 hy).1 h4)⟩, fun h4 => ⟨fun hl => ⟨_, rfl, bad 3 (by decide) (by decide) (((hW.2 t c ht hx c1 c2 hy).2 h4).1 hl)⟩, fun hl => ⟨fun no => ⟨_, rfl, bad 1 (by decide) (by decide) ((((hW.2 t c ht hx c1 c2 hy).2 h4).2 hl).1 no)⟩, fun w hw => ⟨_, rfl, fun z => absurd rfl z, fun _ => ⟨h0.o, ?_⟩⟩⟩⟩⟩⟩
  have h2 := ((((hW.2 t c ht hx c1 c2 hy).2 h4).2 hl).2 w hw)
  rw [hI.1, show (iN (s 6 0) = (20 : Int32)) = (s 6 0 = 20) from propext (iN_inj (b := 20) (by omega) (by decide))]
  refine ⟨fun z => ⟨fun _ => ⟨h0.o, ?_⟩, fun z2 => absurd (by decide) z2⟩, fun z => ⟨fun z2 => absurd z2 (by decide), fun _ => ⟨h0.o, h0.refI (h2.1 z) hK⟩⟩⟩
  subst hx hy
  rw [hI.1]
  refine ⟨s, v, s 6 0, 0, t, c, w, rfl, by omega, by omega, ht, c2, hl, hM, hT, hw, fun I' g1 g2 g3 => ⟨rfl, h0.o, ?_⟩⟩
  have hm : MidM s v a b C I J R I' J := by
    obtain ⟨⟨r1, r2, r3, r4, r5, r6, r7, r8⟩, hf⟩ := h0
    refine ⟨⟨r1, ?_, ?_, ?_, r5, r6, r7, ?_⟩, hf.trans (fun q _ hq => ⟨g1 q (by omega), rfl⟩)⟩
    · refine ⟨by rw [g1 1 (by decide)]; exact r2.1, fun k hk => ?_⟩
      obtain ⟨b1, b2, b3, b4, b5, b6, b7⟩ := r2.2 k hk
      rw [g1 107 (by decide), g1 108 (by decide), g1 109 (by decide), g1 110 (by decide), g1 111 (by decide), g1 115 (by decide)]
      refine ⟨b1, b2, b3, b4, b5, b6, fun hz g j hg hj => ?_⟩
      have := ((r5.2 k hk).2.1.1 hz).2.2.1
      rw [g2 _ (by omega)]
      exact b7 hz g j hg hj
    · unfold MI2 at r3 ⊢
      rw [g1 112 (by decide), g1 113 (by decide), g1 116 (by decide), g1 117 (by decide), g1 118 (by decide), g1 119 (by decide), g1 120 (by decide)]
      exact r3
    · unfold MTr at r4 ⊢
      rw [g1 103 (by decide), g1 104 (by decide)]
      exact r4
    · rw [g1 1 (by decide)]
      exact r8
  refine ⟨s, v, a, b, fun ans s' v' st' a' b' => ans = aI (iN (s 6 0)) ∧ Kc ans s' v' st' a' b', I, J, 0, 0, 0, 0, fun _ => 0, w, fun _ => -1, rfl, fun i _ => (if_neg (Nat.not_lt_zero i)).symm, hm, by omega, ⟨by omega, by omega, fun i hi => absurd hi (Nat.not_lt_zero _), fun i j _ hj => absurd hj (Nat.not_lt_zero _), fun _ => ⟨rfl, hw.2.2⟩, fun z => absurd z (by decide), fun z => absurd z (by decide), fun z => absurd z (by decide), fun z => absurd z (by decide), fun z => absurd z (by decide)⟩, fun _ i hi => g3 i hi, ⟨rfl, h2.2 (by omega)⟩, hK.int⟩
