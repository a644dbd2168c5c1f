/-! caches, retries, hedges are made -/
set_option maxRecDepth 100000
set_option linter.unusedVariables false
def Aft (n m : Nat) (p : Nat → Nat) (C : MC) (I : MI) (J : MJ) (R : MR) (C7 : MC) (I8 : MI) (J9 : MJ) (R10 : MR) : Prop :=
  (∀ x, ¬ (th n + 1 ≤ x ∧ x ≤ th n + 7) → C7 x = C x ∧ I8 x = I x ∧ J9 x = J x) ∧ C7 (th n + 1) = (26, m) ∧ (∀ i, i < m → R10 (th n + 1) i = some (th (p i))) ∧ (∀ i, ¬ i < m → R10 (th n + 1) i = none) ∧ TbS C7 R10 (th n + 2) ∧ TbS C7 R10 (th n + 5) ∧ (∀ x i r, th n + 2 ≤ x → x ≤ th n + 7 → R10 x i = some r → th n + 2 ≤ r ∧ r ≤ th n + 7) ∧ (R10 (th n) 0 = some (th n + 1) ∧ R10 (th n) 1 = some (th n + 2) ∧ R10 (th n) 2 = some (th n + 5)) ∧ (∀ i, 3 ≤ i → R10 (th n) i = R (th n) i) ∧ (∀ x i, ¬ (th n ≤ x ∧ x ≤ th n + 7) → ¬ (i = 3 ∧ ∃ j, j < m ∧ x = th (p j)) → R10 x i = R x i) ∧ ∀ j, j < m → R10 (th (p j)) 3 = some (th n)
/-- the parts' array is made, then what all things have -/
theorem F_X4_aft {n m : Nat} {p : Nat → Nat} {C C3 : MC} {I I3 : MI} {J J3 : MJ} {R R3 : MR} {K : AK} (hn : n < 20) (hm : m ≤ 4) (hk : kTh (C (th n)).1) (h0 : ∀ o, 2 ≤ o → o ≤ 7 → (C (th n + o)).1 = 0) (hp : ∀ j, j < m → p j < n ∧ kTh (C (th (p j))).1) (he : ∀ x, x ≠ th n + 1 → C3 x = C x ∧ I3 x = I x ∧ J3 x = J x ∧ R3 x = R x) (hc : C3 (th n + 1) = (26, m)) (hr : ∀ i, i < m → R3 (th n + 1) i = some (th (p i))) (hr2 : ∀ i, ¬ i < m → R3 (th n + 1) i = none)
    (hK : ∀ (C7 : MC) (I8 : MI) (J9 : MJ) (R10 : MR), Aft n m p C I J R C7 I8 J9 R10 → K (.inl none) C7 I8 J9 R10) : F_X4_init [aR (some (th n)), aR (some (th n + 1))] C3 I3 J3 R3 K := by
  have np : ∀ x j, th n ≤ x → j < m → x ≠ th (p j) := fun x j hx hj w => by
    have := (hp j hj).1
    unfold th at hx w
    omega
  refine ⟨n, m, p, rfl, hn, ⟨hm, hc, fun j hj => ⟨(hp j hj).1, hr j hj, ?_⟩⟩, by rw [(he _ (by omega)).1]; exact hk, fun o h1 h2 => by rw [(he _ (by omega)).1]; exact h0 o h1 h2, fun C7 I8 J9 R10 f1 t2 t5 clo e0 e1 e2 f2 f3 => hK _ _ _ _ ⟨fun x hx => ?_, ?_, fun i hi => ?_, fun i hi => ?_, t2, t5, clo, ⟨e0, e1, e2⟩, fun i hi => ?_, fun x i hx hi => ?_, f3⟩⟩
  · rw [(he _ (by have := (hp j hj).1; unfold th; omega)).1]
    exact (hp j hj).2
  · have a := f1 x (by omega)
    have b := he x (by omega)
    exact ⟨a.1.trans b.1, a.2.1.trans b.2.1, a.2.2.trans b.2.2.1⟩
  · rw [(f1 _ (by omega)).1]
    exact hc
  · rw [f2 _ i (by omega) (by omega) (fun ⟨_, j, hj, w⟩ => np _ j (by omega) hj w)]
    exact hr i hi
  · rw [f2 _ i (by omega) (by omega) (fun ⟨_, j, hj, w⟩ => np _ j (by omega) hj w)]
    exact hr2 i hi
  · rw [f2 _ i (by omega) (by omega) (fun ⟨_, j, hj, w⟩ => np _ j (by omega) hj w), (he _ (by omega)).2.2.2]
  · rw [f2 _ i (by omega) (by omega) hi, (he _ (by omega)).2.2.2]
theorem PIn.fin {s : St} {kd m a c : Nat} {p w : Nat → Nat} {C C7 C' : MC} {I I8 I' : MI} {J J9 J' : MJ} {R R10 R' : MR} {K : AK} (hkd : kd = 3 ∨ kd = 4 ∨ kd = 5) (hm : m ≤ 4) (hP : PRe s kd C I R 1) (hp : ∀ i, i < m → p i < s 6 0) (hA : Aft (s 6 0) m p C I J R C7 I8 J9 R10) (hK : PIn s kd m a c p w C I J R K)
    (hC : ∀ x, x ≠ th (s 6 0) + 8 → x ≠ th (s 6 0) + 9 → C' x = C7 x ∧ J' x = J9 x) (hI : ∀ x, x ≠ th (s 6 0) → x ≠ th (s 6 0) + 8 → x ≠ th (s 6 0) + 9 → I' x = I8 x)
    (hR : ∀ x i, x ≠ th (s 6 0) + 8 → x ≠ th (s 6 0) + 9 → ¬ (x = th (s 6 0) ∧ (i = 8 ∨ i = 9)) → R' x i = R10 x i)
    (h4 : kd = 4 → C' (th (s 6 0) + 8) = (21, 121) ∧ C' (th (s 6 0) + 9) = (21, 121) ∧ R' (th (s 6 0)) 8 = some (th (s 6 0) + 8) ∧ R' (th (s 6 0)) 9 = some (th (s 6 0) + 9) ∧ ∀ i, R' (th (s 6 0) + 8) i = none ∧ R' (th (s 6 0) + 9) i = none)
    (h5 : kd ≠ 4 → R' (th (s 6 0)) 8 = none ∧ R' (th (s 6 0)) 9 = none) (i45 : I' (th (s 6 0)) 4 = 0 ∧ I' (th (s 6 0)) 5 = 0) (i6 : I' (th (s 6 0)) 6 = iN a) (i7 : kd ≠ 5 → I' (th (s 6 0)) 7 = iN c) : K (.inl none) C' I' J' R' := by
  obtain ⟨hn, c0, i0, r0, z0⟩ := hP
  obtain ⟨g1, g2, g3, g4, g5, g6, g7, ⟨g8, g8', g8''⟩, g9, g10, g11⟩ := hA
  obtain ⟨a1, a5, a7, a9, a10, a11, a12, a15, a16, a17, a18, a19, a20⟩ := ad_new (s := s) (kd := kd) (m := m) (a := a) (c := c) (p := p) (w := w)
  have hg := th_ge (s 6 0)
  have np : ∀ x j, th (s 6 0) ≤ x → j < m → x ≠ th (p j) := fun x j hx hj w => by
    have := hp j hj
    unfold th at hx w
    omega
  have lin : ∀ o, o ≤ 7 → LV (adS s kd m a c p w) (th (s 6 0) + o) := fun o ho => ad_o (by omega) (Or.inl ho)
  have lin8 : kd = 4 → ∀ o, o = 8 ∨ o = 9 → LV (adS s kd m a c p w) (th (s 6 0) + o) := fun e o ho => ad_o (by omega) (by
    unfold lvo
    rw [a7]
    omega)
  have blk : ∀ o, lvo (adS s kd m a c p w) (s 6 0) o → o ≤ 7 ∨ (kd = 4 ∧ (o = 8 ∨ o = 9)) := fun o ho => by
    unfold lvo at ho
    rw [a7, a12, a1] at ho
    omega
  have rt : ∀ x i, th (s 6 0) + 1 ≤ x → x ≤ th (s 6 0) + 7 → R' x i = R10 x i := fun x i h1 h2 => hR x i (by omega) (by omega) (by omega)
  have ct : ∀ x, x ≤ th (s 6 0) + 7 → C' x = C7 x := fun x h2 => (hC x (by omega) (by omega)).1
  have r3 : ∀ i, 3 ≤ i → i ≠ 8 → i ≠ 9 → R' (th (s 6 0)) i = none := fun i h1 h2 h3 => by
    rw [hR _ i (by omega) (by omega) (by omega), g9 i h1]
    exact r0 i
  have rr : ∀ i, i < 3 → R' (th (s 6 0)) i = R10 (th (s 6 0)) i := fun i hi => hR _ i (by omega) (by omega) (by omega)
  have T2 : TbS C' R' (th (s 6 0) + 2) := by
    unfold TbS at g5 ⊢
    rw [ct _ (by omega), ct _ (by omega), ct _ (by omega), rt _ _ (by omega) (by omega), rt _ _ (by omega) (by omega)]
    exact g5
  have T5 : TbS C' R' (th (s 6 0) + 5) := by
    unfold TbS at g6 ⊢
    rw [ct _ (by omega), ct _ (by omega), ct _ (by omega), rt _ _ (by omega) (by omega), rt _ _ (by omega) (by omega)]
    exact g6
  refine hK _ _ _ _ (fun x hx => ?_) (fun x i hx hi => ?_) (fun j hj => ?_) (fun o ho hl => ⟨?_, fun i r hr => ?_⟩) ⟨⟨?_, ?_, ?_, fun i hi => ?_, ?_, ?_, T2, T5, ?_⟩, fun z => ?_, fun z => ?_, fun z => ?_, fun z => ?_⟩ ⟨⟨?_, ?_⟩, fun z => ?_, fun z => ?_, fun z => ⟨?_, ?_⟩, fun z => ?_⟩
  · have b := g1 x (by omega)
    have d := hC x (by omega) (by omega)
    exact ⟨d.1.trans b.1, (hI x (by omega) (by omega) (by omega)).trans b.2.1, d.2.trans b.2.2⟩
  · rw [hR x i (by omega) (by omega) (by omega), g10 x i (by omega) hi]
  · rw [hR _ 3 (fun w => np _ j (by omega) hj w.symm) (fun w => np _ j (by omega) hj w.symm) (by omega)]
    exact g11 j hj
  · rcases blk o hl with h7 | ⟨h7, h8⟩
    · rw [ct _ (by omega)]
      have h12 : o = 0 ∨ o = 1 ∨ o = 2 ∨ o = 3 ∨ o = 4 ∨ o = 5 ∨ o = 6 ∨ o = 7 := by omega
      rcases h12 with rfl | rfl | rfl | rfl | rfl | rfl | rfl | rfl
      · rw [show th (s 6 0) + 0 = th (s 6 0) from rfl, (g1 _ (by omega)).1, c0]
        show 5 + kd ≠ 0
        omega
      · rw [g2]; show (26 : Nat) ≠ 0; decide
      · rw [g5.1]; decide
      · rw [show th (s 6 0) + 3 = th (s 6 0) + 2 + 1 from rfl, g5.2.2.2.1]; decide
      · rw [show th (s 6 0) + 4 = th (s 6 0) + 2 + 2 from rfl, g5.2.2.2.2]; decide
      · rw [g6.1]; decide
      · rw [show th (s 6 0) + 6 = th (s 6 0) + 5 + 1 from rfl, g6.2.2.2.1]; decide
      · rw [show th (s 6 0) + 7 = th (s 6 0) + 5 + 2 from rfl, g6.2.2.2.2]; decide
    · obtain ⟨q1, q2, -⟩ := h4 h7
      rcases h8 with rfl | rfl
      · rw [q1]; decide
      · rw [q2]; decide
  · rcases blk o hl with h7 | ⟨h7, h8⟩
    · have h12 : o = 0 ∨ o = 1 ∨ 2 ≤ o := by omega
      rcases h12 with rfl | rfl | h12
      · rw [show th (s 6 0) + 0 = th (s 6 0) from rfl] at hr
        by_cases e3 : i < 3
        · rw [rr i e3] at hr
          have h13 : i = 0 ∨ i = 1 ∨ i = 2 := by omega
          rcases h13 with rfl | rfl | rfl
          · rw [g8] at hr; cases hr; exact ⟨lin 1 (by omega), by omega⟩
          · rw [g8'] at hr; cases hr; exact ⟨lin 2 (by omega), by omega⟩
          · rw [g8''] at hr; cases hr; exact ⟨lin 5 (by omega), by omega⟩
        · by_cases e8 : i = 8
          · by_cases e4 : kd = 4
            · rw [e8, (h4 e4).2.2.1] at hr; cases hr; exact ⟨lin8 e4 8 (Or.inl rfl), by omega⟩
            · rw [e8, (h5 e4).1] at hr; cases hr
          · by_cases e9 : i = 9
            · by_cases e4 : kd = 4
              · rw [e9, (h4 e4).2.2.2.1] at hr; cases hr; exact ⟨lin8 e4 9 (Or.inr rfl), by omega⟩
              · rw [e9, (h5 e4).2] at hr; cases hr
            · rw [r3 i (by omega) e8 e9] at hr
              cases hr
      · rw [rt _ i (by omega) (by omega)] at hr
        by_cases e : i < m
        · rw [g3 i e] at hr
          cases hr
          have := th_ge (p i)
          exact ⟨ad_LV (lv_th (hp i e)), this⟩
        · rw [g4 i e] at hr
          cases hr
      · rw [rt _ i (by omega) (by omega)] at hr
        have h13 := g7 _ i r (by omega) (by omega) hr
        have h14 := lin (r - th (s 6 0)) (by omega)
        rw [show th (s 6 0) + (r - th (s 6 0)) = r by omega] at h14
        exact ⟨h14, by omega⟩
    · have q := (h4 h7).2.2.2.2 i
      rcases h8 with rfl | rfl
      · rw [q.1] at hr; cases hr
      · rw [q.2] at hr; cases hr
  · rw [a7, ct _ (by omega), (g1 _ (by omega)).1, c0]
  · rw [a1, ct _ (by omega), g2]
  · rw [rr 0 (by omega), g8]
  · rw [a1] at hi
    rw [rt _ i (by omega) (by omega), g3 i hi, ad_p (by omega)]
  · rw [rr 1 (by omega), g8']
  · rw [rr 2 (by omega), g8'']
  · rw [a11, if_pos rfl]
    exact r3 3 (by omega) (by omega) (by omega)
  · rw [a7] at z
    omega
  · rw [a7] at z
    omega
  · rw [a7] at z
    omega
  · rw [a7] at z
    obtain ⟨q1, q2, q3, q4, -⟩ := h4 z
    exact ⟨q3, q1, q4, q2⟩
  · rw [i45.1, a18]
    rfl
  · rw [i45.2, a19]
    rfl
  · rw [a7] at z
    omega
  · rw [a7] at z
    omega
  · rw [i6, a9]
  · rw [i7 (by rw [a7] at z; omega), a10]
  · rw [i6, a9]
def F_X8_init : SPF := fun As C I J R K => ∃ (s : St) (a c : Nat) (p w : Nat → Nat), As = [aR (some (th (s 6 0))), aR (some (th (p 0))), aR (some (th (p 1))), aI (iN a), aI (iN c)] ∧ PRe s 3 C I R 1 ∧ (∀ i, i < 2 → p i < s 6 0 ∧ kTh (C (th (p i))).1) ∧ PIn s 3 2 a c p w C I J R K
theorem S_X8_init (l : Launch) : SpX8_init l F_X8_init := by
  refine wX8_init (S_X4_init l) ?_
  rintro As C I J R K ⟨s, a, c, p, w, rfl, hP, hp, hK⟩
  have hn := hP.1
  have g0 := th_ge (s 6 0)
  have ne : ∀ i, i < 2 → th (p i) ≠ th (s 6 0) + 1 := fun i hi w => by
    unfold th at w
    omega
  refine ⟨_, _, _, _, _, rfl, th (s 6 0) + 1, hP.2.2.2.2 1 (by omega) (by omega), ?_⟩
  rintro C3 I4 J5 R6 rfl rfl rfl rfl
  rw [va_up_self, va_up_ne _ _ (ne 0 (by omega)), va_up_ne _ _ (ne 1 (by omega))]
  refine ⟨⟨show 25 ≤ 26 by decide, show 26 < 29 by decide⟩, Or.inr (Or.inl ⟨rfl, (hp 0 (by omega)).2⟩), iN_in (a := 0) (by decide) (by decide), ?_⟩
  rintro R10 rfl
  refine ⟨Or.inr (Or.inl ⟨rfl, (hp 1 (by omega)).2⟩), iN_in (a := 1) (by decide) (by decide), ?_⟩
  rintro R13 rfl
  rw [show (0 : Int32).toNatClampNeg = 0 by decide, show (1 : Int32).toNatClampNeg = 1 by decide]
  refine F_X4_aft (n := s 6 0) (m := 2) (p := p) (C := C) (I := I) (J := J) (R := R) hn (by omega) (by rw [hP.2.1]; exact ⟨by show 5 ≤ 5 + 3; omega, by show 5 + 3 ≤ 10; omega⟩) (fun o h1 h2 => hP.2.2.2.2 o (by omega) (by omega)) hp (fun x hx => ?_) (va_up_self _ _ _) (fun i hi => ?_) (fun i hi => ?_) (fun C7 I8 J9 R10 hA => ⟨rfl, ?_⟩)
  · simp (disch := assumption) only [va_up_ne]
    exact ⟨trivial, trivial, trivial, trivial⟩
  · have h2 : i = 0 ∨ i = 1 := by omega
    rcases h2 with rfl | rfl <;> simp (disch := omega) only [va_up_self, va_up_ne]
  · simp (disch := omega) only [va_up_self, va_up_ne]
  · have e0 := hA.1 (th (s 6 0)) (by omega)
    refine ⟨by rw [e0.1, hP.2.1], ?_⟩
    rintro I20 rfl I21 rfl
    refine PIn.fin (C7 := C7) (I8 := I8) (J9 := J9) (R10 := R10) (Or.inl rfl) (by omega) hP (fun i hi => (hp i hi).1) hA hK (fun _ _ _ => ⟨rfl, rfl⟩) (fun x hx _ _ => by rw [va_up_ne _ _ hx, va_up_ne _ _ hx]) (fun _ _ _ _ _ => rfl) (fun z => absurd z (by decide)) (fun _ => ⟨?_, ?_⟩) ⟨?_, ?_⟩ ?_ (fun _ => ?_)
    · rw [hA.2.2.2.2.2.2.2.2.1 8 (by omega)]
      exact hP.2.2.2.1 8
    · rw [hA.2.2.2.2.2.2.2.2.1 9 (by omega)]
      exact hP.2.2.2.1 9
    · simp (disch := omega) only [va_up_self, va_up_ne]
      rw [e0.2.1, hP.2.2.1]
    · simp (disch := omega) only [va_up_self, va_up_ne]
      rw [e0.2.1, hP.2.2.1]
    · simp (disch := omega) only [va_up_self, va_up_ne]
    · simp (disch := omega) only [va_up_self, va_up_ne]
def F_X10_init : SPF := fun As C I J R K => ∃ (s : St) (a c : Nat) (p w : Nat → Nat), As = [aR (some (th (s 6 0))), aR (some (th (p 0))), aI (iN a)] ∧ PRe s 5 C I R 1 ∧ (p 0 < s 6 0 ∧ kTh (C (th (p 0))).1) ∧ PIn s 5 1 a c p w C I J R K
theorem S_X10_init (l : Launch) : SpX10_init l F_X10_init := by
  refine wX10_init (S_X4_init l) ?_
  rintro As C I J R K ⟨s, a, c, p, w, rfl, hP, hp, hK⟩
  have hn := hP.1
  have g0 := th_ge (s 6 0)
  have ne : th (p 0) ≠ th (s 6 0) + 1 := fun w => by
    unfold th at w
    omega
  have hp2 : ∀ i, i < 1 → p i < s 6 0 ∧ kTh (C (th (p i))).1 := fun i hi => by
    obtain rfl : i = 0 := by omega
    exact hp
  refine ⟨_, _, _, rfl, th (s 6 0) + 1, hP.2.2.2.2 1 (by omega) (by omega), ?_⟩
  rintro C3 I4 J5 R6 rfl rfl rfl rfl
  rw [va_up_self, va_up_ne _ _ ne]
  refine ⟨⟨show 25 ≤ 26 by decide, show 26 < 29 by decide⟩, Or.inr (Or.inl ⟨rfl, hp.2⟩), iN_in (a := 0) (by decide) (by decide), ?_⟩
  rintro R10 rfl
  rw [show (0 : Int32).toNatClampNeg = 0 by decide]
  refine F_X4_aft (n := s 6 0) (m := 1) (p := p) (C := C) (I := I) (J := J) (R := R) hn (by omega) (by rw [hP.2.1]; exact ⟨by show 5 ≤ 5 + 5; omega, by show 5 + 5 ≤ 10; omega⟩) (fun o h1 h2 => hP.2.2.2.2 o (by omega) (by omega)) hp2 (fun x hx => ?_) (va_up_self _ _ _) (fun i hi => ?_) (fun i hi => ?_) (fun C7 I8 J9 R10 hA => ⟨rfl, ?_⟩)
  · simp (disch := assumption) only [va_up_ne]
    exact ⟨trivial, trivial, trivial, trivial⟩
  · obtain rfl : i = 0 := by omega
    simp (disch := omega) only [va_up_self, va_up_ne]
  · simp (disch := omega) only [va_up_self, va_up_ne]
  · have e0 := hA.1 (th (s 6 0)) (by omega)
    refine ⟨by rw [e0.1, hP.2.1], ?_⟩
    rintro I20 rfl
    refine PIn.fin (C7 := C7) (I8 := I8) (J9 := J9) (R10 := R10) (Or.inr (Or.inr rfl)) (by omega) hP (fun i hi => (hp2 i hi).1) hA hK (fun _ _ _ => ⟨rfl, rfl⟩) (fun x hx _ _ => by rw [va_up_ne _ _ hx]) (fun _ _ _ _ _ => rfl) (fun z => absurd z (by decide)) (fun _ => ⟨?_, ?_⟩) ⟨?_, ?_⟩ ?_ (fun z => absurd rfl z)
    · rw [hA.2.2.2.2.2.2.2.2.1 8 (by omega)]
      exact hP.2.2.2.1 8
    · rw [hA.2.2.2.2.2.2.2.2.1 9 (by omega)]
      exact hP.2.2.2.1 9
    · simp (disch := omega) only [va_up_self, va_up_ne]
      rw [e0.2.1, hP.2.2.1]
    · simp (disch := omega) only [va_up_self, va_up_ne]
      rw [e0.2.1, hP.2.2.1]
    · simp (disch := omega) only [va_up_self, va_up_ne]
def F_X9_init : SPF := fun As C I J R K => ∃ (s : St) (a c : Nat) (p w : Nat → Nat), As = [aR (some (th (s 6 0))), aR (some (th (p 0))), aI (iN a), aI (iN c)] ∧ PRe s 4 C I R 1 ∧ (p 0 < s 6 0 ∧ kTh (C (th (p 0))).1) ∧ PIn s 4 1 a c p w C I J R K
theorem S_X9_init (l : Launch) : SpX9_init l F_X9_init := by
  refine wX9_init (S_X4_init l) ?_
  rintro As C I J R K ⟨s, a, c, p, w, rfl, hP, hp, hK⟩
  have hn := hP.1
  have g0 := th_ge (s 6 0)
  have ne : th (p 0) ≠ th (s 6 0) + 1 := fun w => by
    unfold th at w
    omega
  have hp2 : ∀ i, i < 1 → p i < s 6 0 ∧ kTh (C (th (p i))).1 := fun i hi => by
    obtain rfl : i = 0 := by omega
    exact hp
  refine ⟨_, _, _, _, rfl, th (s 6 0) + 1, hP.2.2.2.2 1 (by omega) (by omega), ?_⟩
  rintro C3 I4 J5 R6 rfl rfl rfl rfl
  rw [va_up_self, va_up_ne _ _ ne]
  refine ⟨⟨show 25 ≤ 26 by decide, show 26 < 29 by decide⟩, Or.inr (Or.inl ⟨rfl, hp.2⟩), iN_in (a := 0) (by decide) (by decide), ?_⟩
  rintro R10 rfl
  rw [show (0 : Int32).toNatClampNeg = 0 by decide]
  refine F_X4_aft (n := s 6 0) (m := 1) (p := p) (C := C) (I := I) (J := J) (R := R) hn (by omega) (by rw [hP.2.1]; exact ⟨by show 5 ≤ 5 + 4; omega, by show 5 + 4 ≤ 10; omega⟩) (fun o h1 h2 => hP.2.2.2.2 o (by omega) (by omega)) hp2 (fun x hx => ?_) (va_up_self _ _ _) (fun i hi => ?_) (fun i hi => ?_) (fun C7 I8 J9 R10 hA => ⟨rfl, ?_⟩)
  · simp (disch := assumption) only [va_up_ne]
    exact ⟨trivial, trivial, trivial, trivial⟩
  · obtain rfl : i = 0 := by omega
    simp (disch := omega) only [va_up_self, va_up_ne]
  · simp (disch := omega) only [va_up_self, va_up_ne]
  · have e0 := hA.1 (th (s 6 0)) (by omega)
    have e8 := hA.1 (th (s 6 0) + 8) (by omega)
    have e9 := hA.1 (th (s 6 0) + 9) (by omega)
    refine ⟨th (s 6 0) + 8, by rw [e8.1]; exact hP.2.2.2.2 8 (by omega) (by omega), ?_⟩
    rintro C18 I19 J20 R21 rfl rfl rfl rfl
    refine ⟨by rw [va_up_ne _ _ (by omega), e0.1, hP.2.1], ?_⟩
    rintro R23 rfl
    refine ⟨th (s 6 0) + 9, by rw [va_up_ne _ _ (by omega), e9.1]; exact hP.2.2.2.2 9 (by omega) (by omega), ?_⟩
    rintro C26 I27 J28 R29 rfl rfl rfl rfl
    refine ⟨by rw [va_up_ne _ _ (by omega), va_up_ne _ _ (by omega), e0.1, hP.2.1], ?_⟩
    rintro R31 rfl I32 rfl I33 rfl
    refine PIn.fin (C7 := C7) (I8 := I8) (J9 := J9) (R10 := R10) (Or.inr (Or.inl rfl)) (by omega) hP (fun i hi => (hp2 i hi).1) hA hK (fun x h8 h9 => ⟨?_, ?_⟩) (fun x hx h8 h9 => ?_) (fun x i h8 h9 hi => ?_) (fun _ => ⟨?_, ?_, ?_, ?_, fun i => ⟨?_, ?_⟩⟩) (fun z => absurd rfl z) ⟨?_, ?_⟩ ?_ (fun _ => ?_)
    · rw [va_up_ne _ _ h9, va_up_ne _ _ h8]
    · rw [va_up_ne _ _ h9, va_up_ne _ _ h8]
    · rw [va_up_ne _ _ hx, va_up_ne _ _ hx, va_up_ne _ _ h9, va_up_ne _ _ h8]
    · by_cases e : x = th (s 6 0)
      · subst e
        have i8 : i ≠ 8 := fun w => hi ⟨rfl, Or.inl w⟩
        have i9 : i ≠ 9 := fun w => hi ⟨rfl, Or.inr w⟩
        simp (disch := omega) only [va_up_self, va_up_ne]
      · rw [va_up_ne _ _ e, va_up_ne _ _ h9, va_up_ne _ _ e, va_up_ne _ _ h8]
    · simp (disch := omega) only [va_up_self, va_up_ne]
    · simp (disch := omega) only [va_up_self, va_up_ne]
    · simp (disch := omega) only [va_up_self, va_up_ne]
    · simp (disch := omega) only [va_up_self, va_up_ne]
    · simp (disch := omega) only [va_up_self, va_up_ne]
    · simp (disch := omega) only [va_up_self, va_up_ne]
    · simp (disch := omega) only [va_up_self, va_up_ne]
      rw [e0.2.1, hP.2.2.1]
    · simp (disch := omega) only [va_up_self, va_up_ne]
      rw [e0.2.1, hP.2.2.1]
    · simp (disch := omega) only [va_up_self, va_up_ne]
    · simp (disch := omega) only [va_up_self, va_up_ne]
