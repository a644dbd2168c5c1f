/-! rows and fans are made: what their inits bring; X7_init -/
set_option maxRecDepth 100000
set_option linter.unusedVariables false
theorem PIn.finR {s : St} {kd m a c : Nat} {p w : Nat → Nat} {C C6 C' : MC} {I I6 I' : MI} {J J6 J' : MJ} {R R6 R' : MR} {K : AK} (hkd : kd = 1 ∨ kd = 2) (hm : m ≤ 4) (hP : PRe s kd C I R 2) (hp : ∀ i, i < m → p i < s 6 0) (hA : AftR (s 6 0) m p C I J R C6 I6 J6 R6) (hK : PIn s kd m a c p w C I J R K)
    (hC : ∀ x, ¬ (th (s 6 0) + 15 ≤ x ∧ x ≤ th (s 6 0) + 17) → C' x = C6 x ∧ J' x = J6 x) (hI : ∀ x, x ≠ th (s 6 0) → ¬ (th (s 6 0) + 15 ≤ x ∧ x ≤ th (s 6 0) + 17) → I' x = I6 x)
    (hR : ∀ x i, ¬ (th (s 6 0) + 15 ≤ x ∧ x ≤ th (s 6 0) + 17) → ¬ (x = th (s 6 0) ∧ 9 ≤ i ∧ i ≤ 11) → R' x i = R6 x i)
    (h2 : kd = 2 → C' (th (s 6 0) + 15) = (27, m) ∧ C' (th (s 6 0) + 16) = (21, m) ∧ C' (th (s 6 0) + 17) = (21, m) ∧ R' (th (s 6 0)) 9 = some (th (s 6 0) + 15) ∧ R' (th (s 6 0)) 10 = some (th (s 6 0) + 16) ∧ R' (th (s 6 0)) 11 = some (th (s 6 0) + 17) ∧ ∀ i, R' (th (s 6 0) + 15) i = none ∧ R' (th (s 6 0) + 16) i = none ∧ R' (th (s 6 0) + 17) i = none)
    (h1 : kd ≠ 2 → ∀ i, 9 ≤ i → i ≤ 11 → R' (th (s 6 0)) i = none) (i45 : I' (th (s 6 0)) 4 = 0 ∧ I' (th (s 6 0)) 5 = 0) (i8 : kd = 2 → I' (th (s 6 0)) 8 = iN a) : K (.inl none) C' I' J' R' := by
  obtain ⟨hn, c0, i0, r0, z0⟩ := hP
  obtain ⟨C7, I8, J9, R10, ⟨g1, g2, g3, g4, g5, g6, g7, ⟨g8, g8', g8''⟩, g9, g10, g11⟩, b1, b2, b3, b4, b5, b6, b7, b8, b9, b10, b11⟩ := hA
  obtain ⟨a1, a5, a7, a9, a10, a11, a12, a15, a16, a17, a18, a19, a20⟩ := ad_new (s := s) (kd := kd) (m := m) (a := a) (c := c) (p := p) (w := w)
  have hg := th_ge (s 6 0)
  have np : ∀ x j, th (s 6 0) ≤ x → j < m → x ≠ th (p j) := fun x j hx hj w => by
    have := hp j hj
    unfold th at hx w
    omega
  have lin : ∀ o, (o ≤ 7 ∨ (8 ≤ o ∧ o ≤ 9 + m) ∨ o = 14 ∨ (kd = 2 ∧ 15 ≤ o ∧ o ≤ 17)) → LV (adS s kd m a c p w) (th (s 6 0) + o) := fun o ho => ad_o (by omega) (by
    unfold lvo
    rw [a7, a12, a1]
    omega)
  have blk : ∀ o, lvo (adS s kd m a c p w) (s 6 0) o → (o ≤ 7 ∨ (8 ≤ o ∧ o ≤ 9 + m) ∨ o = 14 ∨ (kd = 2 ∧ 15 ≤ o ∧ o ≤ 17)) := fun o ho => by
    unfold lvo at ho
    rw [a7, a12, a1] at ho
    omega
  have rt : ∀ x i, th (s 6 0) + 1 ≤ x → x ≤ th (s 6 0) + 7 → R' x i = R10 x i := fun x i h1 h2 => by rw [hR x i (by omega) (by omega), b5 x i (by omega) (by omega)]
  have ct : ∀ x, x ≤ th (s 6 0) + 7 → C' x = C7 x := fun x h2 => by rw [(hC x (by omega)).1, (b1 x (by omega)).1]
  have r3 : ∀ i, 3 ≤ i → i ≠ 6 → i ≠ 7 → ¬ (9 ≤ i ∧ i ≤ 11) → R' (th (s 6 0)) i = none := fun i h1 h2 h3 h4 => by
    rw [hR _ i (by omega) (by omega), b5 _ i (by omega) (by omega), g9 i h1]
    exact r0 i
  have rr : ∀ i, i < 3 → R' (th (s 6 0)) i = R10 (th (s 6 0)) i := fun i hi => by rw [hR _ i (by omega) (by omega), b5 _ i (by omega) (by omega)]
  have r6 : R' (th (s 6 0)) 6 = some (th (s 6 0) + 8) := by rw [hR _ 6 (by omega) (by omega), b6]
  have r7 : R' (th (s 6 0)) 7 = some (th (s 6 0) + 14) := by rw [hR _ 7 (by omega) (by omega), b7]
  have c8 : C' (th (s 6 0) + 8) = (29, m + 1) := by rw [(hC _ (by omega)).1, b2]
  have c14 : C' (th (s 6 0) + 14) = (21, m) := by rw [(hC _ (by omega)).1, b4]
  have c9 : ∀ i, i ≤ m → C' (th (s 6 0) + (9 + i)) = (21, 121) := fun i hi => by rw [(hC _ (by omega)).1, b3 i hi]
  have r8 : ∀ i, i ≤ m → R' (th (s 6 0) + 8) i = some (th (s 6 0) + (9 + i)) := fun i hi => by rw [hR _ i (by omega) (by omega), b8 i hi]
  have T2 : TbS C' R' (th (s 6 0) + 2) := by
    unfold TbS at g5 ⊢
    rw [ct _ (by omega), ct _ (by omega), ct _ (by omega), rt _ _ (by omega) (by omega), rt _ _ (by omega) (by omega)]
    exact g5
  have T5 : TbS C' R' (th (s 6 0) + 5) := by
    unfold TbS at g6 ⊢
    rw [ct _ (by omega), ct _ (by omega), ct _ (by omega), rt _ _ (by omega) (by omega), rt _ _ (by omega) (by omega)]
    exact g6
  refine hK _ _ _ _ (fun x hx => ?_) (fun x i hx hi => ?_) (fun j hj => ?_) (fun o ho hl => ⟨?_, fun i r hr => ?_⟩) ⟨⟨?_, ?_, ?_, fun i hi => ?_, ?_, ?_, T2, T5, ?_⟩, fun z => ?_, fun z => ?_, fun z => ?_, fun z => ?_⟩ ⟨⟨?_, ?_⟩, fun z => ?_, fun z => ?_, fun z => ?_, fun z => ?_⟩
  · have b := g1 x (by omega)
    have d := hC x (by omega)
    have e := b1 x (by omega)
    exact ⟨d.1.trans (e.1.trans b.1), (hI x (by omega) (by omega)).trans (e.2.1.trans b.2.1), d.2.trans (e.2.2.trans b.2.2)⟩
  · rw [hR x i (by omega) (by omega), b5 x i (by omega) (by omega), g10 x i (by omega) hi]
  · rw [hR _ 3 (fun w => by have := hp j hj; unfold th at w; omega) (by omega), b5 _ 3 (fun w => by have := hp j hj; unfold th at w; omega) (by omega)]
    exact g11 j hj
  · rcases blk o hl with h7 | h7 | rfl | ⟨h7, h8, h9⟩
    · rw [ct _ (by omega)]
      have h12 : o = 0 ∨ o = 1 ∨ o = 2 ∨ o = 3 ∨ o = 4 ∨ o = 5 ∨ o = 6 ∨ o = 7 := by omega
      rcases h12 with rfl | rfl | rfl | rfl | rfl | rfl | rfl | rfl
      · rw [show th (s 6 0) + 0 = th (s 6 0) from rfl, (g1 _ (by omega)).1, c0]
        show 5 + kd ≠ 0
        omega
      · rw [g2]; show (26 : Nat) ≠ 0; decide
      · rw [g5.1]; decide
      · rw [show th (s 6 0) + 3 = th (s 6 0) + 2 + 1 from rfl, g5.2.2.2.1]; decide
      · rw [show th (s 6 0) + 4 = th (s 6 0) + 2 + 2 from rfl, g5.2.2.2.2]; decide
      · rw [g6.1]; decide
      · rw [show th (s 6 0) + 6 = th (s 6 0) + 5 + 1 from rfl, g6.2.2.2.1]; decide
      · rw [show th (s 6 0) + 7 = th (s 6 0) + 5 + 2 from rfl, g6.2.2.2.2]; decide
    · by_cases e : o = 8
      · rw [e, c8]; show (29 : Nat) ≠ 0; decide
      · rw [show o = 9 + (o - 9) by omega, c9 _ (by omega)]; decide
    · rw [c14]; show (21 : Nat) ≠ 0; decide
    · obtain ⟨q1, q2, q3, -⟩ := h2 h7
      have h12 : o = 15 ∨ o = 16 ∨ o = 17 := by omega
      rcases h12 with rfl | rfl | rfl
      · rw [q1]; show (27 : Nat) ≠ 0; decide
      · rw [q2]; show (21 : Nat) ≠ 0; decide
      · rw [q3]; show (21 : Nat) ≠ 0; decide
  · rcases blk o hl with h7 | h7 | rfl | ⟨h7, h8, h9⟩
    · have h12 : o = 0 ∨ o = 1 ∨ 2 ≤ o := by omega
      rcases h12 with rfl | rfl | h12
      · rw [show th (s 6 0) + 0 = th (s 6 0) from rfl] at hr
        by_cases e3 : i < 3
        · rw [rr i e3] at hr
          have h13 : i = 0 ∨ i = 1 ∨ i = 2 := by omega
          rcases h13 with rfl | rfl | rfl
          · rw [g8] at hr; cases hr; exact ⟨lin 1 (by omega), by omega⟩
          · rw [g8'] at hr; cases hr; exact ⟨lin 2 (by omega), by omega⟩
          · rw [g8''] at hr; cases hr; exact ⟨lin 5 (by omega), by omega⟩
        · by_cases e6 : i = 6
          · rw [e6, r6] at hr; cases hr; exact ⟨lin 8 (by omega), by omega⟩
          · by_cases e7 : i = 7
            · rw [e7, r7] at hr; cases hr; exact ⟨lin 14 (by omega), by omega⟩
            · by_cases e9 : 9 ≤ i ∧ i ≤ 11
              · by_cases e2 : kd = 2
                · obtain ⟨q1, q2, q3, q4, q5, q6, -⟩ := h2 e2
                  have h14 : i = 9 ∨ i = 10 ∨ i = 11 := by omega
                  rcases h14 with rfl | rfl | rfl
                  · rw [q4] at hr; cases hr; exact ⟨lin 15 (by omega), by omega⟩
                  · rw [q5] at hr; cases hr; exact ⟨lin 16 (by omega), by omega⟩
                  · rw [q6] at hr; cases hr; exact ⟨lin 17 (by omega), by omega⟩
                · rw [h1 e2 i e9.1 e9.2] at hr
                  cases hr
              · rw [r3 i (by omega) e6 e7 e9] at hr
                cases hr
      · rw [rt _ i (by omega) (by omega)] at hr
        by_cases e : i < m
        · rw [g3 i e] at hr
          cases hr
          have := th_ge (p i)
          exact ⟨ad_LV (lv_th (hp i e)), this⟩
        · rw [g4 i e] at hr
          cases hr
      · rw [rt _ i (by omega) (by omega)] at hr
        have h13 := g7 _ i r (by omega) (by omega) hr
        have h14 := lin (r - th (s 6 0)) (by omega)
        rw [show th (s 6 0) + (r - th (s 6 0)) = r by omega] at h14
        exact ⟨h14, by omega⟩
    · by_cases e : o = 8
      · subst e
        by_cases im : i ≤ m
        · rw [r8 i im] at hr
          cases hr
          exact ⟨lin (9 + i) (by omega), by omega⟩
        · rw [hR _ i (by omega) (by omega), b9 i im] at hr
          cases hr
      · rw [show o = 9 + (o - 9) by omega, hR _ i (by omega) (by omega), b10 _ i (by omega)] at hr
        cases hr
    · rw [hR _ i (by omega) (by omega), b11 i] at hr
      cases hr
    · obtain ⟨q1, q2, q3, q4, q5, q6, q⟩ := h2 h7
      have h12 : o = 15 ∨ o = 16 ∨ o = 17 := by omega
      rcases h12 with rfl | rfl | rfl
      · rw [(q i).1] at hr; cases hr
      · rw [(q i).2.1] at hr; cases hr
      · rw [(q i).2.2] at hr; cases hr
  · rw [a7, ct _ (by omega), (g1 _ (by omega)).1, c0]
  · rw [a1, ct _ (by omega), g2]
  · rw [rr 0 (by omega), g8]
  · rw [a1] at hi
    rw [rt _ i (by omega) (by omega), g3 i hi, ad_p (by omega)]
  · rw [rr 1 (by omega), g8']
  · rw [rr 2 (by omega), g8'']
  · rw [a11, if_pos rfl]
    exact r3 3 (by omega) (by omega) (by omega) (by omega)
  · rw [a7] at z
    omega
  · rw [a1]
    exact ⟨r6, c8, r7, c14, fun i hi => ⟨r8 i hi, c9 i hi⟩⟩
  · rw [a7] at z
    obtain ⟨q1, q2, q3, q4, q5, q6, -⟩ := h2 z
    rw [a1]
    exact ⟨q4, q1, q5, q2, q6, q3⟩
  · rw [a7] at z
    omega
  · rw [i45.1, a18]
    rfl
  · rw [i45.2, a19]
    rfl
  · rw [a7] at z
    omega
  · rw [a7] at z
    rw [i8 z, a9]
  · rw [a7] at z
    omega
  · rw [a7] at z
    omega
