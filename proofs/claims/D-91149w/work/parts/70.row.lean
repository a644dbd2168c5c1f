/-! rows and fans are made: what their inits bring; X7_init -/
set_option maxRecDepth 100000
set_option linter.unusedVariables false
theorem PIn.finR {s : St} {kd m a c : Nat} {p w : Nat → Nat} {C C6 C' : MC} {I I6 I' : MI} {J J6 J' : MJ} {R R6 R' : MR} {K : AK} (hkd : kd = 1 ∨ kd = 2) (hm : m ≤ 4) (hP : PRe s kd C I R 2) (hp : ∀ i, i < m → p i < s 6 0) (hA : AftR (s 6 0) m p C I J R C6 I6 J6 R6) (hK : PIn s kd m a c p w C I J R K)
    (hC : ∀ x, ¬ (th (s 6 0) + 15 ≤ x ∧ x ≤ th (s 6 0) + 17) → C' x = C6 x ∧ J' x = J6 x) (hI : ∀ x, x ≠ th (s 6 0) → ¬ (th (s 6 0) + 15 ≤ x ∧ x ≤ th (s 6 0) + 17) → I' x = I6 x)
    (hR : ∀ x i, ¬ (th (s 6 0) + 15 ≤ x ∧ x ≤ th (s 6 0) + 17) → ¬ (x = th (s 6 0) ∧ 9 ≤ i ∧ i ≤ 11) → R' x i = R6 x i)
    (h2 : kd = 2 → C' (th (s 6 0) + 15) = (27, m) ∧ C' (th (s 6 0) + 16) = (21, m) ∧ C' (th (s 6 0) + 17) = (21, m) ∧ R' (th (s 6 0)) 9 = some (th (s 6 0) + 15) ∧ R' (th (s 6 0)) 10 = some (th (s 6 0) + 16) ∧ R' (th (s 6 0)) 11 = some (th (s 6 0) + 17) ∧ ∀ i, R' (th (s 6 0) + 15) i = none ∧ R' (th (s 6 0) + 16) i = none ∧ R' (th (s 6 0) + 17) i = none)
    (h1 : kd ≠ 2 → ∀ i, 9 ≤ i → i ≤ 11 → R' (th (s 6 0)) i = none) (i45 : I' (th (s 6 0)) 4 = 0 ∧ I' (th (s 6 0)) 5 = 0) (i8 : kd = 2 → I' (th (s 6 0)) 8 = iN a) : K (.inl none) C' I' J' R' := by
  obtain ⟨hn, c0, i0, r0, z0⟩ := hP
  obtain ⟨C7, I8, J9, R10, ⟨g1, g2, g3, g4, g5, g6, g7, ⟨g8, g8', g8''⟩, g9, g10, g11⟩, b1, b2, b3, b4, b5, b6, b7, b8, b9, b10, b11⟩ := hA
  obtain ⟨a1, a5, a7, a9, a10, a11, a12, a15, a16, a17, a18, a19, a20⟩ := ad_new (s := s) (kd := kd) (m := m) (a := a) (c := c) (p := p) (w := w)
  have hg := th_ge (s 6 0)
  have np : ∀ x j, th (s 6 0) ≤ x → j < m → x ≠ th (p j) := fun x j hx hj w => by
    have := hp j hj
    unfold th at hx w
    omega
  have lin : ∀ o, (o ≤ 7 ∨ (8 ≤ o ∧ o ≤ 9 + m) ∨ o = 14 ∨ (kd = 2 ∧ 15 ≤ o ∧ o ≤ 17)) → LV (adS s kd m a c p w) (th (s 6 0) + o) := fun o ho => ad_o (by omega) (by
    unfold lvo
    rw [a7, a12, a1]
    omega)
  have blk : ∀ o, lvo (adS s kd m a c p w) (s 6 0) o → (o ≤ 7 ∨ (8 ≤ o ∧ o ≤ 9 + m) ∨ o = 14 ∨ (kd = 2 ∧ 15 ≤ o ∧ o ≤ 17)) := fun o ho => by
    unfold lvo at ho
    rw [a7, a12, a1] at ho
    omega
  have rt : ∀ x i, th (s 6 0) + 1 ≤ x → x ≤ th (s 6 0) + 7 → R' x i = R10 x i := fun x i h1 h2 => by rw [hR x i (by omega) (by omega), b5 x i (by omega) (by omega)]
  have ct : ∀ x, x ≤ th (s 6 0) + 7 → C' x = C7 x := fun x h2 => by rw [(hC x (by omega)).1, (b1 x (by omega)).1]
  have r3 : ∀ i, 3 ≤ i → i ≠ 6 → i ≠ 7 → ¬ (9 ≤ i ∧ i ≤ 11) → R' (th (s 6 0)) i = none := fun i h1 h2 h3 h4 => by
    rw [hR _ i (by omega) (by omega), b5 _ i (by omega) (by omega), g9 i h1]
    exact r0 i
  have rr : ∀ i, i < 3 → R' (th (s 6 0)) i = R10 (th (s 6 0)) i := fun i hi => by rw [hR _ i (by omega) (by omega), b5 _ i (by omega) (by omega)]
  have r6 : R' (th (s 6 0)) 6 = some (th (s 6 0) + 8) := by rw [hR _ 6 (by omega) (by omega), b6]
  have r7 : R' (th (s 6 0)) 7 = some (th (s 6 0) + 14) := by rw [hR _ 7 (by omega) (by omega), b7]
  have c8 : C' (th (s 6 0) + 8) = (29, m + 1) := by rw [(hC _ (by omega)).1, b2]
  have c14 : C' (th (s 6 0) + 14) = (21, m) := by rw [(hC _ (by omega)).1, b4]
  have c9 : ∀ i, i ≤ m → C' (th (s 6 0) + (9 + i)) = (21, 121) := fun i hi => by rw [(hC _ (by omega)).1, b3 i hi]
  have r8 : ∀ i, i ≤ m → R' (th (s 6 0) + 8) i = some (th (s 6 0) + (9 + i)) := fun i hi => by rw [hR _ i (by omega) (by omega), b8 i hi]
  have T2 : TbS C' R' (th (s 6 0) + 2) := by
    unfold TbS at g5 ⊢
    rw [ct _ (by omega), ct _ (by omega), ct _ (by omega), rt _ _ (by omega) (by omega), rt _ _ (by omega) (by omega)]
    exact g5
  have T5 : TbS C' R' (th (s 6 0) + 5) := by
    unfold TbS at g6 ⊢
    rw [ct _ (by omega), ct _ (by omega), ct _ (by omega), rt _ _ (by omega) (by omega), rt _ _ (by omega) (by omega)]
    exact g6
  refine hK _ _ _ _ (fun x hx => ?_) (fun x i hx hi => ?_) (fun j hj => ?_) (fun o ho hl => ⟨?_, fun i r hr => ?_⟩) ⟨⟨?_, ?_, ?_, fun i hi => ?_, ?_, ?_, T2, T5, ?_⟩, fun z => ?_, fun z => ?_, fun z => ?_, fun z => ?_⟩ ⟨⟨?_, ?_⟩, fun z => ?_, fun z => ?_, fun z => ?_, fun z => ?_⟩
  · have b := g1 x (by omega)
    have d := hC x (by omega)
    have e := b1 x (by omega)
    exact ⟨d.1.trans (e.1.trans b.1), (hI x (by omega) (by omega)).trans (e.2.1.trans b.2.1), d.2.trans (e.2.2.trans b.2.2)⟩
  · rw [hR x i (by omega) (by omega), b5 x i (by omega) (by omega), g10 x i (by omega) hi]
  · rw [hR _ 3 (fun w => by have := hp j hj; unfold th at w; omega) (by omega), b5 _ 3 (fun w => by have := hp j hj; unfold th at w; omega) (by omega)]
    exact g11 j hj
  · rcases blk o hl with h7 | h7 | rfl | ⟨h7, h8, h9⟩
    · rw [ct _ (by omega)]
      have h12 : o = 0 ∨ o = 1 ∨ o = 2 ∨ o = 3 ∨ o = 4 ∨ o = 5 ∨ o = 6 ∨ o = 7 := by omega
      rcases h12 with rfl | rfl | rfl | rfl | rfl | rfl | rfl | rfl
      · rw [show th (s 6 0) + 0 = th (s 6 0) from rfl, (g1 _ (by omega)).1, c0]
        show 5 + kd ≠ 0
        omega
      · rw [g2]; show (26 : Nat) ≠ 0; decide
      · rw [g5.1]; decide
      · rw [show th (s 6 0) + 3 = th (s 6 0) + 2 + 1 from rfl, g5.2.2.2.1]; decide
      · rw [show th (s 6 0) + 4 = th (s 6 0) + 2 + 2 from rfl, g5.2.2.2.2]; decide
      · rw [g6.1]; decide
      · rw [show th (s 6 0) + 6 = th (s 6 0) + 5 + 1 from rfl, g6.2.2.2.1]; decide
      · rw [show th (s 6 0) + 7 = th (s 6 0) + 5 + 2 from rfl, g6.2.2.2.2]; decide
    · by_cases e : o = 8
      · rw [e, c8]; show (29 : Nat) ≠ 0; decide
      · rw [show o = 9 + (o - 9) by omega, c9 _ (by omega)]; decide
    · rw [c14]; show (21 : Nat) ≠ 0; decide
    · obtain ⟨q1, q2, q3, -⟩ := h2 h7
      have h12 : o = 15 ∨ o = 16 ∨ o = 17 := by omega
      rcases h12 with rfl | rfl | rfl
      · rw [q1]; show (27 : Nat) ≠ 0; decide
      · rw [q2]; show (21 : Nat) ≠ 0; decide
      · rw [q3]; show (21 : Nat) ≠ 0; decide
  · sorry
  · rw [a7, ct _ (by omega), (g1 _ (by omega)).1, c0]
  · rw [a1, ct _ (by omega), g2]
  · rw [rr 0 (by omega), g8]
  · rw [a1] at hi
    rw [rt _ i (by omega) (by omega), g3 i hi, ad_p (by omega)]
  · rw [rr 1 (by omega), g8']
  · rw [rr 2 (by omega), g8'']
  · rw [a11, if_pos rfl]
    exact r3 3 (by omega) (by omega) (by omega) (by omega)
  · rw [a7] at z
    omega
  · rw [a1]
    exact ⟨r6, c8, r7, c14, fun i hi => ⟨r8 i hi, c9 i hi⟩⟩
  · rw [a7] at z
    obtain ⟨q1, q2, q3, q4, q5, q6, -⟩ := h2 z
    rw [a1]
    exact ⟨q4, q1, q5, q2, q6, q3⟩
  · rw [a7] at z
    omega
  · rw [i45.1, a18]
    rfl
  · rw [i45.2, a19]
    rfl
  · rw [a7] at z
    omega
  · rw [a7] at z
    rw [i8 z, a9]
  · rw [a7] at z
    omega
  · rw [a7] at z
    omega
