/-! X6_init: an array of arrays of longs and one of longs: the walk from pc 12 by hand; its w-theorem -/
set_option maxRecDepth 100000
set_option linter.unusedVariables false
def PX6_init_12 (K : AK) (x0 x1 : Nat) (C : MC) (I : MI) (J : MJ) (R : MR) : Prop := ∃ (m : Nat) (nm : Nat → Nat) (q : Nat), m ≤ 4 ∧ (20 ≤ (C x1).1 ∧ (C x1).1 ≤ 30) ∧ (C x1).2 = m ∧ (∀ j, j < m + 1 → (C (nm j)).1 = 0) ∧ (∀ a b, a < m + 1 → b < m + 1 → nm a = nm b → a = b) ∧ (C q).1 = 0 ∧ (∀ j, j < m + 1 → q ≠ nm j) ∧
  ∀ (C5 : MC) (I5 : MI) (J5 : MJ) (R5 : MR), C5 = va_up (mup C nm (fun _ => (21, 121)) (m + 1)) q (29, m + 1) → I5 = va_up (mup I nm (fun _ _ => 0) (m + 1)) q (fun _ => 0) → J5 = va_up (mup J nm (fun _ _ => 0) (m + 1)) q (fun _ => 0) → R5 = va_up (mup R nm (fun _ _ => none) (m + 1)) q (fun j => if j < m + 1 then some (nm j) else none) → kRF (C5 x0).1 ∧
  ∀ R6 : MR, R6 = va_up R5 x0 (va_up (R5 x0) 6 (some q)) → (20 ≤ (C5 x1).1 ∧ (C5 x1).1 ≤ 30) ∧ (C5 x1).2 = m ∧ ∃ q7 : Nat, (C5 q7).1 = 0 ∧
  ∀ (C8 : MC) (I8 : MI) (J8 : MJ) (R8 : MR), C8 = va_up C5 q7 (21, m) → I8 = va_up I5 q7 (fun _ => 0) → J8 = va_up J5 q7 (fun _ => 0) → R8 = va_up R6 q7 (fun _ => none) → kRF (C8 x0).1 ∧
  ∀ R9 : MR, R9 = va_up R8 x0 (va_up (R8 x0) 7 (some q7)) → K (.inl none) C8 I8 J8 R9
section X6
variable {Γ : Gm} {C : MC} {I : MI} {J : MJ} {R : MR}
theorem bX6_init_12 (G : Gb Γ yX6_init cX6_init 2 (none) [] rmX6_init bdX6_init) {x0 x1 : Nat} (h : PX6_init_12 (gK Γ) x0 x1 C I J R) : AW Γ 6 490 C I J R 12 [(0, aR (some x0)), (1, aR (some x1))] [aI (121 : Int32), aI ((nI (C x1).2) + (1 : Int32)), aR (some x0)] := by
  have G0 := G.1
  obtain ⟨m, nm, q, hm, kl, em, hf, hinj, hq, hqn, h⟩ := h
  rw [em, show nI m = iN m from nI_iN m, show iN m + (1 : Int32) = iN (m + 1) from iN_add m 1]
  have hmul : (m + 1) * 121 ≤ 605 := by omega
  refine aw_mulJ (q := q) (index := 9) (k' := 12) (n' := 1100) (x := iN (m + 1)) (y := (121 : Int32)) (N := m + 1) (M := 121) G0 nm q467 (iN_nn (by omega)) (by decide) (iN_nat (by omega)) (by decide) (by omega) (by omega) (by omega) (by omega) (by rw [G.2.1]; decide) (by rw [G.2.1]; decide) hf hinj hq hqn dX6_init_12 ?_
  generalize gC5 : va_up (mup C nm (fun _ => (21, 121)) (m + 1)) q (29, m + 1) = C5
  generalize gI5 : va_up (mup I nm (fun _ _ => 0) (m + 1)) q (fun _ => 0) = I5
  generalize gJ5 : va_up (mup J nm (fun _ _ => 0) (m + 1)) q (fun _ => 0) = J5
  generalize gR5 : va_up (mup R nm (fun _ _ => none) (m + 1)) q (fun j => if j < m + 1 then some (nm j) else none) = R5
  have h := h C5 I5 J5 R5 gC5.symm gI5.symm gJ5.symm gR5.symm
  obtain ⟨k1, h⟩ := h
  refine aw_putR (f := 6) G0 (fp_X6_11 _ k1) dX6_init_16 ?_
  generalize gR6 : va_up R5 x0 (va_up (R5 x0) 6 (some q)) = R6
  have h := h R6 gR6.symm
  refine aw_aload_n G0 0 rfl dX6_init_19 ?_
  refine aw_aload_n G0 1 rfl dX6_init_20 ?_
  obtain ⟨k2, e2, q7, z7, h⟩ := h
  refine aw_alen (v := nI (C5 x1).2) G0 k2 rfl dX6_init_21 ?_
  rw [e2, show nI m = iN m from nI_iN m]
  refine aw_newaJ (q := q7) (k' := 13) (n' := 1104) (N := m) G0 (iN_nn (by omega)) (iN_nat (by omega)) (by omega) (by omega) (by omega) (by rw [G.2.1]; decide) (by rw [G.2.1]; decide) z7 dX6_init_22 ?_
  generalize gC8 : va_up C5 q7 (21, m) = C8
  generalize gI8 : va_up I5 q7 (fun _ => 0) = I8
  generalize gJ8 : va_up J5 q7 (fun _ => 0) = J8
  generalize gR8 : va_up R6 q7 (fun _ => none) = R8
  have h := h C8 I8 J8 R8 gC8.symm gI8.symm gJ8.symm gR8.symm
  obtain ⟨k3, h⟩ := h
  refine aw_putR (f := 7) G0 (fp_X6_16 _ k3) dX6_init_24 ?_
  generalize gR9 : va_up R8 x0 (va_up (R8 x0) 7 (some q7)) = R9
  have h := h R9 gR9.symm
  exact aw_return G0 (by rw [G.2.2]; decide) (by rw [G.2.1]; decide) dX6_init_27 h
end X6
def PX6_init_0 (F_X4_init : SPF) (K : AK) (x0 x1 : Nat) (C : MC) (I : MI) (J : MJ) (R : MR) : Prop := F_X4_init [aR (some x0), aR (some x1)] C I J R (fun o C1 I2 J3 R4 => o = .inl none ∧ PX6_init_12 K x0 x1 C1 I2 J3 R4)
theorem wX6_init {l : Launch} {F_X4_init : SPF} (S_X4_init : SpX4_init l F_X4_init) {F : SPF}
    (h0 : ∀ (As : List AV) (C : MC) (I : MI) (J : MJ) (R : MR) (K : AK), F As C I J R K → ∃ (x0 : Nat) (x1 : Nat), As = [aR (some x0), aR (some x1)] ∧ PX6_init_0 F_X4_init K x0 x1 C I J R)
    (hM : ∀ (As : List AV) (C : MC) (I : MI) (J : MJ) (R : MR) (K K' : AK), (∀ o C I J R, K o C I J R → K' o C I J R) → F_X4_init As C I J R K → F_X4_init As C I J R K') : SpX6_init l F := by
  refine Spec.of (by rfl) ?_
  intro Γ C I J R As Gd gl gr _ _ gb hF
  subst gl
  have G : Gb Γ yX6_init cX6_init 2 (none) [] rmX6_init bdX6_init := ⟨Gd, gr, gb⟩
  obtain ⟨x0, x1, rfl, h⟩ := h0 As C I J R (gK Γ) hF
  refine ⟨Nat.le_of_ble_eq_true rfl, bX6_init_0 G S_X4_init (hM _ _ _ _ _ _ _ (fun o C1 I2 J3 R4 hk => ?_) h)⟩
  obtain ⟨ho, hp⟩ := hk
  obtain ⟨m, nm, q, hm, kl, rest⟩ := id hp
  exact ⟨ho, kl, bX6_init_12 G hp⟩
