/-! PARTS: the component's wantFree; caches, hedges, retries are made -/
set_option maxRecDepth 100000
set_option linter.unusedVariables false
def PtR (s : St) (m : Nat) (p : Nat → Nat) (r : Nat) (C : MC) (R : MR) : Prop := m ≤ 4 ∧ C r = (26, m) ∧ ∀ i, i < m → R r i = some (th (p i)) ∧ p i < s 6 0
def WfK (s : St) (m : Nat) (p : Nat → Nat) (C : MC) (I : MI) (J : MJ) (R : MR) (K : AK) : Prop := (s 6 0 = 20 → K (.inr 504) C (setI I 504 6 4) J R) ∧ (s 6 0 < 20 → (¬ FrP s m p → K (.inr 504) C (setI I 504 6 5) J R) ∧ (FrP s m p → K (.inl none) C I J R))
def WfI (s : St) (m : Nat) (p : Nat → Nat) (r : Nat) (C : MC) (I : MI) (J : MJ) (R : MR) (K : AK) : Prop := PtR s m p r C R ∧ BenS s C I R ∧ CtY s C I J R ∧ WfK s m p C I J R K
def F_X0_wantFree : SPF := fun As C I J R K => ∃ (s : St) (m : Nat) (p : Nat → Nat) (r : Nat), As = [aR (some 500), aR (some r)] ∧ WfI s m p r C I J R K
def V_X0_wantFree_21 (n : Nat) (K : AK) (x0 : Nat) (x1 : Nat) (x2 : Int32) (C : MC) (I : MI) (J : MJ) (R : MR) : Prop := ∃ (s : St) (m i : Nat) (p : Nat → Nat), x0 = 500 ∧ x2 = iN i ∧ i ≤ m ∧ n = 10 * (4 - i) + 9 ∧ s 6 0 < 20 ∧ (∀ j, j < i → s 11 (p j) = 0) ∧ (∀ j j', j < j' → j' < i → p j ≠ p j') ∧ WfI s m p x1 C I J R K
def V_X0_wantFree_48 (n : Nat) (K : AK) (x0 : Nat) (x1 : Nat) (x2 : Int32) (x3 : Int32) (C : MC) (I : MI) (J : MJ) (R : MR) : Prop := ∃ (s : St) (m i j : Nat) (p : Nat → Nat), x0 = 500 ∧ x2 = iN i ∧ x3 = iN j ∧ i < m ∧ j ≤ i ∧ n = 10 * (4 - i) + (8 - j) ∧ s 6 0 < 20 ∧ (∀ j, j ≤ i → s 11 (p j) = 0) ∧ (∀ j j', j < j' → j' < i → p j ≠ p j') ∧ (∀ j', j' < j → p j' ≠ p i) ∧ WfI s m p x1 C I J R K
theorem S_X0_wantFree (l : Launch) : SpX0_wantFree l F_X0_wantFree := by
  refine wX0_wantFree (S_X0_want l) V_X0_wantFree_21 V_X0_wantFree_48 ?_ ?_ ?_
  · rintro As C I J R K ⟨s, m, p, r, rfl, hW⟩
    obtain ⟨hP, hB, hY, k1, k2⟩ := id hW
    have hn := hY.1.1
    have h504 : (C 504).1 = 2 := by rw [hB.1.2.2.2.2]
    have hb : (C 500).1 = 1 := by rw [hB.1.1]
    refine ⟨500, r, rfl, hb, ?_⟩
    rw [hB.2.2.1, show ((20 : Int32) ≤ iN (s 6 0)) = (20 ≤ s 6 0) from propext (iN_le (a := 20) (by decide) (by omega))]
    refine ⟨fun z => ⟨hb, F_want_no hB (Or.inr ⟨504, rfl, h504, k1 (by omega)⟩)⟩, fun z => ⟨hb, F_want_yes (Or.inl ⟨rfl, 49, s, m, 0, p, rfl, rfl, Nat.zero_le _, rfl, by omega, fun j hj => absurd hj (Nat.not_lt_zero _), fun j j' _ hj => absurd hj (Nat.not_lt_zero _), hW⟩)⟩⟩
  · rintro n K x0 x1 x2 C I J R ⟨s, m, i, p, rfl, rfl, hi, rfl, hlt, hf, hd, hW⟩
    obtain ⟨⟨m4, hc, hP⟩, hB, hY, k1, k2⟩ := id hW
    have h504 : (C 504).1 = 2 := by rw [hB.1.2.2.2.2]
    have hb : (C 500).1 = 1 := by rw [hB.1.1]
    have kk := k2 hlt
    unfold PX0_wantFree_21 PX0_wantFree_42
    rw [hc]
    refine ⟨⟨show 20 ≤ 26 by decide, show 26 ≤ 30 by decide⟩, fun z => ?_, fun z => ⟨⟨show 25 ≤ 26 by decide, show 26 < 30 by decide⟩, ?_⟩⟩
    · have e1 : m ≤ i := (iN_le (a := m) (by omega) (by omega)).mp z
      exact kk.2 ⟨fun j hj => hf j (by omega), fun j j' h1 h2 => hd j j' h1 (by omega)⟩
    · have im : i < m := Nat.lt_of_not_le (fun w => z ((iN_le (a := m) (by omega) (by omega)).mpr w))
      refine ⟨iN_in (by omega) im, ?_⟩
      have pi := hP i im
      have cs := (hY.2 (p i) pi.2).1.1
      have k7 := (hY.1.2 (p i) pi.2).1.1
      rw [iN_nat (by omega)]
      refine ⟨th (p i), pi.1, by rw [cs.1]; exact ⟨Nat.le_add_right _ _, by show 5 + s 7 (p i) ≤ 10; omega⟩, ?_⟩
      rw [cs.2.2.2.2.2.2.2.2]
      by_cases e0 : s 11 (p i) = 0
      · rw [if_pos e0]
        refine ⟨fun c => absurd rfl c, fun _ => ⟨hb, F_want_yes (Or.inl ⟨rfl, 10 * (4 - i) + (8 - 0), by omega, s, m, i, 0, p, rfl, rfl, rfl, im, Nat.zero_le _, rfl, hlt, fun j hj => ?_, hd, fun j' hj => absurd hj (Nat.not_lt_zero _), hW⟩)⟩⟩
        by_cases e2 : j = i
        · rw [e2]
          exact e0
        · exact hf j (by omega)
      · rw [if_neg e0]
        exact ⟨fun _ => ⟨hb, F_want_no hB (Or.inr ⟨504, rfl, h504, kk.1 (fun w => e0 (w.1 i im))⟩)⟩, fun c => by cases c⟩
  · rintro n K x0 x1 x2 x3 C I J R ⟨s, m, i, j, p, rfl, rfl, rfl, im, hj, rfl, hlt, hf, hd, hdd, hW⟩
    obtain ⟨⟨m4, hc, hP⟩, hB, hY, k1, k2⟩ := id hW
    have h504 : (C 504).1 = 2 := by rw [hB.1.2.2.2.2]
    have hb : (C 500).1 = 1 := by rw [hB.1.1]
    have kk := k2 hlt
    unfold PX0_wantFree_48 PX0_wantFree_68
    rw [hc, iN_le (by omega) (by omega)]
    refine ⟨fun z => ?_, fun z => ⟨⟨show 25 ≤ 26 by decide, show 26 < 30 by decide⟩, iN_in (by omega) (by show j < m; omega), iN_in (by omega) im, ?_⟩⟩
    · obtain rfl : j = i := by omega
      refine ⟨10 * (4 - (j + 1)) + 9, by omega, s, m, j + 1, p, rfl, iN_add j 1, by omega, rfl, hlt, fun j h1 => hf j (by omega), fun a b h1 h2 => ?_, hW⟩
      by_cases e2 : b = j
      · rw [e2]
        exact hdd a (by omega)
      · exact hd a b h1 (by omega)
    · rw [iN_nat (by omega), iN_nat (by omega), (hP j (by omega)).1, (hP i im).1]
      refine ⟨fun z2 => ⟨hb, F_want_no hB (Or.inr ⟨504, rfl, h504, kk.1 (fun w => w.2 j i (by omega) im (th_inj (Option.some.inj z2)))⟩)⟩, fun z2 => ⟨hb, F_want_yes (Or.inl ⟨rfl, 10 * (4 - i) + (8 - (j + 1)), by omega, s, m, i, j + 1, p, rfl, rfl, iN_add j 1, im, by omega, rfl, hlt, hf, hd, fun j' h => ?_, hW⟩)⟩⟩
      by_cases e2 : j' = j
      · rw [e2]
        exact fun w => z2 (by rw [w])
      · exact hdd j' (by omega)
