/-! OPS 8: the reference's side of asks, told -/
set_option maxRecDepth 100000
set_option linter.unusedVariables false
def F_X2_has : SPF := fun As C I J R K => ∃ (s : St) (j k : Nat), As = [aR (some 1), aI (iN k), aI (iN j)] ∧ j < s 6 0 ∧ k < s 6 0 ∧ Vd s ∧ MI1 s I ∧ MS C R ∧ K (.inl (some (aI (iN (inB s k j))))) C I J R
def V_X2_has_2 (n : Nat) (K : AK) (x0 : Nat) (x1 : Int32) (x3 : Int32) (C : MC) (I : MI) (J : MJ) (R : MR) : Prop := ∃ (s : St) (j k m : Nat), x0 = 1 ∧ x1 = iN k ∧ x3 = iN (anc s m j) - 1 ∧ (∀ m', m' < m → anc s m' j ≠ k + 1) ∧ n = (if anc s m j = 0 then 0 else 40 - anc s m j) ∧ j < s 6 0 ∧ k < s 6 0 ∧ Vd s ∧ MI1 s I ∧ MS C R ∧ K (.inl (some (aI (iN (inB s k j))))) C I J R
theorem S_X2_has (l : Launch) : SpX2_has l F_X2_has := by
  refine wX2_has V_X2_has_2 ?_ ?_
  · rintro As C I J R K ⟨s, j, k, rfl, hj, hk, hV, hI, hM, hK⟩
    exact ⟨1, _, _, rfl, _, s, j, k, 0, rfl, rfl, (iN_dec (Nat.succ_ne_zero j)).symm, fun m' h => absurd h (Nat.not_lt_zero _), rfl, hj, hk, hV, hI, hM, hK⟩
  · rintro n K x0 x1 x3 C I J R ⟨s, j, k, m, rfl, rfl, rfl, hm, rfl, hj, hk, hV, hI, hM, hK⟩
    have hn := hV.1
    have hle := (anc_up hV hj m).1
    unfold PX2_has_2 PX2_has_22
    rw [iNm1 (by omega)]
    by_cases e0 : anc s m j = 0
    · have hno : ¬ inT s k j := by
        rintro ⟨m', hm'⟩
        rcases Nat.lt_or_ge m' m with h | h
        · exact hm m' h hm'
        · have := anc_zero e0 (m' - m)
          rw [show m + (m' - m) = m' by omega] at this
          omega
      rw [inB_no hno] at hK
      refine ⟨fun _ => ⟨fun _ => hK, fun c => absurd c ?_⟩, fun c => absurd e0 c⟩
      rw [e0]
      exact fun w => iN_m1 (show k < 2 ^ 31 by omega) w.symm
    · rw [iN_dec e0, iN_inj (by omega) (by omega)]
      refine ⟨fun c => absurd c e0, fun _ => ⟨fun c => ⟨fun c2 => absurd c c2, fun _ => ?_⟩, fun c => ?_⟩⟩
      · rw [inB_yes ⟨m, by omega⟩] at hK
        exact hK
      · have hq : anc s m j - 1 < s 6 0 := by omega
        have hc := cArr hM.c11 (show anc s m j - 1 < 20 by omega) (by omega)
        refine ⟨hM.o, 111, hM.r11, hc.1, hc.2, ?_⟩
        rw [iN_nat (by omega), (hI.2 _ hq).2.2.2.2.1]
        have e3 : s 11 (anc s m j - 1) = anc s (m + 1) j := by
          show _ = if anc s m j = 0 then 0 else s 11 (anc s m j - 1)
          rw [if_neg e0]
        rw [e3, if_neg e0]
        refine ⟨_, ?_, s, j, k, m + 1, rfl, rfl, rfl, fun m' h => ?_, rfl, hj, hk, hV, hI, hM, hK⟩
        · have h6 := (anc_up hV hj m).2
          have h7 := (anc_up hV hj (m + 1)).1
          by_cases e4 : anc s (m + 1) j = 0
          · rw [if_pos e4]
            omega
          · rw [if_neg e4]
            omega
        · by_cases e4 : m' = m
          · rw [e4]
            omega
          · exact hm m' (by omega)
def F_X2_leaves : SPF := fun As C I J R K => ∃ (s : St) (k : Nat), As = [aR (some 1), aI (iN k)] ∧ k < s 6 0 ∧ Vd s ∧ MI1 s I ∧ MS C R ∧ K (.inl (some (aI (iN (nlv s k))))) C I J R
def V_X2_leaves_4 (n : Nat) (K : AK) (x0 : Nat) (x1 : Int32) (x2 : Int32) (x3 : Int32) (C : MC) (I : MI) (J : MJ) (R : MR) : Prop := ∃ (s : St) (k i : Nat), x0 = 1 ∧ x1 = iN k ∧ x2 = iN (cntL s k i) ∧ x3 = iN i ∧ i ≤ s 6 0 ∧ n = s 6 0 - i ∧ k < s 6 0 ∧ Vd s ∧ MI1 s I ∧ MS C R ∧ K (.inl (some (aI (iN (nlv s k))))) C I J R
theorem cntL_succ (s : St) (k i : Nat) : cntL s k (i + 1) = cntL s k i + if s 7 i = 0 then inB s k i else 0 := rfl
theorem S_X2_leaves (l : Launch) : SpX2_leaves l F_X2_leaves := by
  refine wX2_leaves (S_X2_has l) V_X2_leaves_4 ?_ ?_
  · rintro As C I J R K ⟨s, k, rfl, hk, hV, hI, hM, hK⟩
    exact ⟨1, _, rfl, _, s, k, 0, rfl, rfl, rfl, rfl, Nat.zero_le _, rfl, hk, hV, hI, hM, hK⟩
  · rintro n K x0 x1 x2 x3 C I J R ⟨s, k, i, rfl, rfl, rfl, rfl, hi, rfl, hk, hV, hI, hM, hK⟩
    have hn := hV.1
    unfold PX2_leaves_4 PX2_leaves_35 PX2_leaves_36
    rw [hI.1, iN_le (by omega) (by omega)]
    refine ⟨hM.o, fun c => ?_, fun c => ?_⟩
    · obtain rfl : i = s 6 0 := by omega
      rw [← nlv_cnt hV k hk]
      exact hK
    · have hc := cArr hM.c7 (show i < 20 by omega) (by omega)
      refine ⟨107, hM.r7, hc.1, hc.2, ?_⟩
      have h7 := (hV.2 i (by omega)).1.1
      rw [iN_nat (by omega), (hI.2 i (by omega)).1, show ((iN (s 7 i) : Int32) = 0) = (s 7 i = 0) from eq_r_0 (by omega)]
      have nx : ∀ x : Nat, cntL s k (i + 1) = cntL s k i + x → ∃ m, m < s 6 0 - i ∧ V_X2_leaves_4 m K 1 (iN k) (iN (cntL s k i) + iN x) (iN i + 1) C I J R := fun x hx => ⟨s 6 0 - (i + 1), by omega, s, k, i + 1, rfl, rfl, by rw [iN_add, hx], iN_add i 1, by omega, rfl, hk, hV, hI, hM, hK⟩
      refine ⟨fun c2 => nx 0 ?_, fun c2 => ⟨s, i, k, rfl, by omega, hk, hV, hI, hM, _, rfl, fun c3 => nx 0 ?_, fun c3 => nx 1 ?_⟩⟩
      · rw [cntL_succ, if_neg c2]
      · rw [cntL_succ, if_pos c2]
        by_cases e : inT s k i
        · rw [inB_yes e] at c3
          exact absurd c3 (by decide)
        · rw [inB_no e]
      · rw [cntL_succ, if_pos c2]
        by_cases e : inT s k i
        · rw [inB_yes e]
        · rw [inB_no e] at c3
          exact absurd rfl c3
def F_X2_factor : SPF := fun As C I J R K => ∃ (s : St) (k : Nat), As = [aR (some 1), aI (iN k)] ∧ k < s 6 0 ∧ Vd s ∧ MI1 s I ∧ MS C R ∧ K (.inl (some (aI (iN (tms s k))))) C I J R
theorem S_X2_factor (l : Launch) : SpX2_factor l F_X2_factor := by
  refine wX2_factor ?_
  rintro As C I J R K ⟨s, k, rfl, hk, hV, hI, hM, hK⟩
  have hn := hV.1
  have h7 := (hV.2 k hk).1.1
  have c7 := cArr hM.c7 (show k < 20 by omega) (by omega)
  have c10 := cArr hM.c10 (show k < 20 by omega) (by omega)
  refine ⟨1, _, rfl, hM.o, 107, hM.r7, c7.1, c7.2, ?_⟩
  unfold tms at hK
  rw [iN_nat (by omega), (hI.2 k hk).1, eq_r_4 (by omega), eq_r_5 (by omega)]
  refine ⟨fun c4 => ⟨fun c5 => ?_, fun c5 => ?_⟩, fun c4 => ⟨110, hM.r10, c10.1, c10.2, ?_⟩⟩
  · rw [if_neg c4, if_neg c5] at hK
    exact hK
  · rw [if_neg c4, if_pos c5] at hK
    exact hK
  · rw [if_pos c4, ← iN_add] at hK
    rw [(hI.2 k hk).2.2.2.1]
    exact hK
def F_X2_asks : SPF := fun As C I J R K => ∃ x y : Int32, OpM [aI x, aI y] (W_asks x y) As C I J R K
def V_X2_asks_41 (n : Nat) (K : AK) (x0 : Nat) (x1 : Int32) (x3 : Int32) (x4 : Int32) (C : MC) (I : MI) (J : MJ) (R : MR) : Prop := ∃ (s : St) (k j m : Nat), x0 = 1 ∧ x1 = iN k ∧ x4 = iN j ∧ k < s 6 0 ∧ j < s 6 0 ∧ inT s k j ∧ k - j < m ∧ n = 40 - j ∧ Vd s ∧ MI1 s I ∧ MS C R ∧ K (.inl (some (aI (akn s k m j x3)))) C I J R
theorem S_X2_asks (l : Launch) : SpX2_asks l F_X2_asks := by
  refine wX2_asks (S_X2_isThing l) (S_X2_refuse l) (S_X2_isLeaf l) (S_X2_has l) (S_X2_factor l) V_X2_asks_41 ?_ ?_
  · rintro As C I J R K ⟨x, y, s, v, st, a, b, Kc, rfl, hR, hW, hK⟩
    have h0 := MidM.start hR
    have hM := h0.1.1
    have hn := h0.n20
    have hI := h0.1.2.1
    have hV := h0.1.2.2.2.2.1
    refine ⟨1, x, y, rfl, h0.o, F_isThing_ok hI hM hn (fun hl => ⟨_, rfl, fun c => absurd c (by decide), fun _ => ⟨h0.o, ?_⟩⟩) (fun hl => ⟨_, rfl, fun _ => ⟨h0.o, h0.refI (hW.1 (Or.inl hl)) hK⟩, fun c => absurd rfl c⟩)⟩
    obtain ⟨k, hk, rfl⟩ := hl
    refine F_isLeaf_ok hI hM hV (fun hl => ⟨_, rfl, fun c => absurd c (by decide), fun _ => ⟨h0.o, ?_⟩⟩) (fun hl => ⟨_, rfl, fun _ => ⟨h0.o, h0.refI (hW.1 (Or.inr (Or.inl hl))) hK⟩, fun c => absurd rfl c⟩)
    obtain ⟨j, hj, h7, rfl⟩ := hl
    refine ⟨s, j, k, rfl, hj, hk, hV, hI, hM, _, rfl, fun c => ⟨h0.o, ?_⟩, fun c => ⟨h0.o, h0.refI (hW.1 (Or.inr (Or.inr (fun k' j' a1 a2 a3 a4 => ?_)))) hK⟩⟩
    · intro I9 e9
      obtain rfl : I9 = setI I 1 0 0 := e9
      have hin : inT s k j := Classical.byContradiction (fun w => by
        rw [inB_no w] at c
        exact c rfl)
      refine ⟨40 - j, s, k, j, 21, rfl, rfl, rfl, hk, hj, hin, by omega, rfl, hV, h0.si.1.2.1, hM, ?_⟩
      exact h0.si.done (setI_at _ _ _ _) (hW.2 k j rfl hk rfl hj h7 hin) hK
    · have e1 := (iN_inj (a := k) (b := k') (by omega) (by omega)).mp a1
      have e3 := (iN_inj (a := j) (b := j') (by omega) (by omega)).mp a3
      rw [← e1, ← e3]
      intro w
      rw [inB_yes w] at c
      exact absurd c (by decide)
  · rintro n K x0 x1 x3 x4 C I J R ⟨s, k, j, m, rfl, rfl, rfl, hk, hj, hin, hm, rfl, hV, hI, hM, hK⟩
    have hn := hV.1
    obtain ⟨m, rfl⟩ : ∃ m', m = m' + 1 := ⟨m - 1, by omega⟩
    unfold PX2_asks_41
    rw [iN_inj (by omega) (by omega)]
    by_cases e : j = k
    · have h1 : akn s k (m + 1) j x3 = x3 := if_pos e
      rw [h1] at hK
      exact ⟨fun _ => hK, fun c => absurd e c⟩
    · have h1 : akn s k (m + 1) j x3 = akn s k m (s 11 j - 1) (x3 * iN (tms s (s 11 j - 1))) := if_neg e
      rw [h1] at hK
      obtain ⟨n1, n2, n3, n4⟩ := inT_next hV hj hin e
      have c11 := cArr hM.c11 (show j < 20 by omega) (by omega)
      have e9 : I 111 j = iN (s 11 j - 1) := by rw [(hI.2 j hj).2.2.2.2.1, iN_dec n1]
      refine ⟨fun c => absurd c e, fun _ => ⟨hM.o, 111, hM.r11, c11.1, c11.2, ?_⟩⟩
      rw [iN_nat (by omega), e9]
      refine ⟨s, s 11 j - 1, rfl, n3, hV, hI, hM, _, rfl, hM.o, 111, hM.r11, c11.1, c11.2, ?_⟩
      rw [e9]
      refine ⟨40 - (s 11 j - 1), by omega, s, k, s 11 j - 1, m, rfl, rfl, rfl, hk, n3, n4, ?_, rfl, hV, hI, hM, hK⟩
      have := inT_ge hV n3 n4
      omega
/-! told -/
def F_X2_told : SPF := fun As C I J R K => ∃ x y : Int32, OpM [aI x, aI y] (W_told x y) As C I J R K
def V_X2_told_110 (n : Nat) (K : AK) (x0 : Nat) (x1 : Int32) (x3 : Int32) (x4 : Int32) (C : MC) (I : MI) (J : MJ) (R : MR) : Prop := ∃ (s : St) (k i : Nat), x0 = 1 ∧ x1 = iN k ∧ x3 = iN (min i (s 1 k)) ∧ x4 = iN i ∧ i ≤ 4 ∧ n = 4 - i ∧ k < s 6 0 ∧ Vd s ∧ MI1 s I ∧ MS C R ∧ K (.inl (some (aI (iN (s 1 k))))) C I J R
def V_X2_told_156 (n : Nat) (K : AK) (x0 : Nat) (x1 : Int32) (x3 : Int32) (x4 : Int32) (C : MC) (I : MI) (J : MJ) (R : MR) : Prop := ∃ (k i : Nat) (X : Tb), x0 = 1 ∧ x1 = iN k ∧ x3 = iN (lst (fun t => X.1 t ≠ 0 ∨ X.2.1 t ≠ 0) (i - 1)) ∧ x4 = iN i ∧ i ≤ 121 ∧ n = 121 - i ∧ k < 20 ∧ MS C R ∧ JT J X k ∧ TOk X ∧ K (.inl (some (aI (iN (lstT X))))) C I J R
theorem S_X2_told (l : Launch) : SpX2_told l F_X2_told := by
  refine wX2_told (S_X2_refuse l) (S_X2_isThing l) (S_X2_wrongTable l) (S_X2_leaves l) (S_X2_at l) V_X2_told_110 V_X2_told_156 ?_ ?_ ?_
  · rintro As C I J R K ⟨x, y, s, v, st, a, b, Kc, rfl, hR, hW, hK⟩
    have h0 := MidM.start hR
    have hM := h0.1.1
    have hn := h0.n20
    have hI := h0.1.2.1
    have hV := h0.1.2.2.2.2.1
    refine ⟨1, x, y, rfl, ?_⟩
    have bad : (¬ ∃ m, m ≤ 5 ∧ y = iN m) → (C 1).1 = 3 ∧ F_X2_refuse [aR (some 1), aI (1 : Int32)] C I J R (fun o C9 I10 J11 R12 => ∃ r13 : Int32, o = .inl (some (aI r13)) ∧ K (.inl (some (aI r13))) C9 I10 J11 R12) := fun w => ⟨h0.o, h0.refI (hW.1 (Or.inr w)) hK⟩
    refine ⟨fun c => bad (fun ⟨m, a1, a2⟩ => iN_nn (show m < 2 ^ 31 by omega) (a2 ▸ c)), fun c => ⟨fun c2 => bad (fun ⟨m, a1, a2⟩ => ?_), fun c2 => ⟨h0.o, ?_⟩⟩⟩
    · rw [a2] at c2
      have := (iN_lt (a := 5) (by omega) (by omega)).mp c2
      omega
    obtain ⟨m, hm, rfl, -⟩ := iN_of c
    have hm5 : m ≤ 5 := Nat.le_of_not_lt (fun w => c2 ((iN_lt (a := 5) (by omega) hm).mpr w))
    refine F_isThing_ok hI hM hn (fun hl => ⟨_, rfl, fun _ => ?_, fun c => absurd c (by decide)⟩) (fun hl => ⟨_, rfl, fun c => absurd rfl c, fun _ => ⟨h0.o, h0.refI (hW.1 (Or.inl hl)) hK⟩⟩)
    obtain ⟨k, hk, rfl⟩ := hl
    have hw := hW.2 k rfl hk
    rw [eq_r_5 hm]
    refine ⟨fun c5 => ⟨h0.o, ?_⟩, fun c5 => ⟨h0.o, s, v, a, b, iN k, rfl, h0.1, fun w => absurd ⟨k, hk, rfl⟩ w, fun k' hx hk' I' J' hF => ?_⟩⟩
    · intro I9 e9
      obtain rfl : I9 = setI I 1 0 0 := e9
      have h1 := h0.si (x := 0)
      rw [iN_int hm]
      have c7 := cArr hM.c7 (show k < 20 by omega) (by omega)
      have c11 := cArr hM.c11 (show k < 20 by omega) (by omega)
      refine ⟨fun d => ?_, fun d => ⟨107, hM.r7, c7.1, c7.2, ?_⟩, fun d => ⟨111, hM.r11, c11.1, c11.2, ?_⟩, fun d => ?_, fun d => ?_, fun d => absurd d (by omega)⟩
      · rw [h1.1.2.1.1]
        exact h1.done (setI_at _ _ _ _) (hw.1 (by rw [show m = 0 by omega])) hK
      · rw [iN_nat (by omega), (h1.1.2.1.2 k hk).1]
        exact h1.done (setI_at _ _ _ _) (hw.2.1 (by rw [show m = 1 by omega])) hK
      · rw [iN_nat (by omega), (h1.1.2.1.2 k hk).2.2.2.2.1]
        exact h1.done (setI_at _ _ _ _) (hw.2.2.1 (by rw [show m = 2 by omega])) hK
      · exact ⟨4 - 0, s, k, 0, rfl, rfl, by rw [Nat.zero_min]; rfl, rfl, by omega, rfl, hk, hV, h1.1.2.1, hM, h1.done (setI_at _ _ _ _) (hw.2.2.2.1 (by rw [show m = 3 by omega])) hK⟩
      · exact ⟨s, k, rfl, hk, hV, h1.1.2.1, hM, _, rfl, h1.done (setI_at _ _ _ _) (hw.2.2.2.2.1 (by rw [show m = 4 by omega])) hK⟩
    · obtain rfl := (iN_inj (a := k) (b := k') (by omega) (by omega)).mp hx
      have hw5 := hw.2.2.2.2.2 (by rw [c5])
      have hb := h0.tab hF
      refine ⟨fun hg => ⟨_, rfl, fun c => absurd c (by decide), fun _ => ⟨h0.o, hb.refI (hw5.1 hg) hK⟩⟩, fun hg hj => ⟨_, rfl, fun _ => ⟨h0.o, ?_⟩, fun c => absurd (by decide) c⟩⟩
      intro I9 e9
      obtain rfl : I9 = setI I' 1 0 0 := e9
      rw [iN_int hm]
      refine ⟨fun d => absurd d (by omega), fun d => absurd d (by omega), fun d => absurd d (by omega), fun d => absurd d (by omega), fun d => absurd d (by omega), fun d => ?_⟩
      exact ⟨121 - 0, k, 0, tbl s k, rfl, rfl, rfl, rfl, by omega, rfl, by omega, hM, hj, tbl_ok hV k hk hg, hb.si.done (setI_at _ _ _ _) (hw5.2 hg) hK⟩
  · rintro n K x0 x1 x3 x4 C I J R ⟨s, k, i, rfl, rfl, rfl, rfl, hi, rfl, hk, hV, hI, hM, hK⟩
    have hn := hV.1
    have h1 := (hV.2 k hk).1.2.1
    unfold PX2_told_110 PX2_told_137
    rw [le_l_4 (by omega)]
    refine ⟨fun c => ?_, fun c => ⟨hM.o, 108, hM.r8, ?_⟩⟩
    · rw [show min i (s 1 k) = s 1 k by omega]
      exact hK
    · rw [mul_l_4, iN_add]
      have c8 := cArr hM.c8 (show 4 * k + i < 80 by omega) (by omega)
      refine ⟨c8.1, c8.2, ?_⟩
      rw [iN_nat (by omega)]
      have nx : ∀ x : Nat, min (i + 1) (s 1 k) = min i (s 1 k) + x → ∃ m, m < 4 - i ∧ V_X2_told_110 m K 1 (iN k) (iN (min i (s 1 k)) + iN x) (iN i + 1) C I J R := fun x hx => ⟨4 - (i + 1), by omega, s, k, i + 1, rfl, rfl, by rw [iN_add, hx], iN_add i 1, by omega, rfl, hk, hV, hI, hM, hK⟩
      by_cases e : i < s 1 k
      · have hp := ((hV.2 k hk).1.2.2.1 i e).1
        rw [hI.of hk (by omega) e]
        exact ⟨fun _ => nx 1 (by omega), fun c2 => absurd c2 (iN_m1 (by omega))⟩
      · rw [hI.none hk (by omega) e]
        exact ⟨fun c2 => absurd rfl c2, fun _ => nx 0 (by omega)⟩
  · rintro n K x0 x1 x3 x4 C I J R ⟨k, i, X, rfl, rfl, rfl, rfl, hi, rfl, hk, hM, hj, hok, hK⟩
    unfold PX2_told_156 PX2_told_195 PX2_told_201
    rw [le_l_121 (by omega)]
    refine ⟨fun c => ?_, fun c => ⟨hM.o, ?_⟩⟩
    · rw [show i - 1 = 120 by omega]
      exact hK
    · have c22 := cArr hM.c22 (show 121 * k + i < 2420 by omega) (by omega)
      have c23 := cArr hM.c23 (show 121 * k + i < 2420 by omega) (by omega)
      have h3 := hj.1 i (by omega)
      have h4 := hok.1.le i
      have h5 := hok.2
      rw [at_eq]
      refine ⟨_, rfl, 122, hM.r22, c22.1, c22.2, ?_⟩
      rw [iN_nat (by omega), h3.1, jN_pos (by omega)]
      have yes : (X.1 i ≠ 0 ∨ X.2.1 i ≠ 0) → ∃ m, m < 121 - i ∧ V_X2_told_156 m K 1 (iN k) (iN i) (iN i + 1) C I J R := fun hp => by
        refine ⟨121 - (i + 1), by omega, k, i + 1, X, rfl, rfl, ?_, iN_add i 1, by omega, rfl, hk, hM, hj, hok, hK⟩
        rcases i with _ | i
        · rfl
        · show iN (i + 1) = iN (if X.1 (i + 1) ≠ 0 ∨ X.2.1 (i + 1) ≠ 0 then i + 1 else _)
          rw [if_pos hp]
      refine ⟨fun c2 => yes (Or.inl (by omega)), fun c2 => ⟨hM.o, ?_⟩⟩
      rw [at_eq]
      refine ⟨_, rfl, 123, hM.r23, c23.1, c23.2, ?_⟩
      rw [iN_nat (by omega), h3.2, jN_le0 (by omega)]
      refine ⟨fun c3 => ?_, fun c3 => yes (Or.inr c3)⟩
      refine ⟨121 - (i + 1), by omega, k, i + 1, X, rfl, rfl, ?_, iN_add i 1, by omega, rfl, hk, hM, hj, hok, hK⟩
      have hp : ¬ (X.1 i ≠ 0 ∨ X.2.1 i ≠ 0) := by omega
      rcases i with _ | i
      · rfl
      · show _ = iN (if X.1 (i + 1) ≠ 0 ∨ X.2.1 (i + 1) ≠ 0 then i + 1 else _)
        rw [if_neg hp]
        rfl
