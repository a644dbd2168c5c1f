/-! OPS 2: the component's side of promise, asks, told, traces, read -/
set_option maxRecDepth 100000
set_option linter.unusedVariables false
def F_X0_numberOf : SPF := fun As C I J R K => ∃ (s : St) (p : Nat), As = [aR (some 500), aR (if p = 0 then none else some (th (p - 1)))] ∧ p ≤ s 6 0 ∧ s 6 0 ≤ 20 ∧ BenS s C I R ∧ K (.inl (some (aI (iN p - 1)))) C I J R
def V_X0_numberOf_2 (n : Nat) (K : AK) (x0 : Nat) (x1 : Option Nat) (x2 : Int32) (C : MC) (I : MI) (J : MJ) (R : MR) : Prop := ∃ (s : St) (p i : Nat), x0 = 500 ∧ x1 = (if p = 0 then none else some (th (p - 1))) ∧ x2 = iN i ∧ i ≤ s 6 0 ∧ n = s 6 0 - i ∧ (p ≠ 0 → i ≤ p - 1) ∧ p ≤ s 6 0 ∧ s 6 0 ≤ 20 ∧ BenS s C I R ∧ K (.inl (some (aI (iN p - 1)))) C I J R
theorem S_X0_numberOf (l : Launch) : SpX0_numberOf l F_X0_numberOf := by
  refine wX0_numberOf V_X0_numberOf_2 ?_ ?_
  · rintro As C I J R K ⟨s, p, rfl, hp, hn, hB, hK⟩
    exact ⟨500, _, rfl, _, s, p, 0, rfl, rfl, rfl, Nat.zero_le _, rfl, fun _ => Nat.zero_le _, hp, hn, hB, hK⟩
  · rintro n K x0 x1 x2 C I J R ⟨s, p, i, rfl, rfl, rfl, hi, rfl, hip, hp, hn, hB, hK⟩
    have hb := hB.1.1
    unfold PX0_numberOf_2 PX0_numberOf_26
    rw [hB.2.2.1, iN_le (by omega) (by omega)]
    refine ⟨by rw [hb], fun c => ⟨by rw [hb], fun _ => ?_, fun c2 => absurd c c2⟩, fun c => ?_⟩
    · obtain rfl : p = 0 := Classical.byContradiction (fun w => by have := hip w; omega)
      exact hK
    · refine ⟨503, hB.2.1.2.2.1, by rw [hB.1.2.2.2.1]; exact ⟨show 25 ≤ 26 by decide, show 26 < 30 by decide⟩, by rw [hB.1.2.2.2.1]; exact iN_in (by omega) (by show i < 20; omega), ?_⟩
      rw [iN_nat (by omega), hB.2.2.2 i (by omega)]
      refine ⟨fun c2 => ⟨by rw [hb], fun c3 => absurd c3 c, fun _ => ?_⟩, fun c2 => ⟨s 6 0 - (i + 1), by omega, s, p, i + 1, rfl, rfl, iN_add i 1, by omega, rfl, fun w => ?_, hp, hn, hB, hK⟩⟩
      · by_cases e : p = 0
        · rw [if_pos e] at c2
          cases c2
        · rw [if_neg e] at c2
          have h1 := th_inj (Option.some.inj c2)
          rw [iN_dec e, ← h1] at hK
          exact hK
      · have h1 := hip w
        rw [if_neg w] at c2
        have h2 : i ≠ p - 1 := fun e => c2 (by rw [e])
        omega
def F_X0_isIn : SPF := fun As C I J R K => ∃ (s : St) (j k : Nat), As = [aR (some (th j)), aR (some (th k))] ∧ j < s 6 0 ∧ k < s 6 0 ∧ CtY s C I J R ∧ K (.inl (some (aI (iN (inB s k j))))) C I J R
def tho (e : Nat) : Option Nat := if e = 0 then none else some (th (e - 1))
def V_X0_isIn_2 (n : Nat) (K : AK) (x1 : Nat) (x2 : Option Nat) (C : MC) (I : MI) (J : MJ) (R : MR) : Prop := ∃ (s : St) (j k m : Nat), x1 = th k ∧ x2 = tho (anc s m j) ∧ (∀ m', m' < m → anc s m' j ≠ k + 1) ∧ n = (if anc s m j = 0 then 0 else 40 - anc s m j) ∧ j < s 6 0 ∧ k < s 6 0 ∧ CtY s C I J R ∧ K (.inl (some (aI (iN (inB s k j))))) C I J R
theorem S_X0_isIn (l : Launch) : SpX0_isIn l F_X0_isIn := by
  refine wX0_isIn V_X0_isIn_2 ?_ ?_
  · rintro As C I J R K ⟨s, j, k, rfl, hj, hk, hY, hK⟩
    exact ⟨_, _, rfl, _, s, j, k, 0, rfl, rfl, fun m' h => absurd h (Nat.not_lt_zero _), rfl, hj, hk, hY, hK⟩
  · rintro n K x1 x2 C I J R ⟨s, j, k, m, rfl, rfl, hm, rfl, hj, hk, hY, hK⟩
    have hV := hY.1
    have hn := hV.1
    have hle := (anc_up hV hj m).1
    unfold PX0_isIn_2 PX0_isIn_19
    by_cases e0 : anc s m j = 0
    · have e1 : tho (anc s m j) = none := if_pos e0
      rw [e1]
      have hno : ¬ inT s k j := by
        rintro ⟨m', hm'⟩
        rcases Nat.lt_or_ge m' m with h | h
        · exact hm m' h hm'
        · have := anc_zero e0 (m' - m)
          rw [show m + (m' - m) = m' by omega] at this
          omega
      rw [inB_no hno] at hK
      exact ⟨fun _ => ⟨fun _ => hK, fun c => by cases c⟩, fun c => absurd rfl c⟩
    · have e1 : tho (anc s m j) = some (th (anc s m j - 1)) := if_neg e0
      rw [e1, if_neg e0]
      refine ⟨fun c => (by cases c), fun _ => ⟨fun c => ⟨fun c2 => absurd c c2, fun _ => ?_⟩, fun c => ?_⟩⟩
      · have h1 := th_inj (Option.some.inj c)
        rw [inB_yes ⟨m, by omega⟩] at hK
        exact hK
      · have hq : anc s m j - 1 < s 6 0 := by omega
        have c1 := (hY.2 _ hq).1.1
        have h5 := (hV.2 _ hq).1.1
        refine ⟨th (anc s m j - 1), rfl, by rw [c1.1]; exact ⟨Nat.le_add_right _ _, by show 5 + s 7 (anc s m j - 1) ≤ 10; omega⟩, ?_⟩
        have e3 : R (th (anc s m j - 1)) 3 = tho (anc s (m + 1) j) := by
          rw [c1.2.2.2.2.2.2.2.2]
          show _ = if (if anc s m j = 0 then 0 else s 11 (anc s m j - 1)) = 0 then none else some (th ((if anc s m j = 0 then 0 else s 11 (anc s m j - 1)) - 1))
          rw [if_neg e0]
        rw [e3]
        refine ⟨_, ?_, s, j, k, m + 1, rfl, rfl, fun m' h => ?_, rfl, hj, hk, hY, hK⟩
        · have h6 := (anc_up hV hj m).2
          have h7 := (anc_up hV hj (m + 1)).1
          by_cases e4 : anc s (m + 1) j = 0
          · rw [if_pos e4]
            omega
          · rw [if_neg e4]
            omega
        · by_cases e4 : m' = m
          · rw [e4]
            exact fun w => c (by rw [show anc s m j - 1 = k by omega])
          · exact hm m' (by omega)
/-! asks -/
def akn (s : St) (k : Nat) : Nat → Nat → Int32 → Int32
  | 0, _, x => x
  | m + 1, j, x => if j = k then x else akn s k m (s 11 j - 1) (x * iN (tms s (s 11 j - 1)))
def W_asks (x y : Int32) : St → Tv → Int64 → Int64 → KC → Prop := fun s v a b Kc => ((¬ isTh s x ∨ ¬ isLf s y ∨ (∀ k j, x = iN k → k < s 6 0 → y = iN j → j < s 6 0 → ¬ inT s k j)) → Kc (aI (-1)) s v 1 a b) ∧ ∀ k j, x = iN k → k < s 6 0 → y = iN j → j < s 6 0 → s 7 j = 0 → inT s k j → Kc (aI (akn s k 21 j 1)) s v 0 a b
def F_X0_asks : SPF := fun As C I J R K => ∃ x y : Int32, OpC [aI x, aI y] (W_asks x y) As C I J R K
def V_X0_asks_36 (n : Nat) (K : AK) (x3 : Nat) (x5 : Int32) (x6 : Option Nat) (C : MC) (I : MI) (J : MJ) (R : MR) : Prop := ∃ (s : St) (k j m : Nat), x3 = th k ∧ x6 = some (th j) ∧ k < s 6 0 ∧ j < s 6 0 ∧ inT s k j ∧ k - j < m ∧ n = 40 - j ∧ CtX s C I J R ∧ K (.inl (some (aI (akn s k m j x5)))) C I J R
theorem inT_next {s : St} (hV : Vd s) {k j : Nat} (hj : j < s 6 0) (h : inT s k j) (hne : j ≠ k) : s 11 j ≠ 0 ∧ j < s 11 j - 1 ∧ s 11 j - 1 < s 6 0 ∧ inT s k (s 11 j - 1) := by
  obtain ⟨m, hm⟩ := h
  rcases m with _ | m
  · have h1 : j + 1 = k + 1 := hm
    omega
  · have sh : ∀ m, anc s (m + 1) j = if s 11 j = 0 then 0 else anc s m (s 11 j - 1) := by
      intro m
      induction m with
      | zero =>
        show (if j + 1 = 0 then 0 else s 11 (j + 1 - 1)) = if s 11 j = 0 then 0 else s 11 j - 1 + 1
        rw [if_neg (Nat.succ_ne_zero j), Nat.add_sub_cancel]
        by_cases e : s 11 j = 0
        · rw [if_pos e, e]
        · rw [if_neg e]
          omega
      | succ m ih =>
        show (if anc s (m + 1) j = 0 then 0 else s 11 (anc s (m + 1) j - 1)) = _
        rw [ih]
        by_cases e : s 11 j = 0
        · rw [if_pos e, if_pos e]
          rfl
        · rw [if_neg e, if_neg e]
          rfl
    rw [sh m] at hm
    by_cases e : s 11 j = 0
    · rw [if_pos e] at hm
      omega
    · rw [if_neg e] at hm
      have h1 := (hV.2 j hj).2.2
      have h2 := (h1.2 e).1
      exact ⟨e, by omega, by have := h1.1; omega, m, hm⟩
theorem S_X0_asks (l : Launch) : SpX0_asks l F_X0_asks := by
  refine wX0_asks (S_X0_thing l) (S_X0_leafOf l) (S_X0_isIn l) (S_X0_want l) (SV_asks l) (S_X0_none l) V_X0_asks_36 ?_ ?_
  · rintro As C I J R K ⟨x, y, s, v, st, a, b, Kc, rfl, hR, hF, hW, hK⟩
    have h0 := Mid.start hR
    have h504 : (C 504).1 = 2 := by rw [h0.ben.1.2.2.2.2]
    refine ⟨500, x, y, rfl, h0.c500, ?_⟩
    intro I2 e2
    obtain rfl : I2 = setI I 500 5 0 := e2
    refine F_thing_ok h0.ben h0.n20 (fun k hx hk => Or.inl ⟨th k, rfl, h0.c500, ?_⟩) (fun w => Or.inr ⟨504, rfl, h504, h0.refI (hW.1 (Or.inl w)) hK⟩)
    refine F_leafOf_ok h0.ben h0.y (fun j hy hj h7 => Or.inl ⟨th j, rfl, ?_⟩) (fun w => Or.inr ⟨504, rfl, h504, h0.refI (hW.1 (Or.inr (Or.inl w))) hK⟩)
    refine ⟨s, j, k, rfl, hj, hk, h0.y, ⟨_, rfl, h0.c500, ?_⟩⟩
    have hn := h0.n20
    by_cases hin : inT s k j
    · rw [inB_yes hin]
      refine F_want_yes (Or.inl ⟨rfl, 40 - j, s, k, j, 21, rfl, rfl, hk, hj, hin, by omega, rfl, h0.y.x (hF.g hR.1), ?_⟩)
      exact h0.done (setI_at _ _ _ _) (hW.2 k j hx hk hy hj h7 hin) hK
    · rw [inB_no hin]
      refine F_want_no h0.ben (Or.inr ⟨504, rfl, h504, h0.refI (hW.1 (Or.inr (Or.inr (fun k' j' a1 a2 a3 a4 => ?_)))) hK⟩)
      have e1 := (iN_inj (a := k) (b := k') (by omega) (by omega)).mp (hx ▸ a1)
      have e3 := (iN_inj (a := j) (b := j') (by omega) (by omega)).mp (hy ▸ a3)
      rw [← e1, ← e3]
      exact hin
  · rintro n K x3 x5 x6 C I J R ⟨s, k, j, m, rfl, rfl, hk, hj, hin, hm, rfl, hX, hK⟩
    have hV := hX.1
    have hn := hV.1
    obtain ⟨m, rfl⟩ : ∃ m', m = m' + 1 := ⟨m - 1, by omega⟩
    unfold PX0_asks_36
    by_cases e : j = k
    · have h1 : akn s k (m + 1) j x5 = x5 := if_pos e
      rw [h1] at hK
      rw [e]
      exact ⟨fun _ => hK, fun c => absurd rfl c⟩
    · have h1 : akn s k (m + 1) j x5 = akn s k m (s 11 j - 1) (x5 * iN (tms s (s 11 j - 1))) := if_neg e
      rw [h1] at hK
      obtain ⟨n1, n2, n3, n4⟩ := inT_next hV hj hin e
      have c9 := (hX.2.2 j hj).1.1.2.2.2.2.2.2.2.2
      rw [if_neg n1] at c9
      refine ⟨fun c => absurd (th_inj (Option.some.inj c)) e, fun _ => ⟨th j, rfl, kTh_of hX hj, th (s 11 j - 1), c9, kTh_of hX n3, s, s 11 j - 1, rfl, n3, hX, ⟨_, rfl, 40 - (s 11 j - 1), by omega, s, k, s 11 j - 1, m, rfl, c9, hk, n3, n4, ?_, rfl, hX, hK⟩⟩⟩
      have := inT_ge hV n3 n4
      omega
/-! promise -/
def isSh (x y : Int32) : Prop := ∃ p d : Nat, x = iN p ∧ y = iN d ∧ 1 ≤ d ∧ d ≤ 1000000 ∧ p ≤ d
theorem F_isShare_ok {C : MC} {I : MI} {J : MJ} {R : MR} {K : AK} {x y : Int32} (h1 : isSh x y → K (.inl (some (aI 1))) C I J R) (h0 : ¬ isSh x y → K (.inl (some (aI 0))) C I J R) : F_X0_isShare [aI x, aI y] C I J R K := by
  refine ⟨x, y, rfl, ?_⟩
  unfold PX0_isShare_0
  have lo : isSh x y → ¬ y < (1 : Int32) ∧ ¬ (1000000 : Int32) < y ∧ ¬ x < 0 ∧ ¬ y < x := by
    rintro ⟨p, d, rfl, rfl, a1, a2, a3⟩
    exact ⟨fun w => by have := (iN_lt (b := 1) (by omega) (by omega)).mp w; omega, fun w => by have := (iN_lt (a := 1000000) (by omega) (by omega)).mp w; omega, iN_nn (by omega), fun w => by have := (iN_lt (by omega) (by omega)).mp w; omega⟩
  refine ⟨fun c => h0 (fun w => (lo w).1 c), fun c => ⟨fun c2 => h0 (fun w => (lo w).2.1 c2), fun c2 => ⟨fun c3 => h0 (fun w => (lo w).2.2.1 c3), fun c3 => ⟨fun c4 => h0 (fun w => (lo w).2.2.2 c4), fun c4 => h1 ?_⟩⟩⟩⟩
  obtain ⟨p, hp, rfl, -⟩ := iN_of c3
  have hy0 : ¬ y < 0 := fun w => c (Int32.lt_trans w (by decide))
  obtain ⟨d, hd, rfl, -⟩ := iN_of hy0
  refine ⟨p, d, rfl, rfl, ?_, ?_, ?_⟩
  · exact Nat.le_of_not_lt (fun w => c ((iN_lt (b := 1) (by omega) (by omega)).mpr w))
  · exact Nat.le_of_not_lt (fun w => c2 ((iN_lt (a := 1000000) (by omega) (by omega)).mpr w))
  · exact Nat.le_of_not_lt (fun w => c4 ((iN_lt (by omega) (by omega)).mpr w))
def fsP (p : Nat → Prop) [DecidablePred p] : Nat → Nat → Nat
  | t, 0 => t
  | t, f + 1 => if p t then t else fsP p (t + 1) f
def W_prm (r : Nat) (s : St) (v : Tv) (a b : Int64) (Kc : KC) : Prop := (r < 121 → Kc (aI (iN r)) s v 0 a b) ∧ (¬ r < 121 → Kc (aI (-1)) s v 6 a b)
def W_promise (x y z : Int32) : St → Tv → Int64 → Int64 → KC → Prop := fun s v a b Kc => ((¬ isTh s x ∨ ¬ isSh y z) → Kc (aI (-1)) s v 1 a b) ∧ ∀ k p d, x = iN k → k < s 6 0 → y = iN p → z = iN d → 1 ≤ d → d ≤ 1000000 → p ≤ d → (grt s k → Kc (aI (-1)) s v 9 a b) ∧ (¬ grt s k → W_prm (fsP (fun t => p * (tbl s k).2.2 ≤ sm (tbl s k).1 (t + 1) * d) 0 121) s v a b Kc)
def F_X0_promise : SPF := fun As C I J R K => ∃ x y z : Int32, OpC [aI x, aI y, aI z] (W_promise x y z) As C I J R K
def V_X0_promise_32 (n : Nat) (K : AK) (x0 : Nat) (x2 : Int32) (x3 : Int32) (x5 : Nat) (x6 : Int32) (C : MC) (I : MI) (J : MJ) (R : MR) : Prop := ∃ (s : St) (v : Tv) (a b : Int64) (Kc : KC) (C0 : MC) (I0 : MI) (J0 : MJ) (R0 : MR) (p d t : Nat) (X : Tb), x0 = 500 ∧ x2 = iN p ∧ x3 = iN d ∧ x6 = iN t ∧ 1 ≤ d ∧ d ≤ 1000000 ∧ p ≤ d ∧ t ≤ 121 ∧ n = 121 - t ∧ Mid s v a b C0 I0 J0 R0 C I J R ∧ I 500 5 = 0 ∧ TbS C R x5 ∧ RpB J x5 X ∧ TOk X ∧ W_prm (fsP (fun t => p * X.2.2 ≤ sm X.1 (t + 1) * d) t (121 - t)) s v a b Kc ∧ OpK Kc C0 I0 J0 R0 K
theorem S_X0_promise (l : Launch) : SpX0_promise l F_X0_promise := by
  refine wX0_promise (S_X0_thing l) (S_X0_isShare l) (S_X0_want l) (SV_table l 20) (S_X3_by l) (S_X0_isEnough l) (S_X0_none l) (S_X0_great l) V_X0_promise_32 ?_ ?_
  · rintro As C I J R K ⟨x, y, z, s, v, st, a, b, Kc, rfl, hR, hF, hW, hK⟩
    have h0 := Mid.start hR
    have h504 : (C 504).1 = 2 := by rw [h0.ben.1.2.2.2.2]
    refine ⟨500, x, y, z, rfl, h0.c500, ?_⟩
    intro I2 e2
    obtain rfl : I2 = setI I 500 5 0 := e2
    refine F_thing_ok h0.ben h0.n20 (fun k hx hk => Or.inl ⟨th k, rfl, ?_⟩) (fun w => Or.inr ⟨504, rfl, h504, h0.refI (hW.1 (Or.inl w)) hK⟩)
    refine F_isShare_ok (fun hs => ⟨1, rfl, h0.c500, ?_⟩) (fun hs => ⟨0, rfl, h0.c500, F_want_no h0.ben (Or.inr ⟨504, rfl, h504, h0.refI (hW.1 (Or.inr hs)) hK⟩)⟩)
    obtain ⟨p, d, rfl, rfl, d1, d2, d3⟩ := hs
    have hw := hW.2 k p d hx hk rfl rfl d1 d2 d3
    refine F_want_yes (Or.inl ⟨rfl, h0.kth hk, ?_⟩)
    refine h0.table (hF.g hR.1) hk (fun hg C2 I2 J2 R2 h2 => h2.greatI (hw.1 hg) hK) (fun hg J' R' q h2 hT hq hok => ⟨q, rfl, 121 - 0, s, v, a, b, Kc, C, I, J, R, p, d, 0, tbl s k, rfl, rfl, rfl, rfl, d1, d2, d3, by omega, rfl, h2, setI_at _ _ _ _, hT, hq, hok, hw.2 hg, hK⟩)
  · rintro n K x0 x2 x3 x5 x6 C I J R ⟨s, v, a, b, Kc, C0, I0, J0, R0, p, d, t, X, rfl, rfl, rfl, rfl, d1, d2, d3, ht, rfl, h0, hs, hT, hq, hok, hw, hK⟩
    have h504 : (C 504).1 = 2 := by rw [h0.ben.1.2.2.2.2]
    have hX := hok.2
    unfold PX0_promise_32 PX0_promise_67
    by_cases e : t = 121
    · subst e
      refine ⟨fun c => ⟨fun _ => ⟨h0.c500, F_want_no h0.ben (Or.inr ⟨504, rfl, h504, h0.refI (hw.2 (by show ¬ 121 < 121; omega)) hK⟩)⟩, fun c2 => absurd c c2⟩, fun c => absurd (by decide) c⟩
    · have hc : ¬ (120 : Int32) < iN t := fun w => by have := (iN_lt (a := 120) (by decide) (by omega)).mp w; omega
      refine ⟨fun c => absurd c hc, fun _ => ⟨hT.1, F_by_tab hT hq (by omega) ⟨_, rfl, hT.1, ?_⟩⟩⟩
      have h3 := (sm_le121 hok (n := t + 1) (by omega)).1
      rw [hq.2, iN_64 (by omega), iN_64 (by omega)]
      have e1 : 121 - t = (121 - (t + 1)) + 1 := by omega
      rw [e1] at hw
      refine ⟨_, _, _, _, rfl, by omega, by omega, by omega, by omega, hok.1.2.2, by omega, ⟨_, rfl, fun c2 => ?_, fun c2 => ?_⟩⟩
      · have hp : p * X.2.2 ≤ sm X.1 (t + 1) * d := Classical.byContradiction (fun w => c2 (en_no w))
        have hf : fsP (fun t => p * X.2.2 ≤ sm X.1 (t + 1) * d) t (121 - (t + 1) + 1) = t := if_pos hp
        rw [hf] at hw
        exact ⟨fun c => absurd c hc, fun _ => ⟨h0.c500, F_want_yes (Or.inl ⟨rfl, h0.done hs (hw.1 (by omega)) hK⟩)⟩⟩
      · have hp : ¬ p * X.2.2 ≤ sm X.1 (t + 1) * d := fun w => by
          rw [en_yes w] at c2
          exact absurd c2 (by decide)
        have hf : fsP (fun t => p * X.2.2 ≤ sm X.1 (t + 1) * d) t (121 - (t + 1) + 1) = fsP (fun t => p * X.2.2 ≤ sm X.1 (t + 1) * d) (t + 1) (121 - (t + 1)) := if_neg hp
        rw [hf] at hw
        exact ⟨121 - (t + 1), by omega, s, v, a, b, Kc, C0, I0, J0, R0, p, d, t + 1, X, rfl, rfl, rfl, iN_add t 1, d1, d2, d3, by omega, rfl, h0, hs, hT, hq, hok, hw, hK⟩
def W_traces (x y : Int32) : St → Tv → Int64 → Int64 → KC → Prop := fun s v a b Kc => ((¬ isTh s x ∨ ¬ (y = 0 ∨ y = 1)) → Kc (aI (-1)) s v 1 a b) ∧ ∀ k, x = iN k → k < s 6 0 → (y = 0 → Kc (aI (iN (s 18 k))) s v 0 a b) ∧ (y = 1 → Kc (aI (iN (s 19 k))) s v 0 a b)
def F_X0_traces : SPF := fun As C I J R K => ∃ x y : Int32, OpC [aI x, aI y] (W_traces x y) As C I J R K
theorem is01_iff (y : Int32) : (y = 0 ∨ y = 1) ↔ ¬ y < 0 ∧ ¬ (1 : Int32) < y := by
  constructor
  · rintro (rfl | rfl)
    · decide
    · decide
  · rintro ⟨h1, h2⟩
    obtain ⟨k, hk, rfl, -⟩ := iN_of h1
    have h3 : ¬ 1 < k := fun w => h2 ((iN_lt (a := 1) (by omega) hk).mpr w)
    have h4 : k = 0 ∨ k = 1 := by omega
    rcases h4 with rfl | rfl
    · exact Or.inl rfl
    · exact Or.inr rfl
theorem S_X0_traces (l : Launch) : SpX0_traces l F_X0_traces := by
  refine wX0_traces (S_X0_thing l) (S_X0_want l) (S_X0_none l) ?_
  rintro As C I J R K ⟨x, y, s, v, st, a, b, Kc, rfl, hR, hF, hW, hK⟩
  have h0 := Mid.start hR
  have h504 : (C 504).1 = 2 := by rw [h0.ben.1.2.2.2.2]
  refine ⟨500, x, y, rfl, h0.c500, ?_⟩
  intro I2 e2
  obtain rfl : I2 = setI I 500 5 0 := e2
  refine F_thing_ok h0.ben h0.n20 (fun k hx hk => Or.inl ⟨th k, rfl, ?_⟩) (fun w => Or.inr ⟨504, rfl, h504, h0.refI (hW.1 (Or.inl w)) hK⟩)
  have bad : ¬ (y = 0 ∨ y = 1) → PX0_traces_26 F_X0_thing F_X0_want F_X0_none K 500 y (th k) 500 0 C (setI I 500 5 0) J R := fun w => ⟨h0.c500, F_want_no h0.ben (Or.inr ⟨504, rfl, h504, h0.refI (hW.1 (Or.inr w)) hK⟩)⟩
  refine ⟨fun c => bad (fun w => ((is01_iff y).mp w).1 c), fun c => ⟨fun c2 => bad (fun w => ((is01_iff y).mp w).2 c2), fun c2 => ?_⟩⟩
  have h01 := (is01_iff y).mpr ⟨c, c2⟩
  have i45 := (h0.y.2 k hk).2.1.1
  have hw := hW.2 k hx hk
  refine ⟨h0.c500, F_want_yes (Or.inl ⟨rfl, fun c3 => ⟨h0.kth hk, ?_⟩, fun c3 => ⟨h0.kth hk, ?_⟩⟩)⟩
  · rw [i45.2]
    exact h0.done (setI_at _ _ _ _) (hw.2 (h01.resolve_left c3)) hK
  · rw [i45.1]
    exact h0.done (setI_at _ _ _ _) (hw.1 c3) hK
