/-! OPS 3: the component's side of told, read -/
set_option maxRecDepth 100000
set_option linter.unusedVariables false
theorem lst_congr {p q : Nat → Prop} [DecidablePred p] [DecidablePred q] : ∀ {n : Nat}, (∀ t, t ≤ n → (p t ↔ q t)) → lst p n = lst q n
  | 0, _ => rfl
  | n + 1, h => by
    unfold lst
    have h1 := h (n + 1) (Nat.le_refl _)
    by_cases e : p (n + 1)
    · rw [if_pos e, if_pos (h1.mp e)]
    · rw [if_neg e, if_neg (fun w => e (h1.mpr w)), lst_congr (fun t ht => h t (by omega))]
def lstT (x : Tb) : Nat := lst (fun t => x.1 t ≠ 0 ∨ x.2.1 t ≠ 0) 120
def W_told (x y : Int32) : St → Tv → Int64 → Int64 → KC → Prop := fun s v a b Kc => ((¬ isTh s x ∨ ¬ ∃ m, m ≤ 5 ∧ y = iN m) → Kc (aI (-1)) s v 1 a b) ∧ ∀ k, x = iN k → k < s 6 0 →
  (y = iN 0 → Kc (aI (iN (s 6 0))) s v 0 a b) ∧ (y = iN 1 → Kc (aI (iN (s 7 k))) s v 0 a b) ∧ (y = iN 2 → Kc (aI (iN (s 11 k) - 1)) s v 0 a b) ∧ (y = iN 3 → Kc (aI (iN (s 1 k))) s v 0 a b) ∧ (y = iN 4 → Kc (aI (iN (nlv s k))) s v 0 a b) ∧ (y = iN 5 → (grt s k → Kc (aI (-1)) s v 9 a b) ∧ (¬ grt s k → Kc (aI (iN (lstT (tbl s k)))) s v 0 a b))
def F_X0_told : SPF := fun As C I J R K => ∃ x y : Int32, OpC [aI x, aI y] (W_told x y) As C I J R K
theorem S_X0_told (l : Launch) : SpX0_told l F_X0_told := by
  refine wX0_told (S_X0_thing l) (S_X0_want l) (SV_kind l) (S_X0_numberOf l) (SV_leaves l 20) (SV_table l 20) (S_X3_last l) (S_X0_none l) (S_X0_great l) ?_
  rintro As C I J R K ⟨x, y, s, v, st, a, b, Kc, rfl, hR, hF, hW, hK⟩
  have h0 := Mid.start hR
  have h504 : (C 504).1 = 2 := by rw [h0.ben.1.2.2.2.2]
  refine ⟨500, x, y, rfl, h0.c500, ?_⟩
  intro I2 e2
  obtain rfl : I2 = setI I 500 5 0 := e2
  refine F_thing_ok h0.ben h0.n20 (fun k hx hk => Or.inl ⟨th k, rfl, ?_⟩) (fun w => Or.inr ⟨504, rfl, h504, h0.refI (hW.1 (Or.inl w)) hK⟩)
  have bad : (¬ ∃ m, m ≤ 5 ∧ y = iN m) → PX0_told_26 F_X0_thing F_X0_want F_K F_X0_numberOf (F_L 20) (F_T 20) F_X3_last F_X0_none F_X0_great K 500 y (th k) 500 0 C (setI I 500 5 0) J R := fun w => ⟨h0.c500, F_want_no h0.ben (Or.inr ⟨504, rfl, h504, h0.refI (hW.1 (Or.inr w)) hK⟩)⟩
  refine ⟨fun c => bad (fun ⟨m, a1, a2⟩ => iN_nn (show m < 2 ^ 31 by omega) (a2 ▸ c)), fun c => ⟨fun c2 => bad (fun ⟨m, a1, a2⟩ => ?_), fun c2 => ?_⟩⟩
  · rw [a2] at c2
    have := (iN_lt (a := 5) (by omega) (by omega)).mp c2
    omega
  obtain ⟨m, hm, rfl, -⟩ := iN_of c
  have hm5 : m ≤ 5 := Nat.le_of_not_lt (fun w => c2 ((iN_lt (a := 5) (by omega) hm).mpr w))
  have hw := hW.2 k hx hk
  have hkt := h0.kth hk
  have hc := (h0.y.2 k hk).1.1
  have hn := h0.n20
  refine ⟨h0.c500, F_want_yes (Or.inl ⟨rfl, fun d => ⟨h0.c500, ?_⟩, fun d => ⟨hkt, ?_⟩, fun d => ⟨hkt, h0.c500, ?_⟩, fun d => ⟨hkt, th k + 1, hc.2.2.1, ?_, ?_⟩, fun d => ⟨hkt, ?_⟩, fun d => ⟨hkt, ?_⟩⟩)⟩
  · rw [iN_int hm] at d
    rw [h0.ben.2.2.1]
    exact h0.done (setI_at _ _ _ _) (hw.1 (by rw [show m = 0 by omega])) hK
  · rw [iN_int hm] at d
    refine ⟨th k, rfl, hkt, _, rfl, ?_⟩
    rw [hc.1]
    show K (.inl (some (aI (iN (5 + s 7 k - 5))))) _ _ _ _
    rw [Nat.add_sub_cancel_left]
    exact h0.done (setI_at _ _ _ _) (hw.2.1 (by rw [show m = 1 by omega])) hK
  · rw [iN_int hm] at d
    have h11 := (h0.y.1.2 k hk).2.2.1
    refine ⟨s, s 11 k, ?_, h11, hn, h0.ben, _, rfl, ?_⟩
    · rw [hc.2.2.2.2.2.2.2.2]
    · exact h0.done (setI_at _ _ _ _) (hw.2.2.1 (by rw [show m = 2 by omega])) hK
  · rw [hc.2.1]
    exact ⟨show 20 ≤ 26 by decide, show 26 ≤ 30 by decide⟩
  · rw [iN_int hm] at d
    rw [hc.2.1]
    exact h0.done (setI_at _ _ _ _) (hw.2.2.2.1 (by rw [show m = 3 by omega])) hK
  · rw [iN_int hm] at d
    exact ⟨s, k, rfl, by omega, hk, h0.y.x (hF.g hR.1), _, rfl, h0.done (setI_at _ _ _ _) (hw.2.2.2.2.1 (by rw [show m = 4 by omega])) hK⟩
  · rw [iN_int hm] at d
    have hw5 := hw.2.2.2.2.2 (by rw [show m = 5 by omega])
    refine h0.table (hF.g hR.1) hk (fun hg C2 I2 J2 R2 h2 => h2.greatI (hw5.1 hg) hK) (fun hg J' R' q h2 hT hq hok => ⟨q, rfl, hT.1, q, rfl, hT, _, rfl, ?_⟩)
    have e : lst (fun t => ¬ J' (q + 1) t = 0 ∨ ¬ J' (q + 2) t = 0) 120 = lstT (tbl s k) := lst_congr (fun t ht => by
      have h3 := hq.1 t (by omega)
      have h4 := hok.1.le t
      have h5 := hok.2
      rw [h3.1, h3.2, jN_eq0 (by omega), jN_eq0 (by omega)])
    rw [e]
    exact h2.done (setI_at _ _ _ _) (hw5.2 hg) hK
/-! trays -/
theorem vp_iff {y : Int32} {N : Nat} (hN : N < 2 ^ 31) : vp_in y N ↔ ∃ i, i < N ∧ y = iN i := by
  constructor
  · intro h
    have h1 : ¬ y < 0 := fun w => h (Or.inl w)
    obtain ⟨i, hi, rfl, hc⟩ := iN_of h1
    refine ⟨i, Nat.lt_of_not_le (fun w => h (Or.inr (by rw [hc]; exact w))), rfl⟩
  · rintro ⟨i, hi, rfl⟩
    exact iN_in (by omega) hi
theorem F_number_ok {s : St} {v : Tv} {C : MC} {I : MI} {J : MJ} {R : MR} {K : AK} {t : Nat} {y : Int32} (hT : TrS s v C I J R) (ht : t < 4) (h4 : s 4 t ≠ 0) (h8 : (C 8).1 = 0) (h1 : ∀ i, i < s 4 t - 1 → y = iN i → K (.inl (some (aJ (v (60 * t + i))))) C I J R)
    (h2 : (¬ ∃ i, i < s 4 t - 1 ∧ y = iN i) → ∀ (C' : MC) (I' : MI) (J' : MJ) (R' : MR), C' = va_up C 8 (12, 0) → (∀ q, q ≠ 8 → I' q = I q ∧ J' q = J q ∧ R' q = R q) → K (.inr 8) C' I' J' R') : F_X0_number [aR (some (trn s t)), aI y] C I J R K := by
  obtain ⟨⟨g1, g2, g3⟩, -, g5⟩ := hT t ht
  obtain ⟨g6, g7, g8⟩ := g5 h4
  refine ⟨trn s t, y, rfl, ?_⟩
  have hin : vp_in y (C (trn s t)).2 → ∃ i, i < s 4 t - 1 ∧ y = iN i := fun w => by
    rw [g7] at w
    exact (vp_iff (by omega)).mp w
  have hout : ¬ vp_in y (C (trn s t)).2 → ∃ q : Nat, (C q).1 = 0 ∧ ∀ (C' : MC) (I' : MI) (J' : MJ) (R' : MR), C' = va_up C q (12, 0) → I' = va_up I q (fun _ => 0) → J' = va_up J q (fun _ => 0) → R' = va_up R q (fun _ => none) → K (.inr q) C' I' J' R' := fun w => by
    refine ⟨8, h8, ?_⟩
    rintro C' I' J' R' e1 rfl rfl rfl
    refine h2 (fun z => w ?_) C' _ _ _ e1 (fun q hq => ⟨va_up_ne _ _ hq, va_up_ne _ _ hq, va_up_ne _ _ hq⟩)
    rw [g7]
    exact (vp_iff (by omega)).mpr z
  have hlen : (C (trn s t)).2 ≤ 1000 := by
    rw [g7]
    show s 4 t - 1 ≤ 1000
    omega
  have hk : kPr (C (trn s t)).1 := by
    rw [g7]
    have h3 : s 3 t = 0 ∨ s 3 t = 1 ∨ s 3 t = 2 ∨ s 3 t = 3 := by omega
    rcases h3 with e | e | e | e
    · rw [e]
      exact Or.inr (Or.inr (Or.inl rfl))
    · rw [e]
      exact Or.inr (Or.inr (Or.inr rfl))
    · rw [e]
      exact Or.inl rfl
    · rw [e]
      exact Or.inr (Or.inl rfl)
  unfold PX0_number_0
  have val : ∀ w : Int64, (∀ i, i < s 4 t - 1 → y = iN i → w = v (60 * t + i)) → vp_in y (C (trn s t)).2 → K (.inl (some (aJ w))) C I J R := fun w hw z => by
    obtain ⟨i, hi, e⟩ := hin z
    rw [hw i hi e]
    exact h1 i hi e
  have small : s 3 t ≠ 3 → ∀ i, i < s 4 t - 1 → y = iN i → (I (trn s t) y.toNatClampNeg).toInt64 = v (60 * t + i) := fun h3 i hi e => by
    have := g8 i hi
    rw [if_neg h3] at this
    rw [e, iN_nat (by omega)]
    exact this
  have big : s 3 t = 3 → ∀ i, i < s 4 t - 1 → y = iN i → J (trn s t) y.toNatClampNeg = v (60 * t + i) := fun h3 i hi e => by
    have := g8 i hi
    rw [if_pos h3] at this
    rw [e, iN_nat (by omega)]
    exact this
  have kd : (C (trn s t)).1 = tkd (s 3 t) := by rw [g7]
  have n3 : ∀ c, c ≠ 21 → (C (trn s t)).1 = c → s 3 t ≠ 3 := fun c hc e w => by
    rw [kd, w] at e
    exact hc e.symm
  refine ⟨hk, fun c => ⟨val _ (small (n3 _ (by decide) c)), fun w => ⟨hlen, hout w⟩⟩, fun c => ⟨fun c2 => ⟨val _ (small (n3 _ (by decide) c2)), fun w => ⟨hlen, hout w⟩⟩, fun c2 => ⟨fun c3 => ⟨val _ (small (n3 _ (by decide) c3)), fun w => ⟨hlen, hout w⟩⟩, fun c3 => ?_⟩⟩⟩
  have h3 : s 3 t = 3 := by
    rw [kd] at c c2 c3
    have h3 : s 3 t = 0 ∨ s 3 t = 1 ∨ s 3 t = 2 ∨ s 3 t = 3 := by omega
    rcases h3 with e | e | e | e
    · rw [e] at c
      exact absurd rfl c
    · rw [e] at c2
      exact absurd rfl c2
    · rw [e] at c3
      exact absurd rfl c3
    · exact e
  refine ⟨by rw [kd, h3]; rfl, val _ (big h3), fun w => ⟨hlen, hout w⟩⟩
def W_read (x y : Int32) : St → Tv → Int64 → Int64 → KC → Prop := fun s v a b Kc => (¬ isTr x → Kc (aJ (-1)) s v 1 a b) ∧ ∀ t, t < 4 → x = iN t → (s 4 t = 0 → Kc (aJ (-1)) s v 2 a b) ∧ (s 4 t ≠ 0 → (∀ i, i < s 4 t - 1 → y = iN i → Kc (aJ (v (60 * t + i))) s v 0 a b) ∧ ((¬ ∃ i, i < s 4 t - 1 ∧ y = iN i) → Kc (aJ (-1)) s v 3 a b))
def F_X0_read : SPF := fun As C I J R K => ∃ x y : Int32, OpC [aI x, aI y] (W_read x y) As C I J R K
theorem S_X0_read (l : Launch) : SpX0_read l F_X0_read := by
  refine wX0_read (S_X0_on l) (S_X0_number l) (S_X0_none l) ?_
  rintro As C I J R K ⟨x, y, s, v, st, a, b, Kc, rfl, hR, hF, hW, hK⟩
  have h0 := Mid.start hR
  have h504 : (C 504).1 = 2 := by rw [h0.ben.1.2.2.2.2]
  have h8 := (hF.low hR.1.2.1).2.1
  refine ⟨500, x, y, rfl, h0.c500, ?_⟩
  intro I2 e2
  obtain rfl : I2 = setI I 500 5 0 := e2
  refine F_on_ok h0.ben h0.1.2.1 (fun w => Or.inr ⟨504, rfl, h504, h0.refJ (hW.1 w) hK⟩) (fun t ht hx h4 => Or.inr ⟨504, rfl, h504, h0.refJ ((hW.2 t ht hx).1 h4) hK⟩) (fun t ht hx h4 => Or.inl ⟨trn s t, rfl, ?_⟩)
  have hw := (hW.2 t ht hx).2 h4
  refine F_number_ok h0.1.2.1 ht h4 h8 (fun i hi hy => Or.inl ⟨_, rfl, h0.done (setI_at _ _ _ _) (hw.1 i hi hy) hK⟩) (fun hno C' I' J' R' hC he => Or.inr ⟨8, rfl, by rw [hC, va_up_self], ?_⟩)
  have h2 : Mid s v a b C I J R C' I' J' R' := h0.exc (fun q _ q8 _ => ⟨by rw [hC]; exact va_up_ne _ _ q8, (he q q8).1, (he q q8).2.1, (he q q8).2.2⟩)
  refine ⟨h2.c500, ?_⟩
  intro I2 e3
  obtain rfl : I2 = setI I' 500 5 3 := e3
  exact (h2.si (Or.inl ⟨rfl, by decide⟩)).done (setI_at _ _ _ _) (hw.2 hno) hK
