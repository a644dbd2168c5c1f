/-! THE BENCH: what the memory holds of the component, live names; its small methods -/
set_option maxRecDepth 100000
set_option linter.unusedVariables false
def F_X0_want : SPF := fun As C I J R K => ∃ (x0 : Nat) (x1 : Int32) (x2 : Int32), As = [aR (some x0), aI x1, aI x2] ∧ PX0_want_0 F_X1_by K x0 x1 x2 C I J R
theorem S_X0_want (l : Launch) : SpX0_want l F_X0_want := wX0_want (S_X1_by l) (fun _ _ _ _ _ _ h => h)
def F_X0_thing : SPF := fun As C I J R K => ∃ (x0 : Nat) (x1 : Int32), As = [aR (some x0), aI x1] ∧ PX0_thing_0 F_X0_want K x0 x1 C I J R
theorem S_X0_thing (l : Launch) : SpX0_thing l F_X0_thing := wX0_thing (S_X0_want l) (fun _ _ _ _ _ _ h => h)
def F_X0_leafOf : SPF := fun As C I J R K => ∃ (x0 : Nat) (x1 : Int32), As = [aR (some x0), aI x1] ∧ PX0_leafOf_0 F_X0_want K x0 x1 C I J R
theorem S_X0_leafOf (l : Launch) : SpX0_leafOf l F_X0_leafOf := wX0_leafOf (S_X0_want l) (fun _ _ _ _ _ _ h => h)
def F_X0_on : SPF := fun As C I J R K => ∃ (x0 : Nat) (x1 : Int32), As = [aR (some x0), aI x1] ∧ PX0_on_0 F_X0_want K x0 x1 C I J R
theorem S_X0_on (l : Launch) : SpX0_on l F_X0_on := wX0_on (S_X0_want l) (fun _ _ _ _ _ _ h => h)
def F_X0_none : SPF := fun As C I J R K => ∃ (x0 : Nat) (x1 : Nat), As = [aR (some x0), aR (some x1)] ∧ PX0_none_0 K x0 x1 C I J R
theorem S_X0_none (l : Launch) : SpX0_none l F_X0_none := wX0_none (fun _ _ _ _ _ _ h => h)
def F_X0_no : SPF := fun As C I J R K => ∃ (x0 : Nat) (x1 : Nat), As = [aR (some x0), aR (some x1)] ∧ PX0_no_0 K x0 x1 C I J R
theorem S_X0_no (l : Launch) : SpX0_no l F_X0_no := wX0_no (fun _ _ _ _ _ _ h => h)
def F_X0_great : SPF := fun As C I J R K => ∃ (x0 : Nat), As = [aR (some x0)] ∧ PX0_great_0 K x0 C I J R
theorem S_X0_great (l : Launch) : SpX0_great l F_X0_great := wX0_great (fun _ _ _ _ _ _ h => h)
def F_X0_tells : SPF := fun As C I J R K => ∃ (x0 : Nat) (x1 : Int64) (x3 : Int64), As = [aR (some x0), aJ x1, aJ x3] ∧ PX0_tells_0 F_X0_common K x0 x1 x3 C I J R
theorem S_X0_tells (l : Launch) : SpX0_tells l F_X0_tells := wX0_tells (S_X0_common l) (fun _ _ _ _ _ _ h => h)
def F_X0_number : SPF := fun As C I J R K => ∃ (x0 : Nat) (x1 : Int32), As = [aR (some x0), aI x1] ∧ PX0_number_0 K x0 x1 C I J R
theorem S_X0_number (l : Launch) : SpX0_number l F_X0_number := wX0_number (fun _ _ _ _ _ _ h => h)
def F_X0_put : SPF := fun As C I J R K => ∃ (x0 : Nat) (x1 : Int32) (x2 : Int64), As = [aR (some x0), aI x1, aJ x2] ∧ PX0_put_0 K x0 x1 x2 C I J R
theorem S_X0_put (l : Launch) : SpX0_put l F_X0_put := wX0_put (fun _ _ _ _ _ _ h => h)
def F_X0_sizeOf : SPF := fun As C I J R K => ∃ (x0 : Nat), As = [aR (some x0)] ∧ PX0_sizeOf_0 K x0 C I J R
theorem S_X0_sizeOf (l : Launch) : SpX0_sizeOf l F_X0_sizeOf := wX0_sizeOf (fun _ _ _ _ _ _ h => h)
def F_X0_sortOf : SPF := fun As C I J R K => ∃ (x0 : Nat), As = [aR (some x0)] ∧ PX0_sortOf_0 K x0 C I J R
theorem S_X0_sortOf (l : Launch) : SpX0_sortOf l F_X0_sortOf := wX0_sortOf (fun _ _ _ _ _ _ h => h)
def trn (s : St) (t : Nat) : Nat := 510 + 2 * t + s 2 t
def tkd : Nat → Nat := fun x => match x with
  | 0 => 22
  | 1 => 23
  | 2 => 20
  | _ => 21
def BenS (s : St) (C : MC) (I : MI) (R : MR) : Prop := (C 500 = (1, 0) ∧ C 501 = (25, 4) ∧ C 502 = (21, 121) ∧ C 503 = (26, 20) ∧ C 504 = (2, 0)) ∧ (R 500 0 = some 501 ∧ R 500 1 = some 502 ∧ R 500 2 = some 503 ∧ R 500 4 = some 504) ∧ I 500 3 = iN (s 6 0) ∧ ∀ k, k < s 6 0 → R 503 k = some (th k)
def TrS (s : St) (v : Nat → Int64) (C : MC) (I : MI) (J : MJ) (R : MR) : Prop := ∀ t, t < 4 → (s 2 t ≤ 1 ∧ s 3 t ≤ 3 ∧ s 4 t ≤ 61) ∧ (s 4 t = 0 → R 501 t = none) ∧ (s 4 t ≠ 0 → R 501 t = some (trn s t) ∧ C (trn s t) = (tkd (s 3 t), s 4 t - 1) ∧ ∀ i, i < s 4 t - 1 → (if s 3 t = 3 then J (trn s t) i else (I (trn s t) i).toInt64) = v (60 * t + i))
/-- live names -/
def lvo (s : St) (k o : Nat) : Prop := o ≤ 7 ∨ (s 7 k = 0 ∧ (o = 8 ∨ o = 9 ∨ (16 ≤ o ∧ o < 13 + 3 * s 12 k))) ∨ ((s 7 k = 1 ∨ s 7 k = 2) ∧ ((8 ≤ o ∧ o ≤ 9 + s 1 k) ∨ o = 14)) ∨ (s 7 k = 2 ∧ 15 ≤ o ∧ o ≤ 17) ∨ (s 7 k = 4 ∧ (o = 8 ∨ o = 9))
def LV (s : St) (q : Nat) : Prop := q = 1 ∨ q = 3 ∨ (∃ f, (mkd f).1 ≠ 0 ∧ q = 100 + f) ∨ (500 ≤ q ∧ q ≤ 504) ∨ (∃ t, t < 4 ∧ s 4 t ≠ 0 ∧ q = trn s t) ∨ (∃ k o, k < s 6 0 ∧ o < 40 ∧ lvo s k o ∧ q = th k + o) ∨ (∃ k w e, k < s 6 0 ∧ s 7 k = 0 ∧ w ≤ s 5 k ∧ e < 3 ∧ q = 100000 + 3 * (k + 20 * w) + e)
def Clo (s : St) (C : MC) (R : MR) : Prop := (∀ q, LV s q → (C q).1 ≠ 0) ∧ ∀ q i r, LV s q → R q i = some r → LV s r ∧ (510 ≤ r → r ≤ 517 → q = 501 ∧ i < 4)
theorem LV.tnm {s : St} (hV : Vd s) {r : Nat} (h : tnm s r) : LV s r := by
  obtain ⟨j, hj, rfl | rfl | ⟨h7, g, hg, rfl⟩⟩ := h
  · exact Or.inr (Or.inr (Or.inr (Or.inr (Or.inr (Or.inl ⟨j, 2, hj, by omega, Or.inl (by omega), rfl⟩)))))
  · exact Or.inr (Or.inr (Or.inr (Or.inr (Or.inr (Or.inl ⟨j, 5, hj, by omega, Or.inl (by omega), rfl⟩)))))
  · unfold gq
    by_cases e : g = 0
    · rw [if_pos e]
      exact Or.inr (Or.inr (Or.inr (Or.inr (Or.inr (Or.inr ⟨j, s 5 j, 0, hj, h7, Nat.le_refl _, by omega, rfl⟩)))))
    · rw [if_neg e]
      have := ((hV.2 j hj).2.1.1 h7).2.2.1
      exact Or.inr (Or.inr (Or.inr (Or.inr (Or.inr (Or.inl ⟨j, 13 + 3 * g, hj, by omega, Or.inr (Or.inl ⟨h7, Or.inr (Or.inr (by omega))⟩), by omega⟩)))))
theorem tnm_ge {s : St} {r : Nat} (h : tnm s r) : 1000 ≤ r := by
  obtain ⟨j, hj, rfl | rfl | ⟨h7, g, hg, rfl⟩⟩ := h
  · unfold th
    omega
  · unfold th
    omega
  · unfold gq th
    split <;> omega
theorem Clo.fr {s : St} {C : MC} {R R' : MR} (hV : Vd s) {k : Nat} (h : Clo s C R) (hR : FrR s k R R') : Clo s C R' := ⟨h.1, fun q i r hq hr => (hR.2 q i r hr).elim (fun z => h.2 q i r hq z) (fun z => ⟨LV.tnm hV z, fun a b => by have := tnm_ge z; omega⟩)⟩
/-- the things, no word of exceptions -/
def CtY (s : St) (C : MC) (I : MI) (J : MJ) (R : MR) : Prop := Vd s ∧ ∀ k, k < s 6 0 → CSk s C R k ∧ CIk s I k ∧ LTk s J k
theorem CtX.y {s : St} {C : MC} {I : MI} {J : MJ} {R : MR} (h : CtX s C I J R) : CtY s C I J R := ⟨h.1, h.2.2⟩
theorem CtY.x {s : St} {C : MC} {I : MI} {J : MJ} {R : MR} (h : CtY s C I J R) (hG : (C nG).1 = 0) : CtX s C I J R := ⟨h.1, hG, h.2⟩
theorem th_ge (k : Nat) : 1000 ≤ th k := by unfold th; omega
theorem gq_ge {s : St} (k g : Nat) : 1000 ≤ gq s k g := by
  have := th_ge k
  unfold gq
  split <;> omega
theorem TbS.far {C C' : MC} {R R' : MR} {q : Nat} (h : TbS C R q) (hq : 1000 ≤ q) (he : ∀ q, 1000 ≤ q → C' q = C q ∧ R' q = R q) : TbS C' R' q := by
  unfold TbS at h ⊢
  rw [(he q hq).1, (he q hq).2, (he (q + 1) (by omega)).1, (he (q + 2) (by omega)).1]
  exact h
theorem CSk.far {s : St} {C C' : MC} {R R' : MR} {k : Nat} (h : CSk s C R k) (he : ∀ q, 1000 ≤ q → C' q = C q ∧ R' q = R q) : CSk s C' R' k := by
  have g := th_ge k
  obtain ⟨⟨c1, c2, c3, c4, c5, c6, c7, c8, c9⟩, cl, cr, cf, ct⟩ := h
  have eC : ∀ o, C' (th k + o) = C (th k + o) := fun o => (he _ (by omega)).1
  have eR : ∀ o, R' (th k + o) = R (th k + o) := fun o => (he _ (by omega)).2
  have e0C := (he (th k) g).1
  have e0R := (he (th k) g).2
  refine ⟨⟨by rw [e0C]; exact c1, by rw [eC]; exact c2, by rw [e0R]; exact c3, by rw [eR]; exact c4, by rw [e0R]; exact c5, by rw [e0R]; exact c6, c7.far (by omega) he, c8.far (by omega) he, by rw [e0R]; exact c9⟩, fun h7 => ?_, fun h7 => ?_, fun h7 => ?_, fun h7 => ?_⟩
  · obtain ⟨b1, b2, b3, b4, b5⟩ := cl h7
    exact ⟨by rw [e0R]; exact b1, by rw [eC]; exact b2, by rw [e0R]; exact b3, by rw [eC]; exact b4, fun g hg => ⟨by rw [eR]; exact (b5 g hg).1, (b5 g hg).2.far (gq_ge k g) he⟩⟩
  · obtain ⟨b1, b2, b3, b4, b5⟩ := cr h7
    exact ⟨by rw [e0R]; exact b1, by rw [eC]; exact b2, by rw [e0R]; exact b3, by rw [eC]; exact b4, fun g hg => ⟨by rw [eR]; exact (b5 g hg).1, by rw [eC]; exact (b5 g hg).2⟩⟩
  · obtain ⟨b1, b2, b3, b4, b5, b6⟩ := cf h7
    exact ⟨by rw [e0R]; exact b1, by rw [eC]; exact b2, by rw [e0R]; exact b3, by rw [eC]; exact b4, by rw [e0R]; exact b5, by rw [eC]; exact b6⟩
  · obtain ⟨b1, b2, b3, b4⟩ := ct h7
    exact ⟨by rw [e0R]; exact b1, by rw [eC]; exact b2, by rw [e0R]; exact b3, by rw [eC]; exact b4⟩
theorem CIk.far {s : St} {I I' : MI} {k : Nat} (h : CIk s I k) (h1 : I' (th k) = I (th k)) (h2 : I' (th k + 9) = I (th k + 9)) : CIk s I' k := by
  unfold CIk at h ⊢
  rw [h1, h2]
  exact h
theorem LTk.far {s : St} {J J' : MJ} {k : Nat} (h : LTk s J k) (he : ∀ q, 1000 ≤ q → J' q = J q) : LTk s J' k := fun h7 g hg => (h h7 g hg).kept (fun y h1 _ => he y (Nat.le_trans (gq_ge k g) h1))
theorem CtY.far {s : St} {C C' : MC} {I I' : MI} {J J' : MJ} {R R' : MR} (h : CtY s C I J R) (he : ∀ q, 1000 ≤ q → C' q = C q ∧ I' q = I q ∧ J' q = J q ∧ R' q = R q) : CtY s C' I' J' R' := ⟨h.1, fun k hk => ⟨(h.2 k hk).1.far (fun q hq => ⟨(he q hq).1, (he q hq).2.2.2⟩), (h.2 k hk).2.1.far (he _ (th_ge k)).2.1 (he _ (Nat.le_trans (th_ge k) (Nat.le_add_right _ _))).2.1, (h.2 k hk).2.2.far (fun q hq => (he q hq).2.2.1)⟩⟩
/-- all of the component but its status -/
def RelB (s : St) (v : Nat → Int64) (a b : Int64) (C : MC) (I : MI) (J : MJ) (R : MR) : Prop := BenS s C I R ∧ TrS s v C I J R ∧ CtY s C I J R ∧ Clo s C R ∧ J 500 6 = a ∧ J 500 7 = b
def RelC (s : St) (v : Nat → Int64) (st : Int32) (a b : Int64) (C : MC) (I : MI) (J : MJ) (R : MR) : Prop := RelB s v a b C I J R ∧ I 500 5 = st
def Fre (s : St) (C : MC) : Prop := ∀ q, ¬ LV s q → (C q).1 = 0
/-- the reference's names and the script's are as they were -/
def FrM (C : MC) (I : MI) (J : MJ) (R : MR) (C' : MC) (I' : MI) (J' : MJ) (R' : MR) : Prop := ∀ q, q = 1 ∨ q = 3 ∨ (100 ≤ q ∧ q < 200) → C' q = C q ∧ I' q = I q ∧ J' q = J q ∧ R' q = R q
theorem FrM.refl {C : MC} {I : MI} {J : MJ} {R : MR} : FrM C I J R C I J R := fun _ _ => ⟨rfl, rfl, rfl, rfl⟩
theorem FrM.trans {C C1 C2 : MC} {I I1 I2 : MI} {J J1 J2 : MJ} {R R1 R2 : MR} (h : FrM C I J R C1 I1 J1 R1) (g : FrM C1 I1 J1 R1 C2 I2 J2 R2) : FrM C I J R C2 I2 J2 R2 := fun q hq => ⟨(g q hq).1.trans (h q hq).1, (g q hq).2.1.trans (h q hq).2.1, (g q hq).2.2.1.trans (h q hq).2.2.1, (g q hq).2.2.2.trans (h q hq).2.2.2⟩
theorem FrM.I {C : MC} {I : MI} {J : MJ} {R : MR} {q : Nat} {b : Nat → Int32} (hq : 500 ≤ q) : FrM C I J R C (va_up I q b) J R := fun x hx => ⟨rfl, va_up_ne _ _ (by omega), rfl, rfl⟩
theorem FrM.J {C : MC} {I : MI} {J : MJ} {R : MR} {q : Nat} {b : Nat → Int64} (hq : 500 ≤ q) : FrM C I J R C I (va_up J q b) R := fun x hx => ⟨rfl, rfl, va_up_ne _ _ (by omega), rfl⟩
/-- a step of an op: where it goes on, what it keeps -/
def setI (I : MI) (q f : Nat) (x : Int32) : MI := va_up I q (va_up (I q) f x)
theorem setI_at (I : MI) (q f : Nat) (x : Int32) : setI I q f x q f = x := by
  unfold setI
  rw [va_up_self, va_up_self]
theorem setI_ne (I : MI) {q f p g : Nat} (x : Int32) (h : p ≠ q ∨ g ≠ f) : setI I q f x p g = I p g := by
  unfold setI
  by_cases e : p = q
  · rw [e, va_up_self]
    exact va_up_ne _ _ (h.resolve_left (fun w => w e))
  · rw [va_up_ne _ _ e]
theorem setI_far (I : MI) {q f p : Nat} (x : Int32) (h : p ≠ q) : setI I q f x p = I p := va_up_ne _ _ h
theorem trn_lt {s : St} {v : Nat → Int64} {C : MC} {I : MI} {J : MJ} {R : MR} (h : TrS s v C I J R) {t : Nat} (ht : t < 4) : 510 ≤ trn s t ∧ trn s t ≤ 517 := by
  have := (h t ht).1.1
  unfold trn
  omega
/-- ints of the bench and of the one Refused are set -/
theorem RelB.I {s : St} {v : Nat → Int64} {a b : Int64} {C : MC} {I : MI} {J : MJ} {R : MR} {q f : Nat} {x : Int32} (h : RelB s v a b C I J R) (hq : (q = 500 ∧ f ≠ 3) ∨ q = 504) : RelB s v a b C (setI I q f x) J R := by
  obtain ⟨h1, h2, h3, h4⟩ := h
  refine ⟨⟨h1.1, h1.2.1, ?_, h1.2.2.2⟩, fun t ht => ?_, h3.far (fun p hp => ⟨rfl, setI_far _ _ (by omega), rfl, rfl⟩), h4⟩
  · rw [setI_ne _ _ (by omega)]
    exact h1.2.2.1
  · have h5 := trn_lt h2 ht
    rw [setI_far I x (show trn s t ≠ q by omega)]
    exact h2 t ht
theorem CtY.kept {s : St} {C : MC} {I : MI} {J J' : MJ} {R R' : MR} {j : Nat} (h : CtY s C I J R) (hJ : FrJ s j J J') (hR : FrR s j R R') : CtY s C I J' R' := by
  have h1 : CtX s (va_up C nG (0, 0)) I J R := ⟨h.1, by rw [va_up_self], fun k hk => ⟨(h.2 k hk).1.far (fun q hq => ⟨va_up_ne _ _ (by unfold nG; omega), rfl⟩), (h.2 k hk).2⟩⟩
  exact (h1.kept hJ hR).y.far (fun q hq => ⟨(va_up_ne _ _ (by unfold nG; omega)).symm, rfl, rfl, rfl⟩)
theorem RelB.thing {s : St} {v : Nat → Int64} {a b : Int64} {C : MC} {I : MI} {J J' : MJ} {R R' : MR} {k : Nat} (h : RelB s v a b C I J R) (hJ : FrJ s k J J') (hR : FrR s k R R') : RelB s v a b C I J' R' := by
  obtain ⟨h1, h2, h3, h4, h5, h6⟩ := h
  have e : ∀ q, q < 1000 → J' q = J q ∧ R' q = R q := fun q hq => ⟨hJ q (fun w => by have := w.1; omega), hR.1 q (fun w => by have := w.1.1; omega)⟩
  refine ⟨⟨h1.1, ?_, h1.2.2.1, fun j hj => ?_⟩, fun t ht => ?_, h3.kept hJ hR, h4.fr h3.1 hR, ?_, ?_⟩
  · rw [(e 500 (by omega)).2]
    exact h1.2.1
  · rw [(e 503 (by omega)).2]
    exact h1.2.2.2 j hj
  · have h7 := trn_lt h2 ht
    rw [(e 501 (by omega)).2, (e (trn s t) (by omega)).1]
    exact h2 t ht
  · rw [(e 500 (by omega)).1]
    exact h5
  · rw [(e 500 (by omega)).1]
    exact h6
theorem FrM.thing {s : St} {C : MC} {I : MI} {J J' : MJ} {R R' : MR} {k : Nat} (hJ : FrJ s k J J') (hR : FrR s k R R') : FrM C I J R C I J' R' := fun q hq => ⟨rfl, rfl, hJ q (fun w => by have := w.1; omega), hR.1 q (fun w => by have := w.1.1; omega)⟩
theorem LV_ne {s : St} {v : Nat → Int64} {C : MC} {I : MI} {J : MJ} {R : MR} (h : TrS s v C I J R) {q : Nat} (hq : LV s q) : q ≠ 7 ∧ q ≠ 8 ∧ q ≠ 9 ∧ (q = 1 ∨ q = 3 ∨ 100 ≤ q) := by
  rcases hq with h | h | ⟨f, hf, h⟩ | h | ⟨t, ht, h4, h⟩ | ⟨k, o, hk, ho, hl, h⟩ | ⟨k, w, e, hk, h7, hw, he, h⟩
  · omega
  · omega
  · omega
  · omega
  · have := trn_lt (by assumption) ht
    omega
  · have := th_ge k
    omega
  · omega
/-- an exception's cell beside it -/
theorem RelB.exc {s : St} {v : Nat → Int64} {a b : Int64} {C C' : MC} {I I' : MI} {J J' : MJ} {R R' : MR} (h : RelB s v a b C I J R) (he : ∀ q, q ≠ 7 → q ≠ 8 → q ≠ 9 → C' q = C q ∧ I' q = I q ∧ J' q = J q ∧ R' q = R q) : RelB s v a b C' I' J' R' := by
  obtain ⟨h1, h2, h3, h4, h5, h6⟩ := h
  have hl := fun q (hq : 100 ≤ q) => he q (by omega) (by omega) (by omega)
  have hv := fun q (hq : LV s q) => he q (LV_ne h2 hq).1 (LV_ne h2 hq).2.1 (LV_ne h2 hq).2.2.1
  refine ⟨?_, fun t ht => ?_, h3.far (fun q hq => hl q (by omega)), ⟨fun q hq => ?_, fun q i r hq hr => ?_⟩, ?_, ?_⟩
  · unfold BenS
    rw [(hl 500 (by omega)).1, (hl 501 (by omega)).1, (hl 502 (by omega)).1, (hl 503 (by omega)).1, (hl 504 (by omega)).1, (hl 500 (by omega)).2.1, (hl 500 (by omega)).2.2.2, (hl 503 (by omega)).2.2.2]
    exact h1
  · have h7 := trn_lt h2 ht
    have h8 := hl (trn s t) (by omega)
    rw [h8.1, h8.2.1, h8.2.2.1, (hl 501 (by omega)).2.2.2]
    exact h2 t ht
  · rw [(hv q hq).1]
    exact h4.1 q hq
  · rw [(hv q hq).2.2.2] at hr
    exact h4.2 q i r hq hr
  · rw [(hl 500 (by omega)).2.2.1]
    exact h5
  · rw [(hl 500 (by omega)).2.2.1]
    exact h6
theorem FrM.exc {C C' : MC} {I I' : MI} {J J' : MJ} {R R' : MR} (he : ∀ q, q ≠ 7 → q ≠ 8 → q ≠ 9 → C' q = C q ∧ I' q = I q ∧ J' q = J q ∧ R' q = R q) : FrM C I J R C' I' J' R' := fun q hq => he q (by omega) (by omega) (by omega)
theorem Fre.low {s : St} {v : Nat → Int64} {C : MC} {I : MI} {J : MJ} {R : MR} (h : Fre s C) (h2 : TrS s v C I J R) : (C 7).1 = 0 ∧ (C 8).1 = 0 ∧ (C 9).1 = 0 := ⟨h 7 (fun w => (LV_ne h2 w).1 rfl), h 8 (fun w => (LV_ne h2 w).2.1 rfl), h 9 (fun w => (LV_ne h2 w).2.2.1 rfl)⟩
/-! the small methods -/
section BM
variable {s : St} {v : Nat → Int64} {a b : Int64} {C : MC} {I : MI} {J : MJ} {R : MR} {K : AK}
theorem F_want_yes {w : Int32} (h : K (.inl none) C I J R) : F_X0_want [aR (some 500), aI 1, aI w] C I J R K := ⟨500, 1, w, rfl, fun _ => h, fun z => absurd z (by decide)⟩
theorem F_want_no {w : Int32} (hB : BenS s C I R) (h : K (.inr 504) C (setI I 504 6 w) J R) : F_X0_want [aR (some 500), aI 0, aI w] C I J R K := by
  refine ⟨500, 0, w, rfl, fun z => absurd rfl z, fun _ => ⟨by rw [hB.1.1], 504, hB.2.1.2.2.2, by rw [hB.1.2.2.2.2], 504, w, rfl, by rw [hB.1.2.2.2.2], ?_⟩⟩
  rintro I2 rfl
  exact ⟨504, rfl, by rw [hB.1.2.2.2.2], h⟩
/-- x is the number of a thing -/
def isTh (s : St) (x : Int32) : Prop := ∃ k, k < s 6 0 ∧ x = iN k
theorem isTh_iff (hn : s 6 0 ≤ 20) (x : Int32) : isTh s x ↔ ¬ x < 0 ∧ ¬ iN (s 6 0) ≤ x := by
  constructor
  · rintro ⟨k, hk, rfl⟩
    exact ⟨iN_nn (by omega), fun w => by have := (iN_le (by omega) (by omega)).mp w; omega⟩
  · rintro ⟨h1, h2⟩
    obtain ⟨k, hk, rfl, -⟩ := iN_of h1
    exact ⟨k, Nat.lt_of_not_le (fun w => h2 ((iN_le (by omega) hk).mpr w)), rfl⟩
theorem F_thing_ok {x : Int32} (hB : BenS s C I R) (hn : s 6 0 ≤ 20) (h1 : ∀ k, x = iN k → k < s 6 0 → K (.inl (some (aR (some (th k))))) C I J R) (h2 : ¬ isTh s x → K (.inr 504) C (setI I 504 6 1) J R) : F_X0_thing [aR (some 500), aI x] C I J R K := by
  refine ⟨500, x, rfl, ?_⟩
  have hb := hB.1.1
  unfold PX0_thing_0 PX0_thing_17 PX0_thing_18
  rw [hB.2.2.1]
  have bad : ¬ isTh s x → (C 500).1 = 1 ∧ F_X0_want [aR (some 500), aI 0, aI (1 : Int32)] C I J R (fun o C2 I3 J4 R5 => (o = .inl none ∧ (C2 500).1 = 1 ∧ ∃ q8, R5 500 2 = some q8 ∧ (25 ≤ (C2 q8).1 ∧ (C2 q8).1 < 30) ∧ vp_in x (C2 q8).2 ∧ K (.inl (some (aR (R5 q8 x.toNatClampNeg)))) C2 I3 J4 R5) ∨ (∃ q11 : Nat, o = .inr q11 ∧ ((C2 q11).1 = 2 ∧ K (.inr q11) C2 I3 J4 R5))) := fun w => ⟨by rw [hb], F_want_no hB (Or.inr ⟨504, rfl, by rw [hB.1.2.2.2.2], h2 w⟩)⟩
  refine ⟨fun c => bad (fun w => ((isTh_iff hn x).mp w).1 c), fun c => ⟨by rw [hb], fun c2 => bad (fun w => ((isTh_iff hn x).mp w).2 c2), fun c2 => ?_⟩⟩
  obtain ⟨k, hk, rfl⟩ := (isTh_iff hn x).mpr ⟨c, c2⟩
  refine ⟨by rw [hb], F_want_yes (Or.inl ⟨rfl, by rw [hb], 503, hB.2.1.2.2.1, ?_, ?_, ?_⟩)⟩
  · rw [hB.1.2.2.2.1]
    exact ⟨show 25 ≤ 26 by decide, show 26 < 30 by decide⟩
  · rw [hB.1.2.2.2.1]
    exact iN_in (by omega) (by show k < 20; omega)
  · rw [iN_nat (by omega), hB.2.2.2 k hk]
    exact h1 k rfl hk
def isLf (s : St) (x : Int32) : Prop := ∃ k, k < s 6 0 ∧ s 7 k = 0 ∧ x = iN k
theorem F_leafOf_ok {x : Int32} (hB : BenS s C I R) (hY : CtY s C I J R) (h1 : ∀ k, x = iN k → k < s 6 0 → s 7 k = 0 → K (.inl (some (aR (some (th k))))) C I J R) (h2 : ¬ isLf s x → K (.inr 504) C (setI I 504 6 1) J R) : F_X0_leafOf [aR (some 500), aI x] C I J R K := by
  have hn := hY.1.1
  refine ⟨500, x, rfl, ?_⟩
  have hb := hB.1.1
  unfold PX0_leafOf_0 PX0_leafOf_29 PX0_leafOf_30
  rw [hB.2.2.1]
  have bad : ¬ isLf s x → (C 500).1 = 1 ∧ F_X0_want [aR (some 500), aI 0, aI (1 : Int32)] C I J R (fun o C2 I3 J4 R5 => (o = .inl none ∧ (C2 500).1 = 1 ∧ ∃ q8, R5 500 2 = some q8 ∧ (25 ≤ (C2 q8).1 ∧ (C2 q8).1 < 30) ∧ vp_in x (C2 q8).2 ∧ ∃ q11 : Nat, R5 q8 x.toNatClampNeg = some q11 ∧ (C2 q11).1 = 5 ∧ K (.inl (some (aR (some q11)))) C2 I3 J4 R5) ∨ (∃ q13 : Nat, o = .inr q13 ∧ ((C2 q13).1 = 2 ∧ K (.inr q13) C2 I3 J4 R5))) := fun w => ⟨by rw [hb], F_want_no hB (Or.inr ⟨504, rfl, by rw [hB.1.2.2.2.2], h2 w⟩)⟩
  have toT : isLf s x → isTh s x := fun ⟨k, a, _, c⟩ => ⟨k, a, c⟩
  refine ⟨fun c => bad (fun w => ((isTh_iff hn x).mp (toT w)).1 c), fun c => ⟨by rw [hb], fun c2 => bad (fun w => ((isTh_iff hn x).mp (toT w)).2 c2), fun c2 => ?_⟩⟩
  obtain ⟨k, hk, rfl⟩ := (isTh_iff hn x).mpr ⟨c, c2⟩
  have c1 := (hY.2 k hk).1.1.1
  have w1 : 25 ≤ (C 503).1 ∧ (C 503).1 < 30 := by
    rw [hB.1.2.2.2.1]
    exact ⟨show 25 ≤ 26 by decide, show 26 < 30 by decide⟩
  have w2 : vp_in (iN k) (C 503).2 := by
    rw [hB.1.2.2.2.1]
    exact iN_in (by omega) (by show k < 20; omega)
  have w3 : R 503 (iN k).toNatClampNeg = some (th k) := by
    rw [iN_nat (by omega), hB.2.2.2 k hk]
  have h7 := (hY.1.2 k hk).1.1
  refine ⟨503, hB.2.1.2.2.1, w1, w2, th k, w3, by rw [c1]; exact ⟨Nat.le_add_right _ _, by show 5 + s 7 k ≤ 10; omega⟩, fun c3 => ?_, fun c3 => ?_⟩
  · rw [c1] at c3
    have h5 : 5 + s 7 k = 5 := c3
    exact ⟨by rw [hb], F_want_yes (Or.inl ⟨rfl, by rw [hb], 503, hB.2.1.2.2.1, w1, w2, th k, w3, by rw [c1]; exact h5, h1 k rfl hk (by omega)⟩)⟩
  · refine bad (fun ⟨k', hk', h7', e⟩ => c3 ?_)
    have := (iN_inj (a := k) (b := k') (by omega) (by omega)).mp e
    subst this
    rw [c1, h7']
/-- a tray that is there -/
def isTr (x : Int32) : Prop := ∃ t, t < 4 ∧ x = iN t
theorem isTr_iff (x : Int32) : isTr x ↔ ¬ x < 0 ∧ ¬ (4 : Int32) ≤ x := by
  constructor
  · rintro ⟨k, hk, rfl⟩
    exact ⟨iN_nn (by omega), fun w => by have := (iN_le (a := 4) (by omega) (by omega)).mp w; omega⟩
  · rintro ⟨h1, h2⟩
    obtain ⟨k, hk, rfl, -⟩ := iN_of h1
    exact ⟨k, Nat.lt_of_not_le (fun w => h2 ((iN_le (a := 4) (by omega) hk).mpr w)), rfl⟩
theorem F_on_ok {x : Int32} (hB : BenS s C I R) (hT : TrS s v C I J R) (h1 : ¬ isTr x → K (.inr 504) C (setI I 504 6 1) J R) (h2 : ∀ t, t < 4 → x = iN t → s 4 t = 0 → K (.inr 504) C (setI I 504 6 2) J R) (h3 : ∀ t, t < 4 → x = iN t → s 4 t ≠ 0 → K (.inl (some (aR (some (trn s t))))) C I J R) : F_X0_on [aR (some 500), aI x] C I J R K := by
  refine ⟨500, x, rfl, ?_⟩
  have hb := hB.1.1
  have h504 : (C 504).1 = 2 := by rw [hB.1.2.2.2.2]
  unfold PX0_on_0 PX0_on_14 PX0_on_15 PX0_on_34
  by_cases hx : isTr x
  · have hx2 := (isTr_iff x).mp hx
    refine ⟨fun c => absurd c hx2.1, fun _ => ⟨fun c => absurd c hx2.2, fun _ => ?_⟩⟩
    obtain ⟨t, ht, rfl⟩ := hx
    have w1 : 25 ≤ (C 501).1 ∧ (C 501).1 < 30 := by
      rw [hB.1.2.1]
      exact ⟨show 25 ≤ 25 by decide, show 25 < 30 by decide⟩
    have w2 : vp_in (iN t) (C 501).2 := by
      rw [hB.1.2.1]
      exact iN_in (by omega) ht
    refine ⟨by rw [hb], F_want_yes (Or.inl ⟨rfl, by rw [hb], 501, hB.2.1.1, w1, w2, ?_⟩)⟩
    rw [iN_nat (by omega)]
    refine ⟨fun c => ⟨by rw [hb], F_want_no hB (Or.inr ⟨504, rfl, h504, h2 t ht rfl ?_⟩)⟩, fun c => ?_⟩
    · refine Classical.byContradiction (fun w => ?_)
      rw [((hT t ht).2.2 w).1] at c
      cases c
    · have h0 : s 4 t ≠ 0 := fun w => c ((hT t ht).2.1 w)
      refine ⟨by rw [hb], F_want_yes (Or.inl ⟨rfl, by rw [hb], 501, hB.2.1.1, w1, w2, ?_⟩)⟩
      rw [((hT t ht).2.2 h0).1]
      exact h3 t ht rfl h0
  · have bad := F_want_no (s := s) (w := 1) hB (K := fun o C2 I3 J4 R5 => (o = .inl none ∧ (C2 500).1 = 1 ∧ ∃ q8, R5 500 0 = some q8 ∧ (25 ≤ (C2 q8).1 ∧ (C2 q8).1 < 30) ∧ vp_in x (C2 q8).2 ∧ ((R5 q8 x.toNatClampNeg = none → (C2 500).1 = 1 ∧ F_X0_want [aR (some 500), aI 0, aI (2 : Int32)] C2 I3 J4 R5 (fun o C2 I3 J4 R5 => (o = .inl none ∧ (C2 500).1 = 1 ∧ ∃ q8, R5 500 0 = some q8 ∧ (25 ≤ (C2 q8).1 ∧ (C2 q8).1 < 30) ∧ vp_in x (C2 q8).2 ∧ K (.inl (some (aR (R5 q8 x.toNatClampNeg)))) C2 I3 J4 R5) ∨ (∃ q11 : Nat, o = .inr q11 ∧ ((C2 q11).1 = 2 ∧ K (.inr q11) C2 I3 J4 R5)))) ∧ (¬ R5 q8 x.toNatClampNeg = none → (C2 500).1 = 1 ∧ F_X0_want [aR (some 500), aI 1, aI (2 : Int32)] C2 I3 J4 R5 (fun o C2 I3 J4 R5 => (o = .inl none ∧ (C2 500).1 = 1 ∧ ∃ q8, R5 500 0 = some q8 ∧ (25 ≤ (C2 q8).1 ∧ (C2 q8).1 < 30) ∧ vp_in x (C2 q8).2 ∧ K (.inl (some (aR (R5 q8 x.toNatClampNeg)))) C2 I3 J4 R5) ∨ (∃ q11 : Nat, o = .inr q11 ∧ ((C2 q11).1 = 2 ∧ K (.inr q11) C2 I3 J4 R5)))))) ∨ (∃ q12 : Nat, o = .inr q12 ∧ ((C2 q12).1 = 2 ∧ K (.inr q12) C2 I3 J4 R5))) (Or.inr ⟨504, rfl, h504, h1 hx⟩)
    refine ⟨fun c => ⟨by rw [hb], bad⟩, fun c => ⟨fun c2 => ⟨by rw [hb], bad⟩, fun c2 => absurd ((isTr_iff x).mpr ⟨c, c2⟩) hx⟩⟩
theorem F_none_ok (hB : BenS s C I R) (h : K (.inl (some (aI (-1)))) C (setI I 500 5 (I 504 6)) J R) : F_X0_none [aR (some 500), aR (some 504)] C I J R K := by
  refine ⟨500, 504, rfl, by rw [hB.1.2.2.2.2], by rw [hB.1.1], ?_⟩
  rintro I3 rfl
  exact h
theorem F_no_ok (hB : BenS s C I R) (h : K (.inl (some (aI 0))) C (setI I 500 5 (I 504 6)) J R) : F_X0_no [aR (some 500), aR (some 504)] C I J R K := by
  refine ⟨500, 504, rfl, by rw [hB.1.2.2.2.2], by rw [hB.1.1], ?_⟩
  rintro I3 rfl
  exact h
theorem F_great_ok (hC : (C 500).1 = 1) (h : K (.inl (some (aI (-1)))) C (setI I 500 5 9) J R) : F_X0_great [aR (some 500)] C I J R K := by
  refine ⟨500, rfl, hC, ?_⟩
  rintro I3 rfl
  exact h
theorem F_tells_ok {x y : Nat} (hC : (C 500).1 = 1) (hx : x < 2 ^ 63) (hy : y < 2 ^ 63) (hy0 : 0 < y) (h : ∀ J' : MJ, (∀ q, q ≠ 500 → J' q = J q) → J' 500 6 = jN (x / Nat.gcd x y) → J' 500 7 = jN (y / Nat.gcd x y) → K (.inl (some (aI (enI (0 < x))))) C I J' R) : F_X0_tells [aR (some 500), aJ (jN x), aJ (jN y)] C I J R K := by
  have hg0 : 0 < Nat.gcd x y := Nat.gcd_pos_of_pos_right x hy0
  have hg1 : Nat.gcd x y ≤ y := Nat.le_of_dvd hy0 (Nat.gcd_dvd_right x y)
  refine ⟨500, jN x, jN y, rfl, ?_⟩
  unfold PX0_tells_0
  refine F_common_ok hx hy ⟨_, rfl, fun z => absurd ((jN_eq0 (by omega)).mp z) (by omega), hC, ?_⟩
  rintro J8 rfl J9 rfl
  rw [jN_div hx (by omega), jN_div hy (by omega), va_up_self, jN_le0 hx]
  have h1 := h (va_up (va_up J 500 (va_up (J 500) 6 (jN (x / Nat.gcd x y)))) 500 (va_up (va_up (J 500) 6 (jN (x / Nat.gcd x y))) 7 (jN (y / Nat.gcd x y)))) (fun q hq => by rw [va_up_ne _ _ hq, va_up_ne _ _ hq]) (by rw [va_up_self, va_up_ne _ _ (show (6 : Nat) ≠ 7 by decide), va_up_self]) (by rw [va_up_self, va_up_self])
  refine ⟨fun c => ?_, fun c => ?_⟩
  · rw [en_no (by omega)] at h1
    exact h1
  · rw [en_yes (by omega)] at h1
    exact h1
end BM
