/-! OPS 4: the component's side of part, price, write, tray -/
set_option maxRecDepth 100000
set_option linter.unusedVariables false
def su (s : St) (f i x : Nat) : St := va_up s f (va_up (s f) i x)
theorem su_at (s : St) (f i x : Nat) : su s f i x f i = x := by
  unfold su
  rw [va_up_self, va_up_self]
theorem su_f (s : St) {f g : Nat} (i x : Nat) (h : g ≠ f) : su s f i x g = s g := va_up_ne _ _ h
theorem su_i (s : St) (f : Nat) {i j : Nat} (x : Nat) (h : j ≠ i) : su s f i x f j = s f j := by
  unfold su
  rw [va_up_self, va_up_ne _ _ h]
/-- only what a leaf tells has changed -/
def SmS (s s' : St) : Prop := ∀ f, f ≠ 13 → f ≠ 15 → f ≠ 16 → f ≠ 17 → f ≠ 18 → f ≠ 19 → f ≠ 20 → s' f = s f
theorem SmS.vd {s s' : St} (h : SmS s s') (hV : Vd s) (hl : ∀ k, k < s 6 0 → s 7 k = 0 → s' 15 k < s 12 k ∧ s' 17 k ≤ s 12 k ∧ s' 16 k ≤ 121 ∧ ∀ g, g < s 12 k → s' 13 (3 * k + g) ≤ 10000) : Vd s' := by
  have e6 := h 6 (by decide) (by decide) (by decide) (by decide) (by decide) (by decide) (by decide)
  have e7 := h 7 (by decide) (by decide) (by decide) (by decide) (by decide) (by decide) (by decide)
  have e1 := h 1 (by decide) (by decide) (by decide) (by decide) (by decide) (by decide) (by decide)
  have e8 := h 8 (by decide) (by decide) (by decide) (by decide) (by decide) (by decide) (by decide)
  have e9 := h 9 (by decide) (by decide) (by decide) (by decide) (by decide) (by decide) (by decide)
  have e10 := h 10 (by decide) (by decide) (by decide) (by decide) (by decide) (by decide) (by decide)
  have e11 := h 11 (by decide) (by decide) (by decide) (by decide) (by decide) (by decide) (by decide)
  have e12 := h 12 (by decide) (by decide) (by decide) (by decide) (by decide) (by decide) (by decide)
  have e14 := h 14 (by decide) (by decide) (by decide) (by decide) (by decide) (by decide) (by decide)
  have hp : ∀ k i, prt s' k i = prt s k i := fun k i => by
    unfold prt
    rw [e8]
  refine ⟨by rw [e6]; exact hV.1, fun k hk => ?_⟩
  rw [e6] at hk
  obtain ⟨⟨a1, a2, a3, a4⟩, ⟨v0, v1⟩, a5⟩ := hV.2 k hk
  unfold VdK
  simp only [hp, e7, e1, e9, e10, e11, e12, e14, e6]
  refine ⟨⟨a1, a2, a3, a4⟩, ⟨fun h7 => ?_, v1⟩, a5⟩
  obtain ⟨b1, b2, b3, b4, b5, b6, b7⟩ := v0 h7
  obtain ⟨c1, c2, c3, c4⟩ := hl k hk h7
  exact ⟨b1, b2, b3, c1, c2, c3, fun g hg => ⟨(b7 g hg).1, c4 g hg⟩⟩
theorem SmS.relB {s s' : St} {v : Tv} {a b : Int64} {C : MC} {I I' : MI} {J : MJ} {R : MR} (h : SmS s s') (hB : RelB s v a b C I J R) (hV : Vd s') (hI : ∀ q, q < 1000 → I' q = I q) (hC : ∀ j, j < s 6 0 → CIk s' I' j) : RelB s' v a b C I' J R := by
  have e6 := h 6 (by decide) (by decide) (by decide) (by decide) (by decide) (by decide) (by decide)
  have e7 := h 7 (by decide) (by decide) (by decide) (by decide) (by decide) (by decide) (by decide)
  have e1 := h 1 (by decide) (by decide) (by decide) (by decide) (by decide) (by decide) (by decide)
  have e2 := h 2 (by decide) (by decide) (by decide) (by decide) (by decide) (by decide) (by decide)
  have e3 := h 3 (by decide) (by decide) (by decide) (by decide) (by decide) (by decide) (by decide)
  have e4 := h 4 (by decide) (by decide) (by decide) (by decide) (by decide) (by decide) (by decide)
  have e5 := h 5 (by decide) (by decide) (by decide) (by decide) (by decide) (by decide) (by decide)
  have e8 := h 8 (by decide) (by decide) (by decide) (by decide) (by decide) (by decide) (by decide)
  have e11 := h 11 (by decide) (by decide) (by decide) (by decide) (by decide) (by decide) (by decide)
  have e12 := h 12 (by decide) (by decide) (by decide) (by decide) (by decide) (by decide) (by decide)
  have e14 := h 14 (by decide) (by decide) (by decide) (by decide) (by decide) (by decide) (by decide)
  have hp : ∀ k i, prt s' k i = prt s k i := fun k i => by
    unfold prt
    rw [e8]
  have hq : ∀ k g, gq s' k g = gq s k g := fun k g => by
    unfold gq
    rw [e5]
  have ht : ∀ t, trn s' t = trn s t := fun t => by
    unfold trn
    rw [e2]
  have hlv : ∀ q, LV s' q ↔ LV s q := fun q => by
    unfold LV lvo
    simp only [e4, ht, e6, e7, e12, e1, e5]
  obtain ⟨h1, h2, h3, h4, h5, h6⟩ := hB
  refine ⟨?_, fun t htt => ?_, ⟨hV, fun k hk => ?_⟩, ⟨fun q hq => h4.1 q ((hlv q).mp hq), fun q i r hq hr => ?_⟩, h5, h6⟩
  · unfold BenS
    rw [e6, hI 500 (by omega)]
    exact h1
  · have h7 := trn_lt h2 htt
    rw [ht, e2, e3, e4, hI (trn s t) (by omega)]
    exact h2 t htt
  · rw [e6] at hk
    have h7 := h3.2 k hk
    refine ⟨?_, hC k hk, ?_⟩
    · have h8 := h7.1
      unfold CSk at h8 ⊢
      simp only [hp, hq, e7, e1, e11, e12]
      exact h8
    · have h8 := h7.2.2
      unfold LTk lgT at h8 ⊢
      simp only [hq, e7, e12, e14]
      exact h8
  · have := h4.2 q i r ((hlv q).mp hq) hr
    exact ⟨(hlv r).mpr this.1, this.2⟩
theorem Mid.ints {s s' : St} {v : Tv} {a b : Int64} {C C1 : MC} {I I1 I' : MI} {J J1 : MJ} {R R1 : MR} (hm : Mid s v a b C I J R C1 I1 J1 R1) (h : SmS s s') (hV : Vd s') (hI : ∀ q, q < 1000 → I' q = I1 q) (hC : ∀ j, j < s 6 0 → CIk s' I' j) : Mid s' v a b C I J R C1 I' J1 R1 :=
  ⟨h.relB hm.1 hV hI hC, hm.2.trans (fun q hq => ⟨rfl, hI q (by omega), rfl, rfl⟩)⟩
theorem SmS.su {s : St} {f i x : Nat} (hf : f = 13 ∨ f = 15 ∨ f = 16 ∨ f = 17 ∨ f = 18 ∨ f = 19 ∨ f = 20) : SmS s (su s f i x) := fun g a b c d e f' h => su_f s i x (by omega)
/-! part -/
def isPt (y : Int32) : Prop := ∃ p, p ≤ 121 ∧ y = iN p - 1
theorem isPt_iff (y : Int32) : isPt y ↔ ¬ y < (-1 : Int32) ∧ ¬ (120 : Int32) < y := by
  constructor
  · rintro ⟨p, hp, rfl⟩
    rcases p with _ | p
    · decide
    · rw [iN_dec (Nat.succ_ne_zero p), show p.succ - 1 = p from rfl]
      refine ⟨fun w => iN_nn (show p < 2 ^ 31 by omega) (Int32.lt_trans w (by decide)), fun w => by have := (iN_lt (a := 120) (by omega) (by omega)).mp w; omega⟩
  · rintro ⟨h1, h2⟩
    by_cases e : y < 0
    · refine ⟨0, by omega, ?_⟩
      have h3 : y.toInt < 0 := by
        have := Int32.lt_iff_toInt_lt.mp e
        exact this
      have h4 : ¬ y.toInt < -1 := fun w => h1 (Int32.lt_iff_toInt_lt.mpr (by
        show y.toInt < (-1 : Int32).toInt
        exact w))
      refine Int32.toInt_inj.mp ?_
      show y.toInt = (iN 0 - 1).toInt
      have h5 : (iN 0 - 1 : Int32).toInt = -1 := by decide
      omega
    · obtain ⟨p, hp, rfl, -⟩ := iN_of e
      refine ⟨p + 1, ?_, ?_⟩
      · have : ¬ 120 < p := fun w => h2 ((iN_lt (a := 120) (by omega) hp).mpr w)
        omega
      · rw [iN_dec (Nat.succ_ne_zero p), show p.succ - 1 = p from rfl]
def W_part (x y : Int32) : St → Tv → Int64 → Int64 → KC → Prop := fun s v a b Kc => ((¬ isLf s x ∨ ¬ isPt y) → Kc (aI 0) s v 1 a b) ∧ ∀ k p, x = iN k → k < s 6 0 → s 7 k = 0 → p ≤ 121 → y = iN p - 1 → Kc (aI 1) (su s 16 k p) v 0 a b
def F_X0_part : SPF := fun As C I J R K => ∃ x y : Int32, OpC [aI x, aI y] (W_part x y) As C I J R K
theorem th_ne {j k : Nat} (h : j ≠ k) {o o' : Nat} (ho : o < 40) (ho' : o' < 40) : th j + o ≠ th k + o' := fun e => h (by
  have h1 := ow_th (k := j) ho
  have h2 := ow_th (k := k) ho'
  rw [e, h2] at h1
  exact h1.symm)
theorem th_ne0 {j k : Nat} (h : j ≠ k) {o : Nat} (ho : o < 40) : th j ≠ th k + o := th_ne (o := 0) h (by omega) ho
theorem S_X0_part (l : Launch) : SpX0_part l F_X0_part := by
  refine wX0_part (S_X0_leafOf l) (S_X0_want l) (S_X0_no l) ?_
  rintro As C I J R K ⟨x, y, s, v, st, a, b, Kc, rfl, hR, hF, hW, hK⟩
  have h0 := Mid.start hR
  have h504 : (C 504).1 = 2 := by rw [h0.ben.1.2.2.2.2]
  refine ⟨500, x, y, rfl, h0.c500, ?_⟩
  intro I2 e2
  obtain rfl : I2 = setI I 500 5 0 := e2
  refine F_leafOf_ok h0.ben h0.y (fun k hx hk h7 => Or.inl ⟨th k, rfl, ?_⟩) (fun w => Or.inr ⟨504, rfl, h504, h0.refZ (hW.1 (Or.inl w)) hK⟩)
  have bad : ¬ isPt y → PX0_part_28 F_X0_leafOf F_X0_want F_X0_no K 500 y (th k) 500 0 C (setI I 500 5 0) J R := fun w => ⟨h0.c500, F_want_no h0.ben (Or.inr ⟨504, rfl, h504, h0.refZ (hW.1 (Or.inr w)) hK⟩)⟩
  refine ⟨fun c => bad (fun w => ((isPt_iff y).mp w).1 c), fun c => ⟨fun c2 => bad (fun w => ((isPt_iff y).mp w).2 c2), fun c2 => ?_⟩⟩
  obtain ⟨p, hp, rfl⟩ := (isPt_iff y).mpr ⟨c, c2⟩
  refine ⟨h0.c500, F_want_yes (Or.inl ⟨rfl, by rw [(h0.y.2 k hk).1.1.1, h7], ?_⟩)⟩
  intro I8 e8
  obtain rfl : I8 = setI (setI I 500 5 0) (th k) 11 (iN p - 1) := e8
  have hS : SmS s (su s 16 k p) := SmS.su (by omega)
  have g0 := th_ge k
  have hm := h0.ints hS (hS.vd h0.y.1 (fun j hj h7 => ?_)) (I' := setI (setI I 500 5 0) (th k) 11 (iN p - 1)) (fun q hq => setI_far _ _ (by omega)) (fun j hj => ?_)
  · exact hm.done (by rw [setI_far _ _ (show 500 ≠ th k by omega), setI_at]) (hW.2 k p hx hk h7 hp rfl) hK
  · obtain ⟨b1, b2, b3, b4, b5, b6, b7⟩ := (h0.y.1.2 j hj).2.1.1 h7
    rw [su_f s k p (by decide : (15 : Nat) ≠ 16), su_f s k p (by decide : (17 : Nat) ≠ 16), su_f s k p (by decide : (13 : Nat) ≠ 16)]
    refine ⟨b4, b5, ?_, fun g hg => (b7 g hg).2⟩
    by_cases e : j = k
    · rw [e, su_at]
      exact hp
    · rw [su_i s 16 p e]
      exact b6
  · obtain ⟨i1, i2, i3, i4, i5⟩ := (h0.y.2 j hj).2.1
    by_cases e : j = k
    · subst e
      refine ⟨⟨?_, ?_⟩, fun z => ?_, fun z => ?_, fun z => ?_, fun z => ?_⟩
      · rw [setI_ne _ _ (Or.inr (by decide))]; exact i1.1
      · rw [setI_ne _ _ (Or.inr (by decide))]; exact i1.2
      · obtain ⟨d1, d2, d3, d4, d5, d6⟩ := i2 z
        refine ⟨?_, ?_, ?_, ?_, ?_, fun g hg => ?_⟩
        · rw [setI_ne _ _ (Or.inr (by decide))]; exact d1
        · rw [setI_ne _ _ (Or.inr (by decide))]; exact d2
        · rw [setI_ne _ _ (Or.inr (by decide))]; exact d3
        · rw [setI_at, su_at]
        · rw [setI_ne _ _ (Or.inr (by decide))]; exact d5
        · rw [setI_far _ _ (by omega)]; exact d6 g hg
      · have h72 : s 7 j = 2 := z
        omega
      · have h72 : s 7 j = 3 ∨ s 7 j = 4 := z
        omega
      · have h72 : s 7 j = 5 := z
        omega
    · have e1 := setI_far (setI I 500 5 0) (f := 11) (iN p - 1) (show th j ≠ th k from fun w => e (th_inj w))
      have e2 := setI_far (setI I 500 5 0) (f := 11) (iN p - 1) (show th j + 9 ≠ th k from th_ne (o' := 0) e (by omega) (by omega))
      have h8 := CIk.far (h0.y.2 j hj).2.1 e1 e2
      unfold CIk at h8 ⊢
      rw [su_i s 16 p e]
      exact h8
/-! price -/
def isPc (y : Int32) : Prop := ∃ p, p ≤ 10000 ∧ y = iN p
theorem isPc_iff (y : Int32) : isPc y ↔ ¬ y < 0 ∧ ¬ (10000 : Int32) < y := by
  constructor
  · rintro ⟨p, hp, rfl⟩
    exact ⟨iN_nn (by omega), fun w => by have := (iN_lt (a := 10000) (by omega) (by omega)).mp w; omega⟩
  · rintro ⟨h1, h2⟩
    obtain ⟨p, hp, rfl, -⟩ := iN_of h1
    exact ⟨p, Nat.le_of_not_lt (fun w => h2 ((iN_lt (a := 10000) (by omega) hp).mpr w)), rfl⟩
def W_price (x y : Int32) : St → Tv → Int64 → Int64 → KC → Prop := fun s v a b Kc => ((¬ isLf s x ∨ ¬ isPc y) → Kc (aI 0) s v 1 a b) ∧ ∀ k p, x = iN k → k < s 6 0 → s 7 k = 0 → p ≤ 10000 → y = iN p → Kc (aI 1) (su s 13 (3 * k) p) v 0 a b
def F_X0_price : SPF := fun As C I J R K => ∃ x y : Int32, OpC [aI x, aI y] (W_price x y) As C I J R K
theorem S_X0_price (l : Launch) : SpX0_price l F_X0_price := by
  refine wX0_price (S_X0_leafOf l) (S_X0_want l) (S_X0_no l) ?_
  rintro As C I J R K ⟨x, y, s, v, st, a, b, Kc, rfl, hR, hF, hW, hK⟩
  have h0 := Mid.start hR
  have h504 : (C 504).1 = 2 := by rw [h0.ben.1.2.2.2.2]
  refine ⟨500, x, y, rfl, h0.c500, ?_⟩
  intro I2 e2
  obtain rfl : I2 = setI I 500 5 0 := e2
  refine F_leafOf_ok h0.ben h0.y (fun k hx hk h7 => Or.inl ⟨th k, rfl, ?_⟩) (fun w => Or.inr ⟨504, rfl, h504, h0.refZ (hW.1 (Or.inl w)) hK⟩)
  have bad : ¬ isPc y → PX0_price_28 F_X0_leafOf F_X0_want F_X0_no K 500 y (th k) 500 0 C (setI I 500 5 0) J R := fun w => ⟨h0.c500, F_want_no h0.ben (Or.inr ⟨504, rfl, h504, h0.refZ (hW.1 (Or.inr w)) hK⟩)⟩
  refine ⟨fun c => bad (fun w => ((isPc_iff y).mp w).1 c), fun c => ⟨fun c2 => bad (fun w => ((isPc_iff y).mp w).2 c2), fun c2 => ?_⟩⟩
  obtain ⟨p, hp, rfl⟩ := (isPc_iff y).mpr ⟨c, c2⟩
  have hcl := (h0.y.2 k hk).1.2.1 h7
  refine ⟨h0.c500, F_want_yes (Or.inl ⟨rfl, by rw [(h0.y.2 k hk).1.1.1, h7], th k + 9, hcl.2.2.1, by rw [hcl.2.2.2.1], by rw [hcl.2.2.2.1]; exact iN_in (a := 0) (by decide) (by show 0 < 3; decide), ?_⟩)⟩
  intro I8 e8
  obtain rfl : I8 = setI (setI I 500 5 0) (th k + 9) 0 (iN p) := e8
  have hS : SmS s (su s 13 (3 * k) p) := SmS.su (by omega)
  have g0 := th_ge k
  have hm := h0.ints hS (hS.vd h0.y.1 (fun j hj h7 => ?_)) (I' := setI (setI I 500 5 0) (th k + 9) 0 (iN p)) (fun q hq => setI_far _ _ (by omega)) (fun j hj => ?_)
  · exact hm.done (by rw [setI_far _ _ (show 500 ≠ th k + 9 by omega), setI_at]) (hW.2 k p hx hk h7 hp rfl) hK
  · obtain ⟨b1, b2, b3, b4, b5, b6, b7⟩ := (h0.y.1.2 j hj).2.1.1 h7
    rw [su_f s (3 * k) p (by decide : (15 : Nat) ≠ 13), su_f s (3 * k) p (by decide : (17 : Nat) ≠ 13), su_f s (3 * k) p (by decide : (16 : Nat) ≠ 13)]
    refine ⟨b4, b5, b6, fun g hg => ?_⟩
    by_cases e : 3 * j + g = 3 * k
    · rw [e, su_at]
      exact hp
    · rw [su_i s 13 p e]
      exact (b7 g hg).2
  · obtain ⟨i1, i2, i3, i4, i5⟩ := (h0.y.2 j hj).2.1
    have e0 := setI_far (setI I 500 5 0) (f := 0) (iN p) (show th j ≠ th k + 9 from fun w => by unfold th at w; omega)
    have h3 : s 7 j = 0 → s 12 j ≤ 3 := fun z => ((h0.y.1.2 j hj).2.1.1 z).2.2.1
    unfold CIk
    rw [e0]
    refine ⟨i1, fun z => ?_, i3, i4, i5⟩
    obtain ⟨d1, d2, d3, d4, d5, d6⟩ := i2 z
    refine ⟨d1, d2, d3, d4, d5, fun g hg => ?_⟩
    have hg3 := h3 z
    have hg2 : g < s 12 j := hg
    by_cases e : j = k
    · subst e
      by_cases e2 : g = 0
      · subst e2
        rw [setI_at, Nat.add_zero, su_at]
      · rw [setI_ne _ _ (Or.inr e2), su_i s 13 p (by omega)]
        exact d6 g hg
    · rw [setI_far _ _ (show th j + 9 ≠ th k + 9 from fun w => by unfold th at w; omega), su_i s 13 p (by omega)]
      exact d6 g hg
