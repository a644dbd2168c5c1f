/-! THE COMPONENT'S THINGS: names, chains, what the memory holds of the things of a state s -/
set_option maxRecDepth 100000
set_option linter.unusedVariables false
/-- thing k has the names from th k on; a leaf's first grade has a table of its own for each change (gq) -/
def th (k : Nat) : Nat := 1000 + 40 * k
def ow (x : Nat) : Nat := (x - 1000) / 40
theorem ow_th {k o : Nat} (h : o < 40) : ow (th k + o) = k := by unfold ow th; omega
theorem th_inj {a b : Nat} (h : th a = th b) : a = b := by unfold th at h; omega
def gq (s : St) (k g : Nat) : Nat := if g = 0 then 100000 + 3 * (k + 20 * s 5 k) else th k + 13 + 3 * g
/-- the chain of what a thing is in: one more than the number, 0 at the end -/
def anc (s : St) : Nat → Nat → Nat
  | 0, j => j + 1
  | m + 1, j => if anc s m j = 0 then 0 else s 11 (anc s m j - 1)
def inT (s : St) (k j : Nat) : Prop := ∃ m, anc s m j = k + 1
theorem inT_self (s : St) (k : Nat) : inT s k k := ⟨0, rfl⟩
theorem anc_up {s : St} (hV : Vd s) {j : Nat} (hj : j < s 6 0) : ∀ m, anc s m j ≤ s 6 0 ∧ (anc s (m + 1) j = 0 ∨ (anc s m j ≠ 0 ∧ anc s m j < anc s (m + 1) j))
  | 0 => by
    have h := (hV.2 j hj).2.2
    refine ⟨hj, ?_⟩
    show (if j + 1 = 0 then 0 else s 11 (j + 1 - 1)) = 0 ∨ (j + 1 ≠ 0 ∧ j + 1 < if j + 1 = 0 then 0 else s 11 (j + 1 - 1))
    rw [if_neg (Nat.succ_ne_zero j), Nat.add_sub_cancel]
    by_cases e : s 11 j = 0
    · exact Or.inl e
    · exact Or.inr ⟨Nat.succ_ne_zero j, (h.2 e).1⟩
  | m + 1 => by
    have h0 := anc_up hV hj m
    have hle : anc s (m + 1) j ≤ s 6 0 := by
      show (if anc s m j = 0 then 0 else s 11 (anc s m j - 1)) ≤ s 6 0
      by_cases e : anc s m j = 0
      · rw [if_pos e]
        exact Nat.zero_le _
      · rw [if_neg e]
        exact (hV.2 (anc s m j - 1) (by omega)).2.2.1
    refine ⟨hle, ?_⟩
    show (if anc s (m + 1) j = 0 then 0 else s 11 (anc s (m + 1) j - 1)) = 0 ∨ (anc s (m + 1) j ≠ 0 ∧ anc s (m + 1) j < if anc s (m + 1) j = 0 then 0 else s 11 (anc s (m + 1) j - 1))
    by_cases e : anc s (m + 1) j = 0
    · rw [if_pos e]
      exact Or.inl rfl
    · rw [if_neg e]
      have h := (hV.2 (anc s (m + 1) j - 1) (by omega)).2.2
      by_cases e2 : s 11 (anc s (m + 1) j - 1) = 0
      · exact Or.inl e2
      · have := (h.2 e2).1
        exact Or.inr ⟨e, by omega⟩
theorem anc_zero {s : St} {j m : Nat} (h : anc s m j = 0) : ∀ d, anc s (m + d) j = 0
  | 0 => h
  | d + 1 => by
    show (if anc s (m + d) j = 0 then 0 else _) = 0
    rw [if_pos (anc_zero h d)]
theorem anc_mono {s : St} (hV : Vd s) {j : Nat} (hj : j < s 6 0) (m : Nat) : ∀ d, anc s (m + d) j = 0 ∨ anc s m j + d ≤ anc s (m + d) j
  | 0 => Or.inr (Nat.le_refl _)
  | d + 1 => by
    have h := (anc_up hV hj (m + d)).2
    rcases anc_mono hV hj m d with h1 | h1
    · exact Or.inl (anc_zero h1 1)
    · rcases h with h | h
      · exact Or.inl h
      · have h2 : anc s (m + d) j < anc s (m + (d + 1)) j := h.2
        exact Or.inr (by omega)
theorem inT_ge {s : St} (hV : Vd s) {k j : Nat} (hj : j < s 6 0) (h : inT s k j) : j ≤ k := by
  obtain ⟨m, hm⟩ := h
  rcases anc_mono hV hj 0 m with h1 | h1
  · rw [Nat.zero_add] at h1
    omega
  · rw [Nat.zero_add] at h1
    have h2 : j + 1 + m ≤ anc s m j := h1
    omega
theorem inT_part {s : St} (hV : Vd s) {k i j : Nat} (hk : k < s 6 0) (hi : i < s 1 k) (h : inT s (prt s k i) j) : inT s k j := by
  obtain ⟨m, hm⟩ := h
  refine ⟨m + 1, ?_⟩
  show (if anc s m j = 0 then 0 else s 11 (anc s m j - 1)) = k + 1
  rw [hm, if_neg (Nat.succ_ne_zero _), Nat.add_sub_cancel]
  exact ((hV.2 k hk).1.2.2.1 i hi).2
theorem inT_lt {s : St} (hV : Vd s) {k i j : Nat} (hk : k < s 6 0) (hi : i < s 1 k) (hj : j < s 6 0) (h : inT s (prt s k i) j) : j < k := by
  have h1 := inT_ge hV hj h
  have h2 := ((hV.2 k hk).1.2.2.1 i hi).1
  omega
theorem inT_apart {s : St} (hV : Vd s) {k i i' j : Nat} (hk : k < s 6 0) (hi : i < s 1 k) (hi' : i' < s 1 k) (hne : i ≠ i') (hj : j < s 6 0) (h : inT s (prt s k i) j) : ¬ inT s (prt s k i') j := by
  have hp : ∀ a, a < s 1 k → prt s k a < k ∧ s 11 (prt s k a) = k + 1 := (hV.2 k hk).1.2.2.1
  have hd := (hV.2 k hk).1.2.2.2
  have key : ∀ a b m m', a < s 1 k → b < s 1 k → a ≠ b → m ≤ m' → anc s m j = prt s k a + 1 → anc s m' j = prt s k b + 1 → False := by
    intro a b m m' ha hb hab hmm h1 h2
    by_cases e : m = m'
    · subst e
      have : prt s k a = prt s k b := by omega
      rcases Nat.lt_or_ge a b with h3 | h3
      · exact hd a b h3 hb this
      · exact hd b a (by omega) ha this.symm
    · have h3 : anc s (m + 1) j = k + 1 := by
        show (if anc s m j = 0 then 0 else s 11 (anc s m j - 1)) = k + 1
        rw [h1, if_neg (Nat.succ_ne_zero _), Nat.add_sub_cancel]
        exact (hp a ha).2
      have h4 := anc_mono hV hj (m + 1) (m' - (m + 1))
      rw [show m + 1 + (m' - (m + 1)) = m' by omega, h2, h3] at h4
      have := (hp b hb).1
      omega
  rintro ⟨m', hm'⟩
  obtain ⟨m, hm⟩ := h
  rcases Nat.le_total m m' with h1 | h1
  · exact key i i' m m' hi hi' hne h1 hm hm'
  · exact key i' i m' m hi' hi (fun w => hne w.symm) h1 hm' hm
/-- what a thing's table() may write -/
def sc (s : St) (k x : Nat) : Prop := 1000 ≤ x ∧ x < 1800 ∧ s 7 (ow x) ≠ 0 ∧ ow x < s 6 0 ∧ inT s k (ow x)
def FrJ (s : St) (k : Nat) (J J' : MJ) : Prop := ∀ x, ¬ sc s k x → J' x = J x
/-- the names of tables -/
def tnm (s : St) (r : Nat) : Prop := ∃ j, j < s 6 0 ∧ (r = th j + 2 ∨ r = th j + 5 ∨ (s 7 j = 0 ∧ ∃ g, g < s 12 j ∧ r = gq s j g))
def FrR (s : St) (k : Nat) (R R' : MR) : Prop := (∀ x, ¬ (sc s k x ∧ (x - 1000) % 40 = 15) → R' x = R x) ∧ ∀ x i r, R' x i = some r → R x i = some r ∨ tnm s r
/-- where the answer's cells are: they are no other subtree's -/
def RS (s : St) (k q : Nat) : Prop := ∀ x, q ≤ x → x ≤ q + 2 → 1000 ≤ x → x < 1800 → s 7 (ow x) ≠ 0 → inT s k (ow x)
theorem sc_own {s : St} {k o : Nat} (hV : Vd s) (hk : k < s 6 0) (h7 : s 7 k ≠ 0) (ho : o < 40) : sc s k (th k + o) := by
  have h1 := hV.1
  refine ⟨by unfold th; omega, by unfold th; omega, ?_⟩
  rw [ow_th ho]
  exact ⟨h7, hk, inT_self s k⟩
theorem sc_part {s : St} (hV : Vd s) {k i x : Nat} (hk : k < s 6 0) (hi : i < s 1 k) (h : sc s (prt s k i) x) : sc s k x := ⟨h.1, h.2.1, h.2.2.1, h.2.2.2.1, inT_part hV hk hi h.2.2.2.2⟩
theorem sc_not_own {s : St} (hV : Vd s) {k i o : Nat} (hk : k < s 6 0) (hi : i < s 1 k) (ho : o < 40) : ¬ sc s (prt s k i) (th k + o) := fun h => by
  have h1 := h.2.2.2.2
  rw [ow_th ho] at h1
  have := inT_lt hV hk hi hk h1
  omega
theorem FrJ.refl {s : St} {k : Nat} {J : MJ} : FrJ s k J J := fun _ _ => rfl
theorem FrR.refl {s : St} {k : Nat} {R : MR} : FrR s k R R := ⟨fun _ _ => rfl, fun _ _ _ h => Or.inl h⟩
theorem FrJ.trans {s : St} {k : Nat} {J J1 J2 : MJ} (h : FrJ s k J J1) (h2 : FrJ s k J1 J2) : FrJ s k J J2 := fun x hx => (h2 x hx).trans (h x hx)
theorem FrR.trans {s : St} {k : Nat} {R R1 R2 : MR} (h : FrR s k R R1) (h2 : FrR s k R1 R2) : FrR s k R R2 := ⟨fun x hx => (h2.1 x hx).trans (h.1 x hx), fun x i r hx => (h2.2 x i r hx).elim (fun z => h.2 x i r z) Or.inr⟩
theorem FrJ.part {s : St} {J J' : MJ} (hV : Vd s) {k i : Nat} (hk : k < s 6 0) (hi : i < s 1 k) (h : FrJ s (prt s k i) J J') : FrJ s k J J' := fun x hx => h x (fun w => hx (sc_part hV hk hi w))
theorem FrR.part {s : St} {R R' : MR} (hV : Vd s) {k i : Nat} (hk : k < s 6 0) (hi : i < s 1 k) (h : FrR s (prt s k i) R R') : FrR s k R R' := ⟨fun x hx => h.1 x (fun w => hx ⟨sc_part hV hk hi w.1, w.2⟩), h.2⟩
theorem FrJ.up {s : St} {J J' : MJ} {k o : Nat} {b : Nat → Int64} (hV : Vd s) (hk : k < s 6 0) (h7 : s 7 k ≠ 0) (ho : o < 40) (h : FrJ s k J J') : FrJ s k J (va_up J' (th k + o) b) := fun x hx => by
  rw [va_up_ne _ _ (fun e => hx (by rw [e]; exact sc_own hV hk h7 ho))]
  exact h x hx
/-- what three names that are a thing's own keep from another thing's table() -/
theorem FrJ.keep {s : St} {J J' : MJ} (hV : Vd s) {k i i' q : Nat} (hk : k < s 6 0) (hi : i < s 1 k) (hi' : i' < s 1 k) (hne : i ≠ i') (h : FrJ s (prt s k i') J J') (hq : RS s (prt s k i) q) (x : Nat) (h1 : q ≤ x) (h2 : x ≤ q + 2) : J' x = J x := by
  refine h x (fun w => ?_)
  exact inT_apart hV hk hi hi' hne w.2.2.2.1 (hq x h1 h2 w.1 w.2.1 w.2.2.1) w.2.2.2.2
theorem RS.part {s : St} (hV : Vd s) {k i q : Nat} (hk : k < s 6 0) (hi : i < s 1 k) (h : RS s (prt s k i) q) : RS s k q := fun x h1 h2 h3 h4 h5 => inT_part hV hk hi (h x h1 h2 h3 h4 h5)
theorem RS.own {s : St} {k o : Nat} (ho : o < 38) : RS s k (th k + o) := fun x h1 h2 _ _ _ => by
  obtain ⟨e, rfl⟩ : ∃ e, x = th k + (o + e) := ⟨x - th k - o, by omega⟩
  rw [ow_th (by omega)]
  exact inT_self s k
/-- a part's answer is none of the thing's own cells -/
theorem RS.ne {s : St} (hV : Vd s) {k i q : Nat} (hk : k < s 6 0) (h7 : s 7 k ≠ 0) (hi : i < s 1 k) (h : RS s (prt s k i) q) (x o : Nat) (h1 : q ≤ x) (h2 : x ≤ q + 2) (ho : o < 40) : x ≠ th k + o := fun e => by
  have hn := hV.1
  have h3 := h x h1 h2 (by rw [e]; unfold th; omega) (by rw [e]; unfold th; omega) (by rw [e, ow_th ho]; exact h7)
  rw [e, ow_th ho] at h3
  have := inT_lt hV hk hi hk h3
  omega
/-- what the memory holds of thing k: cells and references -/
def CSk (s : St) (C : MC) (R : MR) (k : Nat) : Prop :=
  (C (th k) = (5 + s 7 k, 0) ∧ C (th k + 1) = (26, s 1 k) ∧ R (th k) 0 = some (th k + 1) ∧ (∀ i, i < s 1 k → R (th k + 1) i = some (th (prt s k i))) ∧ R (th k) 1 = some (th k + 2) ∧ R (th k) 2 = some (th k + 5) ∧ TbS C R (th k + 2) ∧ TbS C R (th k + 5) ∧ R (th k) 3 = (if s 11 k = 0 then none else some (th (s 11 k - 1)))) ∧
  (s 7 k = 0 → R (th k) 6 = some (th k + 8) ∧ C (th k + 8) = (27, 3) ∧ R (th k) 7 = some (th k + 9) ∧ C (th k + 9) = (20, 3) ∧ ∀ g, g < s 12 k → R (th k + 8) g = some (gq s k g) ∧ TbS C R (gq s k g)) ∧
  ((s 7 k = 1 ∨ s 7 k = 2) → R (th k) 6 = some (th k + 8) ∧ C (th k + 8) = (29, s 1 k + 1) ∧ R (th k) 7 = some (th k + 14) ∧ C (th k + 14) = (21, s 1 k) ∧ ∀ i, i ≤ s 1 k → R (th k + 8) i = some (th k + (9 + i)) ∧ C (th k + (9 + i)) = (21, 121)) ∧
  (s 7 k = 2 → R (th k) 9 = some (th k + 15) ∧ C (th k + 15) = (27, s 1 k) ∧ R (th k) 10 = some (th k + 16) ∧ C (th k + 16) = (21, s 1 k) ∧ R (th k) 11 = some (th k + 17) ∧ C (th k + 17) = (21, s 1 k)) ∧
  (s 7 k = 4 → R (th k) 8 = some (th k + 8) ∧ C (th k + 8) = (21, 121) ∧ R (th k) 9 = some (th k + 9) ∧ C (th k + 9) = (21, 121))
/-- its ints -/
def CIk (s : St) (I : MI) (k : Nat) : Prop :=
  (I (th k) 4 = iN (s 18 k) ∧ I (th k) 5 = iN (s 19 k)) ∧
  (s 7 k = 0 → I (th k) 8 = iN (s 12 k) ∧ I (th k) 9 = iN (s 15 k) ∧ I (th k) 10 = iN (s 17 k) - 1 ∧ I (th k) 11 = iN (s 16 k) - 1 ∧ I (th k) 12 = iN (s 20 k) ∧ ∀ g, g < s 12 k → I (th k + 9) g = iN (s 13 (3 * k + g))) ∧
  (s 7 k = 2 → I (th k) 8 = iN (s 9 k)) ∧ ((s 7 k = 3 ∨ s 7 k = 4) → I (th k) 6 = iN (s 9 k) ∧ I (th k) 7 = iN (s 10 k)) ∧ (s 7 k = 5 → I (th k) 6 = iN (s 9 k))
/-- a leaf's table of one grade -/
def lgT (s : St) (k g : Nat) : Tb := tdiv (fun i => if i < 60 then s 14 (60 * (3 * k + g) + i) else 0, fun _ => 0, sm (fun i => s 14 (60 * (3 * k + g) + i)) 60)
def RpB (J : MJ) (q : Nat) (x : Tb) : Prop := RpT J q x.1 x.2.1 x.2.2
def LTk (s : St) (J : MJ) (k : Nat) : Prop := s 7 k = 0 → ∀ g, g < s 12 k → RpB J (gq s k g) (lgT s k g)
def CtX (s : St) (C : MC) (I : MI) (J : MJ) (R : MR) : Prop := Vd s ∧ (C nG).1 = 0 ∧ ∀ k, k < s 6 0 → CSk s C R k ∧ CIk s I k ∧ LTk s J k
theorem gq_not_sc {s : St} {k g j x : Nat} (h7 : s 7 k = 0) (hg : g < 3) (h1 : gq s k g ≤ x) (h2 : x ≤ gq s k g + 2) : ¬ sc s j x := by
  rintro ⟨a1, a2, a3, -⟩
  unfold gq at h1 h2
  by_cases e : g = 0
  · rw [if_pos e] at h1
    omega
  · rw [if_neg e] at h1 h2
    obtain ⟨d, rfl⟩ : ∃ d, x = th k + (13 + 3 * g + d) := ⟨x - (th k + 13 + 3 * g), by omega⟩
    rw [ow_th (by omega)] at a3
    exact a3 h7
theorem RpB.kept {J J' : MJ} {q : Nat} {x : Tb} (h : RpB J q x) (hJ : ∀ y, q ≤ y → y ≤ q + 2 → J' y = J y) : RpB J' q x := by
  unfold RpB RpT at h ⊢
  rw [hJ q (by omega) (by omega), hJ (q + 1) (by omega) (by omega), hJ (q + 2) (by omega) (by omega)]
  exact h
theorem TbS.kept {C : MC} {R R' : MR} {q : Nat} (h : TbS C R q) (hR : R' q = R q) : TbS C R' q := by
  unfold TbS at h ⊢
  rw [hR]
  exact h
theorem gq_not_R {s : St} {k g j : Nat} (h7 : s 7 k = 0) (hg : g < 3) : ¬ (sc s j (gq s k g) ∧ (gq s k g - 1000) % 40 = 15) := fun w => gq_not_sc h7 hg (Nat.le_refl _) (by omega) w.1
theorem th_not_R {s : St} {k o j : Nat} (ho : o < 40) (h : o ≠ 15) : ¬ (sc s j (th k + o) ∧ (th k + o - 1000) % 40 = 15) := fun w => by
  have := w.2
  unfold th at this
  omega
theorem CtX.kept {s : St} {C : MC} {I : MI} {J J' : MJ} {R R' : MR} {j : Nat} (h : CtX s C I J R) (hJ : FrJ s j J J') (hR : FrR s j R R') : CtX s C I J' R' := by
  refine ⟨h.1, h.2.1, fun k hk => ?_⟩
  have hV := h.1.2 k hk
  have e : ∀ o, o < 40 → o ≠ 15 → R' (th k + o) = R (th k + o) := fun o h1 h2 => hR.1 _ (th_not_R h1 h2)
  have e0 := e 0 (by omega) (by omega)
  rw [Nat.add_zero] at e0
  obtain ⟨⟨c1, c2, c3, c4, c5, c6, c7, c8, c9⟩, cl, cr, cf, ct⟩ := (h.2.2 k hk).1
  refine ⟨⟨⟨c1, c2, ?_, ?_, ?_, ?_, ?_, ?_, ?_⟩, fun h7 => ?_, fun h7 => ?_, fun h7 => ?_, fun h7 => ?_⟩, (h.2.2 k hk).2.1, fun h7 g hg => ?_⟩
  · rw [e0]; exact c3
  · rw [e 1 (by omega) (by omega)]; exact c4
  · rw [e0]; exact c5
  · rw [e0]; exact c6
  · exact c7.kept (e 2 (by omega) (by omega))
  · exact c8.kept (e 5 (by omega) (by omega))
  · rw [e0]; exact c9
  · obtain ⟨b1, b2, b3, b4, b5⟩ := cl h7
    rw [e0, e 8 (by omega) (by omega)]
    refine ⟨b1, b2, b3, b4, fun g hg => ⟨(b5 g hg).1, (b5 g hg).2.kept (hR.1 _ (gq_not_R h7 ?_))⟩⟩
    have := (hV.2.1.1 h7).2.2.1
    omega
  · rw [e0, e 8 (by omega) (by omega)]
    exact cr h7
  · rw [e0]
    exact cf h7
  · rw [e0]
    exact ct h7
  · have := (hV.2.1.1 h7).2.2.1
    exact ((h.2.2 k hk).2.2 h7 g hg).kept (fun y h1 h2 => hJ y (gq_not_sc h7 (by omega) h1 h2))
/-- the contract of table() -/
def TK (s : St) (k : Nat) (K : AK) (C : MC) (I : MI) (J : MJ) (R : MR) : Prop :=
  (grt s k → ∀ (J' : MJ) (R' : MR), FrJ s k J J' → FrR s k R R' → TG K C I J' R') ∧
  (¬ grt s k → ∀ (J' : MJ) (R' : MR) (q : Nat), FrJ s k J J' → FrR s k R R' → TbS C R' q → RpB J' q (tbl s k) → RS s k q → tnm s q → K (.inl (some (aR (some q)))) C I J' R')
def F_T (d : Nat) : SPF := fun As C I J R K => ∃ (s : St) (k : Nat), As = [aR (some (th k))] ∧ k ≤ d ∧ k < s 6 0 ∧ CtX s C I J R ∧ TK s k K C I J R
theorem kTh_of {s : St} {C : MC} {I : MI} {J : MJ} {R : MR} {k : Nat} (h : CtX s C I J R) (hk : k < s 6 0) : kTh (C (th k)).1 := by
  rw [(h.2.2 k hk).1.1.1]
  have := (h.1.2 k hk).1.1
  exact ⟨Nat.le_add_right _ _, by omega⟩
