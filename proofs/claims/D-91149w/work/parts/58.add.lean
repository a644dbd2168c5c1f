/-! A THING IS ADDED: the state after it; what the component's memory then holds -/
set_option maxRecDepth 100000
set_option linter.unusedVariables false
def pup (p : Nat → Nat) (w : Nat) : Nat → (Nat → Nat) → Nat → Nat
  | 0, g => g
  | m + 1, g => fun j => if j = p m then w else pup p w m g j
theorem pup_in {p : Nat → Nat} {w : Nat} {g : Nat → Nat} : ∀ {m i : Nat}, i < m → pup p w m g (p i) = w
  | 0, _, h => absurd h (Nat.not_lt_zero _)
  | m + 1, i, h => by
    show (if p i = p m then w else pup p w m g (p i)) = w
    by_cases e : p i = p m
    · rw [if_pos e]
    · rw [if_neg e]
      have : i ≠ m := fun z => e (by rw [z])
      exact pup_in (by omega)
theorem pup_out {p : Nat → Nat} {w : Nat} {g : Nat → Nat} {j : Nat} : ∀ {m : Nat}, (∀ i, i < m → j ≠ p i) → pup p w m g j = g j
  | 0, _ => rfl
  | m + 1, h => by
    show (if j = p m then w else pup p w m g j) = g j
    rw [if_neg (h m (by omega))]
    exact pup_out (fun i hi => h i (by omega))
theorem pup_or {p : Nat → Nat} {w : Nat} {g : Nat → Nat} {j : Nat} : ∀ {m : Nat}, (∃ i, i < m ∧ j = p i) ∨ ∀ i, i < m → j ≠ p i
  | 0 => Or.inr (fun i h => absurd h (Nat.not_lt_zero _))
  | m + 1 => by
    by_cases e : j = p m
    · exact Or.inl ⟨m, by omega, e⟩
    · rcases pup_or (p := p) (w := w) (g := g) (j := j) (m := m) with ⟨i, hi, h⟩ | h
      · exact Or.inl ⟨i, by omega, h⟩
      · refine Or.inr (fun i hi => ?_)
        by_cases e2 : i = m
        · rw [e2]; exact e
        · exact h i (by omega)
def adS (s : St) (kd m a c : Nat) (p w : Nat → Nat) : St := fun f => match f with
  | 1 => fun j => if j = s 6 0 then m else s 1 j
  | 5 => fun j => if j = s 6 0 then 0 else s 5 j
  | 6 => fun j => if j = 0 then s 6 0 + 1 else s 6 j
  | 7 => fun j => if j = s 6 0 then kd else s 7 j
  | 8 => fun j => if 4 * s 6 0 ≤ j ∧ j < 4 * s 6 0 + 4 then p (j - 4 * s 6 0) else s 8 j
  | 9 => fun j => if j = s 6 0 then a else s 9 j
  | 10 => fun j => if j = s 6 0 then c else s 10 j
  | 11 => fun j => if j = s 6 0 then 0 else pup p (s 6 0 + 1) m (s 11) j
  | 12 => fun j => if j = s 6 0 then 1 else s 12 j
  | 13 => fun j => if j = 3 * s 6 0 then 0 else s 13 j
  | 14 => fun j => if 60 * (3 * s 6 0) ≤ j ∧ j < 60 * (3 * s 6 0) + 60 then w (j - 60 * (3 * s 6 0)) else s 14 j
  | 15 => fun j => if j = s 6 0 then 0 else s 15 j
  | 16 => fun j => if j = s 6 0 then 0 else s 16 j
  | 17 => fun j => if j = s 6 0 then 0 else s 17 j
  | 18 => fun j => if j = s 6 0 then 0 else s 18 j
  | 19 => fun j => if j = s 6 0 then 0 else s 19 j
  | 20 => fun j => if j = s 6 0 then 0 else s 20 j
  | f => s f
section AD
variable {s : St} {kd m a c : Nat} {p w : Nat → Nat}
theorem ad_n : adS s kd m a c p w 6 0 = s 6 0 + 1 := rfl
theorem ad_new : adS s kd m a c p w 1 (s 6 0) = m ∧ adS s kd m a c p w 5 (s 6 0) = 0 ∧ adS s kd m a c p w 7 (s 6 0) = kd ∧ adS s kd m a c p w 9 (s 6 0) = a ∧ adS s kd m a c p w 10 (s 6 0) = c ∧ adS s kd m a c p w 11 (s 6 0) = 0 ∧ adS s kd m a c p w 12 (s 6 0) = 1 ∧ adS s kd m a c p w 15 (s 6 0) = 0 ∧ adS s kd m a c p w 16 (s 6 0) = 0 ∧ adS s kd m a c p w 17 (s 6 0) = 0 ∧ adS s kd m a c p w 18 (s 6 0) = 0 ∧ adS s kd m a c p w 19 (s 6 0) = 0 ∧ adS s kd m a c p w 20 (s 6 0) = 0 :=
  ⟨if_pos rfl, if_pos rfl, if_pos rfl, if_pos rfl, if_pos rfl, if_pos rfl, if_pos rfl, if_pos rfl, if_pos rfl, if_pos rfl, if_pos rfl, if_pos rfl, if_pos rfl⟩
theorem ad_old {k : Nat} (h : k ≠ s 6 0) : adS s kd m a c p w 1 k = s 1 k ∧ adS s kd m a c p w 5 k = s 5 k ∧ adS s kd m a c p w 7 k = s 7 k ∧ adS s kd m a c p w 9 k = s 9 k ∧ adS s kd m a c p w 10 k = s 10 k ∧ adS s kd m a c p w 11 k = pup p (s 6 0 + 1) m (s 11) k ∧ adS s kd m a c p w 12 k = s 12 k ∧ adS s kd m a c p w 15 k = s 15 k ∧ adS s kd m a c p w 16 k = s 16 k ∧ adS s kd m a c p w 17 k = s 17 k ∧ adS s kd m a c p w 18 k = s 18 k ∧ adS s kd m a c p w 19 k = s 19 k ∧ adS s kd m a c p w 20 k = s 20 k :=
  ⟨if_neg h, if_neg h, if_neg h, if_neg h, if_neg h, if_neg h, if_neg h, if_neg h, if_neg h, if_neg h, if_neg h, if_neg h, if_neg h⟩
theorem ad_p {i : Nat} (hi : i < 4) : prt (adS s kd m a c p w) (s 6 0) i = p i := by
  show (if 4 * s 6 0 ≤ 4 * s 6 0 + i ∧ 4 * s 6 0 + i < 4 * s 6 0 + 4 then p (4 * s 6 0 + i - 4 * s 6 0) else _) = _
  rw [if_pos (by omega), Nat.add_sub_cancel_left]
theorem ad_po {k i : Nat} (hk : k ≠ s 6 0) (hi : i < 4) : prt (adS s kd m a c p w) k i = prt s k i := by
  show (if 4 * s 6 0 ≤ 4 * k + i ∧ 4 * k + i < 4 * s 6 0 + 4 then p (4 * k + i - 4 * s 6 0) else _) = _
  rw [if_neg (by omega)]
  rfl
theorem ad_w {i : Nat} (hi : i < 60) : adS s kd m a c p w 14 (60 * (3 * s 6 0 + 0) + i) = w i := by
  show (if 60 * (3 * s 6 0) ≤ 60 * (3 * s 6 0 + 0) + i ∧ 60 * (3 * s 6 0 + 0) + i < 60 * (3 * s 6 0) + 60 then w (60 * (3 * s 6 0 + 0) + i - 60 * (3 * s 6 0)) else _) = _
  rw [if_pos (by omega), Nat.add_zero, Nat.add_sub_cancel_left]
theorem ad_wo {k g i : Nat} (hk : k ≠ s 6 0) (hg : g < 3) (hi : i < 60) : adS s kd m a c p w 14 (60 * (3 * k + g) + i) = s 14 (60 * (3 * k + g) + i) := by
  show (if 60 * (3 * s 6 0) ≤ 60 * (3 * k + g) + i ∧ 60 * (3 * k + g) + i < 60 * (3 * s 6 0) + 60 then w (60 * (3 * k + g) + i - 60 * (3 * s 6 0)) else s 14 (60 * (3 * k + g) + i)) = _
  rw [if_neg (by omega)]
theorem ad_13 : adS s kd m a c p w 13 (3 * s 6 0 + 0) = 0 := if_pos rfl
theorem ad_13o {k g : Nat} (hk : k ≠ s 6 0) (hg : g < 3) : adS s kd m a c p w 13 (3 * k + g) = s 13 (3 * k + g) := if_neg (by omega)
/-- what the new thing must be -/
def NewK (s : St) (kd m a c : Nat) (p w : Nat → Nat) : Prop := kd ≤ 5 ∧ m ≤ 4 ∧ (∀ i, i < m → p i < s 6 0 ∧ s 11 (p i) = 0) ∧ (∀ i j, i < j → j < m → p i ≠ p j) ∧ (kd = 0 → m = 0 ∧ 1 ≤ sm w 60 ∧ sm w 60 ≤ 1000) ∧ (kd = 1 → 2 ≤ m) ∧ (kd = 2 → 1 ≤ a ∧ a ≤ m) ∧ (kd = 3 → m = 2 ∧ a ≤ c ∧ 1 ≤ c ∧ c ≤ 100) ∧ (kd = 4 → m = 1 ∧ 1 ≤ a ∧ a ≤ 60 ∧ 1 ≤ c ∧ c ≤ 3) ∧ (kd = 5 → m = 1 ∧ a ≤ 60)
theorem Vd.ad (hV : Vd s) (hn : s 6 0 < 20) (h : NewK s kd m a c p w) : Vd (adS s kd m a c p w) := by
  obtain ⟨h1, h2, h3, h4, k0, k1, k2, k3, k4, k5⟩ := h
  refine ⟨by rw [ad_n]; omega, fun k hk => ?_⟩
  rw [ad_n] at hk
  unfold VdK
  by_cases e : k = s 6 0
  · subst e
    obtain ⟨a1, a5, a7, a9, a10, a11, a12, a15, a16, a17, -⟩ := ad_new (s := s) (kd := kd) (m := m) (a := a) (c := c) (p := p) (w := w)
    rw [a1, a7, a9, a10, a11, a12, a15, a16, a17]
    refine ⟨⟨h1, h2, fun i hi => ?_, fun i j hi hj => ?_⟩, ⟨fun z => ?_, k1, k2, k3, k4, k5⟩, Nat.zero_le _, fun z => absurd rfl z⟩
    · rw [ad_p (by omega)]
      have h5 := h3 i hi
      refine ⟨h5.1, ?_⟩
      rw [(ad_old (s := s) (show p i ≠ s 6 0 by omega)).2.2.2.2.2.1, pup_in hi]
    · rw [ad_p (by omega), ad_p (by omega)]
      exact h4 i j hi hj
    · obtain ⟨z1, z2⟩ := k0 z
      refine ⟨z1, by omega, by omega, by omega, by omega, by omega, fun g hg => ?_⟩
      obtain rfl : g = 0 := by omega
      rw [sm_congr (g := w) (fun i hi => ad_w hi), ad_13]
      exact ⟨z2, by omega⟩
  · obtain ⟨⟨b1, b2, b3, b4⟩, ⟨v0, v1, v2, v3, v4, v5⟩, b5, b6⟩ := hV.2 k (by omega)
    obtain ⟨a1, a5, a7, a9, a10, a11, a12, a15, a16, a17, -⟩ := ad_old (s := s) (kd := kd) (m := m) (a := a) (c := c) (p := p) (w := w) e
    rw [a1, a7, a9, a10, a11, a12, a15, a16, a17, ad_n]
    refine ⟨⟨b1, b2, fun i hi => ?_, fun i j hi hj => ?_⟩, ⟨fun z => ?_, v1, v2, v3, v4, v5⟩, ?_⟩
    · rw [ad_po e (by omega)]
      have h5 := b3 i hi
      refine ⟨h5.1, ?_⟩
      rw [(ad_old (s := s) (show prt s k i ≠ s 6 0 by omega)).2.2.2.2.2.1, pup_out (fun j hj w => ?_)]
      · exact h5.2
      · have h6 := (h3 j hj).2
        rw [← w, h5.2] at h6
        omega
    · rw [ad_po e (by omega), ad_po e (by omega)]
      exact b4 i j hi hj
    · obtain ⟨c1, c2, c3, c4, c5, c6, c7⟩ := v0 z
      refine ⟨c1, c2, c3, c4, c5, c6, fun g hg => ?_⟩
      rw [sm_congr (g := fun i => s 14 (60 * (3 * k + g) + i)) (fun i hi => ad_wo e (by omega) hi), ad_13o e (by omega)]
      exact c7 g hg
    · rcases pup_or (p := p) (w := s 6 0 + 1) (g := s 11) (j := k) (m := m) with ⟨i, hi, z⟩ | z
      · rw [z, pup_in hi, ← z]
        refine ⟨Nat.le_refl _, fun _ => ⟨by omega, i, ?_, ?_⟩⟩
        · rw [Nat.add_sub_cancel, ad_new.1]
          exact hi
        · rw [Nat.add_sub_cancel, ad_p (by omega), z]
      · rw [pup_out z]
        refine ⟨by omega, fun h0 => ?_⟩
        obtain ⟨d1, i, hi, d2⟩ := b6 h0
        have ne : s 11 k - 1 ≠ s 6 0 := by omega
        refine ⟨d1, i, ?_, ?_⟩
        · rw [(ad_old ne).1]
          exact hi
        · have := (hV.2 (s 11 k - 1) (by omega)).1.2.1
          rw [ad_po ne (by omega)]
          exact d2
def Nw (n x : Nat) : Prop := (th n ≤ x ∧ x < th n + 40) ∨ (100000 + 3 * n ≤ x ∧ x < 100000 + 3 * n + 3)
theorem mkd_lt {f : Nat} (h : (mkd f).1 ≠ 0) : f ≤ 37 := by
  refine Classical.byContradiction (fun z => h ?_)
  obtain ⟨g, rfl⟩ : ∃ g, f = g + 38 := ⟨f - 38, by omega⟩
  rfl
theorem Nw_dead {v : Tv} {C : MC} {I : MI} {J : MJ} {R : MR} (h : TrS s v C I J R) (hn : s 6 0 < 20) {q : Nat} (hq : Nw (s 6 0) q) : ¬ LV s q := by
  rintro (w | w | ⟨f, hf, w⟩ | w | ⟨u, hu, h4, w⟩ | ⟨k, o, hk, ho, hl, w⟩ | ⟨k, x, e', hk, h7, hw, he, w⟩)
  · unfold Nw th at hq
    omega
  · unfold Nw th at hq
    omega
  · have := mkd_lt hf
    unfold Nw th at hq
    omega
  · unfold Nw th at hq
    omega
  · have h2 := (h u hu).1.1
    unfold trn at w
    unfold Nw th at hq
    omega
  · unfold Nw th at hq
    unfold th at w
    omega
  · unfold Nw th at hq
    omega
theorem LV_ad {q : Nat} (h : LV (adS s kd m a c p w) q) : LV s q ∨ (Nw (s 6 0) q ∧ ((∃ o, o < 40 ∧ lvo (adS s kd m a c p w) (s 6 0) o ∧ q = th (s 6 0) + o) ∨ (kd = 0 ∧ 100000 + 3 * s 6 0 ≤ q ∧ q < 100000 + 3 * s 6 0 + 3))) := by
  rcases h with h | h | h | h | ⟨u, hu, h4, h⟩ | ⟨k, o, hk, ho, hl, h⟩ | ⟨k, x, e', hk, h7, hw, he, h⟩
  · exact Or.inl (Or.inl h)
  · exact Or.inl (Or.inr (Or.inl h))
  · exact Or.inl (Or.inr (Or.inr (Or.inl h)))
  · exact Or.inl (Or.inr (Or.inr (Or.inr (Or.inl h))))
  · exact Or.inl (Or.inr (Or.inr (Or.inr (Or.inr (Or.inl ⟨u, hu, h4, h⟩)))))
  · rw [ad_n] at hk
    by_cases e : k = s 6 0
    · subst e
      exact Or.inr ⟨Or.inl (by omega), Or.inl ⟨o, ho, hl, h⟩⟩
    · have a := ad_old (s := s) (kd := kd) (m := m) (a := a) (c := c) (p := p) (w := w) e
      refine Or.inl (Or.inr (Or.inr (Or.inr (Or.inr (Or.inr (Or.inl ⟨k, o, by omega, ho, ?_, h⟩))))))
      unfold lvo at hl ⊢
      rw [a.1, a.2.2.1, a.2.2.2.2.2.2.1] at hl
      exact hl
  · rw [ad_n] at hk
    by_cases e : k = s 6 0
    · subst e
      rw [ad_new.2.1] at hw
      rw [ad_new.2.2.1] at h7
      have : x = 0 := by omega
      subst this
      exact Or.inr ⟨Or.inr (by omega), Or.inr ⟨h7, by omega⟩⟩
    · have a := ad_old (s := s) (kd := kd) (m := m) (a := a) (c := c) (p := p) (w := w) e
      rw [a.2.1] at hw
      rw [a.2.2.1] at h7
      exact Or.inl (Or.inr (Or.inr (Or.inr (Or.inr (Or.inr (Or.inr ⟨k, x, e', by omega, h7, hw, he, h⟩))))))
theorem ad_LV {q : Nat} (h : LV s q) : LV (adS s kd m a c p w) q := by
  rcases h with h | h | h | h | ⟨u, hu, h4, h⟩ | ⟨k, o, hk, ho, hl, h⟩ | ⟨k, x, e', hk, h7, hw, he, h⟩
  · exact Or.inl h
  · exact Or.inr (Or.inl h)
  · exact Or.inr (Or.inr (Or.inl h))
  · exact Or.inr (Or.inr (Or.inr (Or.inl h)))
  · exact Or.inr (Or.inr (Or.inr (Or.inr (Or.inl ⟨u, hu, h4, h⟩))))
  · have a := ad_old (s := s) (kd := kd) (m := m) (a := a) (c := c) (p := p) (w := w) (show k ≠ s 6 0 by omega)
    refine Or.inr (Or.inr (Or.inr (Or.inr (Or.inr (Or.inl ⟨k, o, by rw [ad_n]; omega, ho, ?_, h⟩)))))
    unfold lvo at hl ⊢
    rw [a.1, a.2.2.1, a.2.2.2.2.2.2.1]
    exact hl
  · have a := ad_old (s := s) (kd := kd) (m := m) (a := a) (c := c) (p := p) (w := w) (show k ≠ s 6 0 by omega)
    exact Or.inr (Or.inr (Or.inr (Or.inr (Or.inr (Or.inr ⟨k, x, e', by rw [ad_n]; omega, by rw [a.2.2.1]; exact h7, by rw [a.2.1]; exact hw, he, h⟩)))))
theorem ad_th : LV (adS s kd m a c p w) (th (s 6 0)) := Or.inr (Or.inr (Or.inr (Or.inr (Or.inr (Or.inl ⟨s 6 0, 0, by rw [ad_n]; omega, by omega, Or.inl (by omega), rfl⟩)))))
theorem ad_o {o : Nat} (ho : o < 40) (hl : lvo (adS s kd m a c p w) (s 6 0) o) : LV (adS s kd m a c p w) (th (s 6 0) + o) := Or.inr (Or.inr (Or.inr (Or.inr (Or.inr (Or.inl ⟨s 6 0, o, by rw [ad_n]; omega, ho, hl, rfl⟩)))))
theorem lv_th {k : Nat} (h : k < s 6 0) : LV s (th k) := Or.inr (Or.inr (Or.inr (Or.inr (Or.inr (Or.inl ⟨k, 0, h, by omega, Or.inl (by omega), rfl⟩)))))
/-- how references changed when a thing was added -/
def RAd (s : St) (m : Nat) (p : Nat → Nat) (R R' : MR) : Prop := (∀ x i, ¬ Nw (s 6 0) x → ¬ (x = 503 ∧ i = s 6 0) → ¬ (i = 3 ∧ ∃ j, j < m ∧ x = th (p j)) → R' x i = R x i) ∧ R' 503 (s 6 0) = some (th (s 6 0)) ∧ ∀ j, j < m → R' (th (p j)) 3 = some (th (s 6 0))
theorem RelB.add {v : Tv} {a' b' : Int64} {C C' : MC} {I I' : MI} {J J' : MJ} {R R' : MR} (h : RelB s v a' b' C I J R) (hn : s 6 0 < 20) (hN : NewK s kd m a c p w)
    (hC : ∀ x, ¬ Nw (s 6 0) x → C' x = C x) (hI : ∀ x, ¬ Nw (s 6 0) x → x ≠ 500 → x ≠ 504 → I' x = I x) (h3 : I' 500 3 = iN (s 6 0 + 1)) (hJ : ∀ x, ¬ Nw (s 6 0) x → J' x = J x) (hR : RAd s m p R R')
    (hL : ∀ x, LV (adS s kd m a c p w) x → Nw (s 6 0) x → (C' x).1 ≠ 0 ∧ ∀ i r, R' x i = some r → LV (adS s kd m a c p w) r ∧ 1000 ≤ r)
    (hK : CSk (adS s kd m a c p w) C' R' (s 6 0) ∧ CIk (adS s kd m a c p w) I' (s 6 0) ∧ LTk (adS s kd m a c p w) J' (s 6 0)) : RelB (adS s kd m a c p w) v a' b' C' I' J' R' := by
  obtain ⟨h1, h2, h3', h4, h5, h6⟩ := h
  have hm4 := hN.2.1
  have hp := hN.2.2.1
  have low : ∀ x, x < 1000 → ¬ Nw (s 6 0) x := fun x hx z => by
    unfold Nw th at z
    omega
  have lowR : ∀ x, x < 1000 → x ≠ 503 → R' x = R x := fun x hx h503 => funext fun i => hR.1 x i (low x hx) (fun z => h503 z.1) (fun ⟨_, j, hj, z⟩ => by
    have := th_ge (p j)
    omega)
  refine ⟨⟨?_, ?_, ?_, fun k hk => ?_⟩, fun t ht => ?_, ⟨h3'.1.ad hn hN, fun k hk => ?_⟩, ⟨fun q hq => ?_, fun q i r hq hr => ?_⟩, ?_, ?_⟩
  · rw [hC 500 (low _ (by omega)), hC 501 (low _ (by omega)), hC 502 (low _ (by omega)), hC 503 (low _ (by omega)), hC 504 (low _ (by omega))]
    exact h1.1
  · rw [lowR 500 (by omega) (by omega)]
    exact h1.2.1
  · rw [ad_n]
    exact h3
  · rw [ad_n] at hk
    by_cases e : k = s 6 0
    · rw [e]
      exact hR.2.1
    · rw [hR.1 503 k (low _ (by omega)) (fun z => e z.2) (fun ⟨_, j, hj, z⟩ => by
        have := th_ge (p j)
        omega)]
      exact h1.2.2.2 k (by omega)
  · have h7 := trn_lt h2 ht
    have h8 := low (trn s t) (by omega)
    show (s 2 t ≤ 1 ∧ s 3 t ≤ 3 ∧ s 4 t ≤ 61) ∧ (s 4 t = 0 → R' 501 t = none) ∧ (s 4 t ≠ 0 → R' 501 t = some (trn s t) ∧ C' (trn s t) = (tkd (s 3 t), s 4 t - 1) ∧ ∀ i, i < s 4 t - 1 → (if s 3 t = 3 then J' (trn s t) i else (I' (trn s t) i).toInt64) = v (60 * t + i))
    rw [lowR 501 (by omega) (by omega), hC _ h8, hI _ h8 (by omega) (by omega), hJ _ h8]
    exact h2 t ht
  · rw [ad_n] at hk
    by_cases e : k = s 6 0
    · rw [e]
      exact hK
    · have hk' : k < s 6 0 := by omega
      obtain ⟨⟨⟨c1, c2, c3, c4, c5, c6, c7, c8, c9⟩, cl, cr, cf, ct⟩, ci, clt⟩ := h3'.2 k hk'
      have hv := h3'.1.2 k hk'
      have m1 := hv.1.2.1
      have A := ad_old (s := s) (kd := kd) (m := m) (a := a) (c := c) (p := p) (w := w) e
      have no : ∀ o, o < 40 → ¬ Nw (s 6 0) (th k + o) := fun o ho z => by
        unfold Nw th at z
        omega
      have ng : ∀ g x, g < 3 → gq s k g ≤ x → x ≤ gq s k g + 2 → ¬ Nw (s 6 0) x := fun g x hg z1 z2 z => by
        unfold gq at z1 z2
        unfold Nw th at z
        by_cases e0 : g = 0
        · rw [if_pos e0] at z1 z2
          omega
        · rw [if_neg e0] at z1 z2
          unfold th at z1 z2
          omega
      have eR : ∀ o i, 0 < o → o < 40 → R' (th k + o) i = R (th k + o) i := fun o i h0 ho => hR.1 _ i (no o ho) (fun z => by have := th_ge k; omega) (fun ⟨_, j, hj, z⟩ => by
        unfold th at z
        omega)
      have eG : ∀ g x i, g < 3 → gq s k g ≤ x → x ≤ gq s k g + 2 → R' x i = R x i := fun g x i hg z1 z2 => hR.1 _ i (ng g x hg z1 z2) (fun z => by have := gq_ge (s := s) k g; omega) (fun ⟨_, j, hj, z⟩ => by
        have hj2 := (hp j hj).1
        unfold gq at z1 z2
        by_cases e0 : g = 0
        · rw [if_pos e0] at z1 z2
          unfold th at z
          omega
        · rw [if_neg e0] at z1 z2
          unfold th at z z1 z2
          have : g = 1 ∨ g = 2 := by omega
          rcases this with rfl | rfl <;> omega)
      have eT : ∀ i, i ≠ 3 → R' (th k) i = R (th k) i := fun i h3 => hR.1 _ i (no 0 (by omega)) (fun z => by have := th_ge k; omega) (fun z => h3 z.1)
      have e0 : C' (th k) = C (th k) := hC _ (no 0 (by omega))
      have eC : ∀ o, o < 40 → C' (th k + o) = C (th k + o) := fun o ho => hC _ (no o ho)
      have tb : ∀ o, 0 < o → o + 2 < 40 → TbS C R (th k + o) → TbS C' R' (th k + o) := fun o h0 ho z => by
        unfold TbS at z ⊢
        rw [eC o (by omega), eR o 0 h0 (by omega), eR o 1 h0 (by omega), Nat.add_assoc, Nat.add_assoc, eC (o + 1) (by omega), eC (o + 2) (by omega)]
        exact z
      have gg : ∀ g, gq (adS s kd m a c p w) k g = gq s k g := fun g => by
        unfold gq
        rw [A.2.1]
      refine ⟨⟨⟨?_, ?_, ?_, fun i hi => ?_, ?_, ?_, tb 2 (by omega) (by omega) c7, tb 5 (by omega) (by omega) c8, ?_⟩, fun z => ?_, fun z => ?_, fun z => ?_, fun z => ?_⟩, ?_, fun z g hg => ?_⟩
      · rw [A.2.2.1, e0]; exact c1
      · rw [A.1, eC 1 (by omega)]; exact c2
      · rw [eT 0 (by omega)]; exact c3
      · rw [A.1] at hi
        rw [ad_po e (by omega), eR 1 i (by omega) (by omega)]
        exact c4 i hi
      · rw [eT 1 (by omega)]; exact c5
      · rw [eT 2 (by omega)]; exact c6
      · rw [A.2.2.2.2.2.1]
        rcases pup_or (p := p) (w := s 6 0 + 1) (g := s 11) (j := k) (m := m) with ⟨i, hi, z⟩ | z
        · rw [z, pup_in hi, hR.2.2 i hi, if_neg (Nat.succ_ne_zero _), Nat.add_sub_cancel]
        · rw [pup_out z, hR.1 (th k) 3 (no 0 (by omega)) (fun z => by have := th_ge k; omega) (fun ⟨_, j, hj, z2⟩ => z j hj (th_inj z2))]
          exact c9
      · rw [A.2.2.1] at z
        obtain ⟨b1, b2, b3, b4, b5⟩ := cl z
        have h12 := (hv.2.1.1 z).2.2.1
        refine ⟨by rw [eT 6 (by omega)]; exact b1, by rw [eC 8 (by omega)]; exact b2, by rw [eT 7 (by omega)]; exact b3, by rw [eC 9 (by omega)]; exact b4, fun g hg => ?_⟩
        rw [A.2.2.2.2.2.2.1] at hg
        rw [gg, eR 8 g (by omega) (by omega)]
        refine ⟨(b5 g hg).1, ?_⟩
        have t := (b5 g hg).2
        unfold TbS at t ⊢
        rw [hC _ (ng g _ (by omega) (Nat.le_refl _) (by omega)), hC _ (ng g (gq s k g + 1) (by omega) (by omega) (by omega)), hC _ (ng g (gq s k g + 2) (by omega) (by omega) (by omega)), eG g _ 0 (by omega) (Nat.le_refl _) (by omega), eG g _ 1 (by omega) (Nat.le_refl _) (by omega)]
        exact t
      · rw [A.2.2.1] at z
        obtain ⟨b1, b2, b3, b4, b5⟩ := cr z
        rw [A.1]
        refine ⟨by rw [eT 6 (by omega)]; exact b1, by rw [eC 8 (by omega)]; exact b2, by rw [eT 7 (by omega)]; exact b3, by rw [eC 14 (by omega)]; exact b4, fun i hi => ?_⟩
        rw [eR 8 i (by omega) (by omega), eC (9 + i) (by omega)]
        exact b5 i hi
      · rw [A.2.2.1] at z
        obtain ⟨b1, b2, b3, b4, b5, b6⟩ := cf z
        rw [A.1, eT 9 (by omega), eC 15 (by omega), eT 10 (by omega), eC 16 (by omega), eT 11 (by omega), eC 17 (by omega)]
        exact ⟨b1, b2, b3, b4, b5, b6⟩
      · rw [A.2.2.1] at z
        obtain ⟨b1, b2, b3, b4⟩ := ct z
        rw [eT 8 (by omega), eC 8 (by omega), eT 9 (by omega), eC 9 (by omega)]
        exact ⟨b1, b2, b3, b4⟩
      · have q1 : I' (th k) = I (th k) := hI _ (no 0 (by omega)) (by have := th_ge k; omega) (by have := th_ge k; omega)
        have q2 : I' (th k + 9) = I (th k + 9) := hI _ (no 9 (by omega)) (by have := th_ge k; omega) (by have := th_ge k; omega)
        unfold CIk
        rw [q1, q2, A.2.2.1, A.2.2.2.2.2.2.1, A.2.2.2.1, A.2.2.2.2.1, A.2.2.2.2.2.2.2.1, A.2.2.2.2.2.2.2.2.1, A.2.2.2.2.2.2.2.2.2.1, A.2.2.2.2.2.2.2.2.2.2.1, A.2.2.2.2.2.2.2.2.2.2.2.1, A.2.2.2.2.2.2.2.2.2.2.2.2]
        refine ⟨ci.1, fun z => ?_, ci.2.2⟩
        obtain ⟨d1, d2, d3, d4, d5, d6⟩ := ci.2.1 z
        have h12 := (hv.2.1.1 z).2.2.1
        refine ⟨d1, d2, d3, d4, d5, fun g hg => ?_⟩
        rw [ad_13o e (by omega)]
        exact d6 g hg
      · rw [A.2.2.1] at z
        rw [A.2.2.2.2.2.2.1] at hg
        have h12 := (hv.2.1.1 z).2.2.1
        rw [gg]
        have t := clt z g hg
        have el : lgT (adS s kd m a c p w) k g = lgT s k g := by
          unfold lgT
          have q : (fun i => if i < 60 then adS s kd m a c p w 14 (60 * (3 * k + g) + i) else 0) = fun i => if i < 60 then s 14 (60 * (3 * k + g) + i) else 0 := funext fun i => by
            by_cases hi : i < 60
            · rw [if_pos hi, if_pos hi, ad_wo e (by omega) hi]
            · rw [if_neg hi, if_neg hi]
          rw [q, sm_congr (g := fun i => s 14 (60 * (3 * k + g) + i)) (fun i hi => ad_wo e (by omega) hi)]
        rw [el]
        exact t.kept (fun y z1 z2 => hJ y (ng g y (by omega) z1 z2))
  · rcases LV_ad hq with z | z
    · rw [hC q (fun w => Nw_dead h2 hn w z)]
      exact h4.1 q z
    · exact (hL q hq z.1).1
  · rcases LV_ad hq with z | z
    · by_cases e1 : q = 503 ∧ i = s 6 0
      · rw [e1.1, e1.2, hR.2.1] at hr
        cases hr
        exact ⟨ad_th, fun g1 g2 => by have := th_ge (s 6 0); omega⟩
      · by_cases e2 : i = 3 ∧ ∃ j, j < m ∧ q = th (p j)
        · obtain ⟨e3, j, hj, e4⟩ := e2
          rw [e3, e4, hR.2.2 j hj] at hr
          cases hr
          exact ⟨ad_th, fun g1 g2 => by have := th_ge (s 6 0); omega⟩
        · rw [hR.1 q i (fun w => Nw_dead h2 hn w z) e1 e2] at hr
          have h8 := h4.2 q i r z hr
          exact ⟨ad_LV h8.1, h8.2⟩
    · have h8 := (hL q hq z.1).2 i r hr
      exact ⟨h8.1, fun g1 g2 => by have := h8.2; omega⟩
  · rw [hJ 500 (low _ (by omega))]
    exact h5
  · rw [hJ 500 (low _ (by omega))]
    exact h6
end AD
