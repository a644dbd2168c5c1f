/-! PLAIN LAW 3: tables as numbers: what each kind makes of its parts' tables -/
set_option maxRecDepth 100000
set_option linter.unusedVariables false
abbrev Tb : Type := (Nat → Nat) × (Nat → Nat) × Nat
abbrev St : Type := Nat → Nat → Nat
/-- nothing behind A, all weights together are the whole -/
def TS (A : Nat) (x : Tb) : Prop := (∀ i, A < i → x.1 i = 0 ∧ x.2.1 i = 0) ∧ sm x.1 (A + 1) + sm x.2.1 (A + 1) = x.2.2 ∧ 0 < x.2.2
def far (x : Tb) : Prop := ∃ t, 120 < t ∧ (x.1 t ≠ 0 ∨ x.2.1 t ≠ 0)
theorem TS.wide {A B : Nat} {x : Tb} (h : TS A x) (hAB : A ≤ B) : TS B x := by
  refine ⟨fun i hi => h.1 i (by omega), ?_, h.2.2⟩
  rw [sm_ext (f := x.1) (n := A + 1) (m := B + 1) (by omega) (fun i h1 _ => (h.1 i (by omega)).1), sm_ext (f := x.2.1) (n := A + 1) (m := B + 1) (by omega) (fun i h1 _ => (h.1 i (by omega)).2)]
  exact h.2.1
theorem not_far {x : Tb} (hf : ¬ far x) (i : Nat) (hi : 120 < i) : x.1 i = 0 ∧ x.2.1 i = 0 := by
  refine ⟨Nat.eq_zero_of_not_pos (fun w => hf ⟨i, hi, Or.inl (by omega)⟩), Nat.eq_zero_of_not_pos (fun w => hf ⟨i, hi, Or.inr (by omega)⟩)⟩
theorem TS.sum {x : Tb} (h : TS 120 x) : sm x.1 121 + sm x.2.1 121 = x.2.2 := h.2.1
theorem TS.notfar {x : Tb} (h : TS 120 x) : ¬ far x := by
  rintro ⟨t, ht, h1 | h1⟩
  · exact h1 (h.1 t ht).1
  · exact h1 (h.1 t ht).2
theorem TS.near {A : Nat} {x : Tb} (h : TS A x) (hf : ¬ far x) : TS 120 x := by
  have hz := not_far hf
  rcases Nat.le_total A 120 with hA | hA
  · exact h.wide hA
  · refine ⟨hz, ?_, h.2.2⟩
    rw [← h.2.1, sm_ext (f := x.1) (n := 121) (m := A + 1) (by omega) (fun i h1 _ => (hz i (by omega)).1), sm_ext (f := x.2.1) (n := 121) (m := A + 1) (by omega) (fun i h1 _ => (hz i (by omega)).2)]
theorem TS.le {A : Nat} {x : Tb} (h : TS A x) (i : Nat) : x.1 i + x.2.1 i ≤ x.2.2 := by
  rcases Nat.lt_or_ge A i with hi | hi
  · have := h.1 i hi
    omega
  · have h1 := sm_at (f := x.1) (i := i) (n := A + 1) (by omega)
    have h2 := sm_at (f := x.2.1) (i := i) (n := A + 1) (by omega)
    have := h.2.1
    omega
/-- one behind the other -/
def rowS (a b : Tb) : Tb := (cvl a.1 b.1, fun t => a.2.1 t * b.2.2 + cvl a.1 b.2.1 t, a.2.2 * b.2.2)
theorem ts_rowS {A : Nat} {a b : Tb} (ha : TS A a) (hb : TS 120 b) : TS (A + 120) (rowS a b) := by
  refine ⟨fun i hi => ⟨cvl_zero (a := A) (b := 120) (fun i h => (ha.1 i h).1) (fun i h => (hb.1 i h).1) hi, ?_⟩, ?_, Nat.mul_pos ha.2.2 hb.2.2⟩
  · show a.2.1 i * b.2.2 + cvl a.1 b.2.1 i = 0
    rw [(ha.1 i (by omega)).2, cvl_zero (a := A) (b := 120) (fun i h => (ha.1 i h).1) (fun i h => (hb.1 i h).2) hi, Nat.zero_mul]
  · show sm (cvl a.1 b.1) (A + 120 + 1) + sm (fun t => a.2.1 t * b.2.2 + cvl a.1 b.2.1 t) (A + 120 + 1) = a.2.2 * b.2.2
    rw [sm_add (fun t => a.2.1 t * b.2.2) (cvl a.1 b.2.1), sm_mulR b.2.2 a.2.1, cvl_whole (a := A + 1) (b := 121) (fun i h => (ha.1 i h).1) (fun i h => (hb.1 i h).1) (by omega),
      cvl_whole (a := A + 1) (b := 121) (fun i h => (ha.1 i h).1) (fun i h => (hb.1 i h).2) (by omega), sm_ext (f := a.2.1) (n := A + 1) (m := A + 120 + 1) (by omega) (fun i h1 _ => (ha.1 i h1).2), ← ha.2.1, ← hb.sum]
    simp only [Nat.add_mul, Nat.mul_add]
    omega
def dlt : Nat → Nat := fun t => if t = 0 then 1 else 0
theorem cvl_dlt (f : Nat → Nat) (t : Nat) : cvl dlt f t = f t := by
  unfold cvl
  rw [sm_ext (n := 1) (by omega) (fun i h1 _ => by
    show dlt i * f (t - i) = 0
    rw [show dlt i = 0 from if_neg (by omega), Nat.zero_mul])]
  show 0 + 1 * f (t - 0) = f t
  rw [Nat.sub_zero]
  omega
def row0 : Tb := (dlt, fun _ => 0, 1)
theorem ts_row0 : TS 0 row0 := ⟨fun i hi => ⟨if_neg (by omega), rfl⟩, rfl, Nat.one_pos⟩
theorem rowS_row0 (a : Tb) : rowS row0 a = a := by
  refine Prod.ext (funext fun t => cvl_dlt a.1 t) (Prod.ext (funext fun t => ?_) (Nat.one_mul _))
  show 0 * a.2.2 + cvl dlt a.2.1 t = a.2.1 t
  rw [cvl_dlt, Nat.zero_mul, Nat.zero_add]
def rowN (T : Nat → Tb) (p : Nat → Nat) : Nat → Tb
  | 0 => row0
  | n + 1 => rowS (rowN T p n) (T (p n))
theorem ts_rowN {T : Nat → Tb} {p : Nat → Nat} : ∀ {n : Nat}, (∀ i, i < n → TS 120 (T (p i))) → TS (120 * n) (rowN T p n)
  | 0, _ => ts_row0
  | n + 1, h => ts_rowS (ts_rowN (fun i hi => h i (by omega))) (h n (by omega))
theorem far_rowS {a b : Tb} (h : far a) (hb : TS 120 b) : far (rowS a b) := by
  obtain ⟨t, ht, h1 | h1⟩ := h
  · have hp := hb.sum
    have hp2 := hb.2.2
    by_cases e : 0 < sm b.1 121
    · obtain ⟨i, hi, h2⟩ := sm_pos e
      exact ⟨t + i, by omega, Or.inl (Nat.ne_of_gt (cvl_pos (by omega) h2))⟩
    · obtain ⟨i, hi, h2⟩ := sm_pos (f := b.2.1) (n := 121) (by omega)
      refine ⟨t + i, by omega, Or.inr (Nat.ne_of_gt ?_)⟩
      exact Nat.lt_of_lt_of_le (cvl_pos (f := a.1) (by omega) h2) (Nat.le_add_left _ _)
  · refine ⟨t, ht, Or.inr (Nat.ne_of_gt ?_)⟩
    exact Nat.lt_of_lt_of_le (Nat.mul_pos (by omega) hb.2.2) (Nat.le_add_right _ _)
/-- what is good in the end was good all along -/
theorem rowN_near {T : Nat → Tb} {p : Nat → Nat} {n : Nat} (hT : ∀ i, i < n → TS 120 (T (p i))) (hf : ¬ far (rowN T p n)) (hw : (rowN T p n).2.2 < 2 ^ 62) : ∀ m, m ≤ n → TS 120 (rowN T p m) ∧ (rowN T p m).2.2 < 2 ^ 62 := by
  have key : ∀ d m, m + d = n → ¬ far (rowN T p m) ∧ (rowN T p m).2.2 < 2 ^ 62 := by
    intro d
    induction d with
    | zero =>
      intro m hm
      rw [show m = n by omega]
      exact ⟨hf, hw⟩
    | succ d ih =>
      intro m hm
      have h1 := ih (m + 1) (by omega)
      have h2 := hT m (by omega)
      refine ⟨fun w => h1.1 (far_rowS w h2), Nat.lt_of_le_of_lt ?_ h1.2⟩
      exact Nat.le_mul_of_pos_right _ h2.2.2
  intro m hm
  have h1 := key (n - m) m (by omega)
  exact ⟨(ts_rowN (fun i hi => hT i (by omega))).near h1.1, h1.2⟩
theorem noFar_iff {a b1 b2 : Nat → Nat} (ha : ∀ i, 120 < i → a i = 0) (h1 : ∀ i, 120 < i → b1 i = 0) (h2 : ∀ i, 120 < i → b2 i = 0) (e : Nat) : NoFar a b1 b2 e 121 ↔ ∀ t, 120 < t → cvl a b1 t * e = 0 ∧ cvl a b2 t * e = 0 := by
  have key : ∀ b : Nat → Nat, (∀ i, 120 < i → b i = 0) → ∀ t, (∀ x j, x < 121 → j < 121 → x + j = t → a x * b j * e = 0) → cvl a b t * e = 0 := by
    intro b hb t h
    unfold cvl
    rw [← sm_mulR]
    refine sm_zero (fun i hi => ?_)
    by_cases e1 : 120 < i
    · rw [ha i e1, Nat.zero_mul, Nat.zero_mul]
    · by_cases e2 : 120 < t - i
      · rw [hb _ e2, Nat.mul_zero, Nat.zero_mul]
      · exact h i (t - i) (by omega) (by omega) (by omega)
  have key2 : ∀ b : Nat → Nat, ∀ x j, cvl a b (x + j) * e = 0 → a x * b j * e = 0 := by
    intro b x j h
    unfold cvl at h
    rw [← sm_mulR] at h
    have h3 := sm_at (f := fun i => a i * b (x + j - i) * e) (i := x) (n := x + j + 1) (by omega)
    rw [h] at h3
    have h4 : a x * b (x + j - x) * e ≤ 0 := h3
    rw [show x + j - x = j by omega] at h4
    omega
  constructor
  · intro h t ht
    exact ⟨key b1 h1 t (fun x j hx hj hxj => (h x j hx hj (by omega)).1), key b2 h2 t (fun x j hx hj hxj => (h x j hx hj (by omega)).2)⟩
  · intro h x j hx hj hxj
    exact ⟨key2 b1 x j (h _ hxj).1, key2 b2 x j (h _ hxj).2⟩
theorem noFar_row {a b : Tb} (ha : TS 120 a) (hb : TS 120 b) {e : Nat} (he : 0 < e) : NoFar a.1 b.1 b.2.1 e 121 ↔ ¬ far (rowS a b) := by
  rw [noFar_iff (fun i h => (ha.1 i h).1) (fun i h => (hb.1 i h).1) (fun i h => (hb.1 i h).2)]
  constructor
  · rintro h ⟨t, ht, h1 | h1⟩
    · exact h1 ((Nat.mul_eq_zero.mp (h t ht).1).resolve_right (by omega))
    · refine h1 ?_
      show a.2.1 t * b.2.2 + cvl a.1 b.2.1 t = 0
      rw [(ha.1 t ht).2, (Nat.mul_eq_zero.mp (h t ht).2).resolve_right (by omega), Nat.zero_mul]
  · intro h t ht
    have h1 := not_far h t ht
    have h2 : a.2.1 t * b.2.2 + cvl a.1 b.2.1 t = 0 := h1.2
    have h3 : cvl a.1 b.1 t = 0 := h1.1
    rw [h3, show cvl a.1 b.2.1 t = 0 by omega]
    exact ⟨Nat.zero_mul _, Nat.zero_mul _⟩
/-! made less -/
theorem gc_dvd2 (o f : Nat → Nat) (w : Nat) : ∀ {n i : Nat}, i < n → gc o f w n ∣ o i ∧ gc o f w n ∣ f i
  | 0, i, h => absurd h (Nat.not_lt_zero i)
  | n + 1, i, h => by
    have h0 : gc o f w (n + 1) = Nat.gcd (Nat.gcd (o n) (f n)) (gc o f w n) := rfl
    by_cases e : i = n
    · subst e
      have h1 : gc o f w (i + 1) ∣ Nat.gcd (o i) (f i) := by
        rw [h0]
        exact Nat.gcd_dvd_left _ _
      exact ⟨Nat.dvd_trans h1 (Nat.gcd_dvd_left _ _), Nat.dvd_trans h1 (Nat.gcd_dvd_right _ _)⟩
    · have h1 := gc_dvd2 o f w (n := n) (i := i) (by omega)
      have h2 : gc o f w (n + 1) ∣ gc o f w n := by
        rw [h0]
        exact Nat.gcd_dvd_right _ _
      exact ⟨Nat.dvd_trans h2 h1.1, Nat.dvd_trans h2 h1.2⟩
def tdiv (x : Tb) : Tb := (fun i => x.1 i / gc x.1 x.2.1 x.2.2 121, fun i => x.2.1 i / gc x.1 x.2.1 x.2.2 121, x.2.2 / gc x.1 x.2.1 x.2.2 121)
def TOk (x : Tb) : Prop := TS 120 x ∧ x.2.2 < 2 ^ 62
theorem tok_tdiv {x : Tb} (h : TOk x) : TOk (tdiv x) := by
  have hg := gc_pos x.1 x.2.1 h.1.2.2 121
  have hd : ∀ i, i < 121 → gc x.1 x.2.1 x.2.2 121 ∣ x.1 i ∧ gc x.1 x.2.1 x.2.2 121 ∣ x.2.1 i := fun i hi => gc_dvd2 _ _ _ hi
  have hl := gc_le x.1 x.2.1 h.1.2.2 121
  refine ⟨⟨fun i hi => ?_, ?_, Nat.div_pos hl hg⟩, Nat.lt_of_le_of_lt (Nat.div_le_self _ _) h.2⟩
  · have h1 := h.1.1 i hi
    show x.1 i / _ = 0 ∧ x.2.1 i / _ = 0
    rw [h1.1, h1.2, Nat.zero_div]
    exact ⟨rfl, rfl⟩
  · show sm (fun i => x.1 i / gc x.1 x.2.1 x.2.2 121) 121 + sm (fun i => x.2.1 i / gc x.1 x.2.1 x.2.2 121) 121 = x.2.2 / gc x.1 x.2.1 x.2.2 121
    rw [sm_div hg (fun i hi => (hd i hi).1), sm_div hg (fun i hi => (hd i hi).2)]
    obtain ⟨a, ha⟩ := sm_dvd (f := x.1) (n := 121) (fun i hi => (hd i hi).1)
    obtain ⟨b, hb⟩ := sm_dvd (f := x.2.1) (n := 121) (fun i hi => (hd i hi).2)
    have hs := h.1.2.1
    rw [show (120 + 1 : Nat) = 121 from rfl, ha, hb, ← Nat.mul_add] at hs
    rw [ha, hb]
    generalize gc x.1 x.2.1 x.2.2 121 = g at *
    rw [← hs, Nat.mul_div_cancel_left _ hg, Nat.mul_div_cancel_left _ hg, Nat.mul_div_cancel_left _ hg]
/-! the kinds -/
def leafT (s : St) (k : Nat) : Tb := (fun i => if i < 60 then s 14 (60 * (3 * k + s 15 k) + i) else 0, fun _ => 0, sm (fun i => s 14 (60 * (3 * k + s 15 k) + i)) 60)
theorem TS.leaf {s : St} {k : Nat} (h : 0 < (leafT s k).2.2) : TS 59 (leafT s k) := by
  refine ⟨fun i hi => ⟨if_neg (by omega), rfl⟩, ?_, h⟩
  show sm (fun i => if i < 60 then s 14 (60 * (3 * k + s 15 k) + i) else 0) 60 + sm (fun _ => 0) 60 = sm (fun i => s 14 (60 * (3 * k + s 15 k) + i)) 60
  rw [sm_zero (f := fun _ => 0) (fun _ _ => rfl), Nat.add_zero]
  exact sm_congr (fun i hi => if_pos hi)
def cacT (n d : Nat) (a b : Tb) : Tb := (fun t => a.1 t * b.2.2 * n + cvl a.1 b.1 t * (d - n), fun t => a.2.1 t * b.2.2 * n + a.2.1 t * b.2.2 * (d - n) + cvl a.1 b.2.1 t * (d - n), a.2.2 * b.2.2 * d)
theorem TS.cac {n d : Nat} {a b : Tb} (hn : n ≤ d) (hd : 0 < d) (ha : TS 120 a) (hb : TS 120 b) : TS 240 (cacT n d a b) := by
  have hr := ts_rowS ha hb
  refine ⟨fun i hi => ?_, ?_, Nat.mul_pos (Nat.mul_pos ha.2.2 hb.2.2) hd⟩
  · have h1 : cvl a.1 b.1 i = 0 := (hr.1 i hi).1
    have h2 : a.2.1 i * b.2.2 + cvl a.1 b.2.1 i = 0 := (hr.1 i hi).2
    have h3 := ha.1 i (by omega)
    show a.1 i * b.2.2 * n + cvl a.1 b.1 i * (d - n) = 0 ∧ a.2.1 i * b.2.2 * n + a.2.1 i * b.2.2 * (d - n) + cvl a.1 b.2.1 i * (d - n) = 0
    rw [h1, h3.1, h3.2, show cvl a.1 b.2.1 i = 0 by omega]
    simp
  · have h1 : sm (cvl a.1 b.1) 241 + sm (fun t => a.2.1 t * b.2.2 + cvl a.1 b.2.1 t) 241 = a.2.2 * b.2.2 := hr.2.1
    rw [sm_add (fun t => a.2.1 t * b.2.2) (cvl a.1 b.2.1), sm_mulR b.2.2 a.2.1] at h1
    have h2 := (ha.wide (B := 240) (by omega)).2.1
    show sm (fun t => a.1 t * b.2.2 * n + cvl a.1 b.1 t * (d - n)) 241 + sm (fun t => a.2.1 t * b.2.2 * n + a.2.1 t * b.2.2 * (d - n) + cvl a.1 b.2.1 t * (d - n)) 241 = a.2.2 * b.2.2 * d
    rw [sm_add (fun t => a.1 t * b.2.2 * n) (fun t => cvl a.1 b.1 t * (d - n)), sm_add (fun t => a.2.1 t * b.2.2 * n + a.2.1 t * b.2.2 * (d - n)) (fun t => cvl a.1 b.2.1 t * (d - n)), sm_add (fun t => a.2.1 t * b.2.2 * n) (fun t => a.2.1 t * b.2.2 * (d - n)),
      sm_mulR n (fun t => a.1 t * b.2.2), sm_mulR n (fun t => a.2.1 t * b.2.2), sm_mulR (d - n) (fun t => a.2.1 t * b.2.2), sm_mulR (d - n) (cvl a.1 b.1), sm_mulR (d - n) (cvl a.1 b.2.1), sm_mulR b.2.2 a.1, sm_mulR b.2.2 a.2.1]
    obtain ⟨e, rfl⟩ : ∃ e, d = n + e := ⟨d - n, by omega⟩
    rw [show n + e - n = e by omega, Nat.mul_add (a.2.2 * b.2.2) n e]
    have h3 : sm a.1 241 * b.2.2 * n + sm a.2.1 241 * b.2.2 * n = a.2.2 * b.2.2 * n := by rw [← h2, Nat.add_mul, Nat.add_mul]
    have h4 : sm (cvl a.1 b.1) 241 * e + (sm a.2.1 241 * b.2.2 * e + sm (cvl a.1 b.2.1) 241 * e) = a.2.2 * b.2.2 * e := by rw [← h1, Nat.add_mul, Nat.add_mul]
    omega
theorem noFar_cac {n d : Nat} {a b : Tb} (ha : TS 120 a) (hb : TS 120 b) : NoFar a.1 b.1 b.2.1 (d - n) 121 ↔ ¬ far (cacT n d a b) := by
  rw [noFar_iff (fun i h => (ha.1 i h).1) (fun i h => (hb.1 i h).1) (fun i h => (hb.1 i h).2)]
  constructor
  · rintro h ⟨t, ht, h1 | h1⟩
    · refine h1 ?_
      show a.1 t * b.2.2 * n + cvl a.1 b.1 t * (d - n) = 0
      rw [(h t ht).1, (ha.1 t ht).1, Nat.zero_mul, Nat.zero_mul]
    · refine h1 ?_
      show a.2.1 t * b.2.2 * n + a.2.1 t * b.2.2 * (d - n) + cvl a.1 b.2.1 t * (d - n) = 0
      rw [(h t ht).2, (ha.1 t ht).2, Nat.zero_mul, Nat.zero_mul, Nat.zero_mul]
  · intro h t ht
    have h1 := not_far h t ht
    have h2 : a.1 t * b.2.2 * n + cvl a.1 b.1 t * (d - n) = 0 := h1.1
    have h3 : a.2.1 t * b.2.2 * n + a.2.1 t * b.2.2 * (d - n) + cvl a.1 b.2.1 t * (d - n) = 0 := h1.2
    omega
/-- a hedge: what ticks x and j send to t -/
def hcO (a : Tb) (h t x j : Nat) : Nat := (if t = min x (h + j) then a.1 x * a.1 j else 0) + (if t = x then a.1 x * a.2.1 j else 0) + (if t = h + j then a.2.1 x * a.1 j else 0)
def hcF (a : Tb) (h t x j : Nat) : Nat := if t = max x (h + j) then a.2.1 x * a.2.1 j else 0
def hxO (a : Tb) (h t x : Nat) : Nat := if x ≤ h then (if t = x then a.1 x * a.2.2 else 0) else sm (hcO a h t x) 121
def hxF (a : Tb) (h t x : Nat) : Nat := if x ≤ h then (if t = x then a.2.1 x * a.2.2 else 0) else sm (hcF a h t x) 121
def hedT (h : Nat) (a : Tb) : Tb := (fun t => sm (hxO a h t) 121, fun t => sm (hxF a h t) 121, a.2.2 * a.2.2)
theorem TS.hed {h : Nat} {a : Tb} (hh : h ≤ 60) (ha : TS 120 a) : TS 180 (hedT h a) := by
  refine ⟨fun t ht => ⟨sm_zero (fun x hx => ?_), sm_zero (fun x hx => ?_)⟩, ?_, Nat.mul_pos ha.2.2 ha.2.2⟩
  · unfold hxO
    by_cases e : x ≤ h
    · rw [if_pos e, if_neg (by omega)]
    · rw [if_neg e]
      refine sm_zero (fun j hj => ?_)
      unfold hcO
      rw [if_neg (by omega), if_neg (by omega), if_neg (by omega)]
  · unfold hxF
    by_cases e : x ≤ h
    · rw [if_pos e, if_neg (by omega)]
    · rw [if_neg e]
      refine sm_zero (fun j hj => ?_)
      unfold hcF
      rw [if_neg (by omega)]
  · show sm (fun t => sm (hxO a h t) 121) 181 + sm (fun t => sm (hxF a h t) 121) 181 = a.2.2 * a.2.2
    have hs : sm a.1 121 + sm a.2.1 121 = a.2.2 := ha.2.1
    rw [sm_swap (hxO a h) 121 181, sm_swap (hxF a h) 121 181, ← sm_add]
    have key : ∀ x, x < 121 → sm (fun t => hxO a h t x) 181 + sm (fun t => hxF a h t x) 181 = (a.1 x + a.2.1 x) * a.2.2 := by
      intro x hx
      by_cases e : x ≤ h
      · have e1 : sm (fun t => hxO a h t x) 181 = a.1 x * a.2.2 := by
          rw [sm_congr (g := fun t => if t = x then a.1 x * a.2.2 else 0) (fun t _ => by unfold hxO; rw [if_pos e]), sm_one, if_pos (by omega)]
        have e2 : sm (fun t => hxF a h t x) 181 = a.2.1 x * a.2.2 := by
          rw [sm_congr (g := fun t => if t = x then a.2.1 x * a.2.2 else 0) (fun t _ => by unfold hxF; rw [if_pos e]), sm_one, if_pos (by omega)]
        rw [e1, e2, Nat.add_mul]
      · have e1 : sm (fun t => hxO a h t x) 181 = a.1 x * sm a.1 121 + a.1 x * sm a.2.1 121 + a.2.1 x * sm a.1 121 := by
          rw [sm_congr (g := fun t => sm (hcO a h t x) 121) (fun t _ => by unfold hxO; rw [if_neg e]), sm_swap (fun t => hcO a h t x) 121 181]
          rw [sm_congr (g := fun j => a.1 x * a.1 j + a.1 x * a.2.1 j + a.2.1 x * a.1 j) (fun j hj => ?_)]
          · rw [sm_add (fun j => a.1 x * a.1 j + a.1 x * a.2.1 j) (fun j => a.2.1 x * a.1 j), sm_add (fun j => a.1 x * a.1 j) (fun j => a.1 x * a.2.1 j), sm_mul, sm_mul, sm_mul]
          · show sm (fun t => (if t = min x (h + j) then a.1 x * a.1 j else 0) + (if t = x then a.1 x * a.2.1 j else 0) + (if t = h + j then a.2.1 x * a.1 j else 0)) 181 = _
            rw [sm_add (fun t => (if t = min x (h + j) then a.1 x * a.1 j else 0) + (if t = x then a.1 x * a.2.1 j else 0)) (fun t => if t = h + j then a.2.1 x * a.1 j else 0), sm_add (fun t => if t = min x (h + j) then a.1 x * a.1 j else 0) (fun t => if t = x then a.1 x * a.2.1 j else 0), sm_one, sm_one, sm_one, if_pos (by omega), if_pos (by omega), if_pos (by omega)]
        have e2 : sm (fun t => hxF a h t x) 181 = a.2.1 x * sm a.2.1 121 := by
          rw [sm_congr (g := fun t => sm (hcF a h t x) 121) (fun t _ => by unfold hxF; rw [if_neg e]), sm_swap (fun t => hcF a h t x) 121 181]
          rw [sm_congr (g := fun j => a.2.1 x * a.2.1 j) (fun j hj => ?_), sm_mul]
          show sm (fun t => if t = max x (h + j) then a.2.1 x * a.2.1 j else 0) 181 = _
          rw [sm_one, if_pos (by omega)]
        rw [e1, e2, ← hs]
        simp only [Nat.add_mul, Nat.mul_add]
        omega
    rw [sm_congr key, sm_mulR a.2.2 (fun x => a.1 x + a.2.1 x), sm_add, hs]
def hNoFar (a : Tb) (h x j : Nat) : Prop := h < x → 120 < h + j → a.2.1 x * a.1 j = 0 ∧ a.2.1 x * a.2.1 j = 0
theorem noFar_hed {h : Nat} {a : Tb} (ha : TS 120 a) : (∀ x j, x < 121 → j < 121 → hNoFar a h x j) ↔ ¬ far (hedT h a) := by
  constructor
  · rintro hn ⟨t, ht, h1 | h1⟩
    · refine h1 (sm_zero (fun x hx => ?_))
      unfold hxO
      by_cases e : x ≤ h
      · rw [if_pos e, if_neg (by omega)]
      · rw [if_neg e]
        refine sm_zero (fun j hj => ?_)
        unfold hcO
        rw [if_neg (by omega), if_neg (by omega)]
        by_cases e2 : t = h + j
        · rw [if_pos e2, (hn x j hx hj (by omega) (by omega)).1]
        · rw [if_neg e2]
    · refine h1 (sm_zero (fun x hx => ?_))
      unfold hxF
      by_cases e : x ≤ h
      · rw [if_pos e, if_neg (by omega)]
      · rw [if_neg e]
        refine sm_zero (fun j hj => ?_)
        unfold hcF
        by_cases e2 : t = max x (h + j)
        · rw [if_pos e2, (hn x j hx hj (by omega) (by omega)).2]
        · rw [if_neg e2]
  · intro hf x j hx hj hhx hhj
    have h1 := not_far hf (h + j) hhj
    have h2 : sm (hxO a h (h + j)) 121 = 0 := h1.1
    have h3 : sm (hxF a h (h + j)) 121 = 0 := h1.2
    have g1 := sm_at (f := hxO a h (h + j)) hx
    have g2 := sm_at (f := hxF a h (h + j)) hx
    rw [h2] at g1
    rw [h3] at g2
    unfold hxO at g1
    unfold hxF at g2
    rw [if_neg (by omega)] at g1 g2
    have g3 := sm_at (f := hcO a h (h + j) x) hj
    have g4 := sm_at (f := hcF a h (h + j) x) hj
    have k1 : a.2.1 x * a.1 j ≤ hcO a h (h + j) x j := by
      unfold hcO
      rw [if_pos (show h + j = h + j from rfl)]
      exact Nat.le_add_left _ _
    have k2 : a.2.1 x * a.2.1 j ≤ hcF a h (h + j) x j := by
      unfold hcF
      rw [if_pos (show h + j = max x (h + j) by omega)]
      exact Nat.le_refl _
    omega
/-- a retry: one asking that ends in time, that fails or is cut off -/
def rtO (a : Tb) (l : Nat) : Nat → Nat := fun j => if j ≤ l then a.1 j else 0
def rtc (a : Tb) (l j u : Nat) : Nat := (if j = l then (if l < u then a.1 u else 0) else 0) + (if j = min u l then a.2.1 u else 0)
def rtF (a : Tb) (l : Nat) : Nat → Nat := fun j => sm (rtc a l j) 121
def rtB (a : Tb) (l : Nat) : Tb := (rtF a l, rtO a l, a.2.2)
theorem ts_rtB {a : Tb} {l : Nat} (hl : l ≤ 60) (ha : TS 120 a) : TS 120 (rtB a l) := by
  refine ⟨fun i hi => ⟨sm_zero (fun u hu => ?_), if_neg (by omega)⟩, ?_, ha.2.2⟩
  · unfold rtc
    rw [if_neg (show ¬ i = l by omega), if_neg (show ¬ i = min u l by omega)]
  · have hs : sm a.1 121 + sm a.2.1 121 = a.2.2 := ha.2.1
    show sm (fun j => sm (rtc a l j) 121) 121 + sm (rtO a l) 121 = a.2.2
    rw [sm_swap (rtc a l) 121 121, ← hs]
    have e1 : sm (fun u => sm (fun j => rtc a l j u) 121) 121 = sm (fun u => (if l < u then a.1 u else 0) + a.2.1 u) 121 := by
      refine sm_congr (fun u hu => ?_)
      show sm (fun j => (if j = l then (if l < u then a.1 u else 0) else 0) + (if j = min u l then a.2.1 u else 0)) 121 = _
      rw [sm_add (fun j => if j = l then (if l < u then a.1 u else 0) else 0) (fun j => if j = min u l then a.2.1 u else 0), sm_one, sm_one, if_pos (show l < 121 by omega), if_pos (show min u l < 121 by omega)]
    rw [e1, sm_add (fun u => if l < u then a.1 u else 0) a.2.1]
    have e2 : sm (fun u => if l < u then a.1 u else 0) 121 + sm (rtO a l) 121 = sm a.1 121 := by
      rw [← sm_add]
      refine sm_congr (fun u hu => ?_)
      unfold rtO
      by_cases e : u ≤ l
      · rw [if_pos e, if_neg (by omega), Nat.zero_add]
      · rw [if_neg e, if_pos (by omega), Nat.add_zero]
    omega
/-- ill so many times, and well by then -/
def rtN (a : Tb) (l : Nat) : Nat → Tb := rowN (fun _ => rtB a l) (fun i => i)
def retT (l m : Nat) (a : Tb) : Tb := ((rtN a l (m + 1)).2.1, (rtN a l (m + 1)).1, (rtN a l (m + 1)).2.2)
theorem ts_rtN {a : Tb} {l : Nat} (hl : l ≤ 60) (ha : TS 120 a) (m : Nat) : TS (120 * m) (rtN a l m) := ts_rowN (fun _ _ => ts_rtB hl ha)
theorem rtN_supp {a : Tb} {l : Nat} : ∀ (m t : Nat), l * m < t → (rtN a l m).1 t = 0
  | 0, t, h => if_neg (by omega)
  | m + 1, t, h => by
    show cvl (rtN a l m).1 (rtF a l) t = 0
    refine cvl_zero (a := l * m) (b := l) (fun i hi => rtN_supp m i hi) (fun i hi => sm_zero (fun u _ => ?_)) (by rw [Nat.mul_succ] at h; exact h)
    unfold rtc
    rw [if_neg (show ¬ i = l by omega), if_neg (show ¬ i = min u l by omega)]
theorem far_ret {l m : Nat} {a : Tb} : far (retT l m a) ↔ far (rtN a l (m + 1)) := by
  constructor
  · rintro ⟨t, ht, h1 | h1⟩
    · exact ⟨t, ht, Or.inr h1⟩
    · exact ⟨t, ht, Or.inl h1⟩
  · rintro ⟨t, ht, h1 | h1⟩
    · exact ⟨t, ht, Or.inr h1⟩
    · exact ⟨t, ht, Or.inl h1⟩
theorem TS.ret {l m : Nat} {a : Tb} (hl : l ≤ 60) (ha : TS 120 a) : TS (120 * (m + 1)) (retT l m a) := by
  have h := ts_rtN (a := a) hl ha (m + 1)
  exact ⟨fun i hi => ⟨(h.1 i hi).2, (h.1 i hi).1⟩, (Nat.add_comm _ _).trans h.2.1, h.2.2⟩
