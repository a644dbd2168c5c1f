/-! PLAIN LAW 1: sums of naturals, products of rows -/
/-- the sum of the first n -/
def sm (f : Nat → Nat) : Nat → Nat
  | 0 => 0
  | n + 1 => sm f n + f n
theorem sm_congr {f g : Nat → Nat} : ∀ {n : Nat}, (∀ i, i < n → f i = g i) → sm f n = sm g n
  | 0, _ => rfl
  | n + 1, h => by
    show sm f n + f n = sm g n + g n
    rw [sm_congr (fun i hi => h i (Nat.lt_succ_of_lt hi)), h n (Nat.lt_succ_self n)]
theorem sm_zero {f : Nat → Nat} : ∀ {n : Nat}, (∀ i, i < n → f i = 0) → sm f n = 0
  | 0, _ => rfl
  | n + 1, h => by
    show sm f n + f n = 0
    rw [sm_zero (fun i hi => h i (Nat.lt_succ_of_lt hi)), h n (Nat.lt_succ_self n)]
theorem sm_add (f g : Nat → Nat) : ∀ n, sm (fun i => f i + g i) n = sm f n + sm g n
  | 0 => rfl
  | n + 1 => by
    show sm (fun i => f i + g i) n + (f n + g n) = (sm f n + f n) + (sm g n + g n)
    rw [sm_add f g n]
    omega
theorem sm_mul (c : Nat) (f : Nat → Nat) : ∀ n, sm (fun i => c * f i) n = c * sm f n
  | 0 => rfl
  | n + 1 => by
    show sm (fun i => c * f i) n + c * f n = c * (sm f n + f n)
    rw [sm_mul c f n, Nat.mul_add]
theorem sm_mulR (c : Nat) (f : Nat → Nat) : ∀ n, sm (fun i => f i * c) n = sm f n * c
  | 0 => (Nat.zero_mul c).symm
  | n + 1 => by
    show sm (fun i => f i * c) n + f n * c = (sm f n + f n) * c
    rw [sm_mulR c f n, Nat.add_mul]
theorem sm_le {f g : Nat → Nat} : ∀ {n : Nat}, (∀ i, i < n → f i ≤ g i) → sm f n ≤ sm g n
  | 0, _ => Nat.le_refl 0
  | n + 1, h => Nat.add_le_add (sm_le (fun i hi => h i (Nat.lt_succ_of_lt hi))) (h n (Nat.lt_succ_self n))
theorem sm_at {f : Nat → Nat} {i : Nat} : ∀ {n : Nat}, i < n → f i ≤ sm f n
  | 0, h => absurd h (Nat.not_lt_zero i)
  | n + 1, h => by
    show f i ≤ sm f n + f n
    by_cases e : i = n
    · subst e
      omega
    · have := sm_at (f := f) (i := i) (n := n) (by omega)
      omega
theorem sm_mono {f : Nat → Nat} {n : Nat} : ∀ {m : Nat}, n ≤ m → sm f n ≤ sm f m
  | 0, h => by
    have e : n = 0 := by omega
    rw [e]
    exact Nat.le_refl _
  | m + 1, h => by
    show sm f n ≤ sm f m + f m
    by_cases e : n = m + 1
    · rw [e]
      exact Nat.le_refl _
    · have := sm_mono (f := f) (n := n) (m := m) (by omega)
      omega
/-- nothing behind n -/
theorem sm_ext {f : Nat → Nat} {n : Nat} : ∀ {m : Nat}, n ≤ m → (∀ i, n ≤ i → i < m → f i = 0) → sm f m = sm f n
  | 0, h, _ => by
    have e : n = 0 := by omega
    rw [e]
  | m + 1, h, hz => by
    by_cases e : n = m + 1
    · rw [e]
    · show sm f m + f m = sm f n
      rw [sm_ext (m := m) (by omega) (fun i h1 h2 => hz i h1 (by omega)), hz m (by omega) (Nat.lt_succ_self m)]
      rfl
theorem sm_swap (f : Nat → Nat → Nat) (m : Nat) : ∀ n, sm (fun i => sm (f i) m) n = sm (fun j => sm (fun i => f i j) n) m
  | 0 => (sm_zero (fun _ _ => rfl)).symm
  | n + 1 => by
    show sm (fun i => sm (f i) m) n + sm (f n) m = _
    rw [sm_swap f m n, ← sm_add]
    rfl
theorem sm_pos {f : Nat → Nat} : ∀ {n : Nat}, 0 < sm f n → ∃ i, i < n ∧ 0 < f i
  | 0, h => absurd h (Nat.lt_irrefl 0)
  | n + 1, h => by
    by_cases e : 0 < f n
    · exact ⟨n, Nat.lt_succ_self n, e⟩
    · have h2 : 0 < sm f n + f n := h
      obtain ⟨i, h3, h4⟩ := sm_pos (f := f) (n := n) (by omega)
      exact ⟨i, by omega, h4⟩
theorem sm_dvd {f : Nat → Nat} {d : Nat} : ∀ {n : Nat}, (∀ i, i < n → d ∣ f i) → d ∣ sm f n
  | 0, _ => ⟨0, rfl⟩
  | n + 1, h => Nat.dvd_add (sm_dvd (fun i hi => h i (Nat.lt_succ_of_lt hi))) (h n (Nat.lt_succ_self n))
theorem sm_div {f : Nat → Nat} {d : Nat} (hd : 0 < d) : ∀ {n : Nat}, (∀ i, i < n → d ∣ f i) → sm (fun i => f i / d) n = sm f n / d
  | 0, _ => (Nat.zero_div d).symm
  | n + 1, h => by
    show sm (fun i => f i / d) n + f n / d = (sm f n + f n) / d
    rw [sm_div hd (fun i hi => h i (Nat.lt_succ_of_lt hi))]
    obtain ⟨x, hx⟩ := h n (Nat.lt_succ_self n)
    obtain ⟨y, hy⟩ := sm_dvd (f := f) (d := d) (n := n) (fun i hi => h i (Nat.lt_succ_of_lt hi))
    rw [hx, hy, ← Nat.mul_add, Nat.mul_div_cancel_left _ hd, Nat.mul_div_cancel_left _ hd, Nat.mul_div_cancel_left _ hd]
theorem sm_one (k v : Nat) : ∀ n, sm (fun i => if i = k then v else 0) n = if k < n then v else 0
  | 0 => rfl
  | n + 1 => by
    show sm (fun i => if i = k then v else 0) n + (if n = k then v else 0) = _
    rw [sm_one k v n]
    by_cases h1 : k < n
    · rw [if_pos h1, if_neg (by omega), if_pos (by omega)]
      rfl
    · rw [if_neg h1]
      by_cases h2 : n = k
      · rw [if_pos h2, if_pos (by omega)]
        omega
      · rw [if_neg h2, if_neg (by omega)]
/-- one row behind the other: the weights that end together at t -/
def cvl (f g : Nat → Nat) (t : Nat) : Nat := sm (fun i => f i * g (t - i)) (t + 1)
theorem cvl_sum (f g : Nat → Nat) : ∀ n, sm (cvl f g) n = sm (fun i => f i * sm g (n - i)) n
  | 0 => rfl
  | n + 1 => by
    show sm (cvl f g) n + cvl f g n = sm (fun i => f i * sm g (n + 1 - i)) n + f n * sm g (n + 1 - n)
    rw [cvl_sum f g n]
    have h1 : sm (fun i => f i * sm g (n + 1 - i)) n = sm (fun i => f i * sm g (n - i) + f i * g (n - i)) n := sm_congr (fun i hi => by
      rw [show n + 1 - i = (n - i) + 1 by omega, ← Nat.mul_add]
      rfl)
    rw [h1, sm_add]
    have h2 : cvl f g n = sm (fun i => f i * g (n - i)) n + f n * g (n - n) := rfl
    rw [h2, show n + 1 - n = 1 by omega, Nat.sub_self]
    have h3 : sm g 1 = g 0 := by
      show 0 + g 0 = g 0
      omega
    rw [h3]
    omega
/-- the whole of a product is the product of both wholes -/
theorem cvl_whole {f g : Nat → Nat} {a b n : Nat} (hf : ∀ i, a ≤ i → f i = 0) (hg : ∀ i, b ≤ i → g i = 0) (hn : a + b ≤ n + 1) : sm (cvl f g) n = sm f a * sm g b := by
  rcases Nat.lt_or_ge n a with h0 | h0
  · have hb : b = 0 := by omega
    subst hb
    rw [cvl_sum, sm_zero (fun i _ => ?_)]
    · exact (Nat.mul_zero _).symm
    · rw [sm_zero (fun j _ => hg j (Nat.zero_le j))]
      rfl
  · rw [cvl_sum, ← sm_mulR, sm_ext (n := a) h0 (fun i h1 _ => by rw [hf i h1]; exact Nat.zero_mul _)]
    refine sm_congr (fun i hi => ?_)
    rw [sm_ext (n := b) (m := n - i) (by omega) (fun j h1 _ => hg j h1)]
theorem cvl_zero {f g : Nat → Nat} {a b t : Nat} (hf : ∀ i, a < i → f i = 0) (hg : ∀ i, b < i → g i = 0) (ht : a + b < t) : cvl f g t = 0 := by
  refine sm_zero (fun i hi => ?_)
  by_cases h : a < i
  · rw [hf i h]
    exact Nat.zero_mul _
  · rw [hg (t - i) (by omega)]
    exact Nat.mul_zero _
theorem cvl_comm (f g : Nat → Nat) (t : Nat) : cvl f g t = cvl g f t := by
  unfold cvl
  have rev : ∀ (h : Nat → Nat) (n : Nat), sm h n = sm (fun i => h (n - 1 - i)) n := by
    intro h n
    induction n generalizing h with
    | zero => rfl
    | succ n ih =>
      have e1 : ∀ (k : Nat → Nat) (n : Nat), sm k (n + 1) = k 0 + sm (fun i => k (i + 1)) n := by
        intro k n
        induction n with
        | zero =>
          show 0 + k 0 = k 0 + 0
          omega
        | succ n ih2 =>
          show sm k (n + 1) + k (n + 1) = k 0 + (sm (fun i => k (i + 1)) n + k (n + 1))
          rw [ih2]
          omega
      show sm h n + h n = _
      rw [e1, ih h]
      have e2 : sm (fun i => h (n + 1 - 1 - (i + 1))) n = sm (fun i => h (n - 1 - i)) n := sm_congr (fun i hi => by
        rw [show n + 1 - 1 - (i + 1) = n - 1 - i by omega])
      rw [e2]
      show _ = h (n + 1 - 1 - 0) + _
      rw [show n + 1 - 1 - 0 = n by omega]
      omega
  rw [rev]
  refine sm_congr (fun i hi => ?_)
  rw [show t + 1 - 1 - i = t - i by omega, Nat.mul_comm, show t - (t - i) = i by omega]
theorem cvl_pos {f g : Nat → Nat} {a b : Nat} (hf : 0 < f a) (hg : 0 < g b) : 0 < cvl f g (a + b) := by
  have h := sm_at (f := fun i => f i * g (a + b - i)) (i := a) (n := a + b + 1) (by omega)
  have h2 : 0 < f a * g (a + b - a) := by
    rw [show a + b - a = b by omega]
    exact Nat.mul_pos hf hg
  exact Nat.lt_of_lt_of_le h2 h
theorem cvl_le {f g : Nat → Nat} {a b : Nat} (hf : ∀ i, a ≤ i → f i = 0) (hg : ∀ i, b ≤ i → g i = 0) (t : Nat) : cvl f g t ≤ sm f a * sm g b := by
  rw [← cvl_whole (n := a + b + t + 1) hf hg (by omega)]
  exact sm_at (by omega)
