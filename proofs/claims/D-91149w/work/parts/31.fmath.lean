/-! PLAIN LAW 4: fans by counts and by sets; the table of each thing -/
set_option maxRecDepth 100000
set_option linter.unusedVariables false
/-- of m parts so many are well: weights, by yes and no -/
def fnC (y n : Nat → Nat) : Nat → Nat → Nat
  | 0, c => if c = 0 then 1 else 0
  | m + 1, c => fnC y n m c * n m + (if c = 0 then 0 else fnC y n m (c - 1) * y m)
theorem fnC_succ (y n : Nat → Nat) (m c : Nat) : fnC y n (m + 1) c = fnC y n m c * n m + (if c = 0 then 0 else fnC y n m (c - 1) * y m) := rfl
theorem fnC_big (y n : Nat → Nat) : ∀ (m c : Nat), m < c → fnC y n m c = 0
  | 0, c, h => if_neg (by omega)
  | m + 1, c, h => by
    rw [fnC_succ, fnC_big y n m c (by omega), fnC_big y n m (c - 1) (by omega), Nat.zero_mul, Nat.zero_mul, if_neg (by omega)]
theorem fnC_mono {y n y' n' : Nat → Nat} : ∀ (m c : Nat), (∀ j, j < m → y j ≤ y' j ∧ n j ≤ n' j) → fnC y n m c ≤ fnC y' n' m c
  | 0, c, _ => Nat.le_refl _
  | m + 1, c, h => by
    rw [fnC_succ, fnC_succ]
    have h1 := fnC_mono m c (fun j hj => h j (by omega))
    have h2 := fnC_mono m (c - 1) (fun j hj => h j (by omega))
    have h3 := h m (by omega)
    refine Nat.add_le_add (Nat.mul_le_mul h1 h3.2) ?_
    by_cases e : c = 0
    · rw [if_pos e, if_pos e]
      exact Nat.le_refl _
    · rw [if_neg e, if_neg e]
      exact Nat.mul_le_mul h2 h3.1
theorem fnC_congr {y n y' n' : Nat → Nat} (m c : Nat) (h : ∀ j, j < m → y j = y' j ∧ n j = n' j) : fnC y n m c = fnC y' n' m c :=
  Nat.le_antisymm (fnC_mono m c (fun j hj => ⟨Nat.le_of_eq (h j hj).1, Nat.le_of_eq (h j hj).2⟩)) (fnC_mono m c (fun j hj => ⟨Nat.le_of_eq (h j hj).1.symm, Nat.le_of_eq (h j hj).2.symm⟩))
theorem sm_shift (g : Nat → Nat) : ∀ n, sm (fun c => if c = 0 then 0 else g (c - 1)) (n + 1) = sm g n
  | 0 => rfl
  | n + 1 => by
    show sm (fun c => if c = 0 then 0 else g (c - 1)) (n + 1) + (if n + 1 = 0 then 0 else g (n + 1 - 1)) = sm g n + g n
    rw [sm_shift g n, if_neg (Nat.succ_ne_zero n), Nat.add_sub_cancel]
theorem fnC_sum {y n : Nat → Nat} {T : Nat → Tb} {p : Nat → Nat} : ∀ (m N : Nat), m < N → (∀ j, j < m → y j + n j = (T (p j)).2.2) → sm (fnC y n m) N = (rowN T p m).2.2
  | 0, N, h, _ => by
    show sm (fun c => if c = 0 then 1 else 0) N = 1
    rw [sm_one, if_pos h]
  | m + 1, 0, h, _ => absurd h (Nat.not_lt_zero _)
  | m + 1, N + 1, h, hw => by
    have e1 := fnC_sum (y := y) (n := n) (T := T) (p := p) m (N + 1) (by omega) (fun j hj => hw j (by omega))
    have e2 := fnC_sum (y := y) (n := n) (T := T) (p := p) m N (by omega) (fun j hj => hw j (by omega))
    have h0 : sm (fnC y n (m + 1)) (N + 1) = sm (fun c => fnC y n m c * n m) (N + 1) + sm (fun c => if c = 0 then 0 else (fun x => fnC y n m x * y m) (c - 1)) (N + 1) := by
      rw [← sm_add]
      rfl
    rw [h0, sm_shift (fun x => fnC y n m x * y m), sm_mulR, sm_mulR, e1, e2, ← Nat.mul_add, Nat.add_comm (n m), hw m (by omega)]
    rfl
/-- so many or more -/
def fnG (y n : Nat → Nat) (m k N : Nat) : Nat := sm (fun i => if k ≤ i then fnC y n m i else 0) N
def fnL (y n : Nat → Nat) (m k N : Nat) : Nat := sm (fun i => if i < k then fnC y n m i else 0) N
theorem fnG_zero (y n : Nat → Nat) (m N : Nat) : fnG y n m 0 N = sm (fnC y n m) N := sm_congr (fun i _ => if_pos (Nat.zero_le i))
theorem fnG_ext (y n : Nat → Nat) (m k N : Nat) (h : m < N) : fnG y n m k (N + 1) = fnG y n m k N := by
  show fnG y n m k N + (if k ≤ N then fnC y n m N else 0) = _
  rw [fnC_big y n m N h]
  simp
theorem fnG_down (y n : Nat → Nat) (m k N : Nat) : fnG y n m (k + 1) N ≤ fnG y n m k N := by
  refine sm_le (fun i _ => ?_)
  by_cases e : k + 1 ≤ i
  · rw [if_pos e, if_pos (by omega)]
    exact Nat.le_refl _
  · rw [if_neg e]
    exact Nat.zero_le _
theorem fnG_succ (y n : Nat → Nat) (m k N : Nat) : fnG y n (m + 1) (k + 1) (N + 1) = fnG y n m (k + 1) (N + 1) * n m + fnG y n m k N * y m := by
  unfold fnG
  rw [← sm_mulR, ← sm_mulR, ← sm_shift (fun i => (if k ≤ i then fnC y n m i else 0) * y m), ← sm_add]
  refine sm_congr (fun i _ => ?_)
  rw [fnC_succ]
  rcases i with _ | i
  · simp
  · by_cases e : k ≤ i
    · simp [e]
    · simp [e]
theorem fnG_mono {y n y' n' : Nat → Nat} : ∀ (m k N : Nat), m < N → (∀ j, j < m → y j ≤ y' j ∧ y j + n j = y' j + n' j) → fnG y n m k N ≤ fnG y' n' m k N
  | 0, k, N, _, _ => Nat.le_refl _
  | m + 1, k, 0, h, _ => absurd h (Nat.not_lt_zero _)
  | m + 1, 0, N + 1, h, hw => by
    rw [fnG_zero, fnG_zero, fnC_sum (T := fun j => (dlt, dlt, y' j + n' j)) (p := fun j => j) _ _ h (fun j hj => (hw j hj).2), fnC_sum (T := fun j => (dlt, dlt, y' j + n' j)) (p := fun j => j) _ _ h (fun j hj => rfl)]
    exact Nat.le_refl _
  | m + 1, k + 1, N + 1, h, hw => by
    rw [fnG_succ, fnG_succ]
    have h1 := fnG_mono (y := y) (n := n) (y' := y') (n' := n') m (k + 1) (N + 1) (by omega) (fun j hj => hw j (by omega))
    have h2 := fnG_mono (y := y) (n := n) (y' := y') (n' := n') m k N (by omega) (fun j hj => hw j (by omega))
    have h3 := fnG_down y' n' m k N
    rw [fnG_ext y n m (k + 1) N (by omega)] at h1 ⊢
    rw [fnG_ext y' n' m (k + 1) N (by omega)] at h1 ⊢
    have h4 := hw m (by omega)
    obtain ⟨d, hd⟩ : ∃ d, y' m = y m + d := ⟨y' m - y m, by omega⟩
    have hn : n m = n' m + d := by omega
    rw [hd, hn, Nat.mul_add, Nat.mul_add]
    have a1 := Nat.mul_le_mul_right (n' m) h1
    have a2 := Nat.mul_le_mul_right d (Nat.le_trans h1 h3)
    have a3 := Nat.mul_le_mul_right (y m) h2
    omega
/-- fans: what has come to each tick -/
def fyes (T : Nat → Tb) (p : Nat → Nat) (t m : Nat) : Nat := sm (T (p m)).1 (t + 1)
def fill (T : Nat → Tb) (p : Nat → Nat) (t m : Nat) : Nat := sm (T (p m)).2.1 (t + 1)
def fno (T : Nat → Tb) (p : Nat → Nat) (t m : Nat) : Nat := (T (p m)).2.2 - sm (T (p m)).1 (t + 1)
def fnO (T : Nat → Tb) (p : Nat → Nat) (np k t : Nat) : Nat := fnG (fyes T p t) (fno T p t) np k 5
def fnF (T : Nat → Tb) (p : Nat → Nat) (np k t : Nat) : Nat := fnL (fyes T p t) (fill T p t) np k 5
def dif (g : Nat → Nat) (t : Nat) : Nat := if t < 121 then g t - (if t = 0 then 0 else g (t - 1)) else 0
def fanT (np k : Nat) (T : Nat → Tb) (p : Nat → Nat) : Tb := (dif (fnO T p np k), dif (fnF T p np k), (rowN T p np).2.2)
theorem dif_sum {g : Nat → Nat} (hg : ∀ t, t < 120 → g t ≤ g (t + 1)) : ∀ n, n < 121 → sm (dif g) (n + 1) = g n
  | 0, _ => by
    show 0 + (g 0 - 0) = g 0
    omega
  | n + 1, h => by
    show sm (dif g) (n + 1) + dif g (n + 1) = g (n + 1)
    rw [dif_sum hg n (by omega)]
    unfold dif
    rw [if_pos h, if_neg (Nat.succ_ne_zero n), Nat.add_sub_cancel]
    have := hg n (by omega)
    omega
theorem fyes_le {T : Nat → Tb} {p : Nat → Nat} {m : Nat} (h : TS 120 (T (p m))) {t : Nat} (ht : t < 121) : fyes T p t m + fill T p t m ≤ (T (p m)).2.2 := by
  have h1 := sm_mono (f := (T (p m)).1) (n := t + 1) (m := 121) (by omega)
  have h2 := sm_mono (f := (T (p m)).2.1) (n := t + 1) (m := 121) (by omega)
  have h3 := h.sum
  unfold fyes fill
  omega
theorem fnO_mono {T : Nat → Tb} {p : Nat → Nat} {np k t : Nat} (hn : np ≤ 4) (hT : ∀ i, i < np → TS 120 (T (p i))) (ht : t < 120) : fnO T p np k t ≤ fnO T p np k (t + 1) := by
  refine fnG_mono np k 5 (by omega) (fun j hj => ?_)
  have h1 := fyes_le (hT j hj) (t := t) (by omega)
  have h2 := fyes_le (hT j hj) (t := t + 1) (by omega)
  have h3 : fyes T p t j ≤ fyes T p (t + 1) j := sm_mono (by omega)
  refine ⟨h3, ?_⟩
  show fyes T p t j + ((T (p j)).2.2 - fyes T p t j) = fyes T p (t + 1) j + ((T (p j)).2.2 - fyes T p (t + 1) j)
  omega
theorem fnF_mono {T : Nat → Tb} {p : Nat → Nat} {np k t : Nat} : fnF T p np k t ≤ fnF T p np k (t + 1) := by
  refine sm_le (fun i _ => ?_)
  by_cases e : i < k
  · rw [if_pos e, if_pos e]
    exact fnC_mono np i (fun j hj => ⟨sm_mono (by omega), sm_mono (by omega)⟩)
  · rw [if_neg e, if_neg e]
    exact Nat.le_refl _
theorem rowN_pos {T : Nat → Tb} {p : Nat → Nat} {n : Nat} (h : ∀ i, i < n → TS 120 (T (p i))) : 0 < (rowN T p n).2.2 := (ts_rowN h).2.2
theorem ts_fan {T : Nat → Tb} {p : Nat → Nat} {np k : Nat} (hn : np ≤ 4) (hT : ∀ i, i < np → TS 120 (T (p i))) : TS 120 (fanT np k T p) := by
  refine ⟨fun i hi => ⟨if_neg (by omega), if_neg (by omega)⟩, ?_, rowN_pos hT⟩
  show sm (dif (fnO T p np k)) 121 + sm (dif (fnF T p np k)) 121 = (rowN T p np).2.2
  rw [dif_sum (g := fnO T p np k) (fun t ht => fnO_mono hn hT ht) 120 (by omega), dif_sum (g := fnF T p np k) (fun t ht => fnF_mono) 120 (by omega)]
  have hw : ∀ j, j < np → fyes T p 120 j + fill T p 120 j = (T (p j)).2.2 := fun j hj => (hT j hj).2.1
  have e : fnO T p np k 120 = fnG (fyes T p 120) (fill T p 120) np k 5 := by
    unfold fnO fnG
    refine sm_congr (fun i _ => ?_)
    rw [fnC_congr np i (fun j hj => ⟨rfl, ?_⟩)]
    have := hw j hj
    show (T (p j)).2.2 - fyes T p 120 j = fill T p 120 j
    omega
  rw [e, ← fnC_sum np 5 (by omega) hw]
  unfold fnF fnG fnL
  rw [← sm_add]
  refine sm_congr (fun i _ => ?_)
  by_cases e : k ≤ i
  · rw [if_pos e, if_neg (by omega), Nat.add_zero]
  · rw [if_neg e, if_pos (by omega), Nat.zero_add]
/-! by sets -/
theorem sm_split (f : Nat → Nat) (a : Nat) : ∀ b, sm f (a + b) = sm f a + sm (fun i => f (a + i)) b
  | 0 => rfl
  | b + 1 => by
    show sm f (a + b) + f (a + b) = sm f a + (sm (fun i => f (a + i)) b + f (a + b))
    rw [sm_split f a b]
    omega
def bt (x k : Nat) : Nat := x / 2 ^ k % 2
def stP (y n : Nat → Nat) (x : Nat) : Nat → Nat
  | 0 => 1
  | m + 1 => stP y n x m * (if bt x m = 1 then y m else n m)
def pcn (x : Nat) : Nat → Nat
  | 0 => 0
  | m + 1 => pcn x m + bt x m
theorem bt_low {m i k : Nat} (h : k < m) : bt (2 ^ m + i) k = bt i k := by
  unfold bt
  obtain ⟨d, rfl⟩ : ∃ d, m = k + (d + 1) := ⟨m - k - 1, by omega⟩
  rw [Nat.pow_add, Nat.mul_add_div (Nat.two_pow_pos k), Nat.pow_succ]
  omega
theorem bt_high {m i : Nat} (h : i < 2 ^ m) : bt i m = 0 ∧ bt (2 ^ m + i) m = 1 := by
  unfold bt
  have h2 := Nat.two_pow_pos m
  rw [Nat.div_eq_of_lt h, Nat.add_div_left i h2, Nat.div_eq_of_lt h]
  exact ⟨rfl, rfl⟩
theorem stP_low {y n : Nat → Nat} {m i : Nat} : ∀ {k : Nat}, k ≤ m → stP y n (2 ^ m + i) k = stP y n i k ∧ pcn (2 ^ m + i) k = pcn i k
  | 0, _ => ⟨rfl, rfl⟩
  | k + 1, h => by
    have h1 := stP_low (y := y) (n := n) (m := m) (i := i) (k := k) (by omega)
    unfold stP pcn
    rw [h1.1, h1.2, bt_low (by omega)]
    exact ⟨rfl, rfl⟩
theorem set_sum (y n : Nat → Nat) : ∀ (m c : Nat), sm (fun x => if pcn x m = c then stP y n x m else 0) (2 ^ m) = fnC y n m c
  | 0, c => by
    show 0 + (if 0 = c then 1 else 0) = if c = 0 then 1 else 0
    by_cases e : c = 0
    · subst e
      rfl
    · rw [if_neg e, if_neg (fun w => e w.symm)]
  | m + 1, c => by
    rw [Nat.pow_succ, Nat.mul_two, sm_split, fnC_succ, ← set_sum y n m c]
    congr 1
    · rw [← sm_mulR]
      refine sm_congr (fun x hx => ?_)
      show (if pcn x m + bt x m = c then stP y n x m * (if bt x m = 1 then y m else n m) else 0) = _
      rw [(bt_high hx).1, Nat.add_zero, if_neg (show ¬ 0 = 1 by omega)]
      by_cases e : pcn x m = c
      · rw [if_pos e, if_pos e]
      · rw [if_neg e, if_neg e, Nat.zero_mul]
    · by_cases e0 : c = 0
      · rw [if_pos e0]
        refine sm_zero (fun x hx => ?_)
        show (if pcn (2 ^ m + x) m + bt (2 ^ m + x) m = c then _ else 0) = 0
        rw [(bt_high hx).2, if_neg (by omega)]
      · rw [if_neg e0, ← set_sum y n m (c - 1), ← sm_mulR]
        refine sm_congr (fun x hx => ?_)
        show (if pcn (2 ^ m + x) m + bt (2 ^ m + x) m = c then stP y n (2 ^ m + x) m * (if bt (2 ^ m + x) m = 1 then y m else n m) else 0) = _
        rw [(bt_high hx).2, (stP_low (Nat.le_refl m)).1, (stP_low (y := y) (n := n) (Nat.le_refl m)).2, if_pos (show 1 = 1 from rfl)]
        by_cases e : pcn x m = c - 1
        · rw [if_pos e, if_pos (by omega)]
        · rw [if_neg e, if_neg (by omega), Nat.zero_mul]
theorem pcn_le (x : Nat) : ∀ m, pcn x m ≤ m
  | 0 => Nat.le_refl 0
  | m + 1 => by
    have := pcn_le x m
    show pcn x m + x / 2 ^ m % 2 ≤ m + 1
    omega
theorem sets_ge (y n : Nat → Nat) {m k : Nat} (hm : m ≤ 4) : sm (fun x => if k ≤ pcn x m then stP y n x m else 0) (2 ^ m) = fnG y n m k 5 := by
  unfold fnG
  rw [sm_congr (g := fun c => sm (fun x => if k ≤ c then (if pcn x m = c then stP y n x m else 0) else 0) (2 ^ m)) (n := 5) (fun c _ => ?_)]
  · rw [sm_swap (fun c x => if k ≤ c then (if pcn x m = c then stP y n x m else 0) else 0) (2 ^ m) 5]
    refine sm_congr (fun x _ => ?_)
    have hp := pcn_le x m
    by_cases e : k ≤ pcn x m
    · rw [if_pos e, sm_congr (g := fun c => if c = pcn x m then stP y n x m else 0) (fun c _ => ?_), sm_one, if_pos (by omega)]
      by_cases e2 : c = pcn x m
      · rw [if_pos (by omega), if_pos e2.symm, if_pos e2]
      · rw [if_neg e2, if_neg (show ¬ pcn x m = c from fun w => e2 w.symm), ite_self]
    · rw [if_neg e]
      refine (sm_zero (fun c _ => ?_)).symm
      by_cases e2 : pcn x m = c
      · rw [if_neg (by omega)]
      · rw [if_neg e2]
        simp
  · by_cases e : k ≤ c
    · rw [if_pos e, ← set_sum y n m c]
      exact sm_congr (fun x _ => (if_pos e).symm)
    · rw [if_neg e]
      exact (sm_zero (fun x _ => if_neg e)).symm
theorem sets_lt (y n : Nat → Nat) {m k : Nat} (hm : m ≤ 4) : sm (fun x => if k ≤ pcn x m then 0 else stP y n x m) (2 ^ m) = fnL y n m k 5 := by
  unfold fnL
  rw [sm_congr (g := fun c => sm (fun x => if c < k then (if pcn x m = c then stP y n x m else 0) else 0) (2 ^ m)) (n := 5) (fun c _ => ?_)]
  · rw [sm_swap (fun c x => if c < k then (if pcn x m = c then stP y n x m else 0) else 0) (2 ^ m) 5]
    refine sm_congr (fun x _ => ?_)
    have hp := pcn_le x m
    by_cases e : k ≤ pcn x m
    · rw [if_pos e]
      refine (sm_zero (fun c _ => ?_)).symm
      by_cases e2 : pcn x m = c
      · rw [if_neg (by omega)]
      · rw [if_neg e2]
        simp
    · rw [if_neg e, sm_congr (g := fun c => if c = pcn x m then stP y n x m else 0) (fun c _ => ?_), sm_one, if_pos (by omega)]
      by_cases e2 : c = pcn x m
      · rw [if_pos (by omega), if_pos e2.symm, if_pos e2]
      · rw [if_neg e2, if_neg (show ¬ pcn x m = c from fun w => e2 w.symm), ite_self]
  · by_cases e : c < k
    · rw [if_pos e, ← set_sum y n m c]
      exact sm_congr (fun x _ => (if_pos e).symm)
    · rw [if_neg e]
      exact (sm_zero (fun x _ => if_neg e)).symm
/-! the table of each thing -/
/-- what thing k makes of its parts' tables, not yet made less; s: 1 parts' number, 7 kind, 8 parts (four each), 9, 10 numbers, 11 in which it is (one more; 0: none), 12 grades, 14 weights (60 a grade), 15 the grade in use, 6 0: how many things -/
def prt (s : St) (k : Nat) : Nat → Nat := fun i => s 8 (4 * k + i)
def raw (s : St) (T : Nat → Tb) (k : Nat) : Tb := match s 7 k with
  | 0 => leafT s k
  | 1 => rowN T (prt s k) (s 1 k)
  | 2 => fanT (s 1 k) (s 9 k) T (prt s k)
  | 3 => cacT (s 9 k) (s 10 k) (T (prt s k 0)) (T (prt s k 1))
  | 4 => retT (s 9 k) (s 10 k) (T (prt s k 0))
  | _ => hedT (s 9 k) (T (prt s k 0))
def tbn (s : St) : Nat → Nat → Tb
  | 0, _ => row0
  | m + 1, k => tdiv (raw s (tbn s m) k)
def tbl (s : St) (k : Nat) : Tb := tbn s (k + 1) k
def own (s : St) (k : Nat) : Prop := 2 ^ 62 ≤ (raw s (tbl s) k).2.2 ∨ far (raw s (tbl s) k)
def grn (s : St) : Nat → Nat → Prop
  | 0, _ => False
  | m + 1, k => (∃ i, i < s 1 k ∧ grn s m (prt s k i)) ∨ own s k
def grt (s : St) (k : Nat) : Prop := grn s (k + 1) k
/-- the state of a script's things is sound -/
def VdK (s : St) (k : Nat) : Prop :=
  (s 7 k ≤ 5 ∧ s 1 k ≤ 4 ∧ (∀ i, i < s 1 k → prt s k i < k ∧ s 11 (prt s k i) = k + 1) ∧ (∀ i j, i < j → j < s 1 k → prt s k i ≠ prt s k j)) ∧
  ((s 7 k = 0 → s 1 k = 0 ∧ 1 ≤ s 12 k ∧ s 12 k ≤ 3 ∧ s 15 k < s 12 k ∧ s 17 k ≤ s 12 k ∧ s 16 k ≤ 121 ∧ ∀ g, g < s 12 k → (1 ≤ sm (fun i => s 14 (60 * (3 * k + g) + i)) 60 ∧ sm (fun i => s 14 (60 * (3 * k + g) + i)) 60 ≤ 1000) ∧ s 13 (3 * k + g) ≤ 10000) ∧
   (s 7 k = 1 → 2 ≤ s 1 k) ∧ (s 7 k = 2 → 1 ≤ s 9 k ∧ s 9 k ≤ s 1 k) ∧ (s 7 k = 3 → s 1 k = 2 ∧ s 9 k ≤ s 10 k ∧ 1 ≤ s 10 k ∧ s 10 k ≤ 100) ∧
   (s 7 k = 4 → s 1 k = 1 ∧ 1 ≤ s 9 k ∧ s 9 k ≤ 60 ∧ 1 ≤ s 10 k ∧ s 10 k ≤ 3) ∧ (s 7 k = 5 → s 1 k = 1 ∧ s 9 k ≤ 60)) ∧
  (s 11 k ≤ s 6 0 ∧ (s 11 k ≠ 0 → k + 1 < s 11 k ∧ ∃ i, i < s 1 (s 11 k - 1) ∧ prt s (s 11 k - 1) i = k))
def Vd (s : St) : Prop := s 6 0 ≤ 20 ∧ ∀ k, k < s 6 0 → VdK s k
theorem rowN_congr {T T' : Nat → Tb} {p : Nat → Nat} : ∀ {n : Nat}, (∀ i, i < n → T (p i) = T' (p i)) → rowN T p n = rowN T' p n
  | 0, _ => rfl
  | n + 1, h => by
    show rowS (rowN T p n) (T (p n)) = rowS (rowN T' p n) (T' (p n))
    rw [rowN_congr (fun i hi => h i (by omega)), h n (by omega)]
theorem raw_congr {s : St} {T T' : Nat → Tb} {k : Nat} (hV : VdK s k) (h : ∀ i, i < s 1 k → T (prt s k i) = T' (prt s k i)) : raw s T k = raw s T' k := by
  obtain ⟨⟨h7, h1, hp, hd⟩, ⟨v0, v1, v2, v3, v4, v5⟩, -⟩ := hV
  unfold raw
  split
  · rfl
  · exact rowN_congr h
  · have e : ∀ j, j < s 1 k → T (prt s k j) = T' (prt s k j) := h
    have e1 : ∀ t j, j < s 1 k → fyes T (prt s k) t j = fyes T' (prt s k) t j ∧ fno T (prt s k) t j = fno T' (prt s k) t j := fun t j hj => by
      unfold fyes fno
      rw [h j hj]
      exact ⟨rfl, rfl⟩
    have e2 : ∀ t j, j < s 1 k → fyes T (prt s k) t j = fyes T' (prt s k) t j ∧ fill T (prt s k) t j = fill T' (prt s k) t j := fun t j hj => by
      unfold fyes fill
      rw [h j hj]
      exact ⟨rfl, rfl⟩
    have e3 : fnO T (prt s k) (s 1 k) (s 9 k) = fnO T' (prt s k) (s 1 k) (s 9 k) := funext fun t => sm_congr (fun i _ => by rw [fnC_congr _ i (e1 t)])
    have e4 : fnF T (prt s k) (s 1 k) (s 9 k) = fnF T' (prt s k) (s 1 k) (s 9 k) := funext fun t => sm_congr (fun i _ => by rw [fnC_congr _ i (e2 t)])
    unfold fanT
    rw [e3, e4, rowN_congr h]
  · rename_i e
    have := (v3 e).1
    rw [h 0 (by omega), h 1 (by omega)]
  · rename_i e
    have := (v4 e).1
    rw [h 0 (by omega)]
  · rename_i e0 e1 e2 e3 e4
    have h5 : s 7 k = 5 := by
      have g : ∀ n, n ≤ 5 → ¬ n = 0 → ¬ n = 1 → ¬ n = 2 → ¬ n = 3 → ¬ n = 4 → n = 5 := by omega
      exact g _ h7 e0 e1 e2 e3 e4
    have := (v5 h5).1
    rw [h 0 (by omega)]
theorem tbn_ok {s : St} (hV : Vd s) : ∀ (m k : Nat), k < m → k < s 6 0 → tbn s m k = tbl s k := by
  have key : ∀ (n m m' k : Nat), k < n → k < m → k < m' → k < s 6 0 → tbn s m k = tbn s m' k := by
    intro n
    induction n with
    | zero => intro m m' k h; exact absurd h (Nat.not_lt_zero _)
    | succ n ih =>
      intro m m' k h hm hm' hk
      obtain ⟨a, rfl⟩ : ∃ a, m = a + 1 := ⟨m - 1, by omega⟩
      obtain ⟨b, rfl⟩ : ∃ b, m' = b + 1 := ⟨m' - 1, by omega⟩
      show tdiv (raw s (tbn s a) k) = tdiv (raw s (tbn s b) k)
      rw [raw_congr (hV.2 k hk) (fun i hi => ?_)]
      have := ((hV.2 k hk).1.2.2.1 i hi).1
      exact ih a b _ (by omega) (by omega) (by omega) (by omega)
  intro m k h hk
  exact key (k + 1) m (k + 1) k (by omega) h (by omega) hk
theorem tbl_eq {s : St} (hV : Vd s) {k : Nat} (hk : k < s 6 0) : tbl s k = tdiv (raw s (tbl s) k) := by
  show tdiv (raw s (tbn s k) k) = _
  rw [raw_congr (hV.2 k hk) (fun i hi => ?_)]
  have := ((hV.2 k hk).1.2.2.1 i hi).1
  exact tbn_ok hV k _ this (by omega)
theorem grn_ok {s : St} (hV : Vd s) : ∀ (m k : Nat), k < m → k < s 6 0 → (grn s m k ↔ grt s k) := by
  have key : ∀ (n m m' k : Nat), k < n → k < m → k < m' → k < s 6 0 → (grn s m k → grn s m' k) := by
    intro n
    induction n with
    | zero => intro m m' k h; exact absurd h (Nat.not_lt_zero _)
    | succ n ih =>
      intro m m' k h hm hm' hk hg
      obtain ⟨a, rfl⟩ : ∃ a, m = a + 1 := ⟨m - 1, by omega⟩
      obtain ⟨b, rfl⟩ : ∃ b, m' = b + 1 := ⟨m' - 1, by omega⟩
      rcases hg with ⟨i, hi, hg⟩ | hg
      · have := ((hV.2 k hk).1.2.2.1 i hi).1
        exact Or.inl ⟨i, hi, ih a b _ (by omega) (by omega) (by omega) (by omega) hg⟩
      · exact Or.inr hg
  intro m k h hk
  exact ⟨key (k + 1) m (k + 1) k (by omega) h (by omega) hk, key (k + 1) (k + 1) m k (by omega) (by omega) h hk⟩
theorem grt_iff {s : St} (hV : Vd s) {k : Nat} (hk : k < s 6 0) : grt s k ↔ (∃ i, i < s 1 k ∧ grt s (prt s k i)) ∨ own s k := by
  constructor
  · rintro (⟨i, hi, hg⟩ | hg)
    · have := ((hV.2 k hk).1.2.2.1 i hi).1
      exact Or.inl ⟨i, hi, (grn_ok hV k _ this (by omega)).mp hg⟩
    · exact Or.inr hg
  · rintro (⟨i, hi, hg⟩ | hg)
    · have := ((hV.2 k hk).1.2.2.1 i hi).1
      exact Or.inl ⟨i, hi, (grn_ok hV k _ this (by omega)).mpr hg⟩
    · exact Or.inr hg
theorem raw_ts {s : St} (hV : Vd s) {k : Nat} (hk : k < s 6 0) (hp : ∀ i, i < s 1 k → TS 120 (tbl s (prt s k i))) : ∃ A, TS A (raw s (tbl s) k) := by
  obtain ⟨⟨h7, h1, hpp, hd⟩, ⟨v0, v1, v2, v3, v4, v5⟩, -⟩ := hV.2 k hk
  unfold raw
  split
  · rename_i e
    have h := v0 e
    exact ⟨59, TS.leaf (by have := (h.2.2.2.2.2.2 _ h.2.2.2.1).1.1; exact this)⟩
  · exact ⟨_, ts_rowN hp⟩
  · exact ⟨120, ts_fan h1 hp⟩
  · rename_i e
    have h := v3 e
    exact ⟨240, TS.cac h.2.1 h.2.2.1 (hp 0 (by omega)) (hp 1 (by omega))⟩
  · rename_i e
    have h := v4 e
    exact ⟨_, TS.ret h.2.2.1 (hp 0 (by omega))⟩
  · rename_i e0 e1 e2 e3 e4
    have h5 : s 7 k = 5 := by
      have g : ∀ n, n ≤ 5 → ¬ n = 0 → ¬ n = 1 → ¬ n = 2 → ¬ n = 3 → ¬ n = 4 → n = 5 := by omega
      exact g _ h7 e0 e1 e2 e3 e4
    have h := v5 h5
    exact ⟨180, TS.hed h.2 (hp 0 (by omega))⟩
theorem tbl_ok {s : St} (hV : Vd s) : ∀ (k : Nat), k < s 6 0 → ¬ grt s k → TOk (tbl s k) := by
  have key : ∀ (n k : Nat), k < n → k < s 6 0 → ¬ grt s k → TOk (tbl s k) := by
    intro n
    induction n with
    | zero => intro k h; exact absurd h (Nat.not_lt_zero _)
    | succ n ih =>
      intro k h hk hg
      rw [grt_iff hV hk] at hg
      have hp : ∀ i, i < s 1 k → TS 120 (tbl s (prt s k i)) := fun i hi => by
        have := ((hV.2 k hk).1.2.2.1 i hi).1
        exact (ih _ (by omega) (by omega) (fun w => hg (Or.inl ⟨i, hi, w⟩))).1
      obtain ⟨A, hA⟩ := raw_ts hV hk hp
      have ho : ¬ own s k := fun w => hg (Or.inr w)
      rw [tbl_eq hV hk]
      exact tok_tdiv ⟨hA.near (fun w => ho (Or.inr w)), by
        have : ¬ 2 ^ 62 ≤ (raw s (tbl s) k).2.2 := fun w => ho (Or.inl w)
        omega⟩
  intro k hk hg
  exact key (k + 1) k (by omega) hk hg
theorem part_ok {s : St} (hV : Vd s) {k : Nat} (hk : k < s 6 0) (hg : ¬ ∃ i, i < s 1 k ∧ grt s (prt s k i)) (i : Nat) (hi : i < s 1 k) : TOk (tbl s (prt s k i)) := by
  have := ((hV.2 k hk).1.2.2.1 i hi).1
  exact tbl_ok hV _ (by omega) (fun w => hg ⟨i, hi, w⟩)
