/-! CONTRACTS 16: table() of retries -/
set_option maxRecDepth 100000
set_option linter.unusedVariables false
theorem cpy_at (f g : Nat → Int64) {u : Nat} (hu : u < 121) : va_cpy f g (0 : Int32).toNatClampNeg (0 : Int32).toNatClampNeg (121 : Int32).toNatClampNeg u = f u := by
  have e1 : (0 : Int32).toNatClampNeg = 0 := by decide
  have e2 : (121 : Int32).toNatClampNeg = 121 := by decide
  rw [e1, e2]
  show (if 0 ≤ u ∧ u < 0 + 121 then f (0 + (u - 0)) else g u) = f u
  rw [if_pos (by omega), show 0 + (u - 0) = u by omega]
theorem acp_full {g h : Nat → Nat} {t k u : Nat} (hh : ∀ i, u ≤ i → h i = 0) : acp g h t k u = if k ≤ t then g k * h (t - k) else 0 := by
  unfold acp
  by_cases e : k ≤ t
  · rw [if_pos e]
    by_cases e2 : t - k < u
    · rw [if_pos ⟨e, e2⟩]
    · rw [if_neg (fun w => e2 w.2), hh (t - k) (by omega), Nat.mul_zero]
  · rw [if_neg e, if_neg (fun w => e w.1)]
theorem rtF_zero {a : Tb} {l : Nat} (i : Nat) (hi : l + 1 ≤ i) : rtF a l i = 0 := sm_zero (fun u _ => by
  unfold rtc
  rw [if_neg (show ¬ i = l by omega), if_neg (show ¬ i = min u l by omega)])
theorem rtO_zero {a : Tb} {l : Nat} (i : Nat) (hi : l + 1 ≤ i) : rtO a l i = 0 := if_neg (by omega)
/-- the part's table -/
def ryT (s : St) (k : Nat) : Tb := tbl s (prt s k 0)
def RyC (s : St) (k : Nat) (K : AK) (C : MC) (I : MI) (J0 : MJ) (R0 : MR) (J : MJ) (R : MR) (qa : Nat) : Prop := s 7 k = 4 ∧ TKc s k K C I J0 R0 J R ∧ TbS C R qa ∧ RpB J qa (ryT s k) ∧ RS s (prt s k 0) qa ∧ (∀ i, i < s 1 k → ¬ grt s (prt s k i))
theorem RyC.own {s : St} {k : Nat} {K : AK} {C : MC} {I : MI} {J0 : MJ} {R0 : MR} {J J' : MJ} {R : MR} {qa : Nat} (h : RyC s k K C I J0 R0 J R qa) (hJ : ∀ y, (∀ o, o < 40 → y ≠ th k + o) → J' y = J y) : RyC s k K C I J0 R0 J' R qa := by
  obtain ⟨h7, hT, ta, ra, sa, hg⟩ := h
  have hn := (hT.1.1.2 k hT.2.1).2.1.2.2.2.2.1 h7
  exact ⟨h7, hT.toJ (hT.fr hJ), ta, sa.keepJ hT.1.1 hT.2.1 (by omega) (by omega) ra hJ, sa, hg⟩
theorem RyC.up {s : St} {k o : Nat} {K : AK} {C : MC} {I : MI} {J0 : MJ} {R0 : MR} {J : MJ} {R : MR} {qa : Nat} {f : Nat → Int64} (h : RyC s k K C I J0 R0 J R qa) (ho : o < 40) : RyC s k K C I J0 R0 (va_up J (th k + o) f) R qa := h.own (fun y hy => va_up_ne _ _ (hy o ho))
theorem RyC.facts {s : St} {k : Nat} {K : AK} {C : MC} {I : MI} {J0 : MJ} {R0 : MR} {J : MJ} {R : MR} {qa : Nat} (h : RyC s k K C I J0 R0 J R qa) : C (th k) = (9, 0) ∧ R (th k) 1 = some (th k + 2) ∧ R (th k) 2 = some (th k + 5) ∧ TbS C R (th k + 2) ∧ TbS C R (th k + 5) ∧ R (th k) 8 = some (th k + 8) ∧ C (th k + 8) = (21, 121) ∧ R (th k) 9 = some (th k + 9) ∧ C (th k + 9) = (21, 121) ∧ I (th k) 6 = iN (s 9 k) ∧ I (th k) 7 = iN (s 10 k) ∧ (1 ≤ s 9 k ∧ s 9 k ≤ 60 ∧ 1 ≤ s 10 k ∧ s 10 k ≤ 3) ∧ TOk (ryT s k) ∧ raw s (tbl s) k = retT (s 9 k) (s 10 k) (ryT s k) := by
  obtain ⟨h7, hT, ta, ra, sa, hg⟩ := h
  have hc := hT.1.2.2 k hT.2.1
  obtain ⟨⟨c1, c2, c3, c4, c5, c6, c7, c8, c9⟩, -, -, -, ct⟩ := hc.1
  have hn := (hT.1.1.2 k hT.2.1).2.1.2.2.2.2.1 h7
  have ct := ct h7
  have i67 := hc.2.1.2.2.2.1 (Or.inr h7)
  rw [h7] at c1
  exact ⟨c1, c5, c6, c7, c8, ct.1, ct.2.1, ct.2.2.1, ct.2.2.2, i67.1, i67.2, hn.2, part_ok hT.1.1 hT.2.1 (fun ⟨i, hi, w⟩ => hg i hi w) 0 (by omega), raw_4 h7⟩
/-- one asking's table -/
def RyO (s : St) (k : Nat) (J : MJ) : Prop := ∀ u, u < 121 → J (th k + 5 + 1) u = jN (rtO (ryT s k) (s 9 k) u) ∧ J (th k + 5 + 2) u = jN (rtF (ryT s k) (s 9 k) u)
theorem RyO.kept {s : St} {k : Nat} {J J' : MJ} (h : RyO s k J) (h1 : J' (th k + 5 + 1) = J (th k + 5 + 1)) (h2 : J' (th k + 5 + 2) = J (th k + 5 + 2)) : RyO s k J' := fun u hu => by
  rw [h1, h2]
  exact h u hu
def V_X9_table_24 (d n : Nat) (K : AK) (x0 : Nat) (x1 : Nat) (x2 : Nat) (x3 : Int32) (C : MC) (I : MI) (J : MJ) (R : MR) : Prop := ∃ (s : St) (k t : Nat) (J0 : MJ) (R0 : MR), x0 = th k ∧ x2 = th k + 5 ∧ x3 = iN t ∧ t ≤ 121 ∧ n = 9000000 - t ∧ RyC s k K C I J0 R0 J R x1 ∧ (∀ u, u < 121 → J (th k + 5 + 1) u = jN (if u < t then rtO (ryT s k) (s 9 k) u else 0) ∧ J (th k + 5 + 2) u = jN (sm (rtc (ryT s k) (s 9 k) u) t))
def V_X9_table_111 (d n : Nat) (K : AK) (x0 : Nat) (x1 : Nat) (x2 : Nat) (x3 : Nat) (x4 : Int32) (C : MC) (I : MI) (J : MJ) (R : MR) : Prop := ∃ (s : St) (k i : Nat) (J0 : MJ) (R0 : MR), x0 = th k ∧ x2 = th k + 5 ∧ x3 = th k + 2 ∧ x4 = iN i ∧ i ≤ s 10 k + 1 ∧ n = 8000000 - i ∧ RyC s k K C I J0 R0 J R x1 ∧ RyO s k J ∧ J (th k + 2) 2 = jN ((ryT s k).2.2 ^ i) ∧ (ryT s k).2.2 ^ i < 2 ^ 62 ∧ (∀ u, u < 121 → J (th k + 2 + 1) u = 0 ∧ J (th k + 2 + 2) u = 0)
def V_X9_table_144 (d n : Nat) (K : AK) (x0 : Nat) (x1 : Nat) (x2 : Nat) (x3 : Nat) (x4 : Int32) (C : MC) (I : MI) (J : MJ) (R : MR) : Prop := ∃ (s : St) (k t : Nat) (J0 : MJ) (R0 : MR), x0 = th k ∧ x2 = th k + 5 ∧ x3 = th k + 2 ∧ x4 = iN t ∧ t ≤ 121 ∧ n = 7000000 - t ∧ RyC s k K C I J0 R0 J R x1 ∧ RyO s k J ∧ J (th k + 2) 2 = jN ((ryT s k).2.2 ^ (s 10 k + 1)) ∧ (ryT s k).2.2 ^ (s 10 k + 1) < 2 ^ 62 ∧ (∀ u, u < 121 → J (th k + 2 + 1) u = 0 ∧ J (th k + 2 + 2) u = 0) ∧ (∀ u, u < t → J (th k + 8) u = jN (dlt u))
/-- so many askings are done -/
def RyI (s : St) (k i : Nat) (J : MJ) : Prop := RyO s k J ∧ J (th k + 2) 2 = jN ((ryT s k).2.2 ^ (s 10 k + 1)) ∧ (ryT s k).2.2 ^ (s 10 k + 1) < 2 ^ 62 ∧ (∀ u, u < 121 → J (th k + 2 + 2) u = 0) ∧ TS 120 (rtN (ryT s k) (s 9 k) i) ∧ (∀ u, u < 121 → J (th k + 8) u = jN ((rtN (ryT s k) (s 9 k) i).1 u))
def V_X9_table_183 (d n : Nat) (K : AK) (x0 : Nat) (x1 : Nat) (x2 : Nat) (x3 : Nat) (x4 : Int64) (x6 : Int32) (C : MC) (I : MI) (J : MJ) (R : MR) : Prop := ∃ (s : St) (k i : Nat) (J0 : MJ) (R0 : MR), x0 = th k ∧ x2 = th k + 5 ∧ x3 = th k + 2 ∧ x4 = jN ((ryT s k).2.2 ^ (s 10 k + 1 - i)) ∧ x6 = iN i ∧ i ≤ s 10 k + 1 ∧ n = (5 - i) * 100000 + 5000 ∧ RyC s k K C I J0 R0 J R x1 ∧ RyI s k i J ∧ (∀ u, u < 121 → J (th k + 2 + 1) u = jN ((rtN (ryT s k) (s 9 k) i).2.1 u * (ryT s k).2.2 ^ (s 10 k + 1 - i)))
def V_X9_table_204 (d n : Nat) (K : AK) (x0 : Nat) (x1 : Nat) (x2 : Nat) (x3 : Nat) (x4 : Int64) (x6 : Int32) (x7 : Int32) (C : MC) (I : MI) (J : MJ) (R : MR) : Prop := ∃ (s : St) (k i t : Nat) (J0 : MJ) (R0 : MR), x0 = th k ∧ x2 = th k + 5 ∧ x3 = th k + 2 ∧ x4 = jN ((ryT s k).2.2 ^ (s 10 k - i)) ∧ x6 = iN i ∧ x7 = iN t ∧ i ≤ s 10 k ∧ t ≤ 121 ∧ n = (4 - i) * 100000 + 95000 - t ∧ RyC s k K C I J0 R0 J R x1 ∧ RyI s k i J ∧ (∀ u, u < 121 → J (th k + 2 + 1) u = jN ((rtN (ryT s k) (s 9 k) i).2.1 u * (ryT s k).2.2 ^ (s 10 k + 1 - i))) ∧ (∀ u, u < t → J (th k + 9) u = 0)
def V_X9_table_228 (d n : Nat) (K : AK) (x0 : Nat) (x1 : Nat) (x2 : Nat) (x3 : Nat) (x4 : Int64) (x6 : Int32) (x7 : Int32) (C : MC) (I : MI) (J : MJ) (R : MR) : Prop := ∃ (s : St) (k i v : Nat) (J0 : MJ) (R0 : MR), x0 = th k ∧ x2 = th k + 5 ∧ x3 = th k + 2 ∧ x4 = jN ((ryT s k).2.2 ^ (s 10 k - i)) ∧ x6 = iN i ∧ x7 = iN v ∧ i ≤ s 10 k ∧ v ≤ 121 ∧ n = (4 - i) * 100000 + 5010 + (121 - v) * 200 ∧ RyC s k K C I J0 R0 J R x1 ∧ RyI s k i J ∧
  (∀ u, u < 121 → J (th k + 2 + 1) u = jN ((rtN (ryT s k) (s 9 k) i).2.1 u * (ryT s k).2.2 ^ (s 10 k + 1 - i) + acw (rtN (ryT s k) (s 9 k) i).1 (rtO (ryT s k) (s 9 k)) u v * (ryT s k).2.2 ^ (s 10 k - i)) ∧ J (th k + 9) u = jN (acw (rtN (ryT s k) (s 9 k) i).1 (rtF (ryT s k) (s 9 k)) u v)) ∧
  NoFar (rtN (ryT s k) (s 9 k) i).1 (rtF (ryT s k) (s 9 k)) (rtO (ryT s k) (s 9 k)) 1 v
def V_X9_table_238 (d n : Nat) (K : AK) (x0 : Nat) (x1 : Nat) (x2 : Nat) (x3 : Nat) (x4 : Int64) (x6 : Int32) (x7 : Int32) (x8 : Int32) (C : MC) (I : MI) (J : MJ) (R : MR) : Prop := ∃ (s : St) (k i v j : Nat) (J0 : MJ) (R0 : MR), x0 = th k ∧ x2 = th k + 5 ∧ x3 = th k + 2 ∧ x4 = jN ((ryT s k).2.2 ^ (s 10 k - i)) ∧ x6 = iN i ∧ x7 = iN v ∧ x8 = iN j ∧ i ≤ s 10 k ∧ v < 121 ∧ j ≤ s 9 k + 1 ∧ n = (4 - i) * 100000 + 5010 + (121 - v) * 200 - 1 - j ∧ RyC s k K C I J0 R0 J R x1 ∧ RyI s k i J ∧
  (∀ u, u < 121 → J (th k + 2 + 1) u = jN ((rtN (ryT s k) (s 9 k) i).2.1 u * (ryT s k).2.2 ^ (s 10 k + 1 - i) + (acw (rtN (ryT s k) (s 9 k) i).1 (rtO (ryT s k) (s 9 k)) u v + acp (rtN (ryT s k) (s 9 k) i).1 (rtO (ryT s k) (s 9 k)) u v j) * (ryT s k).2.2 ^ (s 10 k - i)) ∧ J (th k + 9) u = jN (acw (rtN (ryT s k) (s 9 k) i).1 (rtF (ryT s k) (s 9 k)) u v + acp (rtN (ryT s k) (s 9 k) i).1 (rtF (ryT s k) (s 9 k)) u v j)) ∧
  NoFar (rtN (ryT s k) (s 9 k) i).1 (rtF (ryT s k) (s 9 k)) (rtO (ryT s k) (s 9 k)) 1 v ∧ (∀ y, y < j → 120 < v + y → (rtN (ryT s k) (s 9 k) i).1 v * rtF (ryT s k) (s 9 k) y * 1 = 0 ∧ (rtN (ryT s k) (s 9 k) i).1 v * rtO (ryT s k) (s 9 k) y * 1 = 0)
def V_X9_table_384 (d n : Nat) (K : AK) (x0 : Nat) (x3 : Nat) (x6 : Int32) (C : MC) (I : MI) (J : MJ) (R : MR) : Prop := ∃ (s : St) (k t qa : Nat) (J0 : MJ) (R0 : MR), x0 = th k ∧ x3 = th k + 2 ∧ x6 = iN t ∧ t ≤ 121 ∧ n = 200 - t ∧ RyC s k K C I J0 R0 J R qa ∧ J (th k + 2) 2 = jN ((ryT s k).2.2 ^ (s 10 k + 1)) ∧ (ryT s k).2.2 ^ (s 10 k + 1) < 2 ^ 62 ∧ TS 120 (rtN (ryT s k) (s 9 k) (s 10 k + 1)) ∧ (∀ u, u < 121 → J (th k + 8) u = jN ((rtN (ryT s k) (s 9 k) (s 10 k + 1)).1 u) ∧ J (th k + 2 + 1) u = jN ((rtN (ryT s k) (s 9 k) (s 10 k + 1)).2.1 u) ∧ J (th k + 2 + 2) u = jN (if u < t then (rtN (ryT s k) (s 9 k) (s 10 k + 1)).1 u else 0))
theorem ret_bad {s : St} {k i : Nat} (hV : Vd s) (hk : k < s 6 0) (e : raw s (tbl s) k = retT (s 9 k) (s 10 k) (ryT s k)) (hl : s 9 k ≤ 60) (ha : TS 120 (ryT s k)) (hi : i ≤ s 10 k + 1) (h : 2 ^ 62 ≤ (ryT s k).2.2 ^ i ∨ far (rtN (ryT s k) (s 9 k) i)) : grt s k := by
  refine own_bad hV hk e ?_
  rcases h with h | h
  · refine Or.inl (Nat.le_trans h ?_)
    show (ryT s k).2.2 ^ i ≤ (rtN (ryT s k) (s 9 k) (s 10 k + 1)).2.2
    rw [rtN_whole]
    exact Nat.pow_le_pow_right ha.2.2 hi
  · refine Or.inr (far_ret.mpr ?_)
    have key : ∀ d, far (rtN (ryT s k) (s 9 k) (i + d)) := by
      intro d
      induction d with
      | zero => exact h
      | succ d ih => exact far_rowS ih (ts_rtB hl ha)
    have h1 := key (s 10 k + 1 - i)
    rw [show i + (s 10 k + 1 - i) = s 10 k + 1 by omega] at h1
    exact h1
theorem TS.row0' {s : St} {k : Nat} : TS 120 (rtN (ryT s k) (s 9 k) 0) := ts_row0.wide (by omega)
theorem RyI.keep9 {s : St} {k i : Nat} {J : MJ} {f : Nat → Int64} (h : RyI s k i J) : RyI s k i (va_up J (th k + 9) f) := by
  refine ⟨h.1.kept (va_up_ne _ _ (by omega)) (va_up_ne _ _ (by omega)), ?_, h.2.2.1, ?_, h.2.2.2.2.1, ?_⟩
  · rw [va_up_ne _ _ (show th k + 2 ≠ th k + 9 by omega)]
    exact h.2.1
  · rw [va_up_ne _ _ (show th k + 2 + 2 ≠ th k + 9 by omega)]
    exact h.2.2.2.1
  · rw [va_up_ne _ _ (show th k + 8 ≠ th k + 9 by omega)]
    exact h.2.2.2.2.2
