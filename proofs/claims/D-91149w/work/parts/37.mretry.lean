/-! CONTRACTS 9: the reference makes retries -/
set_option maxRecDepth 100000
set_option linter.unusedVariables false
/-- of one x the first u ticks, failing or cut off -/
def rtp (a : Tb) (l : Nat) (g : Nat → Nat) (t k u : Nat) : Nat := if k ≤ t then g k * sm (rtc a l (t - k)) u else 0
theorem rtp_zero (a : Tb) (l : Nat) (g : Nat → Nat) (t k : Nat) : rtp a l g t k 0 = 0 := by
  unfold rtp
  by_cases e : k ≤ t
  · rw [if_pos e]
    exact Nat.mul_zero _
  · rw [if_neg e]
theorem rtp_in (a : Tb) (l : Nat) (g : Nat → Nat) (t k u : Nat) (h : u ≤ l) : rtp a l g t k (u + 1) = rtp a l g t k u + (if t = k + min l u then g k * a.2.1 u else 0) := by
  unfold rtp
  by_cases e : k ≤ t
  · rw [if_pos e, if_pos e, sm_succ, Nat.mul_add]
    congr 1
    unfold rtc
    rw [show (if t - k = l then (if l < u then a.1 u else 0) else 0) = 0 by rw [if_neg (show ¬ l < u by omega)]; split <;> rfl, Nat.zero_add]
    by_cases e2 : t = k + min l u
    · rw [if_pos e2, if_pos (by omega)]
    · rw [if_neg e2, if_neg (by omega), Nat.mul_zero]
  · rw [if_neg e, if_neg e, if_neg (by omega)]
theorem rtp_out (a : Tb) (l : Nat) (g : Nat → Nat) (t k u : Nat) (h : l < u) : rtp a l g t k (u + 1) = rtp a l g t k u + (if t = k + l then g k * a.1 u else 0) + (if t = k + min l u then g k * a.2.1 u else 0) := by
  unfold rtp
  by_cases e : k ≤ t
  · rw [if_pos e, if_pos e, sm_succ, Nat.mul_add, Nat.add_assoc]
    congr 1
    unfold rtc
    rw [if_pos h, Nat.mul_add]
    congr 1
    · by_cases e2 : t = k + l
      · rw [if_pos e2, if_pos (by omega)]
      · rw [if_neg e2, if_neg (by omega), Nat.mul_zero]
    · by_cases e2 : t = k + min l u
      · rw [if_pos e2, if_pos (by omega)]
      · rw [if_neg e2, if_neg (by omega), Nat.mul_zero]
  · rw [if_neg e, if_neg e, if_neg (by omega), if_neg (by omega)]
theorem rtp_all (a : Tb) (l : Nat) (g : Nat → Nat) (t k : Nat) : rtp a l g t k 121 = if k ≤ t then g k * rtF a l (t - k) else 0 := rfl
theorem rtO_far {a : Tb} {l : Nat} (hl : l ≤ 60) (i : Nat) (hi : 120 < i) : rtO a l i = 0 := if_neg (by omega)
def RtS (a : Tb) (p l m : Nat) (C : MC) (J : MJ) (R : MR) : Prop := MS C R ∧ p < 20 ∧ l ≤ 60 ∧ m ≤ 4 ∧ JT J a p ∧ TS 120 a
def RtK (a : Tb) (l m : Nat) (J0 : MJ) (K : AK) (C : MC) (I : MI) (R : MR) : Prop := ∀ J' : MJ, Fr [126, 127, 128, 129] J0 J' → (∀ i, i < 600 → J' 126 i = jN ((rtN a l m).2.1 i) ∧ J' 127 i = jN ((rtN a l m).1 i)) → K (.inl none) C I J' R
theorem RtS.up {a : Tb} {p l m q : Nat} {C : MC} {J : MJ} {R : MR} {f : Nat → Int64} (h : RtS a p l m C J R) (h1 : q ≠ 122) (h2 : q ≠ 123) (h3 : q ≠ 124) : RtS a p l m C (va_up J q f) R := ⟨h.1, h.2.1, h.2.2.1, h.2.2.2.1, h.2.2.2.2.1.up h1 h2 h3, h.2.2.2.2.2⟩
theorem RtS.fr {a : Tb} {p l m q : Nat} {C : MC} {J J' : MJ} {R : MR} (h : RtS a p l m C J R) (hF : Fr [q] J J') (h1 : q ≠ 122) (h2 : q ≠ 123) (h3 : q ≠ 124) : RtS a p l m C J' R := ⟨h.1, h.2.1, h.2.2.1, h.2.2.2.1, h.2.2.2.2.1.fr hF (fun w => h1 (List.mem_singleton.mp w).symm) (fun w => h2 (List.mem_singleton.mp w).symm) (fun w => h3 (List.mem_singleton.mp w).symm), h.2.2.2.2.2⟩
def F_X2_makeRetry : SPF := fun As C I J R K => ∃ (s : St) (t : Nat) (a : Tb), As = [aR (some 1), aI (iN t)] ∧ MS C R ∧ Vd s ∧ MI1 s I ∧ t < s 6 0 ∧ s 7 t = 4 ∧ JT J a (prt s t 0) ∧ TS 120 a ∧ (∀ i, i < 600 → J 126 i = 0) ∧ ∀ J' : MJ, Fr [126, 127, 128, 129] J J' → MP J' (retT (s 9 t) (s 10 t) a) → K (.inl none) C I J' R
def V_X2_makeRetry_44 (n : Nat) (K : AK) (x0 : Nat) (x2 : Int32) (x3 : Int32) (x4 : Int32) (x5 : Int32) (C : MC) (I : MI) (J : MJ) (R : MR) : Prop := ∃ (J0 : MJ) (a : Tb) (p l m i : Nat), x0 = 1 ∧ x2 = iN p ∧ x3 = iN l ∧ x4 = iN m ∧ x5 = iN i ∧ i ≤ m ∧ n = (4 - i) * 100000 + 1000 ∧ RtS a p l m C J R ∧ Fr [126, 127, 128, 129] J0 J ∧ (∀ u, u < 600 → J 128 u = jN ((rtN a l i).1 u) ∧ J 126 u = jN ((rtN a l i).2.1 u)) ∧ RtK a l m J0 K C I R
def V_X2_makeRetry_62 (n : Nat) (K : AK) (x0 : Nat) (x2 : Int32) (x3 : Int32) (x4 : Int32) (x5 : Int32) (x6 : Int32) (C : MC) (I : MI) (J : MJ) (R : MR) : Prop := ∃ (J0 : MJ) (a : Tb) (p l m i v : Nat), x0 = 1 ∧ x2 = iN p ∧ x3 = iN l ∧ x4 = iN m ∧ x5 = iN i ∧ x6 = iN v ∧ i < m ∧ v ≤ 600 ∧ n = (3 - i) * 100000 + 98801 - v ∧ RtS a p l m C J R ∧ Fr [126, 127, 128, 129] J0 J ∧ (∀ u, u < 600 → J 129 u = 0 ∧ J 128 u = jN ((rtN a l i).1 u) ∧ J 126 u = jN (if u < v then (rtN a l i).2.1 u * a.2.2 else (rtN a l i).2.1 u)) ∧ RtK a l m J0 K C I R
def V_X2_makeRetry_97 (n : Nat) (K : AK) (x0 : Nat) (x2 : Int32) (x3 : Int32) (x4 : Int32) (x5 : Int32) (x6 : Int32) (C : MC) (I : MI) (J : MJ) (R : MR) : Prop := ∃ (J0 : MJ) (a : Tb) (p l m i k : Nat), x0 = 1 ∧ x2 = iN p ∧ x3 = iN l ∧ x4 = iN m ∧ x5 = iN i ∧ x6 = iN k ∧ i < m ∧ k ≤ l * i + 1 ∧ l * i ≤ 180 ∧ n = (3 - i) * 100000 + 2000 + (481 - k) * 200 ∧ RtS a p l m C J R ∧ Fr [126, 127, 128, 129] J0 J ∧ (∀ u, u < 600 → J 129 u = jN (acw (rtN a l i).1 (rtF a l) u k) ∧ J 128 u = jN ((rtN a l i).1 u) ∧ J 126 u = jN ((rtN a l i).2.1 u * a.2.2 + acw (rtN a l i).1 (rtO a l) u k)) ∧ RtK a l m J0 K C I R
def V_X2_makeRetry_124 (n : Nat) (K : AK) (x0 : Nat) (x2 : Int32) (x3 : Int32) (x4 : Int32) (x5 : Int32) (x6 : Int32) (x7 : Int32) (C : MC) (I : MI) (J : MJ) (R : MR) : Prop := ∃ (J0 : MJ) (a : Tb) (p l m i k v : Nat), x0 = 1 ∧ x2 = iN p ∧ x3 = iN l ∧ x4 = iN m ∧ x5 = iN i ∧ x6 = iN k ∧ x7 = iN v ∧ i < m ∧ k ≤ l * i ∧ l * i ≤ 180 ∧ v ≤ 121 ∧ n = (3 - i) * 100000 + 2000 + (481 - k) * 200 - 1 - v ∧ RtS a p l m C J R ∧ Fr [126, 127, 128, 129] J0 J ∧ (∀ u, u < 600 → J 129 u = jN (acw (rtN a l i).1 (rtF a l) u k + rtp a l (rtN a l i).1 u k v) ∧ J 128 u = jN ((rtN a l i).1 u) ∧ J 126 u = jN ((rtN a l i).2.1 u * a.2.2 + acw (rtN a l i).1 (rtO a l) u k + acp (rtN a l i).1 (rtO a l) u k v)) ∧ RtK a l m J0 K C I R
def V_X2_makeRetry_254 (n : Nat) (K : AK) (x0 : Nat) (x2 : Int32) (x3 : Int32) (x4 : Int32) (x5 : Int32) (x6 : Int32) (C : MC) (I : MI) (J : MJ) (R : MR) : Prop := ∃ (J0 : MJ) (a : Tb) (p l m i v : Nat), x0 = 1 ∧ x2 = iN p ∧ x3 = iN l ∧ x4 = iN m ∧ x5 = iN i ∧ x6 = iN v ∧ i < m ∧ v ≤ 600 ∧ n = (3 - i) * 100000 + 1601 - v ∧ RtS a p l m C J R ∧ Fr [126, 127, 128, 129] J0 J ∧ (∀ u, u < 600 → J 129 u = jN ((rtN a l (i + 1)).1 u) ∧ (u < v → J 128 u = jN ((rtN a l (i + 1)).1 u)) ∧ J 126 u = jN ((rtN a l (i + 1)).2.1 u)) ∧ RtK a l m J0 K C I R
def V_X2_makeRetry_293 (n : Nat) (K : AK) (x0 : Nat) (x5 : Int32) (C : MC) (I : MI) (J : MJ) (R : MR) : Prop := ∃ (J0 : MJ) (a : Tb) (p l m v : Nat), x0 = 1 ∧ x5 = iN v ∧ v ≤ 600 ∧ n = 600 - v ∧ RtS a p l m C J R ∧ Fr [126, 127, 128, 129] J0 J ∧ (∀ u, u < 600 → J 128 u = jN ((rtN a l m).1 u) ∧ (u < v → J 127 u = jN ((rtN a l m).1 u)) ∧ J 126 u = jN ((rtN a l m).2.1 u)) ∧ RtK a l m J0 K C I R
theorem S_X2_makeRetry (l : Launch) : SpX2_makeRetry l F_X2_makeRetry := by
  refine wX2_makeRetry (S_X2_clear l) (S_X2_at l) V_X2_makeRetry_44 V_X2_makeRetry_62 V_X2_makeRetry_97 V_X2_makeRetry_124 V_X2_makeRetry_254 V_X2_makeRetry_293 ?_ ?_ ?_ ?_ ?_ ?_ ?_
  · rintro As C I J R K ⟨s, t, a, rfl, hM, hV, hI, ht, h7, hJ, hA, hz, hK⟩
    have hn := hV.1
    have hv := hV.2 t ht
    have h5 := hv.2.1.2.2.2.2.1 h7
    have hp := (hv.1.2.2.1 0 (by omega)).1
    have e8 := hI.of ht (i := 0) (by omega) (by omega)
    rw [Nat.add_zero] at e8
    have e9 := (hI.2 t ht).2.2.1
    have e10 := (hI.2 t ht).2.2.2.1
    refine ⟨1, iN t, rfl, ?_⟩
    unfold PX2_makeRetry_0
    simp (config := { contextual := true }) (disch := omega) only [MS.o hM, MS.r8 hM, MS.c8 hM, MS.r9 hM, MS.c9 hM, MS.r10 hM, MS.c10 hM, MS.r28 hM, MS.c28 hM, le_l_4, lt_l_4, lt_r_4, le_r_4, eq_r_4, mul_l_4, add_r_4, le_l_1, lt_l_1, lt_r_1, le_r_1, eq_r_1, mul_l_1, add_r_1, Option.some.injEq, Sum.inl.injEq, Sum.inr.injEq, exists_eq_left', forall_eq, true_and, and_true, false_implies, true_implies, not_false_eq_true, not_true_eq_false, vpT, vp0, tn0, iN_nat, nI_iN, iN_add, iN_lt, iN_le, aI_inj, aJ_inj, aR_inj, e8, e9, e10]
    refine ⟨128, 600, rfl, hM.c28, by decide, fun J' hF hz2 => ?_⟩
    simp (config := { contextual := true }) (disch := omega) only [MS.o hM, MS.r28 hM, MS.c28 hM, Option.some.injEq, Sum.inl.injEq, Sum.inr.injEq, exists_eq_left', forall_eq, true_and, and_true, false_implies, true_implies, not_false_eq_true, not_true_eq_false, vpT, vp0, tn0, iN_nat, nI_iN, iN_add, iN_lt, iN_le, aI_inj, aJ_inj, aR_inj]
    refine ⟨_, J, a, prt s t 0, s 9 t, s 10 t + 1, 0, rfl, rfl, rfl, rfl, rfl, Nat.zero_le _, rfl, ?_, (hF.wide (by decide)).up (by decide), fun u hu => ?_, hK⟩
    · exact RtS.up (RtS.fr (q := 128) ⟨hM, by omega, h5.2.2.1, by omega, hJ, hA⟩ hF (by decide) (by decide) (by decide)) (by decide) (by decide) (by decide)
    · have h1 := hF 126 (by decide)
      rw [va_up_self, va_up_ne _ _ (show (126 : Nat) ≠ 128 by decide), h1, hz u hu, up_val]
      refine ⟨?_, rfl⟩
      by_cases e : u = 0
      · subst e
        rfl
      · rw [if_neg e, hz2 u hu]
        show (0 : Int64) = jN (dlt u)
        rw [show dlt u = 0 from if_neg e]
        rfl
  · rintro n K x0 x2 x3 x4 x5 C I J R ⟨J0, a, p, l, m, i, rfl, rfl, rfl, rfl, rfl, hi, rfl, hS, hF, hv, hK⟩
    obtain ⟨hM, hp, hl, hm, hJ, hA⟩ := hS
    unfold PX2_makeRetry_44
    simp (config := { contextual := true }) (disch := omega) only [MS.o hM, MS.r29 hM, MS.c29 hM, Option.some.injEq, Sum.inl.injEq, Sum.inr.injEq, exists_eq_left', forall_eq, true_and, and_true, false_implies, true_implies, not_false_eq_true, not_true_eq_false, vpT, vp0, tn0, iN_nat, nI_iN, iN_add, iN_lt, iN_le, aI_inj, aJ_inj, aR_inj]
    refine ⟨fun c => ?_, fun c => ?_⟩
    · obtain rfl : i = m := by omega
      exact ⟨600 - 0, by omega, J0, a, p, l, i, 0, rfl, rfl, by omega, rfl, ⟨hM, hp, hl, hm, hJ, hA⟩, hF, fun u hu => ⟨(hv u hu).1, fun h0 => absurd h0 (Nat.not_lt_zero u), (hv u hu).2⟩, hK⟩
    · refine ⟨129, 600, rfl, hM.c29, by decide, fun J' hF' hz => ?_⟩
      refine ⟨rfl, (3 - i) * 100000 + 98801 - 0, by omega, J0, a, p, l, m, i, 0, rfl, rfl, rfl, rfl, rfl, rfl, by omega, by omega, rfl, RtS.fr (q := 129) ⟨hM, hp, hl, hm, hJ, hA⟩ hF' (by decide) (by decide) (by decide), hF.trans (hF'.wide (by decide)), fun u hu => ?_, hK⟩
      rw [hF' 128 (by decide), hF' 126 (by decide), if_neg (Nat.not_lt_zero u)]
      exact ⟨hz u hu, hv u hu⟩
  · rintro n K x0 x2 x3 x4 x5 x6 C I J R ⟨J0, a, p, l, m, i, v, rfl, rfl, rfl, rfl, rfl, rfl, hi, hm, rfl, hS, hF, hv, hK⟩
    have hM := hS.1
    have hp := hS.2.1
    have hl := hS.2.2.1
    have hm4 := hS.2.2.2.1
    unfold PX2_makeRetry_62
    simp (config := { contextual := true }) (disch := omega) only [MS.o hM, MS.r24 hM, MS.c24 hM, MS.r26 hM, MS.c26 hM, le_l_1, lt_l_1, lt_r_1, le_r_1, eq_r_1, mul_l_1, add_r_1, Option.some.injEq, Sum.inl.injEq, Sum.inr.injEq, exists_eq_left', forall_eq, true_and, and_true, false_implies, true_implies, not_false_eq_true, not_true_eq_false, vpT, vp0, tn0, iN_nat, nI_iN, iN_add, iN_lt, iN_le, aI_inj, aJ_inj, aR_inj]
    refine ⟨⟨by decide, by decide⟩, fun c => ?_, fun c => ?_⟩
    · obtain rfl : v = 600 := by omega
      refine ⟨(3 - i) * 100000 + 2000 + (481 - 0) * 200, by omega, J0, a, p, l, m, i, 0, rfl, rfl, rfl, rfl, rfl, rfl, hi, by omega, Nat.le_trans (Nat.mul_le_mul hl (show i ≤ 3 by omega)) (by omega), rfl, hS, hF, fun u hu => ?_, hK⟩
      have h1 := hv u hu
      rw [if_pos hu] at h1
      exact h1
    · refine ⟨(3 - i) * 100000 + 98801 - (v + 1), by omega, J0, a, p, l, m, i, v + 1, rfl, rfl, rfl, rfl, rfl, rfl, hi, by omega, rfl, hS.up (by decide) (by decide) (by decide), hF.up (by decide), fun u hu => ?_, hK⟩
      have h1 := hv u hu
      have h2 := hv v (by omega)
      rw [va_up_self, va_up_ne _ _ (show (129 : Nat) ≠ 126 by decide), va_up_ne _ _ (show (128 : Nat) ≠ 126 by decide), up_val]
      refine ⟨h1.1, h1.2.1, ?_⟩
      by_cases e : u = v
      · rw [if_pos e, if_pos (by omega), h2.2.2, if_neg (Nat.lt_irrefl v), hS.2.2.2.2.1.2, jN_mul, e]
      · rw [if_neg e, h1.2.2]
        by_cases e2 : u < v
        · rw [if_pos e2, if_pos (by omega)]
        · rw [if_neg e2, if_neg (by omega)]
  · rintro n K x0 x2 x3 x4 x5 x6 C I J R ⟨J0, a, p, l, m, i, k, rfl, rfl, rfl, rfl, rfl, rfl, hi, hk, hli, rfl, hS, hF, hv, hK⟩
    have hM := hS.1
    have hl := hS.2.2.1
    unfold PX2_makeRetry_97 PX2_makeRetry_245
    simp (config := { contextual := true }) (disch := omega) only [MS.o hM, MS.r28 hM, MS.c28 hM, le_l_1, lt_l_1, lt_r_1, le_r_1, eq_r_1, mul_l_1, add_r_1, Option.some.injEq, Sum.inl.injEq, Sum.inr.injEq, exists_eq_left', forall_eq, true_and, and_true, false_implies, true_implies, not_false_eq_true, not_true_eq_false, vpT, vp0, tn0, iN_nat, nI_iN, iN_add, iN_lt, iN_le, aI_inj, aJ_inj, aR_inj, iN_mul]
    refine ⟨fun c => ?_, fun c => ⟨fun c2 => ?_, fun c2 => ?_⟩⟩
    · obtain rfl : k = l * i + 1 := by omega
      refine ⟨(3 - i) * 100000 + 1601 - 0, by omega, J0, a, p, l, m, i, 0, rfl, rfl, rfl, rfl, rfl, rfl, hi, by omega, rfl, hS, hF, fun u hu => ?_, hK⟩
      have h1 := hv u hu
      rw [acw_all (fun x hx => rtN_supp i x (by omega)), acw_all (fun x hx => rtN_supp i x (by omega))] at h1
      exact ⟨h1.1, fun h0 => absurd h0 (Nat.not_lt_zero u), h1.2.2⟩
    · refine ⟨(3 - i) * 100000 + 2000 + (481 - k) * 200 - 1 - 0, by omega, J0, a, p, l, m, i, k, 0, rfl, rfl, rfl, rfl, rfl, rfl, rfl, hi, by omega, hli, by omega, rfl, hS, hF, fun u hu => ?_, hK⟩
      rw [acp_zero, rtp_zero, Nat.add_zero, Nat.add_zero]
      exact hv u hu
    · refine ⟨(3 - i) * 100000 + 2000 + (481 - (k + 1)) * 200, by omega, J0, a, p, l, m, i, k + 1, rfl, rfl, rfl, rfl, rfl, rfl, hi, by omega, hli, rfl, hS, hF, fun u hu => ?_, hK⟩
      have h1 := hv u hu
      rw [(hv k (by omega)).2.1] at c2
      rw [acw_succ, acw_succ, ← Nat.add_assoc, jN_skip c2, jN_skip c2]
      exact h1
  · rintro n K x0 x2 x3 x4 x5 x6 x7 C I J R ⟨J0, a, p, l, m, i, k, v, rfl, rfl, rfl, rfl, rfl, rfl, rfl, hi, hk, hli, hv1, rfl, hS, hF, hv, hK⟩
    have hM := hS.1
    have hp := hS.2.1
    have hl := hS.2.2.1
    have hm4 := hS.2.2.2.1
    have e1 := iN_ifmin l v (by omega) (by omega)
    have h2 := (hv k (by omega)).2.1
    unfold PX2_makeRetry_124 PX2_makeRetry_203 PX2_makeRetry_245
    simp only [e1]
    simp (config := { contextual := true }) (disch := omega) only [at_eq, MS.o hM, MS.r22 hM, MS.c22 hM, MS.r23 hM, MS.c23 hM, MS.r26 hM, MS.c26 hM, MS.r28 hM, MS.c28 hM, MS.r29 hM, MS.c29 hM, le_l_121, lt_l_121, lt_r_121, le_r_121, eq_r_121, mul_l_121, add_r_121, le_l_1, lt_l_1, lt_r_1, le_r_1, eq_r_1, mul_l_1, add_r_1, Option.some.injEq, Sum.inl.injEq, Sum.inr.injEq, exists_eq_left', forall_eq, true_and, and_true, false_implies, true_implies, not_false_eq_true, not_true_eq_false, vpT, vp0, tn0, iN_nat, nI_iN, iN_add, iN_lt, iN_le, aI_inj, aJ_inj, aR_inj, va_up_self, va_up_ne, acu_eq]
    refine ⟨fun c => ?_, fun c => ⟨fun c2 => ?_, fun c2 => ?_⟩⟩
    · obtain rfl : v = 121 := by omega
      refine ⟨(3 - i) * 100000 + 2000 + (481 - (k + 1)) * 200, by omega, J0, a, p, l, m, i, k + 1, rfl, rfl, rfl, rfl, rfl, rfl, hi, by omega, hli, rfl, hS, hF, fun u hu => ?_, hK⟩
      have h1 := hv u hu
      rw [acp_all (fun x hx => rtO_far hl x hx) (Or.inl rfl), rtp_all] at h1
      rw [acw_succ, acw_succ, ← Nat.add_assoc]
      exact h1
    · have hj := hS.2.2.2.2.1.1 v (by omega)
      refine ⟨(3 - i) * 100000 + 2000 + (481 - k) * 200 - 1 - (v + 1), by omega, J0, a, p, l, m, i, k, v + 1, rfl, rfl, rfl, rfl, rfl, rfl, rfl, hi, hk, hli, by omega, rfl, (hS.up (by decide) (by decide) (by decide)).up (by decide) (by decide) (by decide), (hF.up (by decide)).up (by decide), fun u hu => ?_, hK⟩
      have h1 := hv u hu
      have h3 : rtO a l v = 0 := if_neg (by omega)
      rw [rtp_out _ _ _ _ _ _ c2, acp_succ, h3, Nat.mul_zero, ite_self, Nat.add_zero]
      simp (disch := omega) only [va_up_self, va_up_ne, acu_at, h1.1, h1.2.1, h1.2.2, h2, hj.1, hj.2, jN_mul, jN_if, jN_add, Nat.add_assoc, and_self, true_and]
    · have hj := hS.2.2.2.2.1.1 v (by omega)
      refine ⟨(3 - i) * 100000 + 2000 + (481 - k) * 200 - 1 - (v + 1), by omega, J0, a, p, l, m, i, k, v + 1, rfl, rfl, rfl, rfl, rfl, rfl, rfl, hi, hk, hli, by omega, rfl, (hS.up (by decide) (by decide) (by decide)).up (by decide) (by decide) (by decide), (hF.up (by decide)).up (by decide), fun u hu => ?_, hK⟩
      have h1 := hv u hu
      have h3 : rtO a l v = a.1 v := if_pos (by omega)
      rw [rtp_in _ _ _ _ _ _ (show v ≤ l by omega), acp_succ, h3]
      simp (disch := omega) only [va_up_self, va_up_ne, acu_at, h1.1, h1.2.1, h1.2.2, h2, hj.1, hj.2, jN_mul, jN_if, jN_add, Nat.add_assoc, and_self, true_and]
  · rintro n K x0 x2 x3 x4 x5 x6 C I J R ⟨J0, a, p, l, m, i, v, rfl, rfl, rfl, rfl, rfl, rfl, hi, hm, rfl, hS, hF, hv, hK⟩
    have hM := hS.1
    have hm4 := hS.2.2.2.1
    unfold PX2_makeRetry_254
    simp (config := { contextual := true }) (disch := omega) only [MS.o hM, MS.r28 hM, MS.c28 hM, MS.r29 hM, MS.c29 hM, le_l_1, lt_l_1, lt_r_1, le_r_1, eq_r_1, mul_l_1, add_r_1, Option.some.injEq, Sum.inl.injEq, Sum.inr.injEq, exists_eq_left', forall_eq, true_and, and_true, false_implies, true_implies, not_false_eq_true, not_true_eq_false, vpT, vp0, tn0, iN_nat, nI_iN, iN_add, iN_lt, iN_le, aI_inj, aJ_inj, aR_inj]
    refine ⟨⟨by decide, by decide⟩, fun c => ?_, fun c => ?_⟩
    · obtain rfl : v = 600 := by omega
      exact ⟨(4 - (i + 1)) * 100000 + 1000, by omega, J0, a, p, l, m, i + 1, rfl, rfl, rfl, rfl, rfl, hi, rfl, hS, hF, fun u hu => ⟨(hv u hu).2.1 hu, (hv u hu).2.2⟩, hK⟩
    · refine ⟨(3 - i) * 100000 + 1601 - (v + 1), by omega, J0, a, p, l, m, i, v + 1, rfl, rfl, rfl, rfl, rfl, rfl, hi, by omega, rfl, hS.up (by decide) (by decide) (by decide), hF.up (by decide), fun u hu => ?_, hK⟩
      have h1 := hv u hu
      rw [va_up_self, va_up_ne _ _ (show (129 : Nat) ≠ 128 by decide), va_up_ne _ _ (show (126 : Nat) ≠ 128 by decide), up_val]
      refine ⟨h1.1, fun h0 => ?_, h1.2.2⟩
      by_cases e : u = v
      · rw [if_pos e, ← e]
        exact h1.1
      · rw [if_neg e]
        exact h1.2.1 (by omega)
  · rintro n K x0 x5 C I J R ⟨J0, a, p, l, m, v, rfl, rfl, hm, rfl, hS, hF, hv, hK⟩
    have hM := hS.1
    unfold PX2_makeRetry_293
    simp (config := { contextual := true }) (disch := omega) only [MS.o hM, MS.r27 hM, MS.c27 hM, MS.r28 hM, MS.c28 hM, le_l_1, lt_l_1, lt_r_1, le_r_1, eq_r_1, mul_l_1, add_r_1, Option.some.injEq, Sum.inl.injEq, Sum.inr.injEq, exists_eq_left', forall_eq, true_and, and_true, false_implies, true_implies, not_false_eq_true, not_true_eq_false, vpT, vp0, tn0, iN_nat, nI_iN, iN_add, iN_lt, iN_le, aI_inj, aJ_inj, aR_inj]
    refine ⟨⟨by decide, by decide⟩, fun c => ?_, fun c => ?_⟩
    · obtain rfl : v = 600 := by omega
      exact hK J hF (fun u hu => ⟨(hv u hu).2.2, (hv u hu).2.1 hu⟩)
    · refine ⟨600 - (v + 1), by omega, J0, a, p, l, m, v + 1, rfl, rfl, by omega, rfl, hS.up (by decide) (by decide) (by decide), hF.up (by decide), fun u hu => ?_, hK⟩
      have h1 := hv u hu
      rw [va_up_self, va_up_ne _ _ (show (128 : Nat) ≠ 127 by decide), va_up_ne _ _ (show (126 : Nat) ≠ 127 by decide), up_val]
      refine ⟨h1.1, fun h0 => ?_, h1.2.2⟩
      by_cases e : u = v
      · rw [if_pos e, ← e]
        exact h1.1
      · rw [if_neg e]
        exact h1.2.1 (by omega)
