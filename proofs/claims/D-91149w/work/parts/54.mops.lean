/-! OPS 6: the reference's side: what its memory holds; small methods; whole, weight, by, fails, over, chosen, traces -/
set_option maxRecDepth 100000
set_option linter.unusedVariables false
def MI2 (s : St) (I : MI) : Prop := ∀ k, k < s 6 0 → I 112 k = iN (s 12 k) ∧ I 116 k = iN (s 16 k) - 1 ∧ I 117 k = iN (s 17 k) - 1 ∧ I 118 k = iN (s 18 k) ∧ I 119 k = iN (s 19 k) ∧ I 120 k = iN (s 20 k) ∧ (s 7 k = 0 → ∀ g, g < s 12 k → I 113 (3 * k + g) = iN (s 13 (3 * k + g))) ∧ s 15 k = 0
def MTr (s : St) (v : Tv) (I : MI) (J : MJ) : Prop := ∀ t, t < 4 → I 103 t = iN (s 3 t) ∧ I 104 t = iN (s 4 t) - 1 ∧ s 3 t ≤ 3 ∧ s 4 t ≤ 61 ∧ ∀ i, i < s 4 t - 1 → J 105 (60 * t + i) = v (60 * t + i)
def RelN (s : St) (v : Tv) (a b : Int64) (C : MC) (I : MI) (J : MJ) (R : MR) : Prop := MS C R ∧ MI1 s I ∧ MI2 s I ∧ MTr s v I J ∧ Vd s ∧ J 1 1 = a ∧ J 1 2 = b ∧ (I 1 21 = 0 → ∀ k, k < s 6 0 → s 17 k = 0)
def RelM (s : St) (v : Tv) (st : Int32) (a b : Int64) (C : MC) (I : MI) (J : MJ) (R : MR) : Prop := RelN s v a b C I J R ∧ I 1 0 = st
def FrX (I : MI) (J : MJ) (I' : MI) (J' : MJ) : Prop := ∀ q, q ≠ 1 → (q < 100 ∨ 200 ≤ q) → I' q = I q ∧ J' q = J q
theorem FrX.refl {I : MI} {J : MJ} : FrX I J I J := fun _ _ _ => ⟨rfl, rfl⟩
theorem FrX.trans {I I1 I2 : MI} {J J1 J2 : MJ} (h : FrX I J I1 J1) (g : FrX I1 J1 I2 J2) : FrX I J I2 J2 := fun q a b => ⟨(g q a b).1.trans (h q a b).1, (g q a b).2.trans (h q a b).2⟩
def OpKM (Kc : KC) (C : MC) (I : MI) (J : MJ) (R : MR) (K : AK) : Prop := ∀ (ans : AV) (s' : St) (v' : Tv) (st' : Int32) (a' b' : Int64) (I' : MI) (J' : MJ), Kc ans s' v' st' a' b' → RelM s' v' st' a' b' C I' J' R → FrX I J I' J' → K (.inl (some ans)) C I' J' R
def OpM (As : List AV) (W : St → Tv → Int64 → Int64 → KC → Prop) : SPF := fun As' C I J R K => ∃ (s : St) (v : Tv) (st : Int32) (a b : Int64) (Kc : KC), As' = aR (some 1) :: As ∧ RelM s v st a b C I J R ∧ W s v a b Kc ∧ OpKM Kc C I J R K
def MidM (s : St) (v : Tv) (a b : Int64) (C : MC) (I : MI) (J : MJ) (R : MR) (I1 : MI) (J1 : MJ) : Prop := RelN s v a b C I1 J1 R ∧ FrX I J I1 J1
section MM
variable {s : St} {v : Tv} {a b : Int64} {C : MC} {I I1 : MI} {J J1 : MJ} {R : MR} {K : AK} {Kc : KC} {k : Nat}
theorem MidM.start {st : Int32} (h : RelM s v st a b C I J R) : MidM s v a b C I J R I J := ⟨h.1, FrX.refl⟩
theorem RelN.I0 {x : Int32} (h : RelN s v a b C I1 J1 R) : RelN s v a b C (setI I1 1 0 x) J1 R := by
  obtain ⟨h1, h2, h3, h4, h5, h6, h7, h8⟩ := h
  have e := fun q (hq : q ≠ 1) => setI_far I1 (f := 0) x hq
  refine ⟨h1, h2.fr (fun y hy _ => e y hy) (setI_ne _ _ (Or.inr (by decide))), fun k hk => ?_, fun t ht => ?_, h5, h6, h7, fun w => h8 ?_⟩
  · rw [e 112 (by decide), e 113 (by decide), e 116 (by decide), e 117 (by decide), e 118 (by decide), e 119 (by decide), e 120 (by decide)]
    exact h3 k hk
  · rw [e 103 (by decide), e 104 (by decide)]
    exact h4 t ht
  · rw [setI_ne _ _ (Or.inr (by decide))] at w
    exact w
theorem MidM.si {x : Int32} (h : MidM s v a b C I J R I1 J1) : MidM s v a b C I J R (setI I1 1 0 x) J1 := ⟨h.1.I0, h.2.trans (fun q hq _ => ⟨setI_far _ _ hq, rfl⟩)⟩
theorem RelN.tab {I' : MI} {J' : MJ} (h : RelN s v a b C I1 J1 R) (hF : TbFr I1 J1 I' J') : RelN s v a b C I' J' R := by
  obtain ⟨h1, h2, h3, h4, h5, h6, h7, h8⟩ := h
  have e := fun q (hq : q ≠ 1 ∧ q ≠ 125) => hF.1 q hq.1 hq.2
  refine ⟨h1, hF.mi h2, fun k hk => ?_, fun t ht => ?_, h5, ?_, ?_, fun w => h8 ?_⟩
  · rw [e 112 (by decide), e 113 (by decide), e 116 (by decide), e 117 (by decide), e 118 (by decide), e 119 (by decide), e 120 (by decide)]
    exact h3 k hk
  · rw [e 103 (by decide), e 104 (by decide), hF.2.2 105 (by decide)]
    exact h4 t ht
  · rw [hF.2.2 1 (by decide)]
    exact h6
  · rw [hF.2.2 1 (by decide)]
    exact h7
  · rw [hF.2.1 21 (by decide)] at w
    exact w
theorem MidM.tab {I' : MI} {J' : MJ} (h : MidM s v a b C I J R I1 J1) (hF : TbFr I1 J1 I' J') : MidM s v a b C I J R I' J' := by
  refine ⟨h.1.tab hF, h.2.trans (fun q h1 h2 => ⟨hF.1 q h1 (by omega), hF.2.2 q (fun w => ?_)⟩)⟩
  simp only [List.mem_cons, List.not_mem_nil, or_false] at w
  omega
theorem MidM.done {ans : AV} {st' : Int32} (h : MidM s v a b C I J R I1 J1) (hs : I1 1 0 = st') (hc : Kc ans s v st' a b) (hK : OpKM Kc C I J R K) : K (.inl (some ans)) C I1 J1 R := hK _ _ _ _ _ _ _ _ hc ⟨h.1, hs⟩ h.2
theorem MidM.o (h : MidM s v a b C I J R I1 J1) : (C 1).1 = 3 := h.1.1.o
theorem MidM.n20 (h : MidM s v a b C I J R I1 J1) : s 6 0 ≤ 20 := h.1.2.2.2.2.1.1
theorem MidM.refI {w : Int32} (h : MidM s v a b C I J R I1 J1) (hc : Kc (aI (-1)) s v w a b) (hK : OpKM Kc C I J R K) : F_X2_refuse [aR (some 1), aI w] C I1 J1 R (fun o C2 I3 J4 R5 => ∃ r6 : Int32, o = .inl (some (aI r6)) ∧ K (.inl (some (aI r6))) C2 I3 J4 R5) := by
  refine ⟨1, w, rfl, h.o, ?_⟩
  intro I2 e2
  obtain rfl : I2 = setI I1 1 0 w := e2
  exact ⟨_, rfl, h.si.done (setI_at _ _ _ _) hc hK⟩
theorem MidM.refJ {w : Int32} (h : MidM s v a b C I J R I1 J1) (hc : Kc (aJ (-1)) s v w a b) (hK : OpKM Kc C I J R K) : F_X2_refuse [aR (some 1), aI w] C I1 J1 R (fun o C2 I3 J4 R5 => ∃ r6 : Int32, o = .inl (some (aI r6)) ∧ K (.inl (some (aJ r6.toInt64))) C2 I3 J4 R5) := by
  refine ⟨1, w, rfl, h.o, ?_⟩
  intro I2 e2
  obtain rfl : I2 = setI I1 1 0 w := e2
  exact ⟨_, rfl, h.si.done (setI_at _ _ _ _) hc hK⟩
theorem MidM.is {w : Int32} (h : MidM s v a b C I J R I1 J1) (hc : Kc (aI (if w = 0 then 1 else 0)) s v w a b) (hK : OpKM Kc C I J R K) : F_X2_is [aR (some 1), aI w] C I1 J1 R (fun o C2 I3 J4 R5 => ∃ r6 : Int32, o = .inl (some (aI r6)) ∧ (r6 = 0 ∨ r6 = 1) ∧ K (.inl (some (aI r6))) C2 I3 J4 R5) := by
  refine ⟨1, w, rfl, h.o, ?_⟩
  intro I2 e2
  obtain rfl : I2 = setI I1 1 0 w := e2
  refine ⟨fun c => ⟨_, rfl, Or.inl rfl, ?_⟩, fun c => ⟨_, rfl, Or.inr rfl, ?_⟩⟩
  · rw [if_neg c] at hc
    exact h.si.done (setI_at _ _ _ _) hc hK
  · rw [if_pos c] at hc
    exact h.si.done (setI_at _ _ _ _) hc hK
theorem F_isThing_ok {x : Int32} (hI : MI1 s I) (hM : MS C R) (hn : s 6 0 ≤ 20) (h1 : isTh s x → K (.inl (some (aI 1))) C I J R) (h0 : ¬ isTh s x → K (.inl (some (aI 0))) C I J R) : F_X2_isThing [aR (some 1), aI x] C I J R K := by
  refine ⟨1, x, rfl, ?_⟩
  unfold PX2_isThing_0
  rw [hI.1]
  exact ⟨fun c => h0 (fun w => ((isTh_iff hn x).mp w).1 c), fun c => ⟨hM.o, fun c2 => h0 (fun w => ((isTh_iff hn x).mp w).2 c2), fun c2 => h1 ((isTh_iff hn x).mpr ⟨c, c2⟩)⟩⟩
theorem F_isLeaf_ok {x : Int32} (hI : MI1 s I) (hM : MS C R) (hV : Vd s) (h1 : isLf s x → K (.inl (some (aI 1))) C I J R) (h0 : ¬ isLf s x → K (.inl (some (aI 0))) C I J R) : F_X2_isLeaf [aR (some 1), aI x] C I J R K := by
  have hn := hV.1
  refine ⟨1, x, rfl, hM.o, F_isThing_ok hI hM hn (fun ht => ⟨_, rfl, fun w => absurd w (by decide), fun _ => ?_⟩) (fun ht => ⟨_, rfl, fun _ => h0 (fun ⟨k, a, _, c⟩ => ht ⟨k, a, c⟩), fun w => absurd rfl w⟩)⟩
  obtain ⟨k, hk, rfl⟩ := ht
  have e7 := (hI.2 k hk).1
  have h7 := (hV.2 k hk).1.1
  refine ⟨hM.o, 107, hM.r7, by rw [hM.c7], by rw [hM.c7]; exact iN_in (by omega) (by show k < 20; omega), ?_⟩
  rw [iN_nat (by omega), e7, show ((iN (s 7 k) : Int32) = 0) = (s 7 k = 0) from eq_r_0 (by omega)]
  refine ⟨fun c => h0 (fun ⟨j, a1, a2, a3⟩ => c ?_), fun c => h1 ⟨k, hk, c, rfl⟩⟩
  have e := (iN_inj (a := k) (b := j) (by omega) (by omega)).mp a3
  rw [e]
  exact a2
end MM
def F_X2_usual : SPF := fun As C I J R K => ∃ (s : St), As = [aR (some 1)] ∧ MS C R ∧ s 6 0 ≤ 20 ∧ I 1 6 = iN (s 6 0) ∧ ∀ I' : MI, (∀ q, q ≠ 115 → I' q = I q) → (∀ k, I' 115 k = if k < s 6 0 then 0 else I 115 k) → K (.inl none) C I' J R
def V_X2_usual_2 (n : Nat) (K : AK) (x0 : Nat) (x1 : Int32) (C : MC) (I : MI) (J : MJ) (R : MR) : Prop := ∃ (I0 : MI) (s : St) (i : Nat), x0 = 1 ∧ x1 = iN i ∧ i ≤ s 6 0 ∧ n = s 6 0 - i ∧ MS C R ∧ s 6 0 ≤ 20 ∧ I 1 6 = iN (s 6 0) ∧ (∀ q, q ≠ 115 → I q = I0 q) ∧ (∀ k, I 115 k = if k < i then 0 else I0 115 k) ∧ ∀ I' : MI, (∀ q, q ≠ 115 → I' q = I0 q) → (∀ k, I' 115 k = if k < s 6 0 then 0 else I0 115 k) → K (.inl none) C I' J R
theorem S_X2_usual (l : Launch) : SpX2_usual l F_X2_usual := by
  refine wX2_usual V_X2_usual_2 ?_ ?_
  · rintro As C I J R K ⟨s, rfl, hM, hn, h6, hK⟩
    exact ⟨1, rfl, _, I, s, 0, rfl, rfl, Nat.zero_le _, rfl, hM, hn, h6, fun _ _ => rfl, fun k => (if_neg (Nat.not_lt_zero k)).symm, hK⟩
  · rintro n K x0 x1 C I J R ⟨I0, s, i, rfl, rfl, hi, rfl, hM, hn, h6, hf, hv, hK⟩
    unfold PX2_usual_2
    rw [h6, iN_le (by omega) (by omega)]
    refine ⟨hM.o, fun c => ?_, fun c => ⟨115, hM.r15, by rw [hM.c15], by rw [hM.c15]; exact iN_in (by omega) (by show i < 20; omega), ?_⟩⟩
    · obtain rfl : i = s 6 0 := by omega
      exact hK I hf hv
    · rintro I6 rfl
      rw [iN_nat (by omega)]
      refine ⟨s 6 0 - (i + 1), by omega, I0, s, i + 1, rfl, iN_add i 1, by omega, rfl, hM, hn, ?_, fun q hq => ?_, fun k => ?_, hK⟩
      · rw [va_up_ne _ _ (by decide)]
        exact h6
      · rw [va_up_ne _ _ hq]
        exact hf q hq
      · rw [va_up_self, up_val, hv k]
        by_cases e : k = i
        · rw [if_pos e, if_pos (by omega)]
        · rw [if_neg e]
          by_cases e2 : k < i
          · rw [if_pos e2, if_pos (by omega)]
          · rw [if_neg e2, if_neg (by omega)]
def F_X2_wrongTable : SPF := fun As C I J R K => ∃ (s : St) (v : Tv) (a b : Int64) (x : Int32), As = [aR (some 1), aI x] ∧ RelN s v a b C I J R ∧ (¬ isTh s x → K (.inl (some (aI 1))) C I J R) ∧ ∀ k, x = iN k → k < s 6 0 → ∀ (I' : MI) (J' : MJ), TbFr I J I' J' → (grt s k → K (.inl (some (aI 9))) C I' J' R) ∧ (¬ grt s k → JT J' (tbl s k) k → K (.inl (some (aI 0))) C I' J' R)
theorem S_X2_wrongTable (l : Launch) : SpX2_wrongTable l F_X2_wrongTable := by
  refine wX2_wrongTable (S_X2_isThing l) (S_X2_usual l) (S_X2_tables l) ?_
  rintro As C I J R K ⟨s, v, a, b, x, rfl, hN, h0, h1⟩
  obtain ⟨hM, hI, hI2, hT, hV, -⟩ := hN
  have hn := hV.1
  refine ⟨1, x, rfl, hM.o, F_isThing_ok hI hM hn (fun ht => ⟨_, rfl, fun _ => ⟨hM.o, ?_⟩, fun w => absurd w (by decide)⟩) (fun ht => ⟨_, rfl, fun w => absurd rfl w, fun _ => h0 ht⟩)⟩
  obtain ⟨k, hk, rfl⟩ := ht
  refine ⟨s, rfl, hM, hn, hI.1, fun I' hf hv => ⟨rfl, hM.o, ?_⟩⟩
  have eI : I' = I := funext fun q => by
    by_cases e : q = 115
    · subst e
      refine funext fun j => ?_
      rw [hv j]
      by_cases e2 : j < s 6 0
      · rw [if_pos e2, (hI.2 j e2).2.2.2.2.2.1, (hI2 j e2).2.2.2.2.2.2.2]
        rfl
      · rw [if_neg e2]
    · exact hf q e
  subst eI
  refine ⟨s, k, rfl, hM, hI, hV, hk, fun I2 J2 hF hD => ⟨rfl, hM.o, 125, hM.r25, by rw [hM.c25], by rw [hM.c25]; exact iN_in (by omega) (by show k < 20; omega), ?_⟩⟩
  rw [iN_nat (by omega)]
  have h2 := h1 k rfl hk I2 J2 hF
  have h3 := hD k (by omega)
  refine ⟨fun c => ?_, fun c => ?_⟩
  · have hg : ¬ grt s k := fun w => by
      rw [h3.1 w] at c
      exact absurd c (by decide)
    exact h2.2 hg (h3.2 hg).2
  · exact h2.1 (Classical.byContradiction (fun w => c (h3.2 w).1))
def F_X2_tells : SPF := fun As C I J R K => ∃ (x0 : Nat) (x1 : Int64) (x3 : Int64), As = [aR (some x0), aJ x1, aJ x3] ∧ PX2_tells_0 F_X2_common K x0 x1 x3 C I J R
theorem S_X2_tells (l : Launch) : SpX2_tells l F_X2_tells := wX2_tells (S_X2_common l) (fun _ _ _ _ _ _ h => h)
theorem MidM.tells {s : St} {v : Tv} {a b : Int64} {C : MC} {I I1 : MI} {J J1 : MJ} {R : MR} {K : AK} {Kc : KC} {x y : Nat} (h : MidM s v a b C I J R I1 J1) (hx : x < 2 ^ 63) (hy : y < 2 ^ 63) (hy0 : 0 < y) (hc : W_tells x y s v Kc) (hK : OpKM Kc C I J R K) : F_X2_tells [aR (some 1), aJ (jN x), aJ (jN y)] C I1 J1 R (fun o C2 I3 J4 R5 => ∃ r6 : Int32, o = .inl (some (aI r6)) ∧ K (.inl (some (aI r6))) C2 I3 J4 R5) := by
  have hg0 : 0 < Nat.gcd x y := Nat.gcd_pos_of_pos_right x hy0
  have hg1 : Nat.gcd x y ≤ y := Nat.le_of_dvd hy0 (Nat.gcd_dvd_right x y)
  refine ⟨1, jN x, jN y, rfl, x, y, rfl, hx, hy, ⟨_, rfl, fun z => absurd ((jN_eq0 (by omega)).mp z) (by omega), h.o, ?_⟩⟩
  rintro J8 rfl J9 rfl
  intro I10 e10
  obtain rfl : I10 = setI I1 1 0 0 := e10
  rw [jN_div hx (by omega), jN_div hy (by omega), va_up_self, jN_le0 hx]
  have hm : MidM s v (jN (x / Nat.gcd x y)) (jN (y / Nat.gcd x y)) C I J R (setI I1 1 0 0) (va_up (va_up J1 1 (va_up (J1 1) 1 (jN (x / Nat.gcd x y)))) 1 (va_up (va_up (J1 1) 1 (jN (x / Nat.gcd x y))) 2 (jN (y / Nat.gcd x y)))) := by
    obtain ⟨⟨h1, h2, h3, h4, h5, h6, h7, h8⟩, hf⟩ := h.si (x := 0)
    refine ⟨⟨h1, h2, h3, fun t ht => ?_, h5, ?_, ?_, h8⟩, hf.trans (fun q hq _ => ⟨rfl, by rw [va_up_ne _ _ hq, va_up_ne _ _ hq]⟩)⟩
    · rw [va_up_ne _ _ (show (105 : Nat) ≠ 1 by decide), va_up_ne _ _ (show (105 : Nat) ≠ 1 by decide)]
      exact h4 t ht
    · rw [va_up_self, va_up_ne _ _ (show (1 : Nat) ≠ 2 by decide), va_up_self]
    · rw [va_up_self, va_up_self]
  refine ⟨fun c => ⟨_, rfl, ?_⟩, fun c => ⟨_, rfl, ?_⟩⟩
  · unfold W_tells at hc
    rw [en_no (by omega)] at hc
    exact hm.done (setI_at _ _ _ _) hc hK
  · unfold W_tells at hc
    rw [en_yes (by omega)] at hc
    exact hm.done (setI_at _ _ _ _) hc hK
theorem c24 {C : MC} {R : MR} (hM : MS C R) {k : Nat} (hk : k < 20) : (C 124).1 = 21 ∧ vp_in (iN k) (C 124).2 := ⟨by rw [hM.c24], by rw [hM.c24]; exact iN_in (by omega) hk⟩
def F_X2_whole : SPF := fun As C I J R K => ∃ x : Int32, OpM [aI x] (W_whole x) As C I J R K
theorem S_X2_whole (l : Launch) : SpX2_whole l F_X2_whole := by
  refine wX2_whole (S_X2_wrongTable l) (S_X2_refuse l) ?_
  rintro As C I J R K ⟨x, s, v, st, a, b, Kc, rfl, hR, hW, hK⟩
  have h0 := MidM.start hR
  have hM := h0.1.1
  refine ⟨1, x, rfl, h0.o, s, v, a, b, x, rfl, h0.1, fun w => ⟨_, rfl, fun c => absurd c (by decide), fun _ => ⟨h0.o, h0.refJ (hW.1 w) hK⟩⟩, fun k hx hk I' J' hF => ⟨fun hg => ⟨_, rfl, fun c => absurd c (by decide), fun _ => ⟨h0.o, (h0.tab hF).refJ ((hW.2 k hx hk).1 hg) hK⟩⟩, fun hg hj => ⟨_, rfl, fun _ => ⟨h0.o, ?_⟩, fun c => absurd (by decide) c⟩⟩⟩
  have hn := h0.n20
  subst hx
  intro I9 e9
  obtain rfl : I9 = setI I' 1 0 0 := e9
  have hc := c24 hM (show k < 20 by omega)
  refine ⟨124, hM.r24, hc.1, hc.2, ?_⟩
  rw [iN_nat (by omega), hj.2]
  exact (h0.tab hF).si.done (setI_at _ _ _ _) ((hW.2 k rfl hk).2 hg) hK
