/-! the component's cache, retry, hedge -/
set_option maxRecDepth 100000
set_option linter.unusedVariables false
def KdOk (kd a c m : Nat) : Prop := kd ≤ 5 ∧ kd ≠ 0 ∧ (kd = 1 → 2 ≤ m) ∧ (kd = 2 → 1 ≤ a ∧ a ≤ m) ∧ (kd = 3 → m = 2 ∧ a ≤ c ∧ 1 ≤ c ∧ c ≤ 100) ∧ (kd = 4 → m = 1 ∧ 1 ≤ a ∧ a ≤ 60 ∧ 1 ≤ c ∧ c ≤ 3) ∧ (kd = 5 → m = 1 ∧ a ≤ 60)
theorem Mid.newc {s : St} {v : Tv} {aa bb : Int64} {C C1 : MC} {I I1 : MI} {J J1 : MJ} {R R1 : MR} {K : AK} {Kc : KC} {kd a c m r : Nat} {p : Nat → Nat} {X : Nat → Int32} {G : Nat → Prop} {Fi : Nat → MC → MI → MJ → MR → AK → Prop} (h : Mid s v aa bb C I J R C1 I1 J1 R1) (hs : I1 500 5 = 0) (hK : OpK Kc C I J R K) (hW : W_new X G kd a c s v aa bb Kc) (hP : PtsX s X m p) (hg : G m) (hkd : KdOk kd a c m) (hr : PtR s m p r C1 R1) (hf : s 6 0 < 20 → ∀ o, o < 40 → (C1 (th (s 6 0) + o)).1 = 0)
    (hi : ∀ (C2 : MC) (I2 : MI) (J2 : MJ) (R2 : MR) (K2 : AK), PRe s kd C2 I2 R2 1 → (∀ i, i < m → p i < s 6 0 ∧ kTh (C2 (th (p i))).1) → PIn s kd m a c p (fun _ => 0) C2 I2 J2 R2 K2 → Fi (th (s 6 0)) C2 I2 J2 R2 K2) :
    (C1 500).1 = 1 ∧ F_X0_wantFree [aR (some 500), aR (some r)] C1 I1 J1 R1 (fun o C8 I9 J10 R11 => (o = .inl none ∧ ∃ q13 : Nat, (C8 q13).1 = 0 ∧ ∀ (C15 : MC) (I16 : MI) (J17 : MJ) (R18 : MR), C15 = va_up C8 q13 (5 + kd, 0) → I16 = va_up I9 q13 (fun _ => 0) → J17 = va_up J10 q13 (fun _ => 0) → R18 = va_up R11 q13 (fun _ => none) → Fi q13 C15 I16 J17 R18 (fun o C19 I20 J21 R22 => o = .inl none ∧ (C19 500).1 = 1 ∧ F_X0_adds [aR (some 500), aR (some q13)] C19 I20 J21 R22 (fun o C25 I26 J27 R28 => ∃ r29 : Int32, o = .inl (some (aI r29)) ∧ K (.inl (some (aI r29))) C25 I26 J27 R28))) ∨ (∃ q30 : Nat, o = .inr q30 ∧ ((C8 q30).1 = 2 ∧ (C8 500).1 = 1 ∧ F_X0_none [aR (some 500), aR (some q30)] C8 I9 J10 R11 (fun o C2 I3 J4 R5 => ∃ r6 : Int32, o = .inl (some (aI r6)) ∧ K (.inl (some (aI r6))) C2 I3 J4 R5)))) := by
  have h504 : (C1 504).1 = 2 := by rw [h.ben.1.2.2.2.2]
  have w := hW.2 m p hP hg
  refine ⟨h.c500, s, m, p, r, rfl, hr, h.ben, h.y, fun hn => Or.inr ⟨504, rfl, h504, h.refI (w.1 hn) hK⟩, fun hn => ⟨fun no => Or.inr ⟨504, rfl, h504, h.refI ((w.2 hn).1 no) hK⟩, fun ok => Or.inl ⟨rfl, th (s 6 0), hf hn 0 (by omega), ?_⟩⟩⟩
  rintro C15 I16 J17 R18 rfl rfl rfl rfl
  obtain ⟨k1, k2, k3⟩ := hkd
  have g0 := th_ge (s 6 0)
  have hpn : ∀ i, i < m → p i < s 6 0 := fun i hi => (hr.2.2 i hi).2
  refine hi _ _ _ _ _ ⟨hn, va_up_self _ _ _, fun f => by rw [va_up_self], fun f => by rw [va_up_self], fun o h1 h2 => by rw [va_up_ne _ _ (by omega)]; exact hf hn o h2⟩ (fun i hi => ⟨hpn i hi, ?_⟩) ?_
  · rw [va_up_ne _ _ (by have := hpn i hi; unfold th; omega)]
    exact h.kth (hpn i hi)
  · intro C13 I14 J15 R16 p1 p2 p3 p4 p5 p6
    have hb : ∀ x, ¬ Nw (s 6 0) x → ¬ (th (s 6 0) ≤ x ∧ x < th (s 6 0) + 40) := fun x hx z => hx (Or.inl z)
    refine ⟨rfl, h.adds hs hn ⟨k1, hP.1, fun i hi => ⟨hpn i hi, ok.1 i hi⟩, ok.2, fun z => absurd z k2, k3⟩ (fun x hx => ?_) (fun x i hx h3 => ?_) p3 (fun x hl hnw => ?_) ⟨p5, p6, fun z => absurd (ad_new.2.2.1.symm.trans z) k2⟩ ((w.2 hn).2 ok) hK⟩
    · have f := p1 x (hb x hx)
      rw [f.1, f.2.1, f.2.2, va_up_ne _ _ (by have := hb x hx; omega), va_up_ne _ _ (by have := hb x hx; omega), va_up_ne _ _ (by have := hb x hx; omega)]
      exact ⟨rfl, rfl, rfl⟩
    · rw [p2 x i (hb x hx) h3, va_up_ne _ _ (by have := hb x hx; omega)]
    · rcases LV_ad hl with z2 | ⟨-, ⟨o, ho, hlo, rfl⟩ | ⟨z0, -⟩⟩
      · exact absurd hnw (fun z3 => Nw_dead h.1.2.1 hn z3 z2)
      · exact p4 o ho hlo
      · exact absurd z0 k2
theorem Fre.thn {s : St} {v : Tv} {a b : Int64} {C : MC} {I : MI} {J : MJ} {R : MR} (h : Fre s C) (hB : RelB s v a b C I J R) (hn : s 6 0 < 20) {o : Nat} (ho : o < 40) : (C (th (s 6 0) + o)).1 = 0 := h.tm hB (Or.inr ⟨hn, Or.inl (by omega)⟩)
def F_X0_hedge : SPF := fun As C I J R K => ∃ x n : Int32, OpC [aI x, aI n] (W_hedge x n) As C I J R K
theorem kth0 {s : St} {C : MC} {I : MI} {J : MJ} {R : MR} (hY : CtY s C I J R) {k : Nat} (hk : k < s 6 0) : kTh (C (th k)).1 := by
  rw [(hY.2 k hk).1.1.1]
  have := (hY.1.2 k hk).1.1
  exact ⟨Nat.le_add_right _ _, by show 5 + s 7 k ≤ 10; omega⟩
theorem pts1 {s : St} {k : Nat} (hk : k < s 6 0) : PtsX s (P4 (iN k) (-1) (-1) (-1)) 1 (fun _ => k) := by
  refine ⟨by omega, fun i hi => ?_, fun i h1 h2 => ?_⟩
  · obtain rfl : i = 0 := by omega
    exact ⟨rfl, hk⟩
  · have h3 : i = 1 ∨ i = 2 ∨ i = 3 := by omega
    rcases h3 with rfl | rfl | rfl <;> rfl
theorem not1 {s : St} {x : Int32} (h : ¬ isTh s x) {m : Nat} {p : Nat → Nat} {y z u : Int32} (hP : PtsX s (P4 x y z u) m p) (hm : 1 ≤ m) : False := h ⟨p 0, (hP.2.1 0 (by omega)).2, (hP.2.1 0 (by omega)).1⟩
theorem S_X0_hedge (l : Launch) : SpX0_hedge l F_X0_hedge := by
  refine wX0_hedge (S_X0_thing l) (S_X0_want l) (S_X0_wantFree l) (S_X10_init l) (S_X0_adds l) (S_X0_none l) ?_
  rintro As C I J R K ⟨x, n, s, v, st, a, b, Kc, rfl, hR, hF, hW, hK⟩
  have h0 := Mid.start hR
  have h504 : (C 504).1 = 2 := by rw [h0.ben.1.2.2.2.2]
  have hn20 := h0.n20
  refine ⟨500, x, n, rfl, h0.c500, ?_⟩
  intro I2 e2
  obtain rfl : I2 = setI I 500 5 0 := e2
  refine F_thing_ok h0.ben h0.n20 (fun k hx hk => Or.inl ⟨th k, rfl, ?_⟩) (fun w => Or.inr ⟨504, rfl, h504, h0.refI (hW.1 (fun ⟨m, p, hP, hg⟩ => not1 w hP hg.1)) hK⟩)
  subst hx
  have bad : ¬ (¬ n < 0 ∧ ¬ (60 : Int32) < n) → PX0_hedge_26 F_X0_thing F_X0_want F_X0_wantFree F_X10_init F_X0_adds F_X0_none K 500 n (th k) 500 C (setI I 500 5 0) J R := fun w => ⟨h0.c500, F_want_no h0.ben (Or.inr ⟨504, rfl, h504, h0.refI (hW.1 (fun ⟨m, p, hP, hg⟩ => w hg.2)) hK⟩)⟩
  refine ⟨fun c => bad (fun w => w.1 c), fun c => ⟨fun c2 => bad (fun w => w.2 c2), fun c2 => ⟨h0.c500, F_want_yes (Or.inl ⟨rfl, 520, hF.tm hR.1 (Or.inl (by omega)), ?_⟩)⟩⟩⟩
  obtain ⟨e, he, rfl, e8⟩ := iN_of c
  have k2 : e ≤ 60 := Nat.le_of_not_lt (fun w => c2 ((iN_lt (a := 60) (by omega) he).mpr w))
  rintro C9 I10 J11 R12 rfl rfl rfl rfl
  rw [va_up_self]
  have hkt := h0.kth hk
  have g0 := th_ge k
  refine ⟨⟨show 25 ≤ 26 by decide, show 26 < 29 by decide⟩, Or.inr (Or.inl ⟨rfl, by rw [va_up_ne _ _ (by omega)]; exact hkt⟩), iN_in (a := 0) (by decide) (by decide), ?_⟩
  rintro R16 rfl
  rw [show (0 : Int32).toNatClampNeg = 0 by decide]
  have hW2 := hW
  unfold W_hedge at hW2
  rw [e8] at hW2
  have hm : Mid s v a b C I J R (va_up C 520 (26, 1)) (va_up (setI I 500 5 0) 520 (fun _ => 0)) (va_up J 520 (fun _ => 0)) (va_up (va_up R 520 (fun _ => none)) 520 (va_up (va_up R 520 (fun _ => none) 520) 0 (some (th k)))) := h0.off (fun q hq => by
    have : q ≠ 520 := fun w => hq (Or.inl (by omega))
    rw [va_up_ne _ _ this, va_up_ne _ _ this, va_up_ne _ _ this, va_up_ne _ _ this, va_up_ne _ _ this]
    exact ⟨rfl, rfl, rfl, rfl⟩)
  have hpt : PtR s 1 (fun _ => k) 520 (va_up C 520 (26, 1)) (va_up (va_up R 520 (fun _ => none)) 520 (va_up (va_up R 520 (fun _ => none) 520) 0 (some (th k)))) := ⟨by omega, va_up_self _ _ _, fun i hi => ⟨by rw [show i = 0 by omega, va_up_self, va_up_self], hk⟩⟩
  exact hm.newc (kd := 5) (a := e) (c := 0) (m := 1) (p := fun _ => k) (Fi := fun q C2 I3 J4 R5 K2 => F_X10_init [aR (some q), aR (some (th k)), aI (iN e)] C2 I3 J4 R5 K2) (by rw [va_up_ne _ _ (by decide)]; exact setI_at _ _ _ _) hK hW2 (pts1 hk) ⟨by omega, c, c2⟩ ⟨by omega, by omega, fun w => absurd w (by decide), fun w => absurd w (by decide), fun w => absurd w (by decide), fun w => absurd w (by decide), fun _ => ⟨rfl, k2⟩⟩ hpt (fun hn o ho => by rw [va_up_ne _ _ (by have := th_ge (s 6 0); omega)]; exact hF.thn hR.1 hn ho) (fun C2 I3 J4 R5 K2 q1 q2 q3 => ⟨s, e, 0, fun _ => k, fun _ => 0, rfl, q1, q2 0 (by omega), q3⟩)
def F_X0_retry : SPF := fun As C I J R K => ∃ x n d : Int32, OpC [aI x, aI n, aI d] (W_retry x n d) As C I J R K
theorem S_X0_retry (l : Launch) : SpX0_retry l F_X0_retry := by
  refine wX0_retry (S_X0_thing l) (S_X0_want l) (S_X0_wantFree l) (S_X9_init l) (S_X0_adds l) (S_X0_none l) ?_
  rintro As C I J R K ⟨x, n, d, s, v, st, a, b, Kc, rfl, hR, hF, hW, hK⟩
  have h0 := Mid.start hR
  have h504 : (C 504).1 = 2 := by rw [h0.ben.1.2.2.2.2]
  have hn20 := h0.n20
  refine ⟨500, x, n, d, rfl, h0.c500, ?_⟩
  intro I2 e2
  obtain rfl : I2 = setI I 500 5 0 := e2
  refine F_thing_ok h0.ben h0.n20 (fun k hx hk => Or.inl ⟨th k, rfl, ?_⟩) (fun w => Or.inr ⟨504, rfl, h504, h0.refI (hW.1 (fun ⟨m, p, hP, hg⟩ => not1 w hP hg.1)) hK⟩)
  subst hx
  have bad : ¬ (¬ n < 1 ∧ ¬ (60 : Int32) < n ∧ ¬ d < 1 ∧ ¬ (3 : Int32) < d) → PX0_retry_38 F_X0_thing F_X0_want F_X0_wantFree F_X9_init F_X0_adds F_X0_none K 500 n d (th k) 500 C (setI I 500 5 0) J R := fun w => ⟨h0.c500, F_want_no h0.ben (Or.inr ⟨504, rfl, h504, h0.refI (hW.1 (fun ⟨m, p, hP, hg⟩ => w hg.2)) hK⟩)⟩
  refine ⟨fun c => bad (fun w => w.1 c), fun c => ⟨fun c2 => bad (fun w => w.2.1 c2), fun c2 => ⟨fun c3 => bad (fun w => w.2.2.1 c3), fun c3 => ⟨fun c4 => bad (fun w => w.2.2.2 c4), fun c4 => ⟨h0.c500, F_want_yes (Or.inl ⟨rfl, 520, hF.tm hR.1 (Or.inl (by omega)), ?_⟩)⟩⟩⟩⟩⟩
  have n0 : ¬ n < 0 := fun w => c (Int32.lt_trans w (by decide))
  have d0 : ¬ d < 0 := fun w => c3 (Int32.lt_trans w (by decide))
  obtain ⟨e, he, rfl, e8⟩ := iN_of n0
  obtain ⟨f, hf, rfl, e9⟩ := iN_of d0
  have k1 : 1 ≤ e := Nat.le_of_not_lt (fun w => c ((iN_lt (b := 1) he (by omega)).mpr w))
  have k2 : e ≤ 60 := Nat.le_of_not_lt (fun w => c2 ((iN_lt (a := 60) (by omega) he).mpr w))
  have k3 : 1 ≤ f := Nat.le_of_not_lt (fun w => c3 ((iN_lt (b := 1) hf (by omega)).mpr w))
  have k4 : f ≤ 3 := Nat.le_of_not_lt (fun w => c4 ((iN_lt (a := 3) (by omega) hf).mpr w))
  rintro C9 I10 J11 R12 rfl rfl rfl rfl
  rw [va_up_self]
  have hkt := h0.kth hk
  have g0 := th_ge k
  refine ⟨⟨show 25 ≤ 26 by decide, show 26 < 29 by decide⟩, Or.inr (Or.inl ⟨rfl, by rw [va_up_ne _ _ (by omega)]; exact hkt⟩), iN_in (a := 0) (by decide) (by decide), ?_⟩
  rintro R16 rfl
  rw [show (0 : Int32).toNatClampNeg = 0 by decide]
  have hW2 := hW
  unfold W_retry at hW2
  rw [e8, e9] at hW2
  have hm : Mid s v a b C I J R (va_up C 520 (26, 1)) (va_up (setI I 500 5 0) 520 (fun _ => 0)) (va_up J 520 (fun _ => 0)) (va_up (va_up R 520 (fun _ => none)) 520 (va_up (va_up R 520 (fun _ => none) 520) 0 (some (th k)))) := h0.off (fun q hq => by
    have : q ≠ 520 := fun w => hq (Or.inl (by omega))
    rw [va_up_ne _ _ this, va_up_ne _ _ this, va_up_ne _ _ this, va_up_ne _ _ this, va_up_ne _ _ this]
    exact ⟨rfl, rfl, rfl, rfl⟩)
  have hpt : PtR s 1 (fun _ => k) 520 (va_up C 520 (26, 1)) (va_up (va_up R 520 (fun _ => none)) 520 (va_up (va_up R 520 (fun _ => none) 520) 0 (some (th k)))) := ⟨by omega, va_up_self _ _ _, fun i hi => ⟨by rw [show i = 0 by omega, va_up_self, va_up_self], hk⟩⟩
  exact hm.newc (kd := 4) (a := e) (c := f) (m := 1) (p := fun _ => k) (Fi := fun q C2 I3 J4 R5 K2 => F_X9_init [aR (some q), aR (some (th k)), aI (iN e), aI (iN f)] C2 I3 J4 R5 K2) (by rw [va_up_ne _ _ (by decide)]; exact setI_at _ _ _ _) hK hW2 (pts1 hk) ⟨by omega, c, c2, c3, c4⟩ ⟨by omega, by omega, fun w => absurd w (by decide), fun w => absurd w (by decide), fun w => absurd w (by decide), fun _ => ⟨rfl, k1, k2, k3, k4⟩, fun w => absurd w (by decide)⟩ hpt (fun hn o ho => by rw [va_up_ne _ _ (by have := th_ge (s 6 0); omega)]; exact hF.thn hR.1 hn ho) (fun C2 I3 J4 R5 K2 q1 q2 q3 => ⟨s, e, f, fun _ => k, fun _ => 0, rfl, q1, q2 0 (by omega), q3⟩)
def F_X0_cache : SPF := fun As C I J R K => ∃ x y n d : Int32, OpC [aI x, aI y, aI n, aI d] (W_cache x y n d) As C I J R K
theorem pts2 {s : St} {k j : Nat} (hk : k < s 6 0) (hj : j < s 6 0) : PtsX s (P4 (iN k) (iN j) (-1) (-1)) 2 (fun i => if i = 0 then k else j) := by
  refine ⟨by omega, fun i hi => ?_, fun i h1 h2 => ?_⟩
  · have h3 : i = 0 ∨ i = 1 := by omega
    rcases h3 with rfl | rfl
    · exact ⟨rfl, hk⟩
    · exact ⟨rfl, hj⟩
  · have h3 : i = 2 ∨ i = 3 := by omega
    rcases h3 with rfl | rfl <;> rfl
theorem S_X0_cache (l : Launch) : SpX0_cache l F_X0_cache := by
  refine wX0_cache (S_X0_thing l) (S_X0_want l) (S_X0_wantFree l) (S_X8_init l) (S_X0_adds l) (S_X0_none l) ?_
  rintro As C I J R K ⟨x, y, n, d, s, v, st, a, b, Kc, rfl, hR, hF, hW, hK⟩
  have h0 := Mid.start hR
  have h504 : (C 504).1 = 2 := by rw [h0.ben.1.2.2.2.2]
  have hn20 := h0.n20
  refine ⟨500, x, y, n, d, rfl, h0.c500, ?_⟩
  intro I2 e2
  obtain rfl : I2 = setI I 500 5 0 := e2
  refine F_thing_ok h0.ben h0.n20 (fun k hx hk => Or.inl ⟨th k, rfl, h0.c500, ?_⟩) (fun w => Or.inr ⟨504, rfl, h504, h0.refI (hW.1 (fun ⟨m, p, hP, hg⟩ => not1 w hP (by have := hg.1; omega))) hK⟩)
  refine F_thing_ok h0.ben h0.n20 (fun j hy hj => Or.inl ⟨th j, rfl, ?_⟩) (fun w => Or.inr ⟨504, rfl, h504, h0.refI (hW.1 (fun ⟨m, p, hP, hg⟩ => w ⟨p 1, (hP.2.1 1 (by have := hg.1; omega)).2, (hP.2.1 1 (by have := hg.1; omega)).1⟩)) hK⟩)
  subst hx hy
  have bad : ¬ (¬ d < 1 ∧ ¬ (100 : Int32) < d ∧ ¬ n < 0 ∧ ¬ d < n) → PX0_cache_47 F_X0_thing F_X0_want F_X0_wantFree F_X8_init F_X0_adds F_X0_none K 500 n d (th k) (th j) 500 C (setI I 500 5 0) J R := fun w => ⟨h0.c500, F_want_no h0.ben (Or.inr ⟨504, rfl, h504, h0.refI (hW.1 (fun ⟨m, p, hP, hg⟩ => w hg.2)) hK⟩)⟩
  refine ⟨fun c => bad (fun w => w.1 c), fun c => ⟨fun c2 => bad (fun w => w.2.1 c2), fun c2 => ⟨fun c3 => bad (fun w => w.2.2.1 c3), fun c3 => ⟨fun c4 => bad (fun w => w.2.2.2 c4), fun c4 => ⟨h0.c500, F_want_yes (Or.inl ⟨rfl, 520, hF.tm hR.1 (Or.inl (by omega)), ?_⟩)⟩⟩⟩⟩⟩
  have d0 : ¬ d < 0 := fun w => c (Int32.lt_trans w (by decide))
  obtain ⟨e, he, rfl, e8⟩ := iN_of c3
  obtain ⟨f, hf, rfl, e9⟩ := iN_of d0
  have k1 : 1 ≤ f := Nat.le_of_not_lt (fun w => c ((iN_lt (b := 1) hf (by omega)).mpr w))
  have k2 : f ≤ 100 := Nat.le_of_not_lt (fun w => c2 ((iN_lt (a := 100) (by omega) hf).mpr w))
  have k3 : e ≤ f := Nat.le_of_not_lt (fun w => c4 ((iN_lt hf he).mpr w))
  rintro C9 I10 J11 R12 rfl rfl rfl rfl
  rw [va_up_self]
  have hkt := h0.kth hk
  have hjt := h0.kth hj
  have g0 := th_ge k
  have g1 := th_ge j
  refine ⟨⟨show 25 ≤ 26 by decide, show 26 < 29 by decide⟩, Or.inr (Or.inl ⟨rfl, by rw [va_up_ne _ _ (by omega)]; exact hkt⟩), iN_in (a := 0) (by decide) (by decide), ?_⟩
  rintro R16 rfl
  refine ⟨Or.inr (Or.inl ⟨rfl, by rw [va_up_ne _ _ (by omega)]; exact hjt⟩), iN_in (a := 1) (by decide) (by decide), ?_⟩
  intro R19 e19
  rw [show (0 : Int32).toNatClampNeg = 0 by decide, show (1 : Int32).toNatClampNeg = 1 by decide] at e19
  have hW2 := hW
  unfold W_cache at hW2
  rw [e8, e9] at hW2
  have hm : Mid s v a b C I J R (va_up C 520 (26, 2)) (va_up (setI I 500 5 0) 520 (fun _ => 0)) (va_up J 520 (fun _ => 0)) R19 := h0.off (fun q hq => by
    have : q ≠ 520 := fun w => hq (Or.inl (by omega))
    rw [e19, va_up_ne _ _ this, va_up_ne _ _ this, va_up_ne _ _ this, va_up_ne _ _ this, va_up_ne _ _ this, va_up_ne _ _ this]
    exact ⟨rfl, rfl, rfl, rfl⟩)
  have hpt : PtR s 2 (fun i => if i = 0 then k else j) 520 (va_up C 520 (26, 2)) R19 := ⟨by omega, va_up_self _ _ _, fun i hi => by
    have h3 : i = 0 ∨ i = 1 := by omega
    rcases h3 with rfl | rfl
    · refine ⟨?_, hk⟩
      rw [e19, va_up_self, va_up_ne _ _ (by decide), va_up_self, va_up_self]
      rfl
    · refine ⟨?_, hj⟩
      rw [e19, va_up_self, va_up_self]
      rfl⟩
  exact hm.newc (kd := 3) (a := e) (c := f) (m := 2) (p := fun i => if i = 0 then k else j) (Fi := fun q C2 I3 J4 R5 K2 => F_X8_init [aR (some q), aR (some (th k)), aR (some (th j)), aI (iN e), aI (iN f)] C2 I3 J4 R5 K2) (by rw [va_up_ne _ _ (by decide)]; exact setI_at _ _ _ _) hK hW2 (pts2 hk hj) ⟨by omega, c, c2, c3, c4⟩ ⟨by omega, by omega, fun w => absurd w (by decide), fun w => absurd w (by decide), fun _ => ⟨rfl, k3, k1, k2⟩, fun w => absurd w (by decide), fun w => absurd w (by decide)⟩ hpt (fun hn o ho => by rw [va_up_ne _ _ (by have := th_ge (s 6 0); omega)]; exact hF.thn hR.1 hn ho) (fun C2 I3 J4 R5 K2 q1 q2 q3 => ⟨s, e, f, fun i => if i = 0 then k else j, fun _ => 0, rfl, q1, q2, q3⟩)
