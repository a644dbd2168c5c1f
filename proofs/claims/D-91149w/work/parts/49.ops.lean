/-! OPS 1: what an op answers, in words of the state (W_..); the component's side of whole, weight, by, fails, over, chosen -/
set_option maxRecDepth 100000
set_option linter.unusedVariables false
abbrev Tv : Type := Nat → Int64
abbrev KC : Type := AV → St → Tv → Int32 → Int64 → Int64 → Prop
/-- where the component goes on behind an op -/
def OpK (Kc : KC) (C : MC) (I : MI) (J : MJ) (R : MR) (K : AK) : Prop := ∀ (ans : AV) (s' : St) (v' : Tv) (st' : Int32) (a' b' : Int64) (C' : MC) (I' : MI) (J' : MJ) (R' : MR), Kc ans s' v' st' a' b' → RelC s' v' st' a' b' C' I' J' R' → FrM C I J R C' I' J' R' → K (.inl (some ans)) C' I' J' R'
/-- in the midst of an op -/
def Mid (s : St) (v : Tv) (a b : Int64) (C : MC) (I : MI) (J : MJ) (R : MR) (C1 : MC) (I1 : MI) (J1 : MJ) (R1 : MR) : Prop := RelB s v a b C1 I1 J1 R1 ∧ FrM C I J R C1 I1 J1 R1
section MD
variable {s : St} {v : Tv} {a b : Int64} {C C1 C2 : MC} {I I1 I2 : MI} {J J1 J2 : MJ} {R R1 R2 : MR} {K P : AK} {Kc : KC} {k : Nat}
theorem Mid.start {st : Int32} (h : RelC s v st a b C I J R) : Mid s v a b C I J R C (setI I 500 5 0) J R := ⟨h.1.I (Or.inl ⟨rfl, by decide⟩), FrM.I (by decide)⟩
theorem Mid.si {q f : Nat} {x : Int32} (h : Mid s v a b C I J R C1 I1 J1 R1) (hq : (q = 500 ∧ f ≠ 3) ∨ q = 504) : Mid s v a b C I J R C1 (setI I1 q f x) J1 R1 := ⟨h.1.I hq, h.2.trans (FrM.I (by omega))⟩
theorem Mid.thing {J' : MJ} {R' : MR} (h : Mid s v a b C I J R C1 I1 J1 R1) (hJ : FrJ s k J1 J') (hR : FrR s k R1 R') : Mid s v a b C I J R C1 I1 J' R' := ⟨h.1.thing hJ hR, h.2.trans (FrM.thing hJ hR)⟩
theorem Mid.exc (h : Mid s v a b C I J R C1 I1 J1 R1) (he : ∀ q, q ≠ 7 → q ≠ 8 → q ≠ 9 → C2 q = C1 q ∧ I2 q = I1 q ∧ J2 q = J1 q ∧ R2 q = R1 q) : Mid s v a b C I J R C2 I2 J2 R2 := ⟨h.1.exc he, h.2.trans (FrM.exc he)⟩
theorem Mid.done {ans : AV} {st' : Int32} (h : Mid s v a b C I J R C1 I1 J1 R1) (hs : I1 500 5 = st') (hc : Kc ans s v st' a b) (hK : OpK Kc C I J R K) : K (.inl (some ans)) C1 I1 J1 R1 := hK _ _ _ _ _ _ _ _ _ _ hc ⟨h.1, hs⟩ h.2
theorem Mid.ben (h : Mid s v a b C I J R C1 I1 J1 R1) : BenS s C1 I1 R1 := h.1.1
theorem Mid.c500 (h : Mid s v a b C I J R C1 I1 J1 R1) : (C1 500).1 = 1 := by rw [h.1.1.1.1]
theorem Mid.y (h : Mid s v a b C I J R C1 I1 J1 R1) : CtY s C1 I1 J1 R1 := h.1.2.2.1
theorem Mid.n20 (h : Mid s v a b C I J R C1 I1 J1 R1) : s 6 0 ≤ 20 := h.y.1.1
/-- refused: the status is told, the answer is NONE -/
theorem Mid.refI {w : Int32} (h : Mid s v a b C I J R C1 I1 J1 R1) (hc : Kc (aI (-1)) s v w a b) (hK : OpK Kc C I J R K) : (C1 500).1 = 1 ∧ F_X0_none [aR (some 500), aR (some 504)] C1 (setI I1 504 6 w) J1 R1 (fun o C2 I3 J4 R5 => ∃ r6 : Int32, o = .inl (some (aI r6)) ∧ K (.inl (some (aI r6))) C2 I3 J4 R5) := by
  have h2 := h.si (q := 504) (f := 6) (x := w) (Or.inr rfl)
  refine ⟨h.c500, F_none_ok h2.ben ⟨_, rfl, ?_⟩⟩
  rw [setI_at]
  exact (h2.si (q := 500) (f := 5) (x := w) (Or.inl ⟨rfl, by decide⟩)).done (setI_at _ _ _ _) hc hK
theorem Mid.refJ {w : Int32} (h : Mid s v a b C I J R C1 I1 J1 R1) (hc : Kc (aJ (-1)) s v w a b) (hK : OpK Kc C I J R K) : (C1 500).1 = 1 ∧ F_X0_none [aR (some 500), aR (some 504)] C1 (setI I1 504 6 w) J1 R1 (fun o C2 I3 J4 R5 => ∃ r6 : Int32, o = .inl (some (aI r6)) ∧ K (.inl (some (aJ r6.toInt64))) C2 I3 J4 R5) := by
  have h2 := h.si (q := 504) (f := 6) (x := w) (Or.inr rfl)
  refine ⟨h.c500, F_none_ok h2.ben ⟨_, rfl, ?_⟩⟩
  rw [setI_at]
  exact (h2.si (q := 500) (f := 5) (x := w) (Or.inl ⟨rfl, by decide⟩)).done (setI_at _ _ _ _) hc hK
theorem Mid.refZ {w : Int32} (h : Mid s v a b C I J R C1 I1 J1 R1) (hc : Kc (aI 0) s v w a b) (hK : OpK Kc C I J R K) : (C1 500).1 = 1 ∧ F_X0_no [aR (some 500), aR (some 504)] C1 (setI I1 504 6 w) J1 R1 (fun o C2 I3 J4 R5 => ∃ r6 : Int32, o = .inl (some (aI r6)) ∧ (r6 = 0 ∨ r6 = 1) ∧ K (.inl (some (aI r6))) C2 I3 J4 R5) := by
  have h2 := h.si (q := 504) (f := 6) (x := w) (Or.inr rfl)
  refine ⟨h.c500, F_no_ok h2.ben ⟨_, rfl, Or.inl rfl, ?_⟩⟩
  rw [setI_at]
  exact (h2.si (q := 500) (f := 5) (x := w) (Or.inl ⟨rfl, by decide⟩)).done (setI_at _ _ _ _) hc hK
theorem Mid.greatI (h : Mid s v a b C I J R C1 I1 J1 R1) (hc : Kc (aI (-1)) s v 9 a b) (hK : OpK Kc C I J R K) : (C1 500).1 = 1 ∧ F_X0_great [aR (some 500)] C1 I1 J1 R1 (fun o C2 I3 J4 R5 => ∃ r6 : Int32, o = .inl (some (aI r6)) ∧ K (.inl (some (aI r6))) C2 I3 J4 R5) :=
  ⟨h.c500, F_great_ok h.c500 ⟨_, rfl, (h.si (q := 500) (f := 5) (x := 9) (Or.inl ⟨rfl, by decide⟩)).done (setI_at _ _ _ _) hc hK⟩⟩
theorem Mid.greatJ (h : Mid s v a b C I J R C1 I1 J1 R1) (hc : Kc (aJ (-1)) s v 9 a b) (hK : OpK Kc C I J R K) : (C1 500).1 = 1 ∧ F_X0_great [aR (some 500)] C1 I1 J1 R1 (fun o C2 I3 J4 R5 => ∃ r6 : Int32, o = .inl (some (aI r6)) ∧ K (.inl (some (aJ r6.toInt64))) C2 I3 J4 R5) :=
  ⟨h.c500, F_great_ok h.c500 ⟨_, rfl, (h.si (q := 500) (f := 5) (x := 9) (Or.inl ⟨rfl, by decide⟩)).done (setI_at _ _ _ _) hc hK⟩⟩
theorem Mid.tg (h : Mid s v a b C I J R C1 I1 J1 R1) (hG : (C1 nG).1 = 0) (hP : ∀ (C2 : MC) (I2 : MI) (J2 : MJ) (R2 : MR), Mid s v a b C I J R C2 I2 J2 R2 → (C2 nG).1 = 11 → P (.inr nG) C2 I2 J2 R2) : TG P C1 I1 J1 R1 := by
  refine ⟨hG, ?_⟩
  rintro C' I' J' R' rfl hx
  refine hP _ _ _ _ (h.exc (fun q h7 _ _ => ?_)) (by rw [va_up_self])
  have h1 := hx q h7
  exact ⟨va_up_ne _ _ h7, h1.1, h1.2.1, h1.2.2⟩
/-- a call of table() in an op -/
theorem Mid.table {Q : Nat → MC → MI → MJ → MR → Prop} (h : Mid s v a b C I J R C1 I1 J1 R1) (hG : (C1 nG).1 = 0) (hk : k < s 6 0) (h1 : grt s k → ∀ (C2 : MC) (I2 : MI) (J2 : MJ) (R2 : MR), Mid s v a b C I J R C2 I2 J2 R2 → Q nG C2 I2 J2 R2)
    (h2 : ¬ grt s k → ∀ (J' : MJ) (R' : MR) (q : Nat), Mid s v a b C I J R C1 I1 J' R' → TbS C1 R' q → RpB J' q (tbl s k) → TOk (tbl s k) → P (.inl (some (aR (some q)))) C1 I1 J' R') : F_T 20 [aR (some (th k))] C1 I1 J1 R1 (fun o C' I' J' R' => P o C' I' J' R' ∨ (∃ q : Nat, o = .inr q ∧ ((C' q).1 = 11 ∧ Q q C' I' J' R'))) := by
  have hn := h.n20
  refine ⟨s, k, rfl, by omega, hk, h.y.x hG, fun hg J' R' hJ hR => ?_, fun hg J' R' q hJ hR hT hq hS hb => Or.inl (h2 hg J' R' q (h.thing hJ hR) hT hq (tbl_ok h.y.1 k hk hg))⟩
  exact (h.thing hJ hR).tg hG (fun C2 I2 J2 R2 h3 h4 => Or.inr ⟨nG, rfl, h4, h1 hg C2 I2 J2 R2 h3⟩)
theorem Mid.kth (h : Mid s v a b C I J R C1 I1 J1 R1) (hk : k < s 6 0) : kTh (C1 (th k)).1 := by
  rw [(h.y.2 k hk).1.1.1]
  have := (h.y.1.2 k hk).1.1
  exact ⟨Nat.le_add_right _ _, by omega⟩
end MD
def isTk (x : Int32) : Prop := ∃ t, t < 121 ∧ x = iN t
theorem isTk_iff (x : Int32) : isTk x ↔ ¬ x < 0 ∧ ¬ (120 : Int32) < x := by
  constructor
  · rintro ⟨k, hk, rfl⟩
    exact ⟨iN_nn (by omega), fun w => by have := (iN_lt (a := 120) (by omega) (by omega)).mp w; omega⟩
  · rintro ⟨h1, h2⟩
    obtain ⟨k, hk, rfl, -⟩ := iN_of h1
    exact ⟨k, Nat.lt_of_not_le (fun w => h2 ((iN_lt (a := 120) (by omega) hk).mpr (by omega))), rfl⟩
/-- an op's contract, component's side -/
def OpC (As : List AV) (W : St → Tv → Int64 → Int64 → KC → Prop) : SPF := fun As' C I J R K => ∃ (s : St) (v : Tv) (st : Int32) (a b : Int64) (Kc : KC), As' = aR (some 500) :: As ∧ RelC s v st a b C I J R ∧ Fre s C ∧ W s v a b Kc ∧ OpK Kc C I J R K
theorem Fre.g {s : St} {v : Tv} {a b : Int64} {C : MC} {I : MI} {J : MJ} {R : MR} (h : Fre s C) (hB : RelB s v a b C I J R) : (C nG).1 = 0 := (h.low hB.2.1).1
/-! whole -/
def W_whole (x : Int32) : St → Tv → Int64 → Int64 → KC → Prop := fun s v a b Kc => (¬ isTh s x → Kc (aJ (-1)) s v 1 a b) ∧ ∀ k, x = iN k → k < s 6 0 → (grt s k → Kc (aJ (-1)) s v 9 a b) ∧ (¬ grt s k → Kc (aJ (jN (tbl s k).2.2)) s v 0 a b)
def F_X0_whole : SPF := fun As C I J R K => ∃ x : Int32, OpC [aI x] (W_whole x) As C I J R K
theorem S_X0_whole (l : Launch) : SpX0_whole l F_X0_whole := by
  refine wX0_whole (S_X0_thing l) (SV_table l 20) (S_X0_none l) (S_X0_great l) ?_
  rintro As C I J R K ⟨x, s, v, st, a, b, Kc, rfl, hR, hF, hW, hK⟩
  have h0 := Mid.start hR
  refine ⟨500, x, rfl, h0.c500, ?_⟩
  intro I2 e2
  obtain rfl : I2 = setI I 500 5 0 := e2
  refine F_thing_ok h0.ben h0.n20 (fun k hx hk => Or.inl ⟨th k, rfl, h0.kth hk, ?_⟩) (fun w => Or.inr ⟨504, rfl, by rw [h0.ben.1.2.2.2.2], h0.refJ (hW.1 w) hK⟩)
  refine h0.table (hF.g hR.1) hk (fun hg C2 I2 J2 R2 h2 => h2.greatJ ((hW.2 k hx hk).1 hg) hK) (fun hg J' R' q h2 hT hq hok => ⟨q, rfl, hT.1, ?_⟩)
  rw [hq.2]
  exact h2.done (setI_at _ _ _ _) ((hW.2 k hx hk).2 hg) hK
/-! weight -/
def W_weight (x y z : Int32) : St → Tv → Int64 → Int64 → KC → Prop := fun s v a b Kc => ((¬ isTh s x ∨ ¬ isTk y) → Kc (aJ (-1)) s v 1 a b) ∧ ∀ k t, x = iN k → k < s 6 0 → y = iN t → t < 121 → (grt s k → Kc (aJ (-1)) s v 9 a b) ∧ (¬ grt s k → Kc (aJ (jN (if z = 0 then (tbl s k).2.1 t else (tbl s k).1 t))) s v 0 a b)
def F_X0_weight : SPF := fun As C I J R K => ∃ x y z : Int32, OpC [aI x, aI y, aI z] (W_weight x y z) As C I J R K
theorem S_X0_weight (l : Launch) : SpX0_weight l F_X0_weight := by
  refine wX0_weight (S_X0_thing l) (S_X0_want l) (SV_table l 20) (S_X0_none l) (S_X0_great l) ?_
  rintro As C I J R K ⟨x, y, z, s, v, st, a, b, Kc, rfl, hR, hF, hW, hK⟩
  have h0 := Mid.start hR
  have h504 : (C 504).1 = 2 := by rw [h0.ben.1.2.2.2.2]
  refine ⟨500, x, y, z, rfl, h0.c500, ?_⟩
  intro I2 e2
  obtain rfl : I2 = setI I 500 5 0 := e2
  refine F_thing_ok h0.ben h0.n20 (fun k hx hk => Or.inl ⟨th k, rfl, ?_⟩) (fun w => Or.inr ⟨504, rfl, h504, h0.refJ (hW.1 (Or.inl w)) hK⟩)
  have bad : ¬ isTk y → PX0_weight_28 F_X0_thing F_X0_want (F_T 20) F_X0_none F_X0_great K 500 y z (th k) 500 0 C (setI I 500 5 0) J R := fun w => ⟨h0.c500, F_want_no h0.ben (Or.inr ⟨504, rfl, h504, h0.refJ (hW.1 (Or.inr w)) hK⟩)⟩
  refine ⟨fun c => bad (fun w => ((isTk_iff y).mp w).1 c), fun c => ⟨fun c2 => bad (fun w => ((isTk_iff y).mp w).2 c2), fun c2 => ?_⟩⟩
  obtain ⟨t, ht, rfl⟩ := (isTk_iff y).mpr ⟨c, c2⟩
  have hw := hW.2 k t hx hk rfl ht
  refine ⟨h0.c500, F_want_yes (Or.inl ⟨rfl, fun c3 => ⟨h0.kth hk, ?_⟩, fun c3 => ⟨h0.kth hk, ?_⟩⟩)⟩
  · refine h0.table (hF.g hR.1) hk (fun hg C2 I2 J2 R2 h2 => h2.greatJ (hw.1 hg) hK) (fun hg J' R' q h2 hT hq hok => ⟨q, rfl, hT.1, q + 2, hT.2.2.1, by rw [hT.2.2.2.2], iN_in (by omega) (by rw [hT.2.2.2.2]; omega), ?_⟩)
    have h3 := hw.2 hg
    rw [if_pos c3] at h3
    rw [iN_nat (by omega), (hq.1 t ht).2]
    exact h2.done (setI_at _ _ _ _) h3 hK
  · refine h0.table (hF.g hR.1) hk (fun hg C2 I2 J2 R2 h2 => h2.greatJ (hw.1 hg) hK) (fun hg J' R' q h2 hT hq hok => ⟨q, rfl, hT.1, q + 1, hT.2.1, by rw [hT.2.2.2.1], iN_in (by omega) (by rw [hT.2.2.2.1]; omega), ?_⟩)
    have h3 := hw.2 hg
    rw [if_neg c3] at h3
    rw [iN_nat (by omega), (hq.1 t ht).1]
    exact h2.done (setI_at _ _ _ _) h3 hK
/-- a fraction is told -/
def W_tells (x y : Nat) (s : St) (v : Tv) (Kc : KC) : Prop := Kc (aI (enI (0 < x))) s v 0 (jN (x / Nat.gcd x y)) (jN (y / Nat.gcd x y))
theorem Mid.tells {s : St} {v : Tv} {a b : Int64} {C C1 : MC} {I I1 : MI} {J J1 : MJ} {R R1 : MR} {K : AK} {Kc : KC} {x y : Nat} (h : Mid s v a b C I J R C1 I1 J1 R1) (hs : I1 500 5 = 0) (hx : x < 2 ^ 63) (hy : y < 2 ^ 63) (hy0 : 0 < y) (hc : W_tells x y s v Kc) (hK : OpK Kc C I J R K) : F_X0_tells [aR (some 500), aJ (jN x), aJ (jN y)] C1 I1 J1 R1 (fun o C2 I3 J4 R5 => ∃ r6 : Int32, o = .inl (some (aI r6)) ∧ K (.inl (some (aI r6))) C2 I3 J4 R5) := by
  refine F_tells_ok h.c500 hx hy hy0 (fun J' hJ h6 h7 => ⟨_, rfl, ?_⟩)
  obtain ⟨⟨h1, h2, h3, h4, h5⟩, hf⟩ := h
  have hm : Mid s v (jN (x / Nat.gcd x y)) (jN (y / Nat.gcd x y)) C I J R C1 I1 J' R1 := by
    refine ⟨⟨h1, fun t ht => ?_, h3.far (fun q hq => ⟨rfl, rfl, hJ q (by omega), rfl⟩), h4, h6, h7⟩, hf.trans (fun q hq => ⟨rfl, rfl, hJ q (by omega), rfl⟩)⟩
    have h8 := trn_lt h2 ht
    rw [hJ (trn s t) (by omega)]
    exact h2 t ht
  exact hm.done hs hc hK
def W_by (x y : Int32) : St → Tv → Int64 → Int64 → KC → Prop := fun s v a b Kc => ((¬ isTh s x ∨ ¬ isTk y) → Kc (aI (-1)) s v 1 a b) ∧ ∀ k t, x = iN k → k < s 6 0 → y = iN t → t < 121 → (grt s k → Kc (aI (-1)) s v 9 a b) ∧ (¬ grt s k → W_tells (sm (tbl s k).1 (t + 1)) (tbl s k).2.2 s v Kc)
def F_X0_by : SPF := fun As C I J R K => ∃ x y : Int32, OpC [aI x, aI y] (W_by x y) As C I J R K
theorem F_by_tab {C : MC} {I : MI} {J : MJ} {R : MR} {K : AK} {q t : Nat} {x : Tb} (hT : TbS C R q) (hq : RpB J q x) (ht : t < 121) (h : K (.inl (some (aJ (jN (sm x.1 (t + 1)))))) C I J R) : F_X3_by [aR (some q), aI (iN t)] C I J R K := by
  refine ⟨q, t, rfl, by omega, hT, ?_⟩
  rw [sJ_nat (g := x.1) (fun i hi => (hq.1 i (by omega)).1)]
  exact h
theorem sm_le121 {x : Tb} (h : TOk x) {n : Nat} (hn : n ≤ 121) : sm x.1 n ≤ x.2.2 ∧ sm x.2.1 n ≤ x.2.2 := by
  have h1 := sm_mono (f := x.1) hn
  have h2 := sm_mono (f := x.2.1) hn
  have h3 := h.1.sum
  omega
theorem S_X0_by (l : Launch) : SpX0_by l F_X0_by := by
  refine wX0_by (S_X0_thing l) (S_X0_want l) (SV_table l 20) (S_X3_by l) (S_X0_tells l) (S_X0_none l) (S_X0_great l) ?_
  rintro As C I J R K ⟨x, y, s, v, st, a, b, Kc, rfl, hR, hF, hW, hK⟩
  have h0 := Mid.start hR
  have h504 : (C 504).1 = 2 := by rw [h0.ben.1.2.2.2.2]
  refine ⟨500, x, y, rfl, h0.c500, ?_⟩
  intro I2 e2
  obtain rfl : I2 = setI I 500 5 0 := e2
  refine F_thing_ok h0.ben h0.n20 (fun k hx hk => Or.inl ⟨th k, rfl, ?_⟩) (fun w => Or.inr ⟨504, rfl, h504, h0.refI (hW.1 (Or.inl w)) hK⟩)
  have bad : ¬ isTk y → PX0_by_27 F_X0_thing F_X0_want (F_T 20) F_X3_by F_X0_tells F_X0_none F_X0_great K 500 y (th k) 500 0 C (setI I 500 5 0) J R := fun w => ⟨h0.c500, F_want_no h0.ben (Or.inr ⟨504, rfl, h504, h0.refI (hW.1 (Or.inr w)) hK⟩)⟩
  refine ⟨fun c => bad (fun w => ((isTk_iff y).mp w).1 c), fun c => ⟨fun c2 => bad (fun w => ((isTk_iff y).mp w).2 c2), fun c2 => ?_⟩⟩
  obtain ⟨t, ht, rfl⟩ := (isTk_iff y).mpr ⟨c, c2⟩
  have hw := hW.2 k t hx hk rfl ht
  refine ⟨h0.c500, F_want_yes (Or.inl ⟨rfl, h0.kth hk, ?_⟩)⟩
  refine h0.table (hF.g hR.1) hk (fun hg C2 I2 J2 R2 h2 => h2.greatI (hw.1 hg) hK) (fun hg J' R' q h2 hT hq hok => ⟨q, rfl, hT.1, F_by_tab hT hq ht ⟨_, rfl, hT.1, h2.c500, ?_⟩⟩)
  have h3 := (sm_le121 hok (n := t + 1) (by omega)).1
  have h4 := hok.2
  rw [hq.2]
  exact h2.tells (setI_at _ _ _ _) (by omega) (by omega) hok.1.2.2 (hw.2 hg) hK
def W_fails (x : Int32) : St → Tv → Int64 → Int64 → KC → Prop := fun s v a b Kc => (¬ isTh s x → Kc (aI (-1)) s v 1 a b) ∧ ∀ k, x = iN k → k < s 6 0 → (grt s k → Kc (aI (-1)) s v 9 a b) ∧ (¬ grt s k → W_tells (sm (tbl s k).2.1 121) (tbl s k).2.2 s v Kc)
def F_X0_fails : SPF := fun As C I J R K => ∃ x : Int32, OpC [aI x] (W_fails x) As C I J R K
theorem S_X0_fails (l : Launch) : SpX0_fails l F_X0_fails := by
  refine wX0_fails (S_X0_thing l) (SV_table l 20) (S_X3_failed l) (S_X0_tells l) (S_X0_none l) (S_X0_great l) ?_
  rintro As C I J R K ⟨x, s, v, st, a, b, Kc, rfl, hR, hF, hW, hK⟩
  have h0 := Mid.start hR
  have h504 : (C 504).1 = 2 := by rw [h0.ben.1.2.2.2.2]
  refine ⟨500, x, rfl, h0.c500, ?_⟩
  intro I2 e2
  obtain rfl : I2 = setI I 500 5 0 := e2
  refine F_thing_ok h0.ben h0.n20 (fun k hx hk => Or.inl ⟨th k, rfl, h0.kth hk, ?_⟩) (fun w => Or.inr ⟨504, rfl, h504, h0.refI (hW.1 w) hK⟩)
  have hw := hW.2 k hx hk
  refine h0.table (hF.g hR.1) hk (fun hg C2 I2 J2 R2 h2 => h2.greatI (hw.1 hg) hK) (fun hg J' R' q h2 hT hq hok => ⟨q, rfl, hT.1, q, rfl, hT, ?_⟩)
  rw [sJ_nat (g := (tbl s k).2.1) (fun i hi => (hq.1 i hi).2)]
  have h3 := (sm_le121 hok (n := 121) (by omega)).2
  have h4 := hok.2
  refine ⟨_, rfl, hT.1, h2.c500, ?_⟩
  rw [hq.2]
  exact h2.tells (setI_at _ _ _ _) (by omega) (by omega) hok.1.2.2 (hw.2 hg) hK
def W_over (x : Int32) : St → Tv → Int64 → Int64 → KC → Prop := fun s v a b Kc => (¬ isLf s x → Kc (aI (-1)) s v 1 a b) ∧ ∀ k, x = iN k → k < s 6 0 → s 7 k = 0 → Kc (aI (iN (s 20 k))) s v 0 a b
def F_X0_over : SPF := fun As C I J R K => ∃ x : Int32, OpC [aI x] (W_over x) As C I J R K
theorem S_X0_over (l : Launch) : SpX0_over l F_X0_over := by
  refine wX0_over (S_X0_leafOf l) (S_X0_none l) ?_
  rintro As C I J R K ⟨x, s, v, st, a, b, Kc, rfl, hR, hF, hW, hK⟩
  have h0 := Mid.start hR
  have h504 : (C 504).1 = 2 := by rw [h0.ben.1.2.2.2.2]
  refine ⟨500, x, rfl, h0.c500, ?_⟩
  intro I2 e2
  obtain rfl : I2 = setI I 500 5 0 := e2
  refine F_leafOf_ok h0.ben h0.y (fun k hx hk h7 => Or.inl ⟨th k, rfl, ?_, ?_⟩) (fun w => Or.inr ⟨504, rfl, h504, h0.refI (hW.1 w) hK⟩)
  · rw [(h0.y.2 k hk).1.1.1, h7]
  · rw [((h0.y.2 k hk).2.1.2.1 h7).2.2.2.2.1]
    exact h0.done (setI_at _ _ _ _) (hW.2 k hx hk h7) hK
def W_chosen (x : Int32) : St → Tv → Int64 → Int64 → KC → Prop := fun s v a b Kc => (¬ isLf s x → Kc (aI (-1)) s v 1 a b) ∧ ∀ k, x = iN k → k < s 6 0 → s 7 k = 0 → (s 17 k = 0 → Kc (aI (-1)) s v 6 a b) ∧ (s 17 k ≠ 0 → Kc (aI (iN (s 17 k - 1))) s v 0 a b)
def F_X0_chosen : SPF := fun As C I J R K => ∃ x : Int32, OpC [aI x] (W_chosen x) As C I J R K
theorem iN_dec {n : Nat} (h : n ≠ 0) : iN n - 1 = iN (n - 1) := iN_sub (a := n) (b := 1) (by omega)
theorem S_X0_chosen (l : Launch) : SpX0_chosen l F_X0_chosen := by
  refine wX0_chosen (S_X0_leafOf l) (S_X0_want l) (S_X0_none l) ?_
  rintro As C I J R K ⟨x, s, v, st, a, b, Kc, rfl, hR, hF, hW, hK⟩
  have h0 := Mid.start hR
  have h504 : (C 504).1 = 2 := by rw [h0.ben.1.2.2.2.2]
  refine ⟨500, x, rfl, h0.c500, ?_⟩
  intro I2 e2
  obtain rfl : I2 = setI I 500 5 0 := e2
  refine F_leafOf_ok h0.ben h0.y (fun k hx hk h7 => Or.inl ⟨th k, rfl, ?_⟩) (fun w => Or.inr ⟨504, rfl, h504, h0.refI (hW.1 w) hK⟩)
  have hw := hW.2 k hx hk h7
  have c1 := (h0.y.2 k hk).1.1.1
  have i10 := ((h0.y.2 k hk).2.1.2.1 h7).2.2.1
  have h17 := ((h0.y.1.2 k hk).2.1.1 h7).2.2.2.2.1
  have h12 := ((h0.y.1.2 k hk).2.1.1 h7).2.2.1
  have c5 : (C (th k)).1 = 5 := by rw [c1, h7]
  refine ⟨c5, ?_⟩
  unfold PX0_chosen_24
  rw [i10]
  by_cases e : s 17 k = 0
  · refine ⟨fun c => ⟨h0.c500, F_want_no h0.ben (Or.inr ⟨504, rfl, h504, h0.refI (hw.1 e) hK⟩)⟩, fun c => absurd ?_ c⟩
    rw [e]
    decide
  · rw [iN_dec e]
    refine ⟨fun c => absurd c (iN_nn (by omega)), fun c => ⟨h0.c500, F_want_yes (Or.inl ⟨rfl, c5, ?_⟩)⟩⟩
    rw [i10, iN_dec e]
    exact h0.done (setI_at _ _ _ _) (hw.2 e) hK
