/-! A LEAF IS MADE: both sides -/
set_option maxRecDepth 100000
set_option linter.unusedVariables false
def W_leaf (x y : Int32) : St → Tv → Int64 → Int64 → KC → Prop := fun s v a b Kc => ((¬ isTr x ∨ ¬ isMn y) → Kc (aI (-1)) s v 1 a b) ∧ ∀ t c, t < 4 → x = iN t → 1 ≤ c → c ≤ 60 → y = iN c → (s 4 t = 0 → Kc (aI (-1)) s v 2 a b) ∧ (s 4 t ≠ 0 → (s 4 t - 1 < c → Kc (aI (-1)) s v 3 a b) ∧ (c ≤ s 4 t - 1 → ((¬ ∃ w, WtOk v t c w) → Kc (aI (-1)) s v 1 a b) ∧ ∀ w, WtOk v t c w → (s 6 0 = 20 → Kc (aI (-1)) s v 4 a b) ∧ (s 6 0 < 20 → Kc (aI (iN (s 6 0))) (adS s 0 0 0 0 (fun _ => 0) w) v 0 a b)))
def F_X0_leaf : SPF := fun As C I J R K => ∃ x y : Int32, OpC [aI x, aI y] (W_leaf x y) As C I J R K
theorem Fre.tm {s : St} {v : Tv} {a b : Int64} {C : MC} {I : MI} {J : MJ} {R : MR} (h : Fre s C) (hB : RelB s v a b C I J R) {q : Nat} (hq : Tm s q) : (C q).1 = 0 := h q (fun w => LV_Tm hB.2.1 hB.2.2.1.1.1 w hq)
theorem lg_new {s : St} {kd m a c : Nat} {p w : Nat → Nat} : lgT (adS s kd m a c p w) (s 6 0) 0 = wTb w := by
  unfold lgT wTb
  have q : (fun i => if i < 60 then adS s kd m a c p w 14 (60 * (3 * s 6 0 + 0) + i) else 0) = fun i => if i < 60 then w i else 0 := funext fun i => by
    by_cases hi : i < 60
    · rw [if_pos hi, if_pos hi, ad_w hi]
    · rw [if_neg hi, if_neg hi]
  rw [q, sm_congr (g := w) (fun i hi => ad_w hi)]
theorem gq_new {s : St} {kd m a c : Nat} {p w : Nat → Nat} : gq (adS s kd m a c p w) (s 6 0) 0 = 100000 + 3 * s 6 0 := by
  unfold gq
  rw [if_pos rfl, ad_new.2.1, Nat.mul_zero, Nat.add_zero]
theorem S_X0_leaf (l : Launch) : SpX0_leaf l F_X0_leaf := by
  refine wX0_leaf (S_X0_want l) (S_X0_wantMany l) (S_X0_weights l) (S_X5_init l) (S_X0_adds l) (S_X0_none l) ?_
  rintro As C I J R K ⟨x, y, s, v, st, a, b, Kc, rfl, hR, hF, hW, hK⟩
  have h0 := Mid.start hR
  have h504 : (C 504).1 = 2 := by rw [h0.ben.1.2.2.2.2]
  have h8 := (hF.low hR.1.2.1).2.1
  have hn20 := h0.n20
  have g0 := th_ge (s 6 0)
  refine ⟨500, x, y, rfl, h0.c500, ?_⟩
  intro I2 e2
  obtain rfl : I2 = setI I 500 5 0 := e2
  have bad : ¬ isTr x → PX0_leaf_19 F_X0_want F_X0_wantMany F_X0_weights F_X5_init F_X0_adds F_X0_none K 500 x y 500 C (setI I 500 5 0) J R := fun w => ⟨h0.c500, F_want_no h0.ben (Or.inr ⟨504, rfl, h504, h0.refI (hW.1 (Or.inl w)) hK⟩)⟩
  refine ⟨fun c => bad (fun w => ((isTr_iff x).mp w).1 c), fun c => ⟨fun c2 => bad (fun w => ((isTr_iff x).mp w).2 c2), fun c2 => ⟨h0.c500, F_want_yes (Or.inl ⟨rfl, h0.c500, F_wantMany_ok h0.ben (fun hm => Or.inl ⟨rfl, h0.c500, ?_⟩) (fun hm => Or.inr ⟨504, rfl, h504, h0.refI (hW.1 (Or.inr hm)) hK⟩)⟩)⟩⟩⟩
  obtain ⟨c, hc1, hc2, rfl⟩ := hm
  obtain ⟨q, hq0, hq⟩ : ∃ q, 520 ≤ q ∧ (if s 6 0 < 20 then q = 100000 + 3 * s 6 0 else q = 520) := by
    by_cases e : s 6 0 < 20
    · exact ⟨100000 + 3 * s 6 0, by omega, by rw [if_pos e]⟩
    · exact ⟨520, by omega, by rw [if_neg e]⟩
  have tm : ∀ o, o ≤ 2 → Tm s (q + o) := fun o ho => by
    unfold Tm Nw
    by_cases e : s 6 0 < 20
    · rw [if_pos e] at hq
      omega
    · rw [if_neg e] at hq
      omega
  have fr : ∀ o, o ≤ 2 → (C (q + o)).1 = 0 := fun o ho => hF.tm hR.1 (tm o ho)
  have off : ∀ {C' : MC} {I' : MI} {J' : MJ} {R' : MR}, NTb q C (setI I 500 5 0) J R C' I' J' R' → Mid s v a b C I J R C' I' J' R' := fun {C' I' J' R'} nt => h0.off (fun x hx => nt x (fun z => hx (z ▸ tm 0 (by omega))) (fun z => hx (z ▸ tm 1 (by omega))) (fun z => hx (z ▸ tm 2 (by omega))))
  refine ⟨s, v, x, c, q, rfl, hc1, hc2, hq0, fr 0 (by omega), fr 1 (by omega), fr 2 (by omega), h8, h0.ben, h0.1.2.1, fun w => Or.inr ⟨504, rfl, h504, h0.refI (hW.1 (Or.inl w)) hK⟩, fun t ht hx => ⟨fun h4 => Or.inr ⟨504, rfl, h504, h0.refI ((hW.2 t c ht hx hc1 hc2 rfl).1 h4) hK⟩, fun h4 => ⟨fun hl => Or.inr ⟨504, rfl, h504, h0.refI (((hW.2 t c ht hx hc1 hc2 rfl).2 h4).1 hl) hK⟩, fun hl => ?_⟩⟩⟩
  have hw := ((hW.2 t c ht hx hc1 hc2 rfl).2 h4).2 hl
  refine ⟨fun no C' I' J' R' nt => Or.inr ⟨504, rfl, ?_, (off nt).refI (hw.1 no) hK⟩, fun w hwt C' I' J' R' nt hT hq2 hcl => Or.inl ⟨q, rfl, (off nt).c500, ?_⟩⟩
  · rw [(off nt).ben.1.2.2.2.2]
  have hm := off nt
  have k504 : (C' 504).1 = 2 := by rw [hm.ben.1.2.2.2.2]
  have hw2 := hw.2 w hwt
  rw [hm.ben.2.2.1, show ((20 : Int32) ≤ iN (s 6 0)) = (20 ≤ s 6 0) from propext (iN_le (a := 20) (by decide) (by omega))]
  refine ⟨fun z => ⟨hm.c500, F_want_no hm.ben (Or.inr ⟨504, rfl, k504, hm.refI (hw2.1 (by omega)) hK⟩)⟩, fun z => ⟨hm.c500, F_want_yes (Or.inl ⟨rfl, th (s 6 0), ?_, ?_⟩)⟩⟩
  all_goals
    have hn : s 6 0 < 20 := by omega
    rw [if_pos hn] at hq
    subst hq
    have hb : th (s 6 0) ≤ 2000 := by unfold th; omega
    have nb : ∀ o, o < 40 → (C' (th (s 6 0) + o)).1 = 0 := fun o ho => by
      rw [(nt _ (by omega) (by omega) (by omega)).1]
      exact hF.tm hR.1 (Or.inr ⟨hn, Or.inl (by omega)⟩)
  · exact nb 0 (by omega)
  · rintro C9 I10 J11 R12 rfl rfl rfl rfl
    refine ⟨s, w, rfl, ⟨hn, va_up_self _ _ _, fun f => by rw [va_up_self], fun f => by rw [va_up_self], fun o h1 h2 => by rw [va_up_ne _ _ (by omega)]; exact nb o h2⟩, ?_, ?_⟩
    · unfold TbS at hT ⊢
      rw [va_up_ne _ _ (by omega), va_up_ne _ _ (by omega), va_up_ne _ _ (by omega), va_up_ne _ _ (by omega)]
      exact hT
    · intro C13 I14 J15 R16 p1 p2 p3 p4 p5 p6
      have out : ∀ x, ¬ Nw (s 6 0) x → C13 x = C x ∧ I14 x = setI I 500 5 0 x ∧ J15 x = J x ∧ R16 x = R x := fun x hx => by
        have hx2 : ¬ (th (s 6 0) ≤ x ∧ x < th (s 6 0) + 40) := fun z => hx (Or.inl z)
        have hx3 : x ≠ 100000 + 3 * s 6 0 ∧ x ≠ 100000 + 3 * s 6 0 + 1 ∧ x ≠ 100000 + 3 * s 6 0 + 2 := by
          unfold Nw at hx
          omega
        have f1 := p1 x hx2
        have f2 := nt x hx3.1 hx3.2.1 hx3.2.2
        rw [f1.1, f1.2.1, f1.2.2, va_up_ne _ _ (by omega), va_up_ne _ _ (by omega), va_up_ne _ _ (by omega), f2.1, f2.2.1, f2.2.2.1]
        refine ⟨rfl, rfl, rfl, funext fun i => ?_⟩
        rw [p2 x i hx2 (fun ⟨_, j, hj, _⟩ => absurd hj (Nat.not_lt_zero _)), va_up_ne _ _ (by omega), f2.2.2.2]
      refine ⟨rfl, h0.adds (setI_at _ _ _ _) hn ⟨by omega, by omega, fun i hi => absurd hi (Nat.not_lt_zero _), fun i j _ hj => absurd hj (Nat.not_lt_zero _), fun _ => ⟨rfl, hwt.2.2⟩, fun z => absurd z (by decide), fun z => absurd z (by decide), fun z => absurd z (by decide), fun z => absurd z (by decide), fun z => absurd z (by decide)⟩ (fun x hx => ⟨(out x hx).1, (out x hx).2.1, (out x hx).2.2.1⟩) (fun x i hx _ => by rw [(out x hx).2.2.2]) (fun j hj => absurd hj (Nat.not_lt_zero _)) (fun x hl hnw => ?_) ⟨p5, p6, ?_⟩ (hw2.2 hn) hK⟩
      · rcases LV_ad hl with z2 | ⟨-, ⟨o, ho, hlo, rfl⟩ | ⟨-, z1, z2⟩⟩
        · exact absurd hnw (fun z3 => Nw_dead h0.1.2.1 hn z3 z2)
        · exact p4 o ho hlo
        · have hx2 : ¬ (th (s 6 0) ≤ x ∧ x < th (s 6 0) + 40) := by omega
          have cx : C13 x = C' x := by rw [(p1 x hx2).1, va_up_ne _ _ (by omega)]
          have rx : ∀ i, R16 x i = R' x i := fun i => by rw [p2 x i hx2 (fun ⟨_, j, hj, _⟩ => absurd hj (Nat.not_lt_zero _)), va_up_ne _ _ (by omega)]
          refine ⟨?_, fun i r hr => ?_⟩
          · rw [cx]
            have h3 : x = 100000 + 3 * s 6 0 ∨ x = 100000 + 3 * s 6 0 + 1 ∨ x = 100000 + 3 * s 6 0 + 2 := by omega
            rcases h3 with rfl | rfl | rfl
            · rw [hT.1]; decide
            · rw [hT.2.2.2.1]; decide
            · rw [hT.2.2.2.2]; decide
          · rw [rx] at hr
            have h3 := hcl x i r z1 (by omega) hr
            obtain ⟨e, he, rfl⟩ : ∃ e, e < 3 ∧ r = 100000 + 3 * s 6 0 + e := by
              rcases h3 with h3 | h3
              · exact ⟨1, by omega, h3⟩
              · exact ⟨2, by omega, h3⟩
            exact ⟨Or.inr (Or.inr (Or.inr (Or.inr (Or.inr (Or.inr ⟨s 6 0, 0, e, by rw [ad_n]; omega, ad_new.2.2.1, Nat.zero_le _, he, rfl⟩))))), by omega⟩
      · intro _ g hg
        rw [ad_new.2.2.2.2.2.2.1] at hg
        obtain rfl : g = 0 := by omega
        rw [gq_new, lg_new]
        refine hq2.kept (fun y h1 h2 => ?_)
        rw [(p1 y (by omega)).2.2, va_up_ne _ _ (by omega)]
/-! the reference's side -/
def F_X2_wrongWeights : SPF := fun As C I J R K => ∃ (s : St) (v : Tv) (x y : Int32), As = [aR (some 1), aI x, aI y] ∧ MS C R ∧ MTr s v I J ∧ ((¬ isTr x ∨ ¬ isMn y) → K (.inl (some (aI 1))) C I J R) ∧ ∀ t c, t < 4 → x = iN t → 1 ≤ c → c ≤ 60 → y = iN c → (s 4 t = 0 → K (.inl (some (aI 2))) C I J R) ∧ (s 4 t ≠ 0 → (s 4 t - 1 < c → K (.inl (some (aI 3))) C I J R) ∧ (c ≤ s 4 t - 1 → ((¬ ∃ w, WtOk v t c w) → K (.inl (some (aI 1))) C I J R) ∧ ∀ w, WtOk v t c w → K (.inl (some (aI 0))) C I J R))
def V_X2_wrongWeights_49 (n : Nat) (K : AK) (x0 : Nat) (x1 : Int32) (x2 : Int32) (x3 : Int64) (x5 : Int32) (C : MC) (I : MI) (J : MJ) (R : MR) : Prop := ∃ (s : St) (v : Tv) (t c i : Nat) (w : Nat → Nat), x0 = 1 ∧ x1 = iN t ∧ x2 = iN c ∧ x3 = jN (sm w i) ∧ x5 = iN i ∧ i ≤ c ∧ n = c - i ∧ t < 4 ∧ c ≤ 60 ∧ s 4 t ≠ 0 ∧ c ≤ s 4 t - 1 ∧ MS C R ∧ MTr s v I J ∧ (∀ j, j < i → v (60 * t + j) = jN (w j) ∧ w j ≤ 1000) ∧ (∀ j, i ≤ j → w j = 0) ∧ ((¬ ∃ w, WtOk v t c w) → K (.inl (some (aI 1))) C I J R) ∧ ∀ w, WtOk v t c w → K (.inl (some (aI 0))) C I J R
theorem S_X2_wrongWeights (l : Launch) : SpX2_wrongWeights l F_X2_wrongWeights := by
  refine wX2_wrongWeights (S_X2_isTray l) V_X2_wrongWeights_49 ?_ ?_
  · rintro As C I J R K ⟨s, v, x, y, rfl, hM, hT, h1, h2⟩
    refine ⟨1, x, y, rfl, F_isTray_ok (fun hl => ⟨_, rfl, fun c => absurd c (by decide), fun _ => ?_⟩) (fun hl => ⟨_, rfl, fun _ => h1 (Or.inl hl), fun c => absurd rfl c⟩)⟩
    obtain ⟨t, ht, rfl⟩ := hl
    refine ⟨fun a => h1 (Or.inr (fun w => ((isMn_iff y).mp w).1 a)), fun a => ?_⟩
    have b6 : y ≤ (60 : Int32) ↔ ¬ (60 : Int32) < y := Int32.not_lt.symm
    rw [b6]
    refine ⟨fun a2 => ?_, fun a2 => h1 (Or.inr (fun w => a2 ((isMn_iff y).mp w).2))⟩
    obtain ⟨c, c1, c2, rfl⟩ := (isMn_iff y).mpr ⟨a, a2⟩
    have h3 := h2 t c ht rfl c1 c2 rfl
    obtain ⟨e3, e4, b3, b4, e5⟩ := hT t ht
    have c4 := cArr hM.c4 ht (by omega)
    refine ⟨hM.o, 104, hM.r4, c4.1, c4.2, ?_⟩
    rw [iN_nat (by omega), e4, iNm1 (by omega)]
    refine ⟨fun h4 => ?_, fun h4 => h3.1 h4⟩
    rw [iN_dec h4, iN_le (by omega) (by omega)]
    refine ⟨fun z => ?_, fun z => (h3.2 h4).1 (by omega)⟩
    exact ⟨c - 0, s, v, t, c, 0, fun _ => 0, rfl, rfl, rfl, rfl, rfl, Nat.zero_le _, rfl, ht, c2, h4, z, hM, hT, fun j hj => absurd hj (Nat.not_lt_zero _), fun _ _ => rfl, (h3.2 h4).2 z⟩
  · rintro n K x0 x1 x2 x3 x5 C I J R ⟨s, v, t, c, i, w, rfl, rfl, rfl, rfl, rfl, hi, rfl, ht, hc, h4, hcs, hM, hT, hw, hz, k1, k2⟩
    have smb := sm_bound 1000 (w := w) (n := i) (fun j hj => (hw j hj).2)
    have sm60 : sm w 60 = sm w i := sm_ext (by omega) (fun j h1 _ => hz j h1)
    obtain ⟨e3, e4, b3, b4, e5⟩ := hT t ht
    unfold PX2_wrongWeights_49
    rw [iN_le (by omega) (by omega)]
    refine ⟨fun z => ?_, fun z => ⟨hM.o, 105, hM.r5, ?_⟩⟩
    · obtain rfl : i = c := by omega
      rw [show (jN (sm w i) < (1 : Int64)) = (sm w i < 1) from propext (jN_lt (b := 1) (by omega) (by decide)), show (jN (sm w i) ≤ (1000 : Int64)) = (sm w i ≤ 1000) from propext (jN_le (b := 1000) (by omega) (by decide))]
      have uniq : ∀ w', WtOk v t i w' → sm w' 60 = sm w 60 := fun w' hw' => sm_congr (fun j hj => by
        by_cases e : j < i
        · have a := hw'.1 j e
          have b := hw j e
          exact (jN_inj (by omega) (by omega)).mp (a.1.symm.trans b.1)
        · rw [hw'.2.1 j (by omega), hz j (by omega)])
      refine ⟨fun a => k1 (fun ⟨w', hw'⟩ => ?_), fun a => ⟨fun a2 => k2 w ⟨hw, hz, by omega, by omega⟩, fun a2 => k1 (fun ⟨w', hw'⟩ => ?_)⟩⟩
      · have h5 := uniq w' hw'
        have := hw'.2.2.1
        omega
      · have h5 := uniq w' hw'
        have := hw'.2.2.2
        omega
    · rw [mul_l_60, iN_add]
      have c5 := cArr hM.c5 (show 60 * t + i < 240 by omega) (by omega)
      refine ⟨c5.1, c5.2, ?_⟩
      rw [iN_nat (by omega), e5 i (by omega)]
      refine ⟨fun a => k1 (fun ⟨w', hw'⟩ => ?_), fun a => ⟨fun a2 => ?_, fun a2 => k1 (fun ⟨w', hw'⟩ => ?_)⟩⟩
      · have h5 := hw'.1 i (by omega)
        rw [h5.1] at a
        exact jN_nn (by omega) a
      · obtain ⟨u, hu, hvu⟩ : ∃ u : Nat, u ≤ 1000 ∧ v (60 * t + i) = jN u := by
          have b1 : (0 : Int64).toInt ≤ (v (60 * t + i)).toInt := Int64.le_iff_toInt_le.mp (Int64.not_lt.mp a)
          have b2 : (v (60 * t + i)).toInt ≤ (1000 : Int64).toInt := Int64.le_iff_toInt_le.mp a2
          have b3 : (0 : Int64).toInt = 0 := by decide
          have b4 : (1000 : Int64).toInt = 1000 := by decide
          refine ⟨(v (60 * t + i)).toInt.toNat, by omega, ?_⟩
          refine Int64.toInt_inj.mp ?_
          rw [jN_int (by omega)]
          omega
        have ws : sm (va_up w i u) (i + 1) = sm w i + u := by
          show sm (va_up w i u) i + va_up w i u i = _
          rw [va_up_self, sm_congr (g := w) (fun j hj => va_up_ne _ _ (by omega))]
        refine ⟨c - (i + 1), by omega, s, v, t, c, i + 1, va_up w i u, rfl, rfl, rfl, ?_, iN_add i 1, by omega, rfl, ht, hc, h4, hcs, hM, hT, fun j hj => ?_, fun j hj => ?_, k1, k2⟩
        · rw [hvu, jN_add, ws]
        · by_cases e : j = i
          · rw [e, va_up_self]
            exact ⟨hvu, hu⟩
          · rw [va_up_ne _ _ e]
            exact hw j (by omega)
        · rw [va_up_ne _ _ (by omega)]
          exact hz j (by omega)
      · have h5 := hw'.1 i (by omega)
        rw [h5.1] at a2
        exact a2 ((jN_le (b := 1000) (by omega) (by decide)).mpr h5.2)
theorem jN_32 {a : Nat} (h : a < 2 ^ 31) : (jN a).toInt32 = iN a := by
  rw [← iN_64 h]
  exact Int32.toInt32_toInt64 _
def F_X2_takeWeights : SPF := fun As C I J R K => ∃ (s : St) (v : Tv) (k g t c : Nat) (w : Nat → Nat), As = [aR (some 1), aI (iN k), aI (iN g), aI (iN t), aI (iN c)] ∧ k < 20 ∧ g < 3 ∧ t < 4 ∧ c ≤ 60 ∧ c ≤ s 4 t - 1 ∧ MS C R ∧ MTr s v I J ∧ WtOk v t c w ∧ ∀ I' : MI, (∀ q, q ≠ 114 → I' q = I q) → (∀ j, ¬ (60 * (3 * k + g) ≤ j ∧ j < 60 * (3 * k + g) + 60) → I' 114 j = I 114 j) → (∀ i, i < 60 → I' 114 (60 * (3 * k + g) + i) = iN (w i)) → K (.inl none) C I' J R
def V_X2_takeWeights_3 (n : Nat) (K : AK) (x0 : Nat) (x1 : Int32) (x2 : Int32) (x3 : Int32) (x4 : Int32) (x5 : Int32) (C : MC) (I : MI) (J : MJ) (R : MR) : Prop := ∃ (I0 : MI) (s : St) (v : Tv) (k g t c i : Nat) (w : Nat → Nat), x0 = 1 ∧ x1 = iN k ∧ x2 = iN g ∧ x3 = iN t ∧ x4 = iN c ∧ x5 = iN i ∧ i ≤ 60 ∧ n = 60 - i ∧ k < 20 ∧ g < 3 ∧ t < 4 ∧ c ≤ 60 ∧ c ≤ s 4 t - 1 ∧ MS C R ∧ MTr s v I J ∧ WtOk v t c w ∧ (∀ q, q ≠ 114 → I q = I0 q) ∧ (∀ j, ¬ (60 * (3 * k + g) ≤ j ∧ j < 60 * (3 * k + g) + 60) → I 114 j = I0 114 j) ∧ (∀ j, j < i → I 114 (60 * (3 * k + g) + j) = iN (w j)) ∧ ∀ I' : MI, (∀ q, q ≠ 114 → I' q = I0 q) → (∀ j, ¬ (60 * (3 * k + g) ≤ j ∧ j < 60 * (3 * k + g) + 60) → I' 114 j = I0 114 j) → (∀ i, i < 60 → I' 114 (60 * (3 * k + g) + i) = iN (w i)) → K (.inl none) C I' J R
theorem S_X2_takeWeights (l : Launch) : SpX2_takeWeights l F_X2_takeWeights := by
  refine wX2_takeWeights V_X2_takeWeights_3 ?_ ?_
  · rintro As C I J R K ⟨s, v, k, g, t, c, w, rfl, hk, hg, ht, hc, hcs, hM, hT, hw, hK⟩
    exact ⟨1, _, _, _, _, rfl, 60 - 0, I, s, v, k, g, t, c, 0, w, rfl, rfl, rfl, rfl, rfl, rfl, Nat.zero_le _, rfl, hk, hg, ht, hc, hcs, hM, hT, hw, fun _ _ => rfl, fun _ _ => rfl, fun j hj => absurd hj (Nat.not_lt_zero _), hK⟩
  · rintro n K x0 x1 x2 x3 x4 x5 C I J R ⟨I0, s, v, k, g, t, c, i, w, rfl, rfl, rfl, rfl, rfl, rfl, hi, rfl, hk, hg, ht, hc, hcs, hM, hT, hw, f1, f2, f3, hK⟩
    obtain ⟨e3, e4, b3, b4, e5⟩ := hT t ht
    unfold PX2_takeWeights_3 PX2_takeWeights_49
    rw [le_l_60 (by omega), iN_le (by omega) (by omega), mul_l_3, iN_add, mul_l_60, iN_add, mul_l_60, iN_add]
    by_cases e60 : i = 60
    · subst e60
      exact ⟨fun _ => hK I f1 f2 f3, fun z => absurd (Nat.le_refl _) z⟩
    have c14 := cArr hM.c14 (show 60 * (3 * k + g) + i < 3600 by omega) (by omega)
    have nx : ∀ u : Int32, u = iN (w i) → ∀ I4 : MI, I4 = va_up I 114 (va_up (I 114) (iN (60 * (3 * k + g) + i)).toNatClampNeg u) → ∃ m, m < 60 - i ∧ V_X2_takeWeights_3 m K 1 (iN k) (iN g) (iN t) (iN c) (iN i + 1) C I4 J R := fun u hu I4 e => by
      subst e
      rw [iN_nat (by omega)]
      refine ⟨60 - (i + 1), by omega, I0, s, v, k, g, t, c, i + 1, w, rfl, rfl, rfl, rfl, rfl, iN_add i 1, by omega, rfl, hk, hg, ht, hc, hcs, hM, ?_, hw, fun q hq => ?_, fun j hj => ?_, fun j hj => ?_, hK⟩
      · unfold MTr at hT ⊢
        rw [va_up_ne _ _ (by decide), va_up_ne _ _ (by decide)]
        exact hT
      · rw [va_up_ne _ _ hq]
        exact f1 q hq
      · rw [va_up_self, va_up_ne _ _ (by omega)]
        exact f2 j hj
      · rw [va_up_self]
        by_cases e : j = i
        · rw [e, va_up_self]
          exact hu
        · rw [va_up_ne _ _ (by omega)]
          exact f3 j (by omega)
    refine ⟨fun z => absurd z (by omega), fun z => ⟨hM.o, fun z2 => ⟨114, hM.r14, c14.1, c14.2, nx _ ?_⟩, fun z2 => ?_⟩⟩
    · rw [hw.2.1 i z2]
      rfl
    · have c5 := cArr hM.c5 (show 60 * t + i < 240 by omega) (by omega)
      refine ⟨105, hM.r5, c5.1, c5.2, 114, hM.r14, c14.1, c14.2, nx _ ?_⟩
      have h5 := hw.1 i (by omega)
      rw [iN_nat (by omega), e5 i (by omega), h5.1]
      exact jN_32 (by omega)
