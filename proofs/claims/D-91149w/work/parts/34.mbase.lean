/-! CONTRACTS 6: the reference's small methods; shares compared, by both sides -/
set_option maxRecDepth 100000
set_option linter.unusedVariables false
def F_X2_at : SPF := fun As C I J R K => ∃ (x0 : Int32) (x1 : Int32), As = [aI x0, aI x1] ∧ PX2_at_0 K x0 x1 C I J R
theorem S_X2_at (l : Launch) : SpX2_at l F_X2_at := wX2_at (fun _ _ _ _ _ _ h => h)
def F_X2_isTray : SPF := fun As C I J R K => ∃ (x0 : Int32), As = [aI x0] ∧ PX2_isTray_0 K x0 C I J R
theorem S_X2_isTray (l : Launch) : SpX2_isTray l F_X2_isTray := wX2_isTray (fun _ _ _ _ _ _ h => h)
def F_X2_isThing : SPF := fun As C I J R K => ∃ (x0 : Nat) (x1 : Int32), As = [aR (some x0), aI x1] ∧ PX2_isThing_0 K x0 x1 C I J R
theorem S_X2_isThing (l : Launch) : SpX2_isThing l F_X2_isThing := wX2_isThing (fun _ _ _ _ _ _ h => h)
def F_X2_isLeaf : SPF := fun As C I J R K => ∃ (x0 : Nat) (x1 : Int32), As = [aR (some x0), aI x1] ∧ PX2_isLeaf_0 F_X2_isThing K x0 x1 C I J R
theorem S_X2_isLeaf (l : Launch) : SpX2_isLeaf l F_X2_isLeaf := wX2_isLeaf (S_X2_isThing l) (fun _ _ _ _ _ _ h => h)
def F_X2_is : SPF := fun As C I J R K => ∃ (x0 : Nat) (x1 : Int32), As = [aR (some x0), aI x1] ∧ PX2_is_0 K x0 x1 C I J R
theorem S_X2_is (l : Launch) : SpX2_is l F_X2_is := wX2_is (fun _ _ _ _ _ _ h => h)
def F_X2_refuse : SPF := fun As C I J R K => ∃ (x0 : Nat) (x1 : Int32), As = [aR (some x0), aI x1] ∧ PX2_refuse_0 K x0 x1 C I J R
theorem S_X2_refuse (l : Launch) : SpX2_refuse l F_X2_refuse := wX2_refuse (fun _ _ _ _ _ _ h => h)
def F_X2_cut : SPF := fun As C I J R K => ∃ (x0 : Int64) (x2 : Int32), As = [aJ x0, aI x2] ∧ PX2_cut_0 K x0 x2 C I J R
theorem S_X2_cut (l : Launch) : SpX2_cut l F_X2_cut := wX2_cut (fun _ _ _ _ _ _ h => h)
def F_X2_isPrice : SPF := fun As C I J R K => ∃ (x0 : Int32), As = [aI x0] ∧ PX2_isPrice_0 K x0 C I J R
theorem S_X2_isPrice (l : Launch) : SpX2_isPrice l F_X2_isPrice := wX2_isPrice (fun _ _ _ _ _ _ h => h)
def F_X2_isShare : SPF := fun As C I J R K => ∃ (x0 : Int32) (x1 : Int32), As = [aI x0, aI x1] ∧ PX2_isShare_0 K x0 x1 C I J R
theorem S_X2_isShare (l : Launch) : SpX2_isShare l F_X2_isShare := wX2_isShare (fun _ _ _ _ _ _ h => h)
def F_X2_status : SPF := fun As C I J R K => ∃ (x0 : Nat), As = [aR (some x0)] ∧ PX2_status_0 K x0 C I J R
theorem S_X2_status (l : Launch) : SpX2_status l F_X2_status := wX2_status (fun _ _ _ _ _ _ h => h)
def F_X2_top : SPF := fun As C I J R K => ∃ (x0 : Nat), As = [aR (some x0)] ∧ PX2_top_0 K x0 C I J R
theorem S_X2_top (l : Launch) : SpX2_top l F_X2_top := wX2_top (fun _ _ _ _ _ _ h => h)
def F_X2_bottom : SPF := fun As C I J R K => ∃ (x0 : Nat), As = [aR (some x0)] ∧ PX2_bottom_0 K x0 C I J R
theorem S_X2_bottom (l : Launch) : SpX2_bottom l F_X2_bottom := wX2_bottom (fun _ _ _ _ _ _ h => h)
def F_X2_product : SPF := fun As C I J R K => ∃ (x0 : Nat) (x1 : Int64) (x3 : Int64), As = [aR (some x0), aJ x1, aJ x3] ∧ PX2_product_0 K x0 x1 x3 C I J R
theorem S_X2_product (l : Launch) : SpX2_product l F_X2_product := wX2_product (fun _ _ _ _ _ _ h => h)
def F_X2_wrong : SPF := fun As C I J R K => ∃ (x0 : Nat) (x1 : Int32) (x2 : Int32), As = [aR (some x0), aI x1, aI x2] ∧ PX2_wrong_0 F_X2_isTray K x0 x1 x2 C I J R
theorem S_X2_wrong (l : Launch) : SpX2_wrong l F_X2_wrong := wX2_wrong (S_X2_isTray l) (fun _ _ _ _ _ _ h => h)
def F_X0_isShare : SPF := fun As C I J R K => ∃ (x0 : Int32) (x1 : Int32), As = [aI x0, aI x1] ∧ PX0_isShare_0 K x0 x1 C I J R
theorem S_X0_isShare (l : Launch) : SpX0_isShare l F_X0_isShare := wX0_isShare (fun _ _ _ _ _ _ h => h)
section MB
variable {C : MC} {I : MI} {J : MJ} {R : MR} {K : AK}
theorem at_eq (a b : Nat) : F_X2_at [aI (iN a), aI (iN b)] C I J R K = K (.inl (some (aI (iN (121 * a + b))))) C I J R := propext ⟨fun ⟨x0, x1, h, hh⟩ => by
  cases h
  have h1 : K (.inl (some (aI ((121 : Int32) * iN a + iN b)))) C I J R := hh
  rw [mul_l_121, iN_add] at h1
  exact h1, fun h => ⟨iN a, iN b, rfl, by
  show K (.inl (some (aI ((121 : Int32) * iN a + iN b)))) C I J R
  rw [mul_l_121, iN_add]
  exact h⟩⟩
end MB
def F_X2_by0 : SPF := fun As C I J R K => ∃ t i : Nat, As = [aR (some 1), aI (iN t), aI (iN i)] ∧ t < 20 ∧ i < 121 ∧ MS C R ∧ K (.inl (some (aJ (sJ (fun x => J 122 (121 * t + x)) (i + 1))))) C I J R
def V_X2_by0_5 (n : Nat) (K : AK) (x0 : Nat) (x1 : Int32) (x2 : Int32) (x3 : Int64) (x5 : Int32) (C : MC) (I : MI) (J : MJ) (R : MR) : Prop := ∃ t i m : Nat, x0 = 1 ∧ x1 = iN t ∧ x2 = iN i ∧ x5 = iN m ∧ m ≤ i + 1 ∧ n = i + 1 - m ∧ t < 20 ∧ i < 121 ∧ MS C R ∧ x3 = sJ (fun x => J 122 (121 * t + x)) m ∧ K (.inl (some (aJ (sJ (fun x => J 122 (121 * t + x)) (i + 1))))) C I J R
theorem S_X2_by0 (l : Launch) : SpX2_by0 l F_X2_by0 := by
  refine wX2_by0 (S_X2_at l) V_X2_by0_5 ?_ ?_
  · rintro As C I J R K ⟨t, i, rfl, ht, hi, hM, hK⟩
    exact ⟨1, iN t, iN i, rfl, _, t, i, 0, rfl, rfl, rfl, rfl, Nat.zero_le _, rfl, ht, hi, hM, rfl, hK⟩
  · rintro n K x0 x1 x2 x3 x5 C I J R ⟨t, i, m, rfl, rfl, rfl, rfl, hm, rfl, ht, hi, hM, rfl, hK⟩
    unfold PX2_by0_5
    simp (config := { contextual := true }) (disch := omega) only [at_eq, MS.o hM, MS.r22 hM, MS.c22 hM, le_l_1, lt_l_1, lt_r_1, le_r_1, eq_r_1, mul_l_1, add_r_1, Option.some.injEq, Sum.inl.injEq, Sum.inr.injEq, exists_eq_left', forall_eq, true_and, and_true, false_implies, true_implies, not_false_eq_true, not_true_eq_false, vpT, vp0, tn0, iN_nat, nI_iN, iN_add, iN_lt, iN_le, aI_inj, aJ_inj, aR_inj]
    refine ⟨fun c => ?_, fun c => ⟨_, by omega, t, i, m + 1, rfl, rfl, rfl, rfl, by omega, rfl, ht, hi, hM, rfl, hK⟩⟩
    obtain rfl : m = i + 1 := by omega
    exact hK
def F_X2_clear : SPF := fun As C I J R K => ∃ q N : Nat, As = [aR (some 1), aR (some q)] ∧ C q = (21, N) ∧ N < 2 ^ 31 ∧ ∀ J' : MJ, Fr [q] J J' → (∀ i, i < N → J' q i = 0) → K (.inl none) C I J' R
def V_X2_clear_2 (n : Nat) (K : AK) (x1 : Nat) (x2 : Int32) (C : MC) (I : MI) (J : MJ) (R : MR) : Prop := ∃ (J0 : MJ) (N m : Nat), x2 = iN m ∧ m ≤ N ∧ n = N - m ∧ C x1 = (21, N) ∧ N < 2 ^ 31 ∧ Fr [x1] J0 J ∧ (∀ i, i < m → J x1 i = 0) ∧ ∀ J' : MJ, Fr [x1] J0 J' → (∀ i, i < N → J' x1 i = 0) → K (.inl none) C I J' R
theorem S_X2_clear (l : Launch) : SpX2_clear l F_X2_clear := by
  refine wX2_clear V_X2_clear_2 ?_ ?_
  · rintro As C I J R K ⟨q, N, rfl, hC, hN, hK⟩
    exact ⟨1, q, rfl, _, J, N, 0, rfl, Nat.zero_le _, rfl, hC, hN, Fr.refl, fun i hi => absurd hi (Nat.not_lt_zero i), hK⟩
  · rintro n K x1 x2 C I J R ⟨J0, N, m, rfl, hm, rfl, hC, hN, hF, hz, hK⟩
    unfold PX2_clear_2
    simp (config := { contextual := true }) (disch := omega) only [hC, le_l_1, lt_l_1, lt_r_1, le_r_1, eq_r_1, mul_l_1, add_r_1, Option.some.injEq, Sum.inl.injEq, Sum.inr.injEq, exists_eq_left', forall_eq, true_and, and_true, false_implies, true_implies, not_false_eq_true, not_true_eq_false, vpT, vp0, tn0, iN_nat, nI_iN, iN_add, iN_lt, iN_le, aI_inj, aJ_inj, aR_inj]
    refine ⟨⟨by decide, by decide⟩, fun c => hK J hF (fun i hi => hz i (by omega)), fun c => ⟨_, by omega, J0, N, m + 1, rfl, by omega, rfl, hC, hN, hF.up (List.mem_singleton.mpr rfl), fun i hi => ?_, hK⟩⟩
    rw [va_up_self, up_val]
    by_cases e : i = m
    · rw [if_pos e]
    · rw [if_neg e]
      exact hz i (by omega)
def F_X2_common : SPF := fun As C I J R K => ∃ a b : Nat, As = [aJ (jN a), aJ (jN b)] ∧ a < 2 ^ 63 ∧ b < 2 ^ 63 ∧ K (.inl (some (aJ (jN (Nat.gcd a b))))) C I J R
def V_X2_common_6 (n : Nat) (K : AK) (x4 : Int64) (x6 : Int64) (C : MC) (I : MI) (J : MJ) (R : MR) : Prop := ∃ a b : Nat, x4 = jN a ∧ x6 = jN b ∧ a < 2 ^ 63 ∧ b < 2 ^ 63 ∧ n = b ∧ K (.inl (some (aJ (jN (Nat.gcd a b))))) C I J R
theorem S_X2_common (l : Launch) : SpX2_common l F_X2_common := by
  refine wX2_common V_X2_common_6 ?_ ?_
  · rintro As C I J R K ⟨a, b, rfl, ha, hb, hK⟩
    exact ⟨jN a, jN b, rfl, _, a, b, rfl, rfl, ha, hb, rfl, hK⟩
  · rintro n K x4 x6 C I J R ⟨a, b, rfl, rfl, ha, hb, hn, hK⟩
    unfold PX2_common_6
    refine ⟨fun w => ?_, fun w => ?_⟩
    · have e := (jN_eq0 hb).mp w
      subst e
      rw [Nat.gcd_zero_right] at hK
      exact hK
    · have hb0 : 0 < b := Nat.pos_of_ne_zero (fun e => w ((jN_eq0 hb).mpr e))
      have hlt := Nat.mod_lt a hb0
      refine ⟨w, a % b, by omega, b, a % b, rfl, jN_mod ha hb, hb, by omega, rfl, ?_⟩
      rw [Nat.gcd_comm b (a % b), ← Nat.gcd_rec, Nat.gcd_comm b a]
      exact hK
/-! shares compared -/
def enI (p : Prop) [Decidable p] : Int32 := if p then 1 else 0
theorem en_congr {p q : Prop} [Decidable p] [Decidable q] (h : p ↔ q) : enI p = enI q := by
  unfold enI
  by_cases e : p
  · rw [if_pos e, if_pos (h.mp e)]
  · rw [if_neg e, if_neg (fun w => e (h.mpr w))]
theorem en_yes {p : Prop} [Decidable p] (h : p) : enI p = 1 := if_pos h
theorem en_no {p : Prop} [Decidable p] (h : ¬ p) : enI p = 0 := if_neg h
theorem share_step {p q r s : Nat} (hq : 0 < q) (hs : 0 < s) (h : p / q = r / s) : (r * q ≤ p * s ↔ (r % s) * q ≤ (p % q) * s) ∧ (p * s ≤ r * q ↔ (p % q) * s ≤ (r % s) * q) := by
  have h1 := Nat.div_add_mod p q
  have h2 := Nat.div_add_mod r s
  generalize p % q = x at *
  generalize r % s = y at *
  rw [h] at h1
  generalize r / s = k at *
  subst h1
  subst h2
  have e : q * k * s = s * k * q := by
    rw [Nat.mul_comm q k, Nat.mul_comm s k, Nat.mul_assoc, Nat.mul_assoc, Nat.mul_comm q s]
  rw [Nat.add_mul, Nat.add_mul, e]
  constructor <;> omega
theorem share_ne {p q r s : Nat} (hq : 0 < q) (hs : 0 < s) (h : r / s < p / q) : r * q < p * s := by
  have h1 : (r / s + 1) * q ≤ p := (Nat.le_div_iff_mul_le hq).mp h
  have h2 : r < (r / s + 1) * s := by
    have := Nat.lt_mul_div_succ r hs
    rw [Nat.mul_comm s] at this
    exact this
  calc r * q < (r / s + 1) * s * q := Nat.mul_lt_mul_of_pos_right h2 hq
    _ = (r / s + 1) * q * s := by rw [Nat.mul_assoc, Nat.mul_comm s q, ← Nat.mul_assoc]
    _ ≤ p * s := Nat.mul_le_mul_right s h1
def F_X0_isEnough : SPF := fun As C I J R K => ∃ a b c d : Nat, As = [aJ (jN a), aJ (jN b), aJ (jN c), aJ (jN d)] ∧ a < 2 ^ 63 ∧ b < 2 ^ 63 ∧ c < 2 ^ 31 ∧ d < 2 ^ 31 ∧ 0 < b ∧ 0 < d ∧ K (.inl (some (aI (enI (c * b ≤ a * d))))) C I J R
def V_X0_isEnough_17 (n : Nat) (K : AK) (x8 : Int64) (x10 : Int64) (x12 : Int64) (x14 : Int64) (x16 : Int32) (C : MC) (I : MI) (J : MJ) (R : MR) : Prop := ∃ p q r s : Nat, x8 = jN p ∧ x10 = jN q ∧ x12 = jN r ∧ x14 = jN s ∧ p < 2 ^ 63 ∧ q < 2 ^ 63 ∧ r < 2 ^ 63 ∧ s < 2 ^ 63 ∧ n = q ∧ (q = 0 → 0 < p) ∧ (s = 0 → 0 < r) ∧ ((x16 = 0 ∧ K (.inl (some (aI (enI (r * q ≤ p * s))))) C I J R) ∨ (x16 = 1 ∧ K (.inl (some (aI (enI (p * s ≤ r * q))))) C I J R))
theorem S_X0_isEnough (l : Launch) : SpX0_isEnough l F_X0_isEnough := by
  refine wX0_isEnough V_X0_isEnough_17 ?_ ?_
  · rintro As C I J R K ⟨a, b, c, d, rfl, ha, hb, hc, hd, hb0, hd0, hK⟩
    exact ⟨jN a, jN b, jN c, jN d, rfl, _, a, b, c, d, rfl, rfl, rfl, rfl, ha, hb, by omega, by omega, rfl, fun w => by omega, fun w => by omega, Or.inl ⟨rfl, hK⟩⟩
  · rintro n K x8 x10 x12 x14 x16 C I J R ⟨p, q, r, s, rfl, rfl, rfl, rfl, hp, hq, hr, hs, hn, h1, h2, hK⟩
    have e10 : (1 : Int32) = 0 ↔ False := by decide
    unfold PX0_isEnough_17 PX0_isEnough_90 PX0_isEnough_104 PX0_isEnough_118 PX0_isEnough_85
    by_cases hq0 : q = 0
    · subst hq0
      have hp0 := h1 rfl
      by_cases hs0 : s = 0
      · subst hs0
        have hr0 := h2 rfl
        rcases hK with ⟨rfl, hK⟩ | ⟨rfl, hK⟩
        · rw [en_yes (by omega)] at hK
          simpa [jN_0] using hK
        · rw [en_yes (by omega)] at hK
          simpa [jN_0] using hK
      · have hsz : ¬ jN s = 0 := fun w => hs0 ((jN_eq0 hs).mp w)
        have hps : 0 < p * s := Nat.mul_pos hp0 (by omega)
        rcases hK with ⟨rfl, hK⟩ | ⟨rfl, hK⟩
        · rw [en_yes (by omega)] at hK
          simpa [jN_0, hsz] using hK
        · rw [en_no (by omega)] at hK
          simpa [jN_0, hsz] using hK
    · have hqz : ¬ jN q = 0 := fun w => hq0 ((jN_eq0 hq).mp w)
      by_cases hs0 : s = 0
      · subst hs0
        have hr0 := h2 rfl
        have hrq : 0 < r * q := Nat.mul_pos hr0 (by omega)
        rcases hK with ⟨rfl, hK⟩ | ⟨rfl, hK⟩
        · rw [en_no (by omega)] at hK
          simpa [jN_0, hqz] using hK
        · rw [en_yes (by omega)] at hK
          simpa [jN_0, hqz] using hK
      · have hsz : ¬ jN s = 0 := fun w => hs0 ((jN_eq0 hs).mp w)
        have hd1 := Nat.div_le_self p q
        have hd2 := Nat.div_le_self r s
        rw [jN_div hp hq, jN_div hr hs, jN_inj (by omega) (by omega), jN_le (by omega) (by omega), jN_le (by omega) (by omega)]
        have m1 := jN_mod hp hq
        have m2 := jN_mod hr hs
        rw [jN_div hp hq] at m1
        rw [jN_div hr hs] at m2
        rw [m1, m2]
        have l1 := Nat.mod_lt p (show q > 0 by omega)
        have l2 := Nat.mod_lt r (show s > 0 by omega)
        by_cases he : p / q = r / s
        · have st := share_step (show 0 < q by omega) (show 0 < s by omega) he
          refine ⟨fun w => absurd w hqz, fun _ => ⟨fun w => absurd w hsz, fun _ => ⟨hqz, hsz, fun w => absurd he w, fun _ => ⟨fun w => ?_, fun w => ?_⟩⟩⟩⟩
          · rcases hK with ⟨rfl, hK⟩ | ⟨rfl, hK⟩
            · exact absurd rfl w
            · refine ⟨_, by omega, q, p % q, s, r % s, rfl, rfl, rfl, rfl, hq, by omega, hs, by omega, rfl, fun _ => by omega, fun _ => by omega, Or.inl ⟨rfl, ?_⟩⟩
              rw [en_congr st.2, Nat.mul_comm (p % q), Nat.mul_comm (r % s)] at hK
              exact hK
          · rcases hK with ⟨rfl, hK⟩ | ⟨rfl, hK⟩
            · refine ⟨_, by omega, q, p % q, s, r % s, rfl, rfl, rfl, rfl, hq, by omega, hs, by omega, rfl, fun _ => by omega, fun _ => by omega, Or.inr ⟨rfl, ?_⟩⟩
              rw [en_congr st.1, Nat.mul_comm (p % q), Nat.mul_comm (r % s)] at hK
              exact hK
            · exact absurd w (by decide)
        · refine ⟨fun w => absurd w hqz, fun _ => ⟨fun w => absurd w hsz, fun _ => ⟨hqz, hsz, fun _ => ⟨fun w => absurd w hqz, fun _ => ⟨fun _ => ⟨fun w => ?_, fun w => ?_⟩, fun w => absurd w hsz⟩⟩, fun w => absurd w he⟩⟩⟩
          · refine ⟨hqz, hsz, fun c => ?_, fun c => ?_⟩
            · have h3 := share_ne (p := r) (q := s) (r := p) (s := q) (by omega) (by omega) (by omega)
              rcases hK with ⟨-, hK⟩ | ⟨e, hK⟩
              · rw [en_no (by omega)] at hK
                exact hK
              · rw [e] at w
                exact absurd w (by decide)
            · have h3 := share_ne (p := p) (q := q) (r := r) (s := s) (by omega) (by omega) (by omega)
              rcases hK with ⟨-, hK⟩ | ⟨e, hK⟩
              · rw [en_yes (by omega)] at hK
                exact hK
              · rw [e] at w
                exact absurd w (by decide)
          · refine ⟨hqz, hsz, fun c => ?_, fun c => ?_⟩
            · have h3 := share_ne (p := p) (q := q) (r := r) (s := s) (by omega) (by omega) (by omega)
              rcases hK with ⟨e, hK⟩ | ⟨-, hK⟩
              · exact absurd e w
              · rw [en_no (by omega)] at hK
                exact hK
            · have h3 := share_ne (p := r) (q := s) (r := p) (s := q) (by omega) (by omega) (by omega)
              rcases hK with ⟨e, hK⟩ | ⟨-, hK⟩
              · exact absurd e w
              · rw [en_yes (by omega)] at hK
                exact hK
def F_X2_isEnough : SPF := F_X0_isEnough
def V_X2_isEnough_20 (n : Nat) (K : AK) (x8 : Int64) (x10 : Int64) (x12 : Int64) (x14 : Int64) (x16 : Int32) (x17 : Int32) (C : MC) (I : MI) (J : MJ) (R : MR) : Prop := ∃ p q r s m : Nat, x8 = jN p ∧ x10 = jN q ∧ x12 = jN r ∧ x14 = jN s ∧ x17 = iN m ∧ p < 2 ^ 63 ∧ q < 2 ^ 63 ∧ r < 2 ^ 63 ∧ s < 2 ^ 63 ∧ n = q ∧ 0 < q ∧ 0 < s ∧ m ≤ 64 ∧ ((m = 0 ∧ r * s ≤ 2 ^ 62) ∨ (s ≤ r ∧ r * s * 2 ^ m ≤ 2 ^ 63)) ∧ ((x16 = 0 ∧ K (.inl (some (aI (enI (r * q ≤ p * s))))) C I J R) ∨ (x16 = 1 ∧ K (.inl (some (aI (enI (p * s ≤ r * q))))) C I J R))
theorem S_X2_isEnough (l : Launch) : SpX2_isEnough l F_X2_isEnough := by
  refine wX2_isEnough V_X2_isEnough_20 ?_ ?_
  · rintro As C I J R K ⟨a, b, c, d, rfl, ha, hb, hc, hd, hb0, hd0, hK⟩
    refine ⟨jN a, jN b, jN c, jN d, rfl, _, a, b, c, d, 0, rfl, rfl, rfl, rfl, rfl, ha, hb, by omega, by omega, rfl, hb0, hd0, by omega, Or.inl ⟨rfl, ?_⟩, Or.inl ⟨rfl, hK⟩⟩
    have : c * d ≤ 2 ^ 31 * 2 ^ 31 := Nat.mul_le_mul (by omega) (by omega)
    omega
  · rintro n K x8 x10 x12 x14 x16 x17 C I J R ⟨p, q, r, s, m, rfl, rfl, rfl, rfl, rfl, hp, hq, hr, hs, hn, hq0, hs0, hm, hb, hK⟩
    have hm2 : m ≤ 63 := by
      rcases hb with ⟨h0, -⟩ | ⟨h1, h2⟩
      · omega
      · refine Nat.le_of_not_lt (fun w => ?_)
        have a1 : m = 64 := by omega
        subst a1
        have a2 : 1 ≤ r * s := Nat.mul_pos (by omega) hs0
        have a3 := Nat.mul_le_mul_right (2 ^ 64) a2
        omega
    have hqz : ¬ jN q = 0 := fun w => absurd ((jN_eq0 hq).mp w) (by omega)
    have hsz : ¬ jN s = 0 := fun w => absurd ((jN_eq0 hs).mp w) (by omega)
    have hd1 := Nat.div_le_self p q
    have hd2 := Nat.div_le_self r s
    have l1 := Nat.mod_lt p hq0
    have l2 := Nat.mod_lt r hs0
    have m1 := jN_mod hp hq
    have m2 := jN_mod hr hs
    unfold PX2_isEnough_20 PX2_isEnough_104 PX2_isEnough_118 PX2_isEnough_130 PX2_isEnough_63 PX2_isEnough_167
    rw [m1, m2, jN_div hp hq, jN_div hr hs, jN_inj (by omega) (by omega), jN_le (by omega) (by omega), jN_eq0 (show p % q < 2 ^ 63 by omega), jN_eq0 (show r % s < 2 ^ 63 by omega)]
    have z0 : ∀ {x : Nat}, x < 2 ^ 63 → (jN x ≤ (0 : Int64) ↔ x = 0) := fun {x} hx => by
      rw [show (0 : Int64) = jN 0 from rfl, jN_le hx (by omega)]
      omega
    rw [z0 (show p % q < 2 ^ 63 by omega)]
    refine ⟨fun c => absurd ((iN_le (a := 200) (by decide) (by omega)).mp c) (by omega), fun _ => ⟨hqz, hsz, fun he => ?_, fun he => ?_⟩⟩
    · have st := share_step hq0 hs0 he
      have z1 : p % q = 0 → p % q * s = 0 := fun w => by rw [w, Nat.zero_mul]
      have z2 : r % s = 0 → r % s * q = 0 := fun w => by rw [w, Nat.zero_mul]
      have z3 : ¬ p % q = 0 → 0 < p % q * s := fun w => Nat.mul_pos (by omega) hs0
      have z4 : ¬ r % s = 0 → 0 < r % s * q := fun w => Nat.mul_pos (by omega) hq0
      have more : ¬ p % q = 0 → ¬ r % s = 0 → ∀ x : Int32, ((x = 1 ∧ x16 = 0) ∨ (x = 0 ∧ x16 = 1)) → ∃ n', n' < n ∧ V_X2_isEnough_20 n' K (jN q) (jN (p % q)) (jN s) (jN (r % s)) x (iN m + 1) C I J R := by
        intro w1 w2 x hx
        refine ⟨p % q, by omega, q, p % q, s, r % s, m + 1, rfl, rfl, rfl, rfl, iN_add m 1, hq, by omega, hs, by omega, rfl, by omega, by omega, by omega, Or.inr ⟨by omega, ?_⟩, ?_⟩
        · rcases hb with ⟨h0, h1⟩ | ⟨h1, h2⟩
          · subst h0
            have a1 : s * (r % s) ≤ s * r := Nat.mul_le_mul_left s (Nat.mod_le r s)
            rw [Nat.mul_comm s r] at a1
            omega
          · have a0 : 1 ≤ r / s := Nat.div_pos h1 hs0
            have a1 : s * 1 ≤ s * (r / s) := Nat.mul_le_mul_left s a0
            have a2 := Nat.div_add_mod r s
            have a3 : 2 * (r % s) ≤ r := by omega
            have a4 : s * (2 * (r % s)) * 2 ^ m ≤ s * r * 2 ^ m := Nat.mul_le_mul_right _ (Nat.mul_le_mul_left s a3)
            rw [Nat.mul_comm s r] at a4
            have a5 : s * (r % s) * 2 ^ (m + 1) = s * (2 * (r % s)) * 2 ^ m := by
              rw [Nat.pow_succ, Nat.mul_comm 2 (r % s), ← Nat.mul_assoc, ← Nat.mul_assoc, Nat.mul_right_comm _ (2 ^ m) 2]
            omega
        · rcases hx with ⟨rfl, h16⟩ | ⟨rfl, h16⟩
          · rcases hK with ⟨-, hK⟩ | ⟨e, -⟩
            · rw [en_congr st.1, Nat.mul_comm (p % q), Nat.mul_comm (r % s)] at hK
              exact Or.inr ⟨rfl, hK⟩
            · rw [e] at h16
              exact absurd h16 (by decide)
          · rcases hK with ⟨e, -⟩ | ⟨-, hK⟩
            · rw [e] at h16
              exact absurd h16 (by decide)
            · rw [en_congr st.2, Nat.mul_comm (p % q), Nat.mul_comm (r % s)] at hK
              exact Or.inl ⟨rfl, hK⟩
      rw [en_congr st.1, en_congr st.2] at hK
      by_cases w1 : p % q = 0
      · by_cases w2 : r % s = 0
        · have hK1 : K (.inl (some (aI 1))) C I J R := by
            have := z1 w1
            have := z2 w2
            rcases hK with ⟨-, hK⟩ | ⟨-, hK⟩
            · rw [en_yes (by omega)] at hK
              exact hK
            · rw [en_yes (by omega)] at hK
              exact hK
          simpa [w1, w2] using hK1
        · have a1 := z1 w1
          have a2 := z4 w2
          rcases hK with ⟨rfl, hK⟩ | ⟨rfl, hK⟩
          · rw [en_no (by omega)] at hK
            simpa [w1, w2] using hK
          · rw [en_yes (by omega)] at hK
            simpa [w1, w2] using hK
      · by_cases w2 : r % s = 0
        · have a1 := z3 w1
          have a2 := z2 w2
          rcases hK with ⟨rfl, hK⟩ | ⟨rfl, hK⟩
          · rw [en_yes (by omega)] at hK
            simpa [w1, w2] using hK
          · rw [en_no (by omega)] at hK
            simpa [w1, w2] using hK
        · refine ⟨fun _ => ⟨fun w => absurd w w1, fun _ => ⟨fun _ => ⟨fun w => more w1 w2 0 (Or.inr ⟨rfl, hK.elim (fun h => absurd h.1 w) (fun h => h.1)⟩), fun w => more w1 w2 1 (Or.inl ⟨rfl, w⟩)⟩, fun w => absurd w w2⟩⟩, fun w => absurd w w1⟩
    · rcases Nat.lt_or_ge (r / s) (p / q) with c | c
      · have h3 := share_ne hq0 hs0 c
        have hc : ¬ p / q ≤ r / s := by omega
        rcases hK with ⟨rfl, hK⟩ | ⟨rfl, hK⟩
        · rw [en_yes (by omega)] at hK
          simpa [hc] using hK
        · rw [en_no (by omega)] at hK
          simpa [hc] using hK
      · have h3 := share_ne (p := r) (q := s) (r := p) (s := q) hs0 hq0 (by omega)
        rcases hK with ⟨rfl, hK⟩ | ⟨rfl, hK⟩
        · rw [en_no (by omega)] at hK
          simpa [c] using hK
        · rw [en_yes (by omega)] at hK
          simpa [c] using hK
