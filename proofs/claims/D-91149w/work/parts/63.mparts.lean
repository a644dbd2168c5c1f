/-! PARTS: the reference's wrongParts; its row, fan, cache, retry, hedge -/
set_option maxRecDepth 100000
set_option linter.unusedVariables false
def PtsX (s : St) (X : Nat → Int32) (m : Nat) (p : Nat → Nat) : Prop := m ≤ 4 ∧ (∀ i, i < m → X i = iN (p i) ∧ p i < s 6 0) ∧ ∀ i, m ≤ i → i < 4 → X i = -1
def FrP (s : St) (m : Nat) (p : Nat → Nat) : Prop := (∀ i, i < m → s 11 (p i) = 0) ∧ ∀ i j, i < j → j < m → p i ≠ p j
def W_new (X : Nat → Int32) (G : Nat → Prop) (kd a c : Nat) : St → Tv → Int64 → Int64 → KC → Prop := fun s v a' b' Kc => ((¬ ∃ m p, PtsX s X m p ∧ G m) → Kc (aI (-1)) s v 1 a' b') ∧ ∀ m p, PtsX s X m p → G m → (s 6 0 = 20 → Kc (aI (-1)) s v 4 a' b') ∧ (s 6 0 < 20 → (¬ FrP s m p → Kc (aI (-1)) s v 5 a' b') ∧ (FrP s m p → Kc (aI (iN (s 6 0))) (adS s kd m a c p (fun _ => 0)) v 0 a' b'))
def P4 (a b c d : Int32) : Nat → Int32 := fun i => match i with
  | 0 => a
  | 1 => b
  | 2 => c
  | _ => d
def WpK (s : St) (X : Nat → Int32) (e : Nat) (C : MC) (I : MI) (J : MJ) (R : MR) (K : AK) : Prop := ((¬ ∃ m p, PtsX s X m p ∧ e ≤ m) → K (.inl (some (aI 1))) C I J R) ∧ ∀ m p, PtsX s X m p → e ≤ m → (s 6 0 = 20 → K (.inl (some (aI 4))) C I J R) ∧ (s 6 0 < 20 → (¬ FrP s m p → K (.inl (some (aI 5))) C I J R) ∧ (FrP s m p → K (.inl (some (aI 0))) C I J R))
def F_X2_wrongParts : SPF := fun As C I J R K => ∃ (s : St) (X : Nat → Int32) (e : Nat), As = [aR (some 1), aI (X 0), aI (X 1), aI (X 2), aI (X 3), aI (iN e)] ∧ e ≤ 2 ∧ (C 5).1 = 0 ∧ MS C R ∧ MI1 s I ∧ Vd s ∧ ∀ (C' : MC) (I' : MI) (J' : MJ) (R' : MR), (∀ q, q ≠ 5 → C' q = C q ∧ I' q = I q ∧ J' q = J q ∧ R' q = R q) → WpK s X e C' I' J' R' K
def WpI (s : St) (X : Nat → Int32) (e : Nat) (C : MC) (I : MI) (J : MJ) (R : MR) (K : AK) : Prop := e ≤ 2 ∧ C 5 = (20, 4) ∧ (∀ i, i < 4 → I 5 i = X i) ∧ MS C R ∧ MI1 s I ∧ Vd s ∧ WpK s X e C I J R K
def V_X2_wrongParts_32 (n : Nat) (K : AK) (x0 : Nat) (x5 : Int32) (x6 : Nat) (x7 : Int32) (x8 : Int32) (C : MC) (I : MI) (J : MJ) (R : MR) : Prop := ∃ (s : St) (X : Nat → Int32) (e i m : Nat) (p : Nat → Nat), x0 = 1 ∧ x5 = iN e ∧ x6 = 5 ∧ x7 = (if m = i then (0 : Int32) else 1) ∧ x8 = iN i ∧ i ≤ 4 ∧ n = 100 - i ∧ m ≤ i ∧ (∀ j, j < m → X j = iN (p j) ∧ p j < s 6 0) ∧ (∀ j, m ≤ j → j < i → X j = -1) ∧ (m < i → e ≤ m) ∧ WpI s X e C I J R K
def V_X2_wrongParts_99 (n : Nat) (K : AK) (x0 : Nat) (x6 : Nat) (x8 : Int32) (C : MC) (I : MI) (J : MJ) (R : MR) : Prop := ∃ (s : St) (X : Nat → Int32) (e i m : Nat) (p : Nat → Nat), x0 = 1 ∧ x6 = 5 ∧ x8 = iN i ∧ i ≤ 4 ∧ n = 10 * (4 - i) + 9 ∧ PtsX s X m p ∧ e ≤ m ∧ s 6 0 < 20 ∧ (∀ j, j < i → j < m → s 11 (p j) = 0) ∧ (∀ j j', j < j' → j' < i → j' < m → p j ≠ p j') ∧ WpI s X e C I J R K
def V_X2_wrongParts_136 (n : Nat) (K : AK) (x0 : Nat) (x6 : Nat) (x8 : Int32) (x9 : Int32) (C : MC) (I : MI) (J : MJ) (R : MR) : Prop := ∃ (s : St) (X : Nat → Int32) (e i j m : Nat) (p : Nat → Nat), x0 = 1 ∧ x6 = 5 ∧ x8 = iN i ∧ x9 = iN j ∧ i < m ∧ j ≤ i ∧ n = 10 * (4 - i) + (8 - j) ∧ PtsX s X m p ∧ e ≤ m ∧ s 6 0 < 20 ∧ (∀ j, j ≤ i → s 11 (p j) = 0) ∧ (∀ j j', j < j' → j' < i → p j ≠ p j') ∧ (∀ j', j' < j → p j' ≠ p i) ∧ WpI s X e C I J R K
theorem S_X2_wrongParts (l : Launch) : SpX2_wrongParts l F_X2_wrongParts := by
  refine wX2_wrongParts (S_X2_isThing l) V_X2_wrongParts_32 V_X2_wrongParts_99 V_X2_wrongParts_136 ?_ ?_ ?_ ?_
  · rintro As C I J R K ⟨s, X, e, rfl, he, h5, hM, hI, hV, hK⟩
    have hn := hV.1
    refine ⟨1, _, _, _, _, _, rfl, 5, h5, ?_⟩
    rintro C3 I4 J5 R6 rfl rfl rfl rfl
    have c5 : va_up C 5 (20, 4) 5 = (20, 4) := va_up_self _ _ _
    rw [c5]
    refine ⟨rfl, iN_in (a := 0) (by decide) (by decide), ?_⟩
    rintro I9 rfl
    refine ⟨iN_in (a := 1) (by decide) (by decide), ?_⟩
    rintro I11 rfl
    refine ⟨iN_in (a := 2) (by decide) (by decide), ?_⟩
    rintro I13 rfl
    refine ⟨iN_in (a := 3) (by decide) (by decide), ?_⟩
    rintro I15 rfl
    have e0 : (0 : Int32).toNatClampNeg = 0 := by decide
    have e1 : (1 : Int32).toNatClampNeg = 1 := by decide
    have e2 : (2 : Int32).toNatClampNeg = 2 := by decide
    have e3 : (3 : Int32).toNatClampNeg = 3 := by decide
    rw [e0, e1, e2, e3]
    have far : ∀ q, q ≠ 5 → va_up (va_up (va_up (va_up (va_up I 5 (fun _ => 0)) 5 (va_up (va_up I 5 (fun _ => 0) 5) 0 (X 0))) 5 (va_up (va_up (va_up I 5 (fun _ => 0)) 5 (va_up (va_up I 5 (fun _ => 0) 5) 0 (X 0)) 5) 1 (X 1))) 5 (va_up (va_up (va_up (va_up I 5 (fun _ => 0)) 5 (va_up (va_up I 5 (fun _ => 0) 5) 0 (X 0))) 5 (va_up (va_up (va_up I 5 (fun _ => 0)) 5 (va_up (va_up I 5 (fun _ => 0) 5) 0 (X 0)) 5) 1 (X 1)) 5) 2 (X 2))) 5 (va_up (va_up (va_up (va_up (va_up I 5 (fun _ => 0)) 5 (va_up (va_up I 5 (fun _ => 0) 5) 0 (X 0))) 5 (va_up (va_up (va_up I 5 (fun _ => 0)) 5 (va_up (va_up I 5 (fun _ => 0) 5) 0 (X 0)) 5) 1 (X 1))) 5 (va_up (va_up (va_up (va_up I 5 (fun _ => 0)) 5 (va_up (va_up I 5 (fun _ => 0) 5) 0 (X 0))) 5 (va_up (va_up (va_up I 5 (fun _ => 0)) 5 (va_up (va_up I 5 (fun _ => 0) 5) 0 (X 0)) 5) 1 (X 1)) 5) 2 (X 2)) 5) 3 (X 3)) q = I q := fun q hq => by
      simp (disch := assumption) only [va_up_ne]
    refine ⟨100 - 0, s, X, e, 0, 0, fun _ => 0, rfl, rfl, rfl, (if_pos rfl).symm, rfl, Nat.zero_le _, rfl, Nat.zero_le _, fun j hj => absurd hj (Nat.not_lt_zero _), fun j _ hj => absurd hj (Nat.not_lt_zero _), fun h => absurd h (Nat.not_lt_zero _), he, c5, fun i hi => ?_, ?_, ?_, hV, hK _ _ _ _ (fun q hq => ⟨va_up_ne _ _ hq, far q hq, va_up_ne _ _ hq, va_up_ne _ _ hq⟩)⟩
    · have h4 : i = 0 ∨ i = 1 ∨ i = 2 ∨ i = 3 := by omega
      rcases h4 with rfl | rfl | rfl | rfl <;> simp (disch := omega) only [va_up_self, va_up_ne]
    · refine ⟨by rw [va_up_ne _ _ (by decide)]; exact hM.1, fun f hf => ?_⟩
      rw [va_up_ne _ _ (by decide), va_up_ne _ _ (by omega)]
      exact hM.2 f hf
    · unfold MI1 at hI ⊢
      rw [far 1 (by decide), far 107 (by decide), far 108 (by decide), far 109 (by decide), far 110 (by decide), far 111 (by decide), far 115 (by decide), far 114 (by decide)]
      exact hI
  · rintro n K x0 x5 x6 x7 x8 C I J R ⟨s, X, e, i, m, p, rfl, rfl, rfl, rfl, rfl, hi, rfl, hm, hp, hz, hg, hW⟩
    obtain ⟨he, c5, hX, hM, hI, hV, k1, k2⟩ := id hW
    have hn := hV.1
    unfold PX2_wrongParts_32 PX2_wrongParts_60 PX2_wrongParts_79
    rw [le_l_4 (by omega)]
    refine ⟨fun z => ⟨hM.o, ?_⟩, fun z => ⟨by rw [c5], by rw [c5]; exact iN_in (by omega) (by show i < 4; omega), ?_⟩⟩
    · obtain rfl : i = 4 := by omega
      have P : PtsX s X m p := ⟨hm, hp, hz⟩
      have em : e ≤ m := by
        by_cases e4 : m < 4
        · exact hg e4
        · omega
      rw [hI.1, show (iN (s 6 0) = (20 : Int32)) = (s 6 0 = 20) from propext (iN_inj (b := 20) (by omega) (by decide))]
      exact ⟨fun z2 => ⟨49, by omega, s, X, e, 0, m, p, rfl, rfl, rfl, Nat.zero_le _, rfl, P, em, by omega, fun j hj => absurd hj (Nat.not_lt_zero _), fun j j' _ hj => absurd hj (Nat.not_lt_zero _), hW⟩, fun z2 => (k2 m p P em).1 z2⟩
    · rw [iN_nat (by omega), hX i (by omega)]
      have go : (X i = -1 → i < e) → ((¬ (if m = i then (0 : Int32) else 1) = 0 → K (.inl (some (aI (1 : Int32)))) C I J R) ∧ ((if m = i then (0 : Int32) else 1) = 0 → (C 5).1 = 20 ∧ vp_in (iN i) (C 5).2 ∧ (C 1).1 = 3 ∧ F_X2_isThing [aR (some 1), aI (X i)] C I J R (fun o C5 I6 J7 R8 => ∃ r9 : Int32, o = .inl (some (aI r9)) ∧ ((¬ r9 = 0 → ∃ m', m' < 100 - i ∧ V_X2_wrongParts_32 m' K 1 (iN e) 5 (if m = i then (0 : Int32) else 1) (iN i + 1) C5 I6 J7 R8) ∧ (r9 = 0 → K (.inl (some (aI (1 : Int32)))) C5 I6 J7 R8))))) := fun hne => by
        refine ⟨fun g => k1 (fun ⟨m', p', P', em'⟩ => ?_), fun g => ⟨by rw [c5], by rw [c5]; exact iN_in (by omega) (by show i < 4; omega), hM.o, F_isThing_ok hI hM hn (fun ht => ⟨_, rfl, fun _ => ?_, fun c => absurd c (by decide)⟩) (fun ht => ⟨_, rfl, fun c => absurd rfl c, fun _ => k1 (fun ⟨m', p', P', em'⟩ => ?_)⟩)⟩⟩
        · have mi : m < i := by
            by_cases e1 : m = i
            · rw [if_pos e1] at g
              exact absurd rfl g
            · omega
          by_cases q : i < m'
          · have a := (P'.2.1 m (by omega))
            have b := hz m (Nat.le_refl _) mi
            rw [a.1] at b
            exact iN_m1 (by omega) b
          · have a := P'.2.2 i (by omega) (by omega)
            have := hne a
            omega
        · have mi : m = i := Classical.byContradiction (fun w => by
            rw [if_neg w] at g
            exact absurd g (by decide))
          obtain ⟨k, hk, hXk⟩ := ht
          refine ⟨100 - (i + 1), by omega, s, X, e, i + 1, i + 1, va_up p i k, rfl, rfl, rfl, ?_, iN_add i 1, by omega, rfl, Nat.le_refl _, fun j hj => ?_, fun j h1 h2 => absurd h2 (by omega), fun h => absurd h (Nat.lt_irrefl _), hW⟩
          · rw [if_pos mi, if_pos rfl]
          · by_cases e2 : j = i
            · rw [e2, va_up_self]
              exact ⟨hXk, hk⟩
            · rw [va_up_ne _ _ e2]
              exact hp j (by omega)
        · by_cases q : i < m'
          · exact ht ⟨p' i, (P'.2.1 i q).2, (P'.2.1 i q).1⟩
          · have a := P'.2.2 i (by omega) (by omega)
            have := hne a
            omega
      refine ⟨fun z2 => go (fun w => absurd w z2), fun z2 => ?_⟩
      rw [iN_lt (by omega) (by omega)]
      refine ⟨fun z3 => go (fun _ => z3), fun z3 => ⟨100 - (i + 1), by omega, s, X, e, i + 1, m, p, rfl, rfl, rfl, ?_, iN_add i 1, by omega, rfl, by omega, hp, fun j h1 h2 => ?_, fun _ => ?_, hW⟩⟩
      · rw [if_neg (by omega)]
      · by_cases e2 : j = i
        · rw [e2]
          exact z2
        · exact hz j h1 (by omega)
      · by_cases e2 : m < i
        · exact hg e2
        · omega
  · rintro n K x0 x6 x8 C I J R ⟨s, X, e, i, m, p, rfl, rfl, rfl, hi, rfl, P, em, hlt, hf, hd, hW⟩
    obtain ⟨he, c5, hX, hM, hI, hV, k1, k2⟩ := id hW
    have hn := hV.1
    have kk := (k2 m p P em).2 hlt
    unfold PX2_wrongParts_99 PX2_wrongParts_164
    rw [le_l_4 (by omega)]
    refine ⟨fun z => kk.2 ⟨fun j hj => hf j (by have := P.1; omega) hj, fun j j' h1 h2 => hd j j' h1 (by have := P.1; omega) h2⟩, fun z => ⟨by rw [c5], by rw [c5]; exact iN_in (by omega) (by show i < 4; omega), ?_⟩⟩
    rw [iN_nat (by omega), hX i (by omega)]
    refine ⟨fun z2 => ⟨hM.o, 111, hM.r11, ?_⟩, fun z2 => ?_⟩
    · have im : i < m := Nat.lt_of_not_le (fun w => z2 (P.2.2 i w (by omega)))
      have pi := P.2.1 i im
      rw [pi.1]
      have c11 := cArr hM.c11 (show p i < 20 by omega) (by omega)
      refine ⟨c11.1, c11.2, ?_⟩
      rw [iN_nat (by omega), (hI.2 (p i) pi.2).2.2.2.2.1]
      by_cases e0 : s 11 (p i) = 0
      · rw [e0]
        refine ⟨fun _ => ⟨10 * (4 - i) + (8 - 0), by omega, s, X, e, i, 0, m, p, rfl, rfl, rfl, rfl, im, Nat.zero_le _, rfl, P, em, hlt, fun j hj => ?_, fun j j' h1 h2 => hd j j' h1 h2 (by omega), fun j' hj => absurd hj (Nat.not_lt_zero _), hW⟩, fun c => absurd (by decide) c⟩
        by_cases e2 : j = i
        · rw [e2]
          exact e0
        · exact hf j (by omega) (by omega)
      · rw [iN_dec e0]
        have h11 := (hV.2 (p i) pi.2).2.2.1
        exact ⟨fun c => absurd c (iN_m1 (by omega)), fun _ => kk.1 (fun w => e0 (w.1 i im))⟩
    · have im : m ≤ i := Nat.le_of_not_lt (fun w => by
        have a := P.2.1 i w
        rw [a.1] at z2
        exact iN_m1 (by omega) z2)
      exact ⟨10 * (4 - (i + 1)) + 9, by omega, s, X, e, i + 1, m, p, rfl, rfl, iN_add i 1, by omega, rfl, P, em, hlt, fun j h1 h2 => hf j (by omega) h2, fun j j' h1 h2 h3 => hd j j' h1 (by omega) h3, hW⟩
  · rintro n K x0 x6 x8 x9 C I J R ⟨s, X, e, i, j, m, p, rfl, rfl, rfl, rfl, im, hj, rfl, P, em, hlt, hf, hd, hdd, hW⟩
    obtain ⟨he, c5, hX, hM, hI, hV, k1, k2⟩ := id hW
    have hn := hV.1
    have kk := (k2 m p P em).2 hlt
    have m4 := P.1
    unfold PX2_wrongParts_136 PX2_wrongParts_164
    rw [iN_le (by omega) (by omega)]
    refine ⟨fun z => ?_, fun z => ⟨by rw [c5], by rw [c5]; exact iN_in (by omega) (by show j < 4; omega), by rw [c5]; exact iN_in (by omega) (by show i < 4; omega), ?_⟩⟩
    · obtain rfl : j = i := by omega
      refine ⟨10 * (4 - (j + 1)) + 9, by omega, s, X, e, j + 1, m, p, rfl, rfl, iN_add j 1, by omega, rfl, P, em, hlt, fun j h1 h2 => hf j (by omega), fun a b h1 h2 h3 => ?_, hW⟩
      by_cases e2 : b = j
      · rw [e2]
        exact hdd a (by omega)
      · exact hd a b h1 (by omega)
    · rw [iN_nat (by omega), iN_nat (by omega), hX j (by omega), hX i (by omega), (P.2.1 j (by omega)).1, (P.2.1 i im).1, iN_inj (by have := (P.2.1 j (by omega)).2; omega) (by have := (P.2.1 i im).2; omega)]
      refine ⟨fun z2 => ⟨10 * (4 - i) + (8 - (j + 1)), by omega, s, X, e, i, j + 1, m, p, rfl, rfl, rfl, iN_add j 1, im, by omega, rfl, P, em, hlt, hf, hd, fun j' h => ?_, hW⟩, fun z2 => kk.1 (fun w => w.2 j i (by omega) im z2)⟩
      by_cases e2 : j' = j
      · rw [e2]
        exact z2
      · exact hdd j' (by omega)
/-- an op that makes an array of its own (name 5) -/
def OpKMa (Kc : KC) (C : MC) (I : MI) (J : MJ) (R : MR) (K : AK) : Prop := ∀ (ans : AV) (s' : St) (v' : Tv) (st' : Int32) (a' b' : Int64) (C' : MC) (I' : MI) (J' : MJ) (R' : MR), Kc ans s' v' st' a' b' → RelM s' v' st' a' b' C' I' J' R' → (∀ q, q ≠ 5 → C' q = C q ∧ R' q = R q) → (∀ q, q ≠ 1 → q ≠ 5 → (q < 100 ∨ 200 ≤ q) → I' q = I q ∧ J' q = J q) → K (.inl (some ans)) C' I' J' R'
def OpMa (As : List AV) (W : St → Tv → Int64 → Int64 → KC → Prop) : SPF := fun As' C I J R K => ∃ (s : St) (v : Tv) (st : Int32) (a b : Int64) (Kc : KC), As' = aR (some 1) :: As ∧ RelM s v st a b C I J R ∧ (C 5).1 = 0 ∧ W s v a b Kc ∧ OpKMa Kc C I J R K
theorem OpKMa.plain {Kc : KC} {C : MC} {I : MI} {J : MJ} {R : MR} {K : AK} (h : OpKMa Kc C I J R K) : OpKM Kc C I J R K := fun ans s' v' st' a' b' I' J' hc hR hF => h ans s' v' st' a' b' C I' J' R hc hR (fun _ _ => ⟨rfl, rfl⟩) (fun q h1 _ h2 => hF q h1 h2)
theorem OpKMa.to {Kc : KC} {C C1 : MC} {I I1 : MI} {J J1 : MJ} {R R1 : MR} {K : AK} (h : OpKMa Kc C I J R K) (he : ∀ q, q ≠ 5 → C1 q = C q ∧ I1 q = I q ∧ J1 q = J q ∧ R1 q = R q) : OpKM Kc C1 I1 J1 R1 K := fun ans s' v' st' a' b' I' J' hc hR hF => h ans s' v' st' a' b' C1 I' J' R1 hc hR (fun q hq => ⟨(he q hq).1, (he q hq).2.2.2⟩) (fun q h1 h5 h2 => ⟨(hF q h1 h2).1.trans (he q h5).2.1, (hF q h1 h2).2.trans (he q h5).2.2.1⟩)
theorem RelN.five {s : St} {v : Tv} {a b : Int64} {C C1 : MC} {I I1 : MI} {J J1 : MJ} {R R1 : MR} (h : RelN s v a b C I J R) (he : ∀ q, q ≠ 5 → C1 q = C q ∧ I1 q = I q ∧ J1 q = J q ∧ R1 q = R q) : RelN s v a b C1 I1 J1 R1 := by
  obtain ⟨h1, h2, h3, h4, h5, h6, h7, h8⟩ := h
  refine ⟨⟨by rw [(he 1 (by decide)).1]; exact h1.1, fun f hf => ?_⟩, ?_, ?_, ?_, h5, ?_, ?_, ?_⟩
  · rw [(he 1 (by decide)).2.2.2, (he (100 + f) (by omega)).1]
    exact h1.2 f hf
  · unfold MI1 at h2 ⊢
    rw [(he 1 (by decide)).2.1, (he 107 (by decide)).2.1, (he 108 (by decide)).2.1, (he 109 (by decide)).2.1, (he 110 (by decide)).2.1, (he 111 (by decide)).2.1, (he 115 (by decide)).2.1, (he 114 (by decide)).2.1]
    exact h2
  · unfold MI2 at h3 ⊢
    rw [(he 112 (by decide)).2.1, (he 113 (by decide)).2.1, (he 116 (by decide)).2.1, (he 117 (by decide)).2.1, (he 118 (by decide)).2.1, (he 119 (by decide)).2.1, (he 120 (by decide)).2.1]
    exact h3
  · unfold MTr at h4 ⊢
    rw [(he 103 (by decide)).2.1, (he 104 (by decide)).2.1, (he 105 (by decide)).2.2.1]
    exact h4
  · rw [(he 1 (by decide)).2.2.1]
    exact h6
  · rw [(he 1 (by decide)).2.2.1]
    exact h7
  · rw [(he 1 (by decide)).2.1]
    exact h8
/-- the last steps of row, fan, cache, retry, hedge: adds or refuses -/
theorem MidM.news {s : St} {v : Tv} {aa bb : Int64} {C : MC} {I I0 : MI} {J J0 : MJ} {R : MR} {K : AK} {Kc : KC} {kd a c : Nat} {X : Nat → Int32} {G : Nat → Prop} (h : MidM s v aa bb C I0 J0 R I J) (hK : OpKM Kc C I0 J0 R K) (hW : W_new X G kd a c s v aa bb Kc) (hG : ∀ m p, PtsX s X m p → G m → kd ≤ 5 ∧ kd ≠ 0 ∧ (kd = 1 → 2 ≤ m) ∧ (kd = 2 → 1 ≤ a ∧ a ≤ m) ∧ (kd = 3 → m = 2 ∧ a ≤ c ∧ 1 ≤ c ∧ c ≤ 100) ∧ (kd = 4 → m = 1 ∧ 1 ≤ a ∧ a ≤ 60 ∧ 1 ≤ c ∧ c ≤ 3) ∧ (kd = 5 → m = 1 ∧ a ≤ 60)) (hn : s 6 0 < 20) {m : Nat} {p : Nat → Nat} (hP : PtsX s X m p) (hg : G m) (hf : FrP s m p) :
    F_X2_adds [aR (some 1), aI (iN kd), aI (X 0), aI (X 1), aI (X 2), aI (X 3), aI (iN a), aI (iN c)] C I J R (fun o C9 I10 J11 R12 => ∃ r13 : Int32, o = .inl (some (aI r13)) ∧ K (.inl (some (aI r13))) C9 I10 J11 R12) := by
  obtain ⟨g1, g2, g3, g4, g5, g6, g7⟩ := hG m p hP hg
  refine ⟨s, v, aa, bb, fun ans s' v' st' a' b' => ans = aI (iN (s 6 0)) ∧ Kc ans s' v' st' a' b', I0, J0, kd, m, a, c, p, fun _ => 0, X, rfl, fun i hi => ?_, h, hn, ⟨g1, hP.1, fun i hi => ⟨(hP.2.1 i hi).2, hf.1 i hi⟩, hf.2, fun z => absurd z g2, g3, g4, g5, g6, g7⟩, fun z => absurd z g2, ⟨rfl, ((hW.2 m p hP hg).2 hn).2 hf⟩, hK.int⟩
  by_cases e : i < m
  · rw [if_pos e]
    exact (hP.2.1 i e).1
  · rw [if_neg e]
    exact hP.2.2 i (by omega) hi
def W_row (x y z u : Int32) := W_new (P4 x y z u) (fun m => 2 ≤ m) 1 0 0
def F_X2_row : SPF := fun As C I J R K => ∃ x y z u : Int32, OpMa [aI x, aI y, aI z, aI u] (W_row x y z u) As C I J R K
/-! fan, cache, retry, hedge: wrong numbers, then parts -/
def W_fan (t x y z u : Int32) := W_new (P4 x y z u) (fun m => ∃ k, 1 ≤ k ∧ k ≤ m ∧ t = iN k) 2 t.toNatClampNeg 0
def F_X2_fan : SPF := fun As C I J R K => ∃ t x y z u : Int32, OpMa [aI t, aI x, aI y, aI z, aI u] (W_fan t x y z u) As C I J R K
/-- how many parts are told -/
def cn3 (y z u : Int32) : Nat := 1 + (if y = -1 then 0 else 1) + (if z = -1 then 0 else 1) + (if u = -1 then 0 else 1)
theorem PtsX.cn {s : St} {x y z u : Int32} {m : Nat} {p : Nat → Nat} (hn : s 6 0 ≤ 20) (h : PtsX s (P4 x y z u) m p) (hm : 1 ≤ m) : cn3 y z u = m := by
  have ne : ∀ i, i < m → P4 x y z u i ≠ -1 := fun i hi => by
    have := h.2.1 i hi
    rw [this.1]
    exact iN_m1 (by omega)
  have y1 : P4 x y z u 1 = y := rfl
  have z1 : P4 x y z u 2 = z := rfl
  have u1 : P4 x y z u 3 = u := rfl
  have m4 := h.1
  unfold cn3
  have h5 : m = 1 ∨ m = 2 ∨ m = 3 ∨ m = 4 := by omega
  rcases h5 with rfl | rfl | rfl | rfl
  · rw [if_pos (y1 ▸ h.2.2 1 (by omega) (by omega)), if_pos (z1 ▸ h.2.2 2 (by omega) (by omega)), if_pos (u1 ▸ h.2.2 3 (by omega) (by omega))]
  · rw [if_neg (y1 ▸ ne 1 (by omega)), if_pos (z1 ▸ h.2.2 2 (by omega) (by omega)), if_pos (u1 ▸ h.2.2 3 (by omega) (by omega))]
  · rw [if_neg (y1 ▸ ne 1 (by omega)), if_neg (z1 ▸ ne 2 (by omega)), if_pos (u1 ▸ h.2.2 3 (by omega) (by omega))]
  · rw [if_neg (y1 ▸ ne 1 (by omega)), if_neg (z1 ▸ ne 2 (by omega)), if_neg (u1 ▸ ne 3 (by omega))]
theorem MidM.parts {s : St} {v : Tv} {st : Int32} {aa bb : Int64} {C : MC} {I : MI} {J : MJ} {R : MR} {K : AK} {Kc : KC} {kd a c e : Nat} {X : Nat → Int32} {G : Nat → Prop} (hR : RelM s v st aa bb C I J R) (h5 : (C 5).1 = 0) (hK : OpKMa Kc C I J R K) (hW : W_new X G kd a c s v aa bb Kc) (he : e ≤ 2) (heG : ∀ m p, PtsX s X m p → e ≤ m → G m) (hGe : ∀ m, G m → e ≤ m) (hG : ∀ m p, PtsX s X m p → G m → kd ≤ 5 ∧ kd ≠ 0 ∧ (kd = 1 → 2 ≤ m) ∧ (kd = 2 → 1 ≤ a ∧ a ≤ m) ∧ (kd = 3 → m = 2 ∧ a ≤ c ∧ 1 ≤ c ∧ c ≤ 100) ∧ (kd = 4 → m = 1 ∧ 1 ≤ a ∧ a ≤ 60 ∧ 1 ≤ c ∧ c ≤ 3) ∧ (kd = 5 → m = 1 ∧ a ≤ 60)) :
    F_X2_wrongParts [aR (some 1), aI (X 0), aI (X 1), aI (X 2), aI (X 3), aI (iN e)] C I J R (fun o C2 I3 J4 R5 => ∃ r6 : Int32, o = .inl (some (aI r6)) ∧ ((r6 ≤ 0 → (C2 1).1 = 3 ∧ F_X2_adds [aR (some 1), aI (iN kd), aI (X 0), aI (X 1), aI (X 2), aI (X 3), aI (iN a), aI (iN c)] C2 I3 J4 R5 (fun o C9 I10 J11 R12 => ∃ r13 : Int32, o = .inl (some (aI r13)) ∧ K (.inl (some (aI r13))) C9 I10 J11 R12)) ∧ (¬ r6 ≤ 0 → (C2 1).1 = 3 ∧ F_X2_refuse [aR (some 1), aI r6] C2 I3 J4 R5 (fun o C15 I16 J17 R18 => ∃ r19 : Int32, o = .inl (some (aI r19)) ∧ K (.inl (some (aI r19))) C15 I16 J17 R18)))) := by
  refine ⟨s, X, e, rfl, he, h5, hR.1.1, hR.1.2.1, hR.1.2.2.2.2.1, fun C' I' J' R' hq => ?_⟩
  have h0 : MidM s v aa bb C' I' J' R' I' J' := ⟨hR.1.five hq, FrX.refl⟩
  have hk := hK.to hq
  refine ⟨fun no => ⟨1, rfl, fun c => absurd c (by decide), fun _ => ⟨h0.o, h0.refI (hW.1 (fun ⟨m, p, a1, a2⟩ => no ⟨m, p, a1, hGe m a2⟩)) hk⟩⟩, fun m p hP hg => ?_⟩
  have hg2 := heG m p hP hg
  exact ⟨fun hn => ⟨4, rfl, fun c => absurd c (by decide), fun _ => ⟨h0.o, h0.refI ((hW.2 m p hP hg2).1 hn) hk⟩⟩, fun hn => ⟨fun hf => ⟨5, rfl, fun c => absurd c (by decide), fun _ => ⟨h0.o, h0.refI (((hW.2 m p hP hg2).2 hn).1 hf) hk⟩⟩, fun hf => ⟨_, rfl, fun _ => ⟨h0.o, h0.news hk hW hG hn hP hg2 hf⟩, fun c => absurd (by decide) c⟩⟩⟩
theorem S_X2_row (l : Launch) : SpX2_row l F_X2_row := by
  refine wX2_row (S_X2_wrongParts l) (S_X2_adds l) (S_X2_refuse l) ?_
  rintro As C I J R K ⟨x, y, z, u, s, v, st, a, b, Kc, rfl, hR, h5, hW, hK⟩
  exact ⟨1, x, y, z, u, rfl, hR.1.1.o, MidM.parts (X := P4 x y z u) (kd := 1) (a := 0) (c := 0) (e := 2) (G := fun m => 2 ≤ m) hR h5 hK hW (by omega) (fun m p _ h => h) (fun m h => h) (fun m p hP hg => ⟨by omega, by omega, fun _ => hg, fun z => absurd z (by decide), fun z => absurd z (by decide), fun z => absurd z (by decide), fun z => absurd z (by decide)⟩)⟩
theorem S_X2_fan (l : Launch) : SpX2_fan l F_X2_fan := by
  refine wX2_fan (S_X2_wrongParts l) (S_X2_adds l) (S_X2_refuse l) ?_
  rintro As C I J R K ⟨t, x, y, z, u, s, v, st, a, b, Kc, rfl, hR, h5, hW, hK⟩
  have hM := hR.1.1
  have hn := hR.1.2.2.2.2.1.1
  refine ⟨1, t, x, y, z, u, rfl, ?_⟩
  have key : ∀ n : Nat, n = cn3 y z u → ((t < (1 : Int32) → PX2_fan_49 F_X2_wrongParts F_X2_adds F_X2_refuse K 1 t x y z u C I J R) ∧ (¬ t < (1 : Int32) → ((t ≤ iN n → (C 1).1 = 3 ∧ F_X2_wrongParts [aR (some 1), aI x, aI y, aI z, aI u, aI (1 : Int32)] C I J R (fun o C4 I5 J6 R7 => ∃ r8 : Int32, o = .inl (some (aI r8)) ∧ PX2_fan_64 F_X2_wrongParts F_X2_adds F_X2_refuse K 1 t x y z u r8 C4 I5 J6 R7)) ∧ (¬ t ≤ iN n → PX2_fan_49 F_X2_wrongParts F_X2_adds F_X2_refuse K 1 t x y z u C I J R)))) := fun n hn2 => by
    have bad : (¬ ∃ m p, PtsX s (P4 x y z u) m p ∧ ∃ k, 1 ≤ k ∧ k ≤ m ∧ t = iN k) → PX2_fan_49 F_X2_wrongParts F_X2_adds F_X2_refuse K 1 t x y z u C I J R := fun no => ⟨fun c => absurd c (by decide), fun _ => ⟨hM.o, (MidM.start hR).refI (hW.1 no) hK.plain⟩⟩
    have nb : n ≤ 4 := by
      rw [hn2]
      unfold cn3
      split <;> split <;> split <;> omega
    refine ⟨fun c => bad (fun ⟨m, p, hP, k, k1, k2, hk⟩ => ?_), fun c => ⟨fun c2 => ⟨hM.o, ?_⟩, fun c2 => bad (fun ⟨m, p, hP, k, k1, k2, hk⟩ => c2 ?_)⟩⟩
    · rw [hk] at c
      have := hP.1
      have := (iN_lt (b := 1) (by omega) (by omega)).mp c
      omega
    · have h0 : ¬ t < 0 := fun w => c (Int32.lt_trans w (by decide))
      obtain ⟨k, hk, rfl, e9⟩ := iN_of h0
      have k1 : 1 ≤ k := Nat.le_of_not_lt (fun w => c ((iN_lt (b := 1) hk (by omega)).mpr w))
      have k2 : k ≤ n := (iN_le hk (by omega)).mp c2
      have hW2 : W_new (P4 x y z u) (fun m => ∃ k', 1 ≤ k' ∧ k' ≤ m ∧ iN k = iN k') 2 k 0 s v a b Kc := by
        have : W_fan (iN k) x y z u s v a b Kc := hW
        unfold W_fan at this
        rw [e9] at this
        exact this
      exact MidM.parts (X := P4 x y z u) (kd := 2) (a := k) (c := 0) (e := 1) hR h5 hK hW2 (by omega) (fun m p hP hm => ⟨k, k1, by rw [hP.cn hn hm] at hn2; omega, rfl⟩) (fun m ⟨k', b1, b2, b3⟩ => by omega) (fun m p hP ⟨k', b1, b2, b3⟩ => by
        have := hP.1
        have := (iN_inj hk (by omega)).mp b3
        exact ⟨by omega, by omega, fun w => absurd w (by decide), fun _ => by omega, fun w => absurd w (by decide), fun w => absurd w (by decide), fun w => absurd w (by decide)⟩)
    · rw [hk, iN_le (by have := hP.1; omega) (by omega), hn2, hP.cn hn (by omega)]
      exact k2
  unfold PX2_fan_0 PX2_fan_11 PX2_fan_23 PX2_fan_35
  unfold cn3 at key
  have s11 : (1 : Int32) + 1 = iN 2 := by decide
  have s10 : (1 : Int32) + 0 = iN 1 := by decide
  have a21 : iN 2 + 1 = iN 3 := by decide
  have a20 : iN 2 + 0 = iN 2 := by decide
  have a11 : iN 1 + 1 = iN 2 := by decide
  have a10 : iN 1 + 0 = iN 1 := by decide
  have a31 : iN 3 + 1 = iN 4 := by decide
  have a30 : iN 3 + 0 = iN 3 := by decide
  rw [s11, s10, a21, a20, a11, a10, a31, a30, a21, a20, a11, a10]
  refine ⟨fun cy => ⟨fun cz => ⟨fun cu => key 4 ?_, fun cu => key 3 ?_⟩, fun cz => ⟨fun cu => key 3 ?_, fun cu => key 2 ?_⟩⟩, fun cy => ⟨fun cz => ⟨fun cu => key 3 ?_, fun cu => key 2 ?_⟩, fun cz => ⟨fun cu => key 2 ?_, fun cu => key 1 ?_⟩⟩⟩
  · rw [if_neg cy, if_neg cz, if_neg cu]
  · rw [if_neg cy, if_neg cz, if_pos cu]
  · rw [if_neg cy, if_pos cz, if_neg cu]
  · rw [if_neg cy, if_pos cz, if_pos cu]
  · rw [if_pos cy, if_neg cz, if_neg cu]
  · rw [if_pos cy, if_neg cz, if_pos cu]
  · rw [if_pos cy, if_pos cz, if_neg cu]
  · rw [if_pos cy, if_pos cz, if_pos cu]
def W_cache (x y n d : Int32) := W_new (P4 x y (-1) (-1)) (fun m => 2 ≤ m ∧ ¬ d < 1 ∧ ¬ (100 : Int32) < d ∧ ¬ n < 0 ∧ ¬ d < n) 3 n.toNatClampNeg d.toNatClampNeg
def F_X2_cache : SPF := fun As C I J R K => ∃ x y n d : Int32, OpMa [aI x, aI y, aI n, aI d] (W_cache x y n d) As C I J R K
theorem S_X2_cache (l : Launch) : SpX2_cache l F_X2_cache := by
  refine wX2_cache (S_X2_wrongParts l) (S_X2_adds l) (S_X2_refuse l) ?_
  rintro As C I J R K ⟨x, y, n, d, s, v, st, a, b, Kc, rfl, hR, h5, hW, hK⟩
  have hM := hR.1.1
  refine ⟨1, x, y, n, d, rfl, ?_⟩
  have bad : (¬ (¬ d < 1 ∧ ¬ (100 : Int32) < d ∧ ¬ n < 0 ∧ ¬ d < n)) → PX2_cache_23 F_X2_wrongParts F_X2_adds F_X2_refuse K 1 x y n d C I J R := fun no => ⟨fun c => absurd c (by decide), fun _ => ⟨hM.o, (MidM.start hR).refI (hW.1 (fun ⟨m, p, hP, h⟩ => no h.2)) hK.plain⟩⟩
  refine ⟨fun c => bad (fun w => w.1 c), fun c => ⟨fun c2 => bad (fun w => w.2.1 c2), fun c2 => ⟨fun c3 => bad (fun w => w.2.2.1 c3), fun c3 => ⟨fun c4 => ⟨hM.o, ?_⟩, fun c4 => bad (fun w => c4 (Int32.not_lt.mp w.2.2.2))⟩⟩⟩⟩
  have h0 : ¬ d < 0 := fun w => c (Int32.lt_trans w (by decide))
  obtain ⟨e, he, rfl, e9⟩ := iN_of h0
  obtain ⟨k, hk, rfl, e8⟩ := iN_of c3
  have k1 : 1 ≤ e := Nat.le_of_not_lt (fun w => c ((iN_lt (b := 1) he (by omega)).mpr w))
  have k2 : e ≤ 100 := Nat.le_of_not_lt (fun w => c2 ((iN_lt (a := 100) (by omega) he).mpr w))
  have k3 : k ≤ e := (iN_le hk he).mp c4
  have hW2 := hW
  unfold W_cache at hW2
  rw [e9, e8] at hW2
  refine MidM.parts (X := P4 x y (-1) (-1)) (kd := 3) (a := k) (c := e) (e := 2) hR h5 hK hW2 (by omega) (fun m p _ h => ⟨h, c, c2, c3, Int32.not_lt.mpr c4⟩) (fun m h => h.1) (fun m p hP hg => ⟨by omega, by omega, fun w => absurd w (by decide), fun w => absurd w (by decide), fun _ => ⟨?_, k3, k1, k2⟩, fun w => absurd w (by decide), fun w => absurd w (by decide)⟩)
  have h2 : ¬ 2 < m := fun w => by
    have a := hP.2.1 2 w
    have hn := hR.1.2.2.2.2.1.1
    exact iN_m1 (show p 2 < 2 ^ 31 by omega) a.1.symm
  have := hg.1
  omega
theorem PtsX.one {s : St} {x : Int32} {m : Nat} {p : Nat → Nat} (hn : s 6 0 ≤ 20) (h : PtsX s (P4 x (-1) (-1) (-1)) m p) (hm : 1 ≤ m) : m = 1 := by
  have h2 : ¬ 1 < m := fun w => by
    have a := h.2.1 1 w
    exact iN_m1 (show p 1 < 2 ^ 31 by omega) a.1.symm
  omega
def W_retry (x n d : Int32) := W_new (P4 x (-1) (-1) (-1)) (fun m => 1 ≤ m ∧ ¬ n < 1 ∧ ¬ (60 : Int32) < n ∧ ¬ d < 1 ∧ ¬ (3 : Int32) < d) 4 n.toNatClampNeg d.toNatClampNeg
def F_X2_retry : SPF := fun As C I J R K => ∃ x n d : Int32, OpMa [aI x, aI n, aI d] (W_retry x n d) As C I J R K
theorem S_X2_retry (l : Launch) : SpX2_retry l F_X2_retry := by
  refine wX2_retry (S_X2_wrongParts l) (S_X2_adds l) (S_X2_refuse l) ?_
  rintro As C I J R K ⟨x, n, d, s, v, st, a, b, Kc, rfl, hR, h5, hW, hK⟩
  have hM := hR.1.1
  refine ⟨1, x, n, d, rfl, ?_⟩
  have bad : (¬ (¬ n < 1 ∧ ¬ (60 : Int32) < n ∧ ¬ d < 1 ∧ ¬ (3 : Int32) < d)) → PX2_retry_21 F_X2_wrongParts F_X2_adds F_X2_refuse K 1 x n d C I J R := fun no => ⟨fun c => absurd c (by decide), fun _ => ⟨hM.o, (MidM.start hR).refI (hW.1 (fun ⟨m, p, hP, h⟩ => no h.2)) hK.plain⟩⟩
  refine ⟨fun c => bad (fun w => w.1 c), fun c => ⟨fun c2 => bad (fun w => w.2.1 c2), fun c2 => ⟨fun c3 => bad (fun w => w.2.2.1 c3), fun c3 => ⟨fun c4 => ⟨hM.o, ?_⟩, fun c4 => bad (fun w => c4 (Int32.not_lt.mp w.2.2.2))⟩⟩⟩⟩
  have h0 : ¬ n < 0 := fun w => c (Int32.lt_trans w (by decide))
  have h1 : ¬ d < 0 := fun w => c3 (Int32.lt_trans w (by decide))
  obtain ⟨k, hk, rfl, e8⟩ := iN_of h0
  obtain ⟨e, he, rfl, e9⟩ := iN_of h1
  have k1 : 1 ≤ k := Nat.le_of_not_lt (fun w => c ((iN_lt (b := 1) hk (by omega)).mpr w))
  have k2 : k ≤ 60 := Nat.le_of_not_lt (fun w => c2 ((iN_lt (a := 60) (by omega) hk).mpr w))
  have k3 : 1 ≤ e := Nat.le_of_not_lt (fun w => c3 ((iN_lt (b := 1) he (by omega)).mpr w))
  have k4 : e ≤ 3 := (iN_le (b := 3) he (by omega)).mp c4
  have hW2 := hW
  unfold W_retry at hW2
  rw [e9, e8] at hW2
  exact MidM.parts (X := P4 x (-1) (-1) (-1)) (kd := 4) (a := k) (c := e) (e := 1) hR h5 hK hW2 (by omega) (fun m p _ h => ⟨h, c, c2, c3, Int32.not_lt.mpr c4⟩) (fun m h => h.1) (fun m p hP hg => ⟨by omega, by omega, fun w => absurd w (by decide), fun w => absurd w (by decide), fun w => absurd w (by decide), fun _ => ⟨hP.one hR.1.2.2.2.2.1.1 hg.1, k1, k2, k3, k4⟩, fun w => absurd w (by decide)⟩)
def W_hedge (x n : Int32) := W_new (P4 x (-1) (-1) (-1)) (fun m => 1 ≤ m ∧ ¬ n < 0 ∧ ¬ (60 : Int32) < n) 5 n.toNatClampNeg 0
def F_X2_hedge : SPF := fun As C I J R K => ∃ x n : Int32, OpMa [aI x, aI n] (W_hedge x n) As C I J R K
theorem S_X2_hedge (l : Launch) : SpX2_hedge l F_X2_hedge := by
  refine wX2_hedge (S_X2_wrongParts l) (S_X2_adds l) (S_X2_refuse l) ?_
  rintro As C I J R K ⟨x, n, s, v, st, a, b, Kc, rfl, hR, h5, hW, hK⟩
  have hM := hR.1.1
  refine ⟨1, x, n, rfl, ?_⟩
  have bad : (¬ (¬ n < 0 ∧ ¬ (60 : Int32) < n)) → PX2_hedge_10 F_X2_wrongParts F_X2_adds F_X2_refuse K 1 x n C I J R := fun no => ⟨fun c => absurd c (by decide), fun _ => ⟨hM.o, (MidM.start hR).refI (hW.1 (fun ⟨m, p, hP, h⟩ => no h.2)) hK.plain⟩⟩
  refine ⟨fun c => bad (fun w => w.1 c), fun c => ⟨fun c4 => ⟨hM.o, ?_⟩, fun c4 => bad (fun w => c4 (Int32.not_lt.mp w.2))⟩⟩
  obtain ⟨k, hk, rfl, e8⟩ := iN_of c
  have k4 : k ≤ 60 := (iN_le (b := 60) hk (by omega)).mp c4
  have hW2 := hW
  unfold W_hedge at hW2
  rw [e8] at hW2
  exact MidM.parts (X := P4 x (-1) (-1) (-1)) (kd := 5) (a := k) (c := 0) (e := 1) hR h5 hK hW2 (by omega) (fun m p _ h => ⟨h, c, Int32.not_lt.mpr c4⟩) (fun m h => h.1) (fun m p hP hg => ⟨by omega, by omega, fun w => absurd w (by decide), fun w => absurd w (by decide), fun w => absurd w (by decide), fun w => absurd w (by decide), fun _ => ⟨hP.one hR.1.2.2.2.2.1.1 hg.1, k4⟩⟩)
