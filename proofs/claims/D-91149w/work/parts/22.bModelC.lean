/-! WALKS of X2_weight X2_whole X2_by X2_by0 X2_tells X2_fails X2_promise X2_isShare X2_isEnough X2_bound X2_bounds X2_told0 X2_boundRow X2_boundFan X2_asks X2_isLeaf X2_factor X2_change X2_price X2_isPrice X2_gra (printed by gen/blocks.py) -/
set_option maxRecDepth 100000
section BL
variable {Γ : Gm} {C : MC} {I : MI} {J : MJ} {R : MR}
set_option maxHeartbeats 1000000
theorem bX2_weight_0 (G : Gb Γ yX2_weight cX2_weight 5 (some .long) [] rmX2_weight bdX2_weight) {F_X2_wrongTable : SPF} (S_X2_wrongTable : SpX2_wrongTable (gL Γ) F_X2_wrongTable)
    {Q10 : Nat → Int32 → Int32 → Int32 → MC → MI → MJ → MR → Prop} (w10 : ∀ (x0 : Nat) (x1 : Int32) (x2 : Int32) (x3 : Int32) (C : MC) (I : MI) (J : MJ) (R : MR), Q10 x0 x1 x2 x3 C I J R → AW Γ 0 0 C I J R 10 [(0, aR (some x0)), (1, aI x1), (2, aI x2), (3, aI x3)] [])
    {Q19 : Nat → Int32 → Int32 → Int32 → Int32 → MC → MI → MJ → MR → Prop} (w19 : ∀ (x0 : Nat) (x1 : Int32) (x2 : Int32) (x3 : Int32) (s0 : Int32) (C : MC) (I : MI) (J : MJ) (R : MR), Q19 x0 x1 x2 x3 s0 C I J R → AW Γ 0 0 C I J R 19 [(0, aR (some x0)), (1, aI x1), (2, aI x2), (3, aI x3)] [aI s0]) {x0 : Nat} {x1 : Int32} {x2 : Int32} {x3 : Int32}
    (h : ((x2 < 0 →
      Q10 x0 x1 x2 x3 C I J R) ∧
      (¬ x2 < 0 →
      ((x2 < (121 : Int32) →
      (C x0).1 = 3 ∧
      F_X2_wrongTable [aR (some x0), aI x1] C I J R (fun o C4 I5 J6 R7 =>
      ∃ r8 : Int32, o = .inl (some (aI r8)) ∧
      Q19 x0 x1 x2 x3 r8 C4 I5 J6 R7)) ∧
      (¬ x2 < (121 : Int32) →
      Q10 x0 x1 x2 x3 C I J R))))) :
    AW Γ 0 0 C I J R 0 [(0, aR (some x0)), (1, aI x1), (2, aI x2), (3, aI x3)] [] := by
  have G0 := G.1
  refine aw_iload_n G0 2 rfl dX2_weight_0 ?_
  refine aw_if_lt G0 10 dX2_weight_1 (by decide) (fun c1 => ?_) (fun c1 => ?_)
  · have h := h.1 c1
    exact (w10 x0 x1 x2 x3 C I J R h)
  · have h := h.2 c1
    refine aw_iload_n G0 2 rfl dX2_weight_4 ?_
    refine aw_bipush (v := (121 : Int32)) G0 dX2_weight_5 (by decide) ?_
    refine aw_icmp_lt G0 14 dX2_weight_7 (by decide) (fun c2 => ?_) (fun c2 => ?_)
    · have h := h.1 c2
      refine aw_aload_n G0 0 rfl dX2_weight_14 ?_
      refine aw_iload_n G0 1 rfl dX2_weight_15 ?_
      obtain ⟨k3, h⟩ := h
      refine aw_callV (k1 := 0) (n1 := 0) (k2 := 0) (n2 := 0) (st := []) G0 S_X2_wrongTable gi_X2_230 (Or.inl (by rw [k3]; decide)) (by rw [k3]; rfl) md_X2_wrongTable (Nat.le_of_ble_eq_true rfl) (by decide) (by rw [G.2.1]; decide) (by rw [G.2.1]; decide) [aI x1] rfl rfl dX2_weight_16 h (fun o C4 I5 J6 R7 h => ?_)
      obtain ⟨r8, rfl, h⟩ := h
      show AW Γ 0 0 C4 I5 J6 R7 (16 + 3) [(0, aR (some x0)), (1, aI x1), (2, aI x2), (3, aI x3)] [aI r8]
      exact (w19 x0 x1 x2 x3 r8 C4 I5 J6 R7 h)
    · have h := h.2 c2
      exact (w10 x0 x1 x2 x3 C I J R h)
theorem bX2_weight_10 (G : Gb Γ yX2_weight cX2_weight 5 (some .long) [] rmX2_weight bdX2_weight)
    {Q19 : Nat → Int32 → Int32 → Int32 → Int32 → MC → MI → MJ → MR → Prop} (w19 : ∀ (x0 : Nat) (x1 : Int32) (x2 : Int32) (x3 : Int32) (s0 : Int32) (C : MC) (I : MI) (J : MJ) (R : MR), Q19 x0 x1 x2 x3 s0 C I J R → AW Γ 0 0 C I J R 19 [(0, aR (some x0)), (1, aI x1), (2, aI x2), (3, aI x3)] [aI s0]) {x0 : Nat} {x1 : Int32} {x2 : Int32} {x3 : Int32}
    (h : Q19 x0 x1 x2 x3 (1 : Int32) C I J R) :
    AW Γ 0 0 C I J R 10 [(0, aR (some x0)), (1, aI x1), (2, aI x2), (3, aI x3)] [] := by
  have G0 := G.1
  refine aw_iconst (v := (1 : Int32)) G0 dX2_weight_10 (by decide) ?_
  refine aw_goto G0 19 dX2_weight_11 (by decide) ?_
  exact (w19 x0 x1 x2 x3 (1 : Int32) C I J R h)
theorem bX2_weight_19 (G : Gb Γ yX2_weight cX2_weight 5 (some .long) [] rmX2_weight bdX2_weight) {F_X2_at : SPF} (S_X2_at : SpX2_at (gL Γ) F_X2_at) {F_X2_refuse : SPF} (S_X2_refuse : SpX2_refuse (gL Γ) F_X2_refuse) {x0 : Nat} {x1 : Int32} {x2 : Int32} {x3 : Int32} {s0 : Int32}
    (h : ((s0 ≤ 0 →
      (C x0).1 = 3 ∧
      ∀ I3 : MI, I3 = va_up I x0 (va_up (I x0) 0 (0 : Int32)) →
      ((x3 = 0 →
      F_X2_at [aI x1, aI x2] C I3 J R (fun o C5 I6 J7 R8 =>
      ∃ r9 : Int32, o = .inl (some (aI r9)) ∧
      ∃ q10 : Nat, R x0 23 = some q10 ∧
      (C5 q10).1 = 21 ∧
      vp_in r9 (C5 q10).2 ∧
      gK Γ (.inl (some (aJ (J7 q10 r9.toNatClampNeg)))) C5 I6 J7 R8)) ∧
      (¬ x3 = 0 →
      F_X2_at [aI x1, aI x2] C I3 J R (fun o C13 I14 J15 R16 =>
      ∃ r17 : Int32, o = .inl (some (aI r17)) ∧
      ∃ q18 : Nat, R x0 22 = some q18 ∧
      (C13 q18).1 = 21 ∧
      vp_in r17 (C13 q18).2 ∧
      gK Γ (.inl (some (aJ (J15 q18 r17.toNatClampNeg)))) C13 I14 J15 R16)))) ∧
      (¬ s0 ≤ 0 →
      (C x0).1 = 3 ∧
      F_X2_refuse [aR (some x0), aI s0] C I J R (fun o C22 I23 J24 R25 =>
      ∃ r26 : Int32, o = .inl (some (aI r26)) ∧
      gK Γ (.inl (some (aJ r26.toInt64))) C22 I23 J24 R25)))) :
    AW Γ 0 0 C I J R 19 [(0, aR (some x0)), (1, aI x1), (2, aI x2), (3, aI x3)] [aI s0] := by
  have G0 := G.1
  refine aw_istore (lv' := [(4, aI s0), (0, aR (some x0)), (1, aI x1), (2, aI x2), (3, aI x3)]) G0 (by decide) rfl dX2_weight_19 ?_
  refine aw_iload G0 0 rfl dX2_weight_21 ?_
  refine aw_if_le G0 34 dX2_weight_23 (by decide) (fun c1 => ?_) (fun c1 => ?_)
  · have h := h.1 c1
    refine aw_aload_n G0 1 rfl dX2_weight_34 ?_
    refine aw_iconst (v := (0 : Int32)) G0 dX2_weight_35 (by decide) ?_
    obtain ⟨k2, h⟩ := h
    refine aw_putI (f := 0) G0 (by rw [k2]; exact fp_X2_112 _) dX2_weight_36 ?_
    generalize gI3 : va_up I x0 (va_up (I x0) 0 (0 : Int32)) = I3
    have h := h I3 gI3.symm
    refine aw_iload_n G0 4 rfl dX2_weight_39 ?_
    refine aw_if_eq G0 56 dX2_weight_40 (by decide) (fun c4 => ?_) (fun c4 => ?_)
    · have h := h.1 c4
      refine aw_aload_n G0 1 rfl dX2_weight_56 ?_
      refine aw_getR (f := 23) G0 (by rw [k2]; exact fb_X2_69) dX2_weight_57 ?_
      refine aw_iload_n G0 2 rfl dX2_weight_60 ?_
      refine aw_iload_n G0 3 rfl dX2_weight_61 ?_
      refine aw_callS (k1 := 0) (n1 := 0) (k2 := 0) (n2 := 0) (st := [aR (R x0 23)]) G0 S_X2_at gi_X2_173 md_X2_at (Nat.le_of_ble_eq_true rfl) (by decide) (by rw [G.2.1]; decide) (by rw [G.2.1]; decide) [aI x1, aI x2] rfl rfl dX2_weight_62 h (fun o C5 I6 J7 R8 h => ?_)
      obtain ⟨r9, rfl, h⟩ := h
      show AW Γ 0 0 C5 I6 J7 R8 (62 + 3) [(4, aI s0), (0, aR (some x0)), (1, aI x1), (2, aI x2), (3, aI x3)] [aI r9, aR (R x0 23)]
      obtain ⟨q10, e10, h⟩ := h
      refine aw_dr1 e10 ?_
      obtain ⟨k11, h⟩ := h
      obtain ⟨k12, h⟩ := h
      refine aw_lald G0 k11 k12 dX2_weight_65 ?_
      exact aw_lreturn G0 (by rw [G.2.2]; decide) (by rw [G.2.1]; decide) dX2_weight_66 h
    · have h := h.2 c4
      refine aw_aload_n G0 1 rfl dX2_weight_43 ?_
      refine aw_getR (f := 22) G0 (by rw [k2]; exact fb_X2_66) dX2_weight_44 ?_
      refine aw_iload_n G0 2 rfl dX2_weight_47 ?_
      refine aw_iload_n G0 3 rfl dX2_weight_48 ?_
      refine aw_callS (k1 := 0) (n1 := 0) (k2 := 0) (n2 := 0) (st := [aR (R x0 22)]) G0 S_X2_at gi_X2_173 md_X2_at (Nat.le_of_ble_eq_true rfl) (by decide) (by rw [G.2.1]; decide) (by rw [G.2.1]; decide) [aI x1, aI x2] rfl rfl dX2_weight_49 h (fun o C13 I14 J15 R16 h => ?_)
      obtain ⟨r17, rfl, h⟩ := h
      show AW Γ 0 0 C13 I14 J15 R16 (49 + 3) [(4, aI s0), (0, aR (some x0)), (1, aI x1), (2, aI x2), (3, aI x3)] [aI r17, aR (R x0 22)]
      obtain ⟨q18, e18, h⟩ := h
      refine aw_dr1 e18 ?_
      obtain ⟨k19, h⟩ := h
      obtain ⟨k20, h⟩ := h
      refine aw_lald G0 k19 k20 dX2_weight_52 ?_
      refine aw_goto G0 66 dX2_weight_53 (by decide) ?_
      exact aw_lreturn G0 (by rw [G.2.2]; decide) (by rw [G.2.1]; decide) dX2_weight_66 h
  · have h := h.2 c1
    refine aw_aload_n G0 1 rfl dX2_weight_26 ?_
    refine aw_iload G0 0 rfl dX2_weight_27 ?_
    obtain ⟨k21, h⟩ := h
    refine aw_callV (k1 := 0) (n1 := 0) (k2 := 0) (n2 := 0) (st := []) G0 S_X2_refuse gi_X2_147 (Or.inl (by rw [k21]; decide)) (by rw [k21]; rfl) md_X2_refuse (Nat.le_of_ble_eq_true rfl) (by decide) (by rw [G.2.1]; decide) (by rw [G.2.1]; decide) [aI s0] rfl rfl dX2_weight_29 h (fun o C22 I23 J24 R25 h => ?_)
    obtain ⟨r26, rfl, h⟩ := h
    show AW Γ 0 0 C22 I23 J24 R25 (29 + 3) [(4, aI s0), (0, aR (some x0)), (1, aI x1), (2, aI x2), (3, aI x3)] [aI r26]
    refine aw_i2l G0 dX2_weight_32 ?_
    exact aw_lreturn G0 (by rw [G.2.2]; decide) (by rw [G.2.1]; decide) dX2_weight_33 h
theorem bX2_whole_0 (G : Gb Γ yX2_whole cX2_whole 3 (some .long) [] rmX2_whole bdX2_whole) {F_X2_wrongTable : SPF} (S_X2_wrongTable : SpX2_wrongTable (gL Γ) F_X2_wrongTable) {F_X2_refuse : SPF} (S_X2_refuse : SpX2_refuse (gL Γ) F_X2_refuse) {x0 : Nat} {x1 : Int32}
    (h : (C x0).1 = 3 ∧
      F_X2_wrongTable [aR (some x0), aI x1] C I J R (fun o C2 I3 J4 R5 =>
      ∃ r6 : Int32, o = .inl (some (aI r6)) ∧
      ((r6 ≤ 0 →
      (C2 x0).1 = 3 ∧
      ∀ I9 : MI, I9 = va_up I3 x0 (va_up (I3 x0) 0 (0 : Int32)) →
      ∃ q10 : Nat, R5 x0 24 = some q10 ∧
      (C2 q10).1 = 21 ∧
      vp_in x1 (C2 q10).2 ∧
      gK Γ (.inl (some (aJ (J4 q10 x1.toNatClampNeg)))) C2 I9 J4 R5) ∧
      (¬ r6 ≤ 0 →
      (C2 x0).1 = 3 ∧
      F_X2_refuse [aR (some x0), aI r6] C2 I3 J4 R5 (fun o C14 I15 J16 R17 =>
      ∃ r18 : Int32, o = .inl (some (aI r18)) ∧
      gK Γ (.inl (some (aJ r18.toInt64))) C14 I15 J16 R17))))) :
    AW Γ 0 0 C I J R 0 [(0, aR (some x0)), (1, aI x1)] [] := by
  have G0 := G.1
  refine aw_aload_n G0 0 rfl dX2_whole_0 ?_
  refine aw_iload_n G0 1 rfl dX2_whole_1 ?_
  obtain ⟨k1, h⟩ := h
  refine aw_callV (k1 := 0) (n1 := 0) (k2 := 0) (n2 := 0) (st := []) G0 S_X2_wrongTable gi_X2_230 (Or.inl (by rw [k1]; decide)) (by rw [k1]; rfl) md_X2_wrongTable (Nat.le_of_ble_eq_true rfl) (by decide) (by rw [G.2.1]; decide) (by rw [G.2.1]; decide) [aI x1] rfl rfl dX2_whole_2 h (fun o C2 I3 J4 R5 h => ?_)
  obtain ⟨r6, rfl, h⟩ := h
  show AW Γ 0 0 C2 I3 J4 R5 (2 + 3) [(0, aR (some x0)), (1, aI x1)] [aI r6]
  refine aw_istore_n (lv' := [(2, aI r6), (0, aR (some x0)), (1, aI x1)]) G0 (by decide) rfl dX2_whole_5 ?_
  refine aw_iload_n G0 0 rfl dX2_whole_6 ?_
  refine aw_if_le G0 17 dX2_whole_7 (by decide) (fun c7 => ?_) (fun c7 => ?_)
  · have h := h.1 c7
    refine aw_aload_n G0 1 rfl dX2_whole_17 ?_
    refine aw_iconst (v := (0 : Int32)) G0 dX2_whole_18 (by decide) ?_
    obtain ⟨k8, h⟩ := h
    refine aw_putI (f := 0) G0 (by rw [k8]; exact fp_X2_112 _) dX2_whole_19 ?_
    generalize gI9 : va_up I3 x0 (va_up (I3 x0) 0 (0 : Int32)) = I9
    have h := h I9 gI9.symm
    refine aw_aload_n G0 1 rfl dX2_whole_22 ?_
    refine aw_getR (f := 24) G0 (by rw [k8]; exact fb_X2_72) dX2_whole_23 ?_
    refine aw_iload_n G0 2 rfl dX2_whole_26 ?_
    obtain ⟨q10, e10, h⟩ := h
    refine aw_dr1 e10 ?_
    obtain ⟨k11, h⟩ := h
    obtain ⟨k12, h⟩ := h
    refine aw_lald G0 k11 k12 dX2_whole_27 ?_
    exact aw_lreturn G0 (by rw [G.2.2]; decide) (by rw [G.2.1]; decide) dX2_whole_28 h
  · have h := h.2 c7
    refine aw_aload_n G0 1 rfl dX2_whole_10 ?_
    refine aw_iload_n G0 0 rfl dX2_whole_11 ?_
    obtain ⟨k13, h⟩ := h
    refine aw_callV (k1 := 0) (n1 := 0) (k2 := 0) (n2 := 0) (st := []) G0 S_X2_refuse gi_X2_147 (Or.inl (by rw [k13]; decide)) (by rw [k13]; rfl) md_X2_refuse (Nat.le_of_ble_eq_true rfl) (by decide) (by rw [G.2.1]; decide) (by rw [G.2.1]; decide) [aI r6] rfl rfl dX2_whole_12 h (fun o C14 I15 J16 R17 h => ?_)
    obtain ⟨r18, rfl, h⟩ := h
    show AW Γ 0 0 C14 I15 J16 R17 (12 + 3) [(2, aI r6), (0, aR (some x0)), (1, aI x1)] [aI r18]
    refine aw_i2l G0 dX2_whole_15 ?_
    exact aw_lreturn G0 (by rw [G.2.2]; decide) (by rw [G.2.1]; decide) dX2_whole_16 h
theorem bX2_by_0 (G : Gb Γ yX2_by cX2_by 4 (some .int) [] rmX2_by bdX2_by) {F_X2_wrongTable : SPF} (S_X2_wrongTable : SpX2_wrongTable (gL Γ) F_X2_wrongTable)
    {Q10 : Nat → Int32 → Int32 → MC → MI → MJ → MR → Prop} (w10 : ∀ (x0 : Nat) (x1 : Int32) (x2 : Int32) (C : MC) (I : MI) (J : MJ) (R : MR), Q10 x0 x1 x2 C I J R → AW Γ 0 0 C I J R 10 [(0, aR (some x0)), (1, aI x1), (2, aI x2)] [])
    {Q19 : Nat → Int32 → Int32 → Int32 → MC → MI → MJ → MR → Prop} (w19 : ∀ (x0 : Nat) (x1 : Int32) (x2 : Int32) (s0 : Int32) (C : MC) (I : MI) (J : MJ) (R : MR), Q19 x0 x1 x2 s0 C I J R → AW Γ 0 0 C I J R 19 [(0, aR (some x0)), (1, aI x1), (2, aI x2)] [aI s0]) {x0 : Nat} {x1 : Int32} {x2 : Int32}
    (h : ((x2 < 0 →
      Q10 x0 x1 x2 C I J R) ∧
      (¬ x2 < 0 →
      ((x2 < (121 : Int32) →
      (C x0).1 = 3 ∧
      F_X2_wrongTable [aR (some x0), aI x1] C I J R (fun o C4 I5 J6 R7 =>
      ∃ r8 : Int32, o = .inl (some (aI r8)) ∧
      Q19 x0 x1 x2 r8 C4 I5 J6 R7)) ∧
      (¬ x2 < (121 : Int32) →
      Q10 x0 x1 x2 C I J R))))) :
    AW Γ 0 0 C I J R 0 [(0, aR (some x0)), (1, aI x1), (2, aI x2)] [] := by
  have G0 := G.1
  refine aw_iload_n G0 2 rfl dX2_by_0 ?_
  refine aw_if_lt G0 10 dX2_by_1 (by decide) (fun c1 => ?_) (fun c1 => ?_)
  · have h := h.1 c1
    exact (w10 x0 x1 x2 C I J R h)
  · have h := h.2 c1
    refine aw_iload_n G0 2 rfl dX2_by_4 ?_
    refine aw_bipush (v := (121 : Int32)) G0 dX2_by_5 (by decide) ?_
    refine aw_icmp_lt G0 14 dX2_by_7 (by decide) (fun c2 => ?_) (fun c2 => ?_)
    · have h := h.1 c2
      refine aw_aload_n G0 0 rfl dX2_by_14 ?_
      refine aw_iload_n G0 1 rfl dX2_by_15 ?_
      obtain ⟨k3, h⟩ := h
      refine aw_callV (k1 := 0) (n1 := 0) (k2 := 0) (n2 := 0) (st := []) G0 S_X2_wrongTable gi_X2_230 (Or.inl (by rw [k3]; decide)) (by rw [k3]; rfl) md_X2_wrongTable (Nat.le_of_ble_eq_true rfl) (by decide) (by rw [G.2.1]; decide) (by rw [G.2.1]; decide) [aI x1] rfl rfl dX2_by_16 h (fun o C4 I5 J6 R7 h => ?_)
      obtain ⟨r8, rfl, h⟩ := h
      show AW Γ 0 0 C4 I5 J6 R7 (16 + 3) [(0, aR (some x0)), (1, aI x1), (2, aI x2)] [aI r8]
      exact (w19 x0 x1 x2 r8 C4 I5 J6 R7 h)
    · have h := h.2 c2
      exact (w10 x0 x1 x2 C I J R h)
theorem bX2_by_10 (G : Gb Γ yX2_by cX2_by 4 (some .int) [] rmX2_by bdX2_by)
    {Q19 : Nat → Int32 → Int32 → Int32 → MC → MI → MJ → MR → Prop} (w19 : ∀ (x0 : Nat) (x1 : Int32) (x2 : Int32) (s0 : Int32) (C : MC) (I : MI) (J : MJ) (R : MR), Q19 x0 x1 x2 s0 C I J R → AW Γ 0 0 C I J R 19 [(0, aR (some x0)), (1, aI x1), (2, aI x2)] [aI s0]) {x0 : Nat} {x1 : Int32} {x2 : Int32}
    (h : Q19 x0 x1 x2 (1 : Int32) C I J R) :
    AW Γ 0 0 C I J R 10 [(0, aR (some x0)), (1, aI x1), (2, aI x2)] [] := by
  have G0 := G.1
  refine aw_iconst (v := (1 : Int32)) G0 dX2_by_10 (by decide) ?_
  refine aw_goto G0 19 dX2_by_11 (by decide) ?_
  exact (w19 x0 x1 x2 (1 : Int32) C I J R h)
theorem bX2_by_19 (G : Gb Γ yX2_by cX2_by 4 (some .int) [] rmX2_by bdX2_by) {F_X2_by0 : SPF} (S_X2_by0 : SpX2_by0 (gL Γ) F_X2_by0) {F_X2_tells : SPF} (S_X2_tells : SpX2_tells (gL Γ) F_X2_tells) {F_X2_refuse : SPF} (S_X2_refuse : SpX2_refuse (gL Γ) F_X2_refuse) {x0 : Nat} {x1 : Int32} {x2 : Int32} {s0 : Int32}
    (h : ((s0 ≤ 0 →
      (C x0).1 = 3 ∧
      F_X2_by0 [aR (some x0), aI x1, aI x2] C I J R (fun o C3 I4 J5 R6 =>
      ∃ r7 : Int64, o = .inl (some (aJ r7)) ∧
      (C3 x0).1 = 3 ∧
      ∃ q9 : Nat, R6 x0 24 = some q9 ∧
      (C3 q9).1 = 21 ∧
      vp_in x1 (C3 q9).2 ∧
      F_X2_tells [aR (some x0), aJ r7, aJ (J5 q9 x1.toNatClampNeg)] C3 I4 J5 R6 (fun o C12 I13 J14 R15 =>
      ∃ r16 : Int32, o = .inl (some (aI r16)) ∧
      gK Γ (.inl (some (aI r16))) C12 I13 J14 R15))) ∧
      (¬ s0 ≤ 0 →
      (C x0).1 = 3 ∧
      F_X2_refuse [aR (some x0), aI s0] C I J R (fun o C18 I19 J20 R21 =>
      ∃ r22 : Int32, o = .inl (some (aI r22)) ∧
      gK Γ (.inl (some (aI r22))) C18 I19 J20 R21)))) :
    AW Γ 0 0 C I J R 19 [(0, aR (some x0)), (1, aI x1), (2, aI x2)] [aI s0] := by
  have G0 := G.1
  refine aw_istore_n (lv' := [(3, aI s0), (0, aR (some x0)), (1, aI x1), (2, aI x2)]) G0 (by decide) rfl dX2_by_19 ?_
  refine aw_iload_n G0 0 rfl dX2_by_20 ?_
  refine aw_if_le G0 30 dX2_by_21 (by decide) (fun c1 => ?_) (fun c1 => ?_)
  · have h := h.1 c1
    refine aw_aload_n G0 1 rfl dX2_by_30 ?_
    refine aw_aload_n G0 1 rfl dX2_by_31 ?_
    refine aw_iload_n G0 2 rfl dX2_by_32 ?_
    refine aw_iload_n G0 3 rfl dX2_by_33 ?_
    obtain ⟨k2, h⟩ := h
    refine aw_callV (k1 := 0) (n1 := 0) (k2 := 0) (n2 := 0) (st := [aR (some x0)]) G0 S_X2_by0 gi_X2_236 (Or.inl (by rw [k2]; decide)) (by rw [k2]; rfl) md_X2_by0 (Nat.le_of_ble_eq_true rfl) (by decide) (by rw [G.2.1]; decide) (by rw [G.2.1]; decide) [aI x1, aI x2] rfl rfl dX2_by_34 h (fun o C3 I4 J5 R6 h => ?_)
    obtain ⟨r7, rfl, h⟩ := h
    show AW Γ 0 0 C3 I4 J5 R6 (34 + 3) [(3, aI s0), (0, aR (some x0)), (1, aI x1), (2, aI x2)] [aJ r7, aR (some x0)]
    refine aw_aload_n G0 1 rfl dX2_by_37 ?_
    obtain ⟨k8, h⟩ := h
    refine aw_getR (f := 24) G0 (by rw [k8]; exact fb_X2_72) dX2_by_38 ?_
    refine aw_iload_n G0 2 rfl dX2_by_41 ?_
    obtain ⟨q9, e9, h⟩ := h
    refine aw_dr1 e9 ?_
    obtain ⟨k10, h⟩ := h
    obtain ⟨k11, h⟩ := h
    refine aw_lald G0 k10 k11 dX2_by_42 ?_
    refine aw_callV (k1 := 0) (n1 := 0) (k2 := 0) (n2 := 0) (st := []) G0 S_X2_tells gi_X2_240 (Or.inl (by rw [k8]; decide)) (by rw [k8]; rfl) md_X2_tells (Nat.le_of_ble_eq_true rfl) (by decide) (by rw [G.2.1]; decide) (by rw [G.2.1]; decide) [aJ r7, aJ (J5 q9 x1.toNatClampNeg)] rfl rfl dX2_by_43 h (fun o C12 I13 J14 R15 h => ?_)
    obtain ⟨r16, rfl, h⟩ := h
    show AW Γ 0 0 C12 I13 J14 R15 (43 + 3) [(3, aI s0), (0, aR (some x0)), (1, aI x1), (2, aI x2)] [aI r16]
    exact aw_ireturn G0 (Or.inl rfl) (by rw [G.2.2]; decide) (by rw [G.2.1]; decide) dX2_by_46 h
  · have h := h.2 c1
    refine aw_aload_n G0 1 rfl dX2_by_24 ?_
    refine aw_iload_n G0 0 rfl dX2_by_25 ?_
    obtain ⟨k17, h⟩ := h
    refine aw_callV (k1 := 0) (n1 := 0) (k2 := 0) (n2 := 0) (st := []) G0 S_X2_refuse gi_X2_147 (Or.inl (by rw [k17]; decide)) (by rw [k17]; rfl) md_X2_refuse (Nat.le_of_ble_eq_true rfl) (by decide) (by rw [G.2.1]; decide) (by rw [G.2.1]; decide) [aI s0] rfl rfl dX2_by_26 h (fun o C18 I19 J20 R21 h => ?_)
    obtain ⟨r22, rfl, h⟩ := h
    show AW Γ 0 0 C18 I19 J20 R21 (26 + 3) [(3, aI s0), (0, aR (some x0)), (1, aI x1), (2, aI x2)] [aI r22]
    exact aw_ireturn G0 (Or.inl rfl) (by rw [G.2.2]; decide) (by rw [G.2.1]; decide) dX2_by_29 h
theorem bX2_by0_0 (G : Gb Γ yX2_by0 cX2_by0 6 (some .long) [] rmX2_by0 bdX2_by0)
    {Q5 : Nat → Int32 → Int32 → Int64 → Int32 → MC → MI → MJ → MR → Prop} (w5 : ∀ (x0 : Nat) (x1 : Int32) (x2 : Int32) (x3 : Int64) (x5 : Int32) (C : MC) (I : MI) (J : MJ) (R : MR), Q5 x0 x1 x2 x3 x5 C I J R → AW Γ 0 0 C I J R 5 [(0, aR (some x0)), (1, aI x1), (2, aI x2), (3, aJ x3), (5, aI x5)] []) {x0 : Nat} {x1 : Int32} {x2 : Int32}
    (h : Q5 x0 x1 x2 (0 : Int64) (0 : Int32) C I J R) :
    AW Γ 0 0 C I J R 0 [(0, aR (some x0)), (1, aI x1), (2, aI x2)] [] := by
  have G0 := G.1
  refine aw_lconst (v := (0 : Int64)) G0 dX2_by0_0 (by decide) ?_
  refine aw_lstore_n (lv' := [(3, aJ (0 : Int64)), (0, aR (some x0)), (1, aI x1), (2, aI x2)]) G0 (by decide) rfl dX2_by0_1 ?_
  refine aw_iconst (v := (0 : Int32)) G0 dX2_by0_2 (by decide) ?_
  refine aw_istore (lv' := [(5, aI (0 : Int32)), (3, aJ (0 : Int64)), (0, aR (some x0)), (1, aI x1), (2, aI x2)]) G0 (by decide) rfl dX2_by0_3 ?_
  exact (aw_lv [2, 3, 4, 1, 0] rfl (w5 x0 x1 x2 (0 : Int64) (0 : Int32) C I J R h))
theorem bX2_by0_5 (G : Gb Γ yX2_by0 cX2_by0 6 (some .long) [] rmX2_by0 bdX2_by0) {F_X2_at : SPF} (S_X2_at : SpX2_at (gL Γ) F_X2_at)
    {Q5 : Nat → Int32 → Int32 → Int64 → Int32 → MC → MI → MJ → MR → Prop} (w5 : ∀ (x0 : Nat) (x1 : Int32) (x2 : Int32) (x3 : Int64) (x5 : Int32) (C : MC) (I : MI) (J : MJ) (R : MR), Q5 x0 x1 x2 x3 x5 C I J R → AW Γ 0 0 C I J R 5 [(0, aR (some x0)), (1, aI x1), (2, aI x2), (3, aJ x3), (5, aI x5)] []) {x0 : Nat} {x1 : Int32} {x2 : Int32} {x3 : Int64} {x5 : Int32}
    (h : ((x2 < x5 →
      gK Γ (.inl (some (aJ x3))) C I J R) ∧
      (¬ x2 < x5 →
      (C x0).1 = 3 ∧
      F_X2_at [aI x1, aI x5] C I J R (fun o C3 I4 J5 R6 =>
      ∃ r7 : Int32, o = .inl (some (aI r7)) ∧
      ∃ q8 : Nat, R x0 22 = some q8 ∧
      (C3 q8).1 = 21 ∧
      vp_in r7 (C3 q8).2 ∧
      Q5 x0 x1 x2 (x3 + (J5 q8 r7.toNatClampNeg)) (x5 + 1) C3 I4 J5 R6)))) :
    AW Γ 0 0 C I J R 5 [(0, aR (some x0)), (1, aI x1), (2, aI x2), (3, aJ x3), (5, aI x5)] [] := by
  have G0 := G.1
  refine aw_iload G0 4 rfl dX2_by0_5 ?_
  refine aw_iload_n G0 2 rfl dX2_by0_7 ?_
  refine aw_icmp_gt G0 31 dX2_by0_8 (by decide) (fun c1 => ?_) (fun c1 => ?_)
  · have h := h.1 c1
    refine aw_lload_n G0 3 rfl dX2_by0_31 ?_
    exact aw_lreturn G0 (by rw [G.2.2]; decide) (by rw [G.2.1]; decide) dX2_by0_32 h
  · have h := h.2 c1
    refine aw_lload_n G0 3 rfl dX2_by0_11 ?_
    refine aw_aload_n G0 0 rfl dX2_by0_12 ?_
    obtain ⟨k2, h⟩ := h
    refine aw_getR (f := 22) G0 (by rw [k2]; exact fb_X2_66) dX2_by0_13 ?_
    refine aw_iload_n G0 1 rfl dX2_by0_16 ?_
    refine aw_iload G0 4 rfl dX2_by0_17 ?_
    refine aw_callS (k1 := 0) (n1 := 0) (k2 := 0) (n2 := 0) (st := [aR (R x0 22), aJ x3]) G0 S_X2_at gi_X2_173 md_X2_at (Nat.le_of_ble_eq_true rfl) (by decide) (by rw [G.2.1]; decide) (by rw [G.2.1]; decide) [aI x1, aI x5] rfl rfl dX2_by0_19 h (fun o C3 I4 J5 R6 h => ?_)
    obtain ⟨r7, rfl, h⟩ := h
    show AW Γ 0 0 C3 I4 J5 R6 (19 + 3) [(0, aR (some x0)), (1, aI x1), (2, aI x2), (3, aJ x3), (5, aI x5)] [aI r7, aR (R x0 22), aJ x3]
    obtain ⟨q8, e8, h⟩ := h
    refine aw_dr1 e8 ?_
    obtain ⟨k9, h⟩ := h
    obtain ⟨k10, h⟩ := h
    refine aw_lald G0 k9 k10 dX2_by0_22 ?_
    refine aw_ladd G0 dX2_by0_23 ?_
    refine aw_lstore_n (lv' := [(3, aJ (x3 + (J5 q8 r7.toNatClampNeg))), (0, aR (some x0)), (1, aI x1), (2, aI x2), (5, aI x5)]) G0 (by decide) rfl dX2_by0_24 ?_
    refine aw_iinc (v := x5 + 1) (lv' := [(5, aI (x5 + 1)), (3, aJ (x3 + (J5 q8 r7.toNatClampNeg))), (0, aR (some x0)), (1, aI x1), (2, aI x2)]) G0 4 rfl rfl (by decide) rfl dX2_by0_25 ?_
    refine aw_goto G0 5 dX2_by0_28 (by decide) ?_
    exact (aw_lv [2, 3, 4, 1, 0] rfl (w5 x0 x1 x2 (x3 + (J5 q8 r7.toNatClampNeg)) (x5 + 1) C3 I4 J5 R6 h))
theorem bX2_tells_0 (G : Gb Γ yX2_tells cX2_tells 7 (some .int) [] rmX2_tells bdX2_tells) {F_X2_common : SPF} (S_X2_common : SpX2_common (gL Γ) F_X2_common) {x0 : Nat} {x1 : Int64} {x3 : Int64}
    (h : F_X2_common [aJ x1, aJ x3] C I J R (fun o C1 I2 J3 R4 =>
      ∃ r5 : Int64, o = .inl (some (aJ r5)) ∧
      ¬ r5 = 0 ∧
      (C1 x0).1 = 3 ∧
      ∀ J8 : MJ, J8 = va_up J3 x0 (va_up (J3 x0) 1 (x1 / r5)) →
      ∀ J9 : MJ, J9 = va_up J8 x0 (va_up (J8 x0) 2 (x3 / r5)) →
      ∀ I10 : MI, I10 = va_up I2 x0 (va_up (I2 x0) 0 (0 : Int32)) →
      ((x1 ≤ (0 : Int64) →
      gK Γ (.inl (some (aI (0 : Int32)))) C1 I10 J9 R4) ∧
      (¬ x1 ≤ (0 : Int64) →
      gK Γ (.inl (some (aI (1 : Int32)))) C1 I10 J9 R4)))) :
    AW Γ 0 0 C I J R 0 [(0, aR (some x0)), (1, aJ x1), (3, aJ x3)] [] := by
  have G0 := G.1
  refine aw_lload_n G0 1 rfl dX2_tells_0 ?_
  refine aw_lload_n G0 2 rfl dX2_tells_1 ?_
  refine aw_callS (k1 := 0) (n1 := 0) (k2 := 0) (n2 := 0) (st := []) G0 S_X2_common gi_X2_169 md_X2_common (Nat.le_of_ble_eq_true rfl) (by decide) (by rw [G.2.1]; decide) (by rw [G.2.1]; decide) [aJ x1, aJ x3] rfl rfl dX2_tells_2 h (fun o C1 I2 J3 R4 h => ?_)
  obtain ⟨r5, rfl, h⟩ := h
  show AW Γ 0 0 C1 I2 J3 R4 (2 + 3) [(0, aR (some x0)), (1, aJ x1), (3, aJ x3)] [aJ r5]
  refine aw_lstore (lv' := [(5, aJ r5), (0, aR (some x0)), (1, aJ x1), (3, aJ x3)]) G0 (by decide) rfl dX2_tells_5 ?_
  refine aw_aload_n G0 1 rfl dX2_tells_7 ?_
  refine aw_lload_n G0 2 rfl dX2_tells_8 ?_
  refine aw_lload G0 0 rfl dX2_tells_9 ?_
  obtain ⟨k6, h⟩ := h
  refine aw_ldiv G0 k6 dX2_tells_11 ?_
  obtain ⟨k7, h⟩ := h
  refine aw_putJ (f := 1) G0 (by rw [k7]; exact fp_X2_116 _) dX2_tells_12 ?_
  generalize gJ8 : va_up J3 x0 (va_up (J3 x0) 1 (x1 / r5)) = J8
  have h := h J8 gJ8.symm
  refine aw_aload_n G0 1 rfl dX2_tells_15 ?_
  refine aw_lload_n G0 3 rfl dX2_tells_16 ?_
  refine aw_lload G0 0 rfl dX2_tells_17 ?_
  refine aw_ldiv G0 k6 dX2_tells_19 ?_
  refine aw_putJ (f := 2) G0 (by rw [k7]; exact fp_X2_7 _) dX2_tells_20 ?_
  generalize gJ9 : va_up J8 x0 (va_up (J8 x0) 2 (x3 / r5)) = J9
  have h := h J9 gJ9.symm
  refine aw_aload_n G0 1 rfl dX2_tells_23 ?_
  refine aw_iconst (v := (0 : Int32)) G0 dX2_tells_24 (by decide) ?_
  refine aw_putI (f := 0) G0 (by rw [k7]; exact fp_X2_112 _) dX2_tells_25 ?_
  generalize gI10 : va_up I2 x0 (va_up (I2 x0) 0 (0 : Int32)) = I10
  have h := h I10 gI10.symm
  refine aw_lload_n G0 2 rfl dX2_tells_28 ?_
  refine aw_lconst (v := (0 : Int64)) G0 dX2_tells_29 (by decide) ?_
  refine aw_lif_le G0 38 dX2_tells_30 dX2_tells_31 (by decide) (fun c11 => ?_) (fun c11 => ?_)
  · have h := h.1 c11
    refine aw_iconst (v := (0 : Int32)) G0 dX2_tells_38 (by decide) ?_
    exact aw_ireturn G0 (Or.inl rfl) (by rw [G.2.2]; decide) (by rw [G.2.1]; decide) dX2_tells_39 h
  · have h := h.2 c11
    refine aw_iconst (v := (1 : Int32)) G0 dX2_tells_34 (by decide) ?_
    refine aw_goto G0 39 dX2_tells_35 (by decide) ?_
    exact aw_ireturn G0 (Or.inl rfl) (by rw [G.2.2]; decide) (by rw [G.2.1]; decide) dX2_tells_39 h
theorem bX2_fails_0 (G : Gb Γ yX2_fails cX2_fails 3 (some .int) [] rmX2_fails bdX2_fails) {F_X2_wrongTable : SPF} (S_X2_wrongTable : SpX2_wrongTable (gL Γ) F_X2_wrongTable) {F_X2_by0 : SPF} (S_X2_by0 : SpX2_by0 (gL Γ) F_X2_by0) {F_X2_tells : SPF} (S_X2_tells : SpX2_tells (gL Γ) F_X2_tells) {F_X2_refuse : SPF} (S_X2_refuse : SpX2_refuse (gL Γ) F_X2_refuse) {x0 : Nat} {x1 : Int32}
    (h : (C x0).1 = 3 ∧
      F_X2_wrongTable [aR (some x0), aI x1] C I J R (fun o C2 I3 J4 R5 =>
      ∃ r6 : Int32, o = .inl (some (aI r6)) ∧
      ((r6 ≤ 0 →
      (C2 x0).1 = 3 ∧
      ∃ q9 : Nat, R5 x0 24 = some q9 ∧
      (C2 q9).1 = 21 ∧
      vp_in x1 (C2 q9).2 ∧
      F_X2_by0 [aR (some x0), aI x1, aI (120 : Int32)] C2 I3 J4 R5 (fun o C12 I13 J14 R15 =>
      ∃ r16 : Int64, o = .inl (some (aJ r16)) ∧
      (C12 x0).1 = 3 ∧
      ∃ q18 : Nat, R15 x0 24 = some q18 ∧
      (C12 q18).1 = 21 ∧
      vp_in x1 (C12 q18).2 ∧
      F_X2_tells [aR (some x0), aJ ((J4 q9 x1.toNatClampNeg) - r16), aJ (J14 q18 x1.toNatClampNeg)] C12 I13 J14 R15 (fun o C21 I22 J23 R24 =>
      ∃ r25 : Int32, o = .inl (some (aI r25)) ∧
      gK Γ (.inl (some (aI r25))) C21 I22 J23 R24))) ∧
      (¬ r6 ≤ 0 →
      (C2 x0).1 = 3 ∧
      F_X2_refuse [aR (some x0), aI r6] C2 I3 J4 R5 (fun o C27 I28 J29 R30 =>
      ∃ r31 : Int32, o = .inl (some (aI r31)) ∧
      gK Γ (.inl (some (aI r31))) C27 I28 J29 R30))))) :
    AW Γ 0 0 C I J R 0 [(0, aR (some x0)), (1, aI x1)] [] := by
  have G0 := G.1
  refine aw_aload_n G0 0 rfl dX2_fails_0 ?_
  refine aw_iload_n G0 1 rfl dX2_fails_1 ?_
  obtain ⟨k1, h⟩ := h
  refine aw_callV (k1 := 0) (n1 := 0) (k2 := 0) (n2 := 0) (st := []) G0 S_X2_wrongTable gi_X2_230 (Or.inl (by rw [k1]; decide)) (by rw [k1]; rfl) md_X2_wrongTable (Nat.le_of_ble_eq_true rfl) (by decide) (by rw [G.2.1]; decide) (by rw [G.2.1]; decide) [aI x1] rfl rfl dX2_fails_2 h (fun o C2 I3 J4 R5 h => ?_)
  obtain ⟨r6, rfl, h⟩ := h
  show AW Γ 0 0 C2 I3 J4 R5 (2 + 3) [(0, aR (some x0)), (1, aI x1)] [aI r6]
  refine aw_istore_n (lv' := [(2, aI r6), (0, aR (some x0)), (1, aI x1)]) G0 (by decide) rfl dX2_fails_5 ?_
  refine aw_iload_n G0 0 rfl dX2_fails_6 ?_
  refine aw_if_le G0 16 dX2_fails_7 (by decide) (fun c7 => ?_) (fun c7 => ?_)
  · have h := h.1 c7
    refine aw_aload_n G0 1 rfl dX2_fails_16 ?_
    refine aw_aload_n G0 1 rfl dX2_fails_17 ?_
    obtain ⟨k8, h⟩ := h
    refine aw_getR (f := 24) G0 (by rw [k8]; exact fb_X2_72) dX2_fails_18 ?_
    refine aw_iload_n G0 2 rfl dX2_fails_21 ?_
    obtain ⟨q9, e9, h⟩ := h
    refine aw_dr1 e9 ?_
    obtain ⟨k10, h⟩ := h
    obtain ⟨k11, h⟩ := h
    refine aw_lald G0 k10 k11 dX2_fails_22 ?_
    refine aw_aload_n G0 1 rfl dX2_fails_23 ?_
    refine aw_iload_n G0 2 rfl dX2_fails_24 ?_
    refine aw_bipush (v := (120 : Int32)) G0 dX2_fails_25 (by decide) ?_
    refine aw_callV (k1 := 0) (n1 := 0) (k2 := 0) (n2 := 0) (st := [aJ (J4 q9 x1.toNatClampNeg), aR (some x0)]) G0 S_X2_by0 gi_X2_236 (Or.inl (by rw [k8]; decide)) (by rw [k8]; rfl) md_X2_by0 (Nat.le_of_ble_eq_true rfl) (by decide) (by rw [G.2.1]; decide) (by rw [G.2.1]; decide) [aI x1, aI (120 : Int32)] rfl rfl dX2_fails_27 h (fun o C12 I13 J14 R15 h => ?_)
    obtain ⟨r16, rfl, h⟩ := h
    show AW Γ 0 0 C12 I13 J14 R15 (27 + 3) [(2, aI r6), (0, aR (some x0)), (1, aI x1)] [aJ r16, aJ (J4 q9 x1.toNatClampNeg), aR (some x0)]
    refine aw_lsub G0 dX2_fails_30 ?_
    refine aw_aload_n G0 1 rfl dX2_fails_31 ?_
    obtain ⟨k17, h⟩ := h
    refine aw_getR (f := 24) G0 (by rw [k17]; exact fb_X2_72) dX2_fails_32 ?_
    refine aw_iload_n G0 2 rfl dX2_fails_35 ?_
    obtain ⟨q18, e18, h⟩ := h
    refine aw_dr1 e18 ?_
    obtain ⟨k19, h⟩ := h
    obtain ⟨k20, h⟩ := h
    refine aw_lald G0 k19 k20 dX2_fails_36 ?_
    refine aw_callV (k1 := 0) (n1 := 0) (k2 := 0) (n2 := 0) (st := []) G0 S_X2_tells gi_X2_240 (Or.inl (by rw [k17]; decide)) (by rw [k17]; rfl) md_X2_tells (Nat.le_of_ble_eq_true rfl) (by decide) (by rw [G.2.1]; decide) (by rw [G.2.1]; decide) [aJ ((J4 q9 x1.toNatClampNeg) - r16), aJ (J14 q18 x1.toNatClampNeg)] rfl rfl dX2_fails_37 h (fun o C21 I22 J23 R24 h => ?_)
    obtain ⟨r25, rfl, h⟩ := h
    show AW Γ 0 0 C21 I22 J23 R24 (37 + 3) [(2, aI r6), (0, aR (some x0)), (1, aI x1)] [aI r25]
    exact aw_ireturn G0 (Or.inl rfl) (by rw [G.2.2]; decide) (by rw [G.2.1]; decide) dX2_fails_40 h
  · have h := h.2 c7
    refine aw_aload_n G0 1 rfl dX2_fails_10 ?_
    refine aw_iload_n G0 0 rfl dX2_fails_11 ?_
    obtain ⟨k26, h⟩ := h
    refine aw_callV (k1 := 0) (n1 := 0) (k2 := 0) (n2 := 0) (st := []) G0 S_X2_refuse gi_X2_147 (Or.inl (by rw [k26]; decide)) (by rw [k26]; rfl) md_X2_refuse (Nat.le_of_ble_eq_true rfl) (by decide) (by rw [G.2.1]; decide) (by rw [G.2.1]; decide) [aI r6] rfl rfl dX2_fails_12 h (fun o C27 I28 J29 R30 h => ?_)
    obtain ⟨r31, rfl, h⟩ := h
    show AW Γ 0 0 C27 I28 J29 R30 (12 + 3) [(2, aI r6), (0, aR (some x0)), (1, aI x1)] [aI r31]
    exact aw_ireturn G0 (Or.inl rfl) (by rw [G.2.2]; decide) (by rw [G.2.1]; decide) dX2_fails_15 h
theorem bX2_promise_0 (G : Gb Γ yX2_promise cX2_promise 6 (some .int) [] rmX2_promise bdX2_promise) {F_X2_isShare : SPF} (S_X2_isShare : SpX2_isShare (gL Γ) F_X2_isShare) {F_X2_wrongTable : SPF} (S_X2_wrongTable : SpX2_wrongTable (gL Γ) F_X2_wrongTable)
    {Q17 : Nat → Int32 → Int32 → Int32 → Int32 → MC → MI → MJ → MR → Prop} (w17 : ∀ (x0 : Nat) (x1 : Int32) (x2 : Int32) (x3 : Int32) (s0 : Int32) (C : MC) (I : MI) (J : MJ) (R : MR), Q17 x0 x1 x2 x3 s0 C I J R → AW Γ 0 0 C I J R 17 [(0, aR (some x0)), (1, aI x1), (2, aI x2), (3, aI x3)] [aI s0]) {x0 : Nat} {x1 : Int32} {x2 : Int32} {x3 : Int32}
    (h : F_X2_isShare [aI x2, aI x3] C I J R (fun o C1 I2 J3 R4 =>
      ∃ r5 : Int32, o = .inl (some (aI r5)) ∧
      ((¬ r5 = 0 →
      (C1 x0).1 = 3 ∧
      F_X2_wrongTable [aR (some x0), aI x1] C1 I2 J3 R4 (fun o C8 I9 J10 R11 =>
      ∃ r12 : Int32, o = .inl (some (aI r12)) ∧
      Q17 x0 x1 x2 x3 r12 C8 I9 J10 R11)) ∧
      (r5 = 0 →
      Q17 x0 x1 x2 x3 (1 : Int32) C1 I2 J3 R4)))) :
    AW Γ 0 0 C I J R 0 [(0, aR (some x0)), (1, aI x1), (2, aI x2), (3, aI x3)] [] := by
  have G0 := G.1
  refine aw_iload_n G0 2 rfl dX2_promise_0 ?_
  refine aw_iload_n G0 3 rfl dX2_promise_1 ?_
  refine aw_callS (k1 := 0) (n1 := 0) (k2 := 0) (n2 := 0) (st := []) G0 S_X2_isShare gi_X2_245 md_X2_isShare (Nat.le_of_ble_eq_true rfl) (by decide) (by rw [G.2.1]; decide) (by rw [G.2.1]; decide) [aI x2, aI x3] rfl rfl dX2_promise_2 h (fun o C1 I2 J3 R4 h => ?_)
  obtain ⟨r5, rfl, h⟩ := h
  show AW Γ 0 0 C1 I2 J3 R4 (2 + 3) [(0, aR (some x0)), (1, aI x1), (2, aI x2), (3, aI x3)] [aI r5]
  refine aw_if_ne G0 12 dX2_promise_5 (by decide) (fun c6 => ?_) (fun c6 => ?_)
  · have h := h.1 c6
    refine aw_aload_n G0 0 rfl dX2_promise_12 ?_
    refine aw_iload_n G0 1 rfl dX2_promise_13 ?_
    obtain ⟨k7, h⟩ := h
    refine aw_callV (k1 := 0) (n1 := 0) (k2 := 0) (n2 := 0) (st := []) G0 S_X2_wrongTable gi_X2_230 (Or.inl (by rw [k7]; decide)) (by rw [k7]; rfl) md_X2_wrongTable (Nat.le_of_ble_eq_true rfl) (by decide) (by rw [G.2.1]; decide) (by rw [G.2.1]; decide) [aI x1] rfl rfl dX2_promise_14 h (fun o C8 I9 J10 R11 h => ?_)
    obtain ⟨r12, rfl, h⟩ := h
    show AW Γ 0 0 C8 I9 J10 R11 (14 + 3) [(0, aR (some x0)), (1, aI x1), (2, aI x2), (3, aI x3)] [aI r12]
    exact (w17 x0 x1 x2 x3 r12 C8 I9 J10 R11 h)
  · have h := h.2 c6
    refine aw_iconst (v := (1 : Int32)) G0 dX2_promise_8 (by decide) ?_
    refine aw_goto G0 17 dX2_promise_9 (by decide) ?_
    exact (w17 x0 x1 x2 x3 (1 : Int32) C1 I2 J3 R4 h)
theorem bX2_promise_17 (G : Gb Γ yX2_promise cX2_promise 6 (some .int) [] rmX2_promise bdX2_promise) {F_X2_refuse : SPF} (S_X2_refuse : SpX2_refuse (gL Γ) F_X2_refuse)
    {Q39 : Nat → Int32 → Int32 → Int32 → Int32 → MC → MI → MJ → MR → Prop} (w39 : ∀ (x0 : Nat) (x1 : Int32) (x2 : Int32) (x3 : Int32) (x5 : Int32) (C : MC) (I : MI) (J : MJ) (R : MR), Q39 x0 x1 x2 x3 x5 C I J R → AW Γ 0 0 C I J R 39 [(0, aR (some x0)), (1, aI x1), (2, aI x2), (3, aI x3), (5, aI x5)] []) {x0 : Nat} {x1 : Int32} {x2 : Int32} {x3 : Int32} {s0 : Int32}
    (h : ((s0 ≤ 0 →
      (C x0).1 = 3 ∧
      ∀ I3 : MI, I3 = va_up I x0 (va_up (I x0) 0 (0 : Int32)) →
      Q39 x0 x1 x2 x3 (0 : Int32) C I3 J R) ∧
      (¬ s0 ≤ 0 →
      (C x0).1 = 3 ∧
      F_X2_refuse [aR (some x0), aI s0] C I J R (fun o C5 I6 J7 R8 =>
      ∃ r9 : Int32, o = .inl (some (aI r9)) ∧
      gK Γ (.inl (some (aI r9))) C5 I6 J7 R8)))) :
    AW Γ 0 0 C I J R 17 [(0, aR (some x0)), (1, aI x1), (2, aI x2), (3, aI x3)] [aI s0] := by
  have G0 := G.1
  refine aw_istore (lv' := [(4, aI s0), (0, aR (some x0)), (1, aI x1), (2, aI x2), (3, aI x3)]) G0 (by decide) rfl dX2_promise_17 ?_
  refine aw_iload G0 0 rfl dX2_promise_19 ?_
  refine aw_if_le G0 31 dX2_promise_21 (by decide) (fun c1 => ?_) (fun c1 => ?_)
  · have h := h.1 c1
    refine aw_aload_n G0 1 rfl dX2_promise_31 ?_
    refine aw_iconst (v := (0 : Int32)) G0 dX2_promise_32 (by decide) ?_
    obtain ⟨k2, h⟩ := h
    refine aw_putI (f := 0) G0 (by rw [k2]; exact fp_X2_112 _) dX2_promise_33 ?_
    generalize gI3 : va_up I x0 (va_up (I x0) 0 (0 : Int32)) = I3
    have h := h I3 gI3.symm
    refine aw_iconst (v := (0 : Int32)) G0 dX2_promise_36 (by decide) ?_
    refine aw_istore (lv' := [(5, aI (0 : Int32)), (4, aI s0), (0, aR (some x0)), (1, aI x1), (2, aI x2), (3, aI x3)]) G0 (by decide) rfl dX2_promise_37 ?_
    exact (aw_lv [2, 3, 4, 5, 0] rfl (w39 x0 x1 x2 x3 (0 : Int32) C I3 J R h))
  · have h := h.2 c1
    refine aw_aload_n G0 1 rfl dX2_promise_24 ?_
    refine aw_iload G0 0 rfl dX2_promise_25 ?_
    obtain ⟨k4, h⟩ := h
    refine aw_callV (k1 := 0) (n1 := 0) (k2 := 0) (n2 := 0) (st := []) G0 S_X2_refuse gi_X2_147 (Or.inl (by rw [k4]; decide)) (by rw [k4]; rfl) md_X2_refuse (Nat.le_of_ble_eq_true rfl) (by decide) (by rw [G.2.1]; decide) (by rw [G.2.1]; decide) [aI s0] rfl rfl dX2_promise_27 h (fun o C5 I6 J7 R8 h => ?_)
    obtain ⟨r9, rfl, h⟩ := h
    show AW Γ 0 0 C5 I6 J7 R8 (27 + 3) [(4, aI s0), (0, aR (some x0)), (1, aI x1), (2, aI x2), (3, aI x3)] [aI r9]
    exact aw_ireturn G0 (Or.inl rfl) (by rw [G.2.2]; decide) (by rw [G.2.1]; decide) dX2_promise_30 h
theorem bX2_promise_39 (G : Gb Γ yX2_promise cX2_promise 6 (some .int) [] rmX2_promise bdX2_promise) {F_X2_refuse : SPF} (S_X2_refuse : SpX2_refuse (gL Γ) F_X2_refuse) {F_X2_by0 : SPF} (S_X2_by0 : SpX2_by0 (gL Γ) F_X2_by0) {F_X2_isEnough : SPF} (S_X2_isEnough : SpX2_isEnough (gL Γ) F_X2_isEnough)
    {Q39 : Nat → Int32 → Int32 → Int32 → Int32 → MC → MI → MJ → MR → Prop} (w39 : ∀ (x0 : Nat) (x1 : Int32) (x2 : Int32) (x3 : Int32) (x5 : Int32) (C : MC) (I : MI) (J : MJ) (R : MR), Q39 x0 x1 x2 x3 x5 C I J R → AW Γ 0 0 C I J R 39 [(0, aR (some x0)), (1, aI x1), (2, aI x2), (3, aI x3), (5, aI x5)] []) {x0 : Nat} {x1 : Int32} {x2 : Int32} {x3 : Int32} {x5 : Int32}
    (h : (((121 : Int32) ≤ x5 →
      (C x0).1 = 3 ∧
      F_X2_refuse [aR (some x0), aI (6 : Int32)] C I J R (fun o C3 I4 J5 R6 =>
      ∃ r7 : Int32, o = .inl (some (aI r7)) ∧
      gK Γ (.inl (some (aI r7))) C3 I4 J5 R6)) ∧
      (¬ (121 : Int32) ≤ x5 →
      (C x0).1 = 3 ∧
      F_X2_by0 [aR (some x0), aI x1, aI x5] C I J R (fun o C9 I10 J11 R12 =>
      ∃ r13 : Int64, o = .inl (some (aJ r13)) ∧
      (C9 x0).1 = 3 ∧
      ∃ q15 : Nat, R12 x0 24 = some q15 ∧
      (C9 q15).1 = 21 ∧
      vp_in x1 (C9 q15).2 ∧
      F_X2_isEnough [aJ r13, aJ (J11 q15 x1.toNatClampNeg), aJ x2.toInt64, aJ x3.toInt64] C9 I10 J11 R12 (fun o C18 I19 J20 R21 =>
      ∃ r22 : Int32, o = .inl (some (aI r22)) ∧
      ((r22 = 0 →
      Q39 x0 x1 x2 x3 (x5 + 1) C18 I19 J20 R21) ∧
      (¬ r22 = 0 →
      gK Γ (.inl (some (aI x5))) C18 I19 J20 R21))))))) :
    AW Γ 0 0 C I J R 39 [(0, aR (some x0)), (1, aI x1), (2, aI x2), (3, aI x3), (5, aI x5)] [] := by
  have G0 := G.1
  refine aw_iload G0 4 rfl dX2_promise_39 ?_
  refine aw_bipush (v := (121 : Int32)) G0 dX2_promise_41 (by decide) ?_
  refine aw_icmp_ge G0 78 dX2_promise_43 (by decide) (fun c1 => ?_) (fun c1 => ?_)
  · have h := h.1 c1
    refine aw_aload_n G0 0 rfl dX2_promise_78 ?_
    refine aw_bipush (v := (6 : Int32)) G0 dX2_promise_79 (by decide) ?_
    obtain ⟨k2, h⟩ := h
    refine aw_callV (k1 := 0) (n1 := 0) (k2 := 0) (n2 := 0) (st := []) G0 S_X2_refuse gi_X2_147 (Or.inl (by rw [k2]; decide)) (by rw [k2]; rfl) md_X2_refuse (Nat.le_of_ble_eq_true rfl) (by decide) (by rw [G.2.1]; decide) (by rw [G.2.1]; decide) [aI (6 : Int32)] rfl rfl dX2_promise_81 h (fun o C3 I4 J5 R6 h => ?_)
    obtain ⟨r7, rfl, h⟩ := h
    show AW Γ 0 0 C3 I4 J5 R6 (81 + 3) [(0, aR (some x0)), (1, aI x1), (2, aI x2), (3, aI x3), (5, aI x5)] [aI r7]
    exact aw_ireturn G0 (Or.inl rfl) (by rw [G.2.2]; decide) (by rw [G.2.1]; decide) dX2_promise_84 h
  · have h := h.2 c1
    refine aw_aload_n G0 0 rfl dX2_promise_46 ?_
    refine aw_iload_n G0 1 rfl dX2_promise_47 ?_
    refine aw_iload G0 4 rfl dX2_promise_48 ?_
    obtain ⟨k8, h⟩ := h
    refine aw_callV (k1 := 0) (n1 := 0) (k2 := 0) (n2 := 0) (st := []) G0 S_X2_by0 gi_X2_236 (Or.inl (by rw [k8]; decide)) (by rw [k8]; rfl) md_X2_by0 (Nat.le_of_ble_eq_true rfl) (by decide) (by rw [G.2.1]; decide) (by rw [G.2.1]; decide) [aI x1, aI x5] rfl rfl dX2_promise_50 h (fun o C9 I10 J11 R12 h => ?_)
    obtain ⟨r13, rfl, h⟩ := h
    show AW Γ 0 0 C9 I10 J11 R12 (50 + 3) [(0, aR (some x0)), (1, aI x1), (2, aI x2), (3, aI x3), (5, aI x5)] [aJ r13]
    refine aw_aload_n G0 0 rfl dX2_promise_53 ?_
    obtain ⟨k14, h⟩ := h
    refine aw_getR (f := 24) G0 (by rw [k14]; exact fb_X2_72) dX2_promise_54 ?_
    refine aw_iload_n G0 1 rfl dX2_promise_57 ?_
    obtain ⟨q15, e15, h⟩ := h
    refine aw_dr1 e15 ?_
    obtain ⟨k16, h⟩ := h
    obtain ⟨k17, h⟩ := h
    refine aw_lald G0 k16 k17 dX2_promise_58 ?_
    refine aw_iload_n G0 2 rfl dX2_promise_59 ?_
    refine aw_i2l G0 dX2_promise_60 ?_
    refine aw_iload_n G0 3 rfl dX2_promise_61 ?_
    refine aw_i2l G0 dX2_promise_62 ?_
    refine aw_callS (k1 := 0) (n1 := 0) (k2 := 0) (n2 := 0) (st := []) G0 S_X2_isEnough gi_X2_248 md_X2_isEnough (Nat.le_of_ble_eq_true rfl) (by decide) (by rw [G.2.1]; decide) (by rw [G.2.1]; decide) [aJ r13, aJ (J11 q15 x1.toNatClampNeg), aJ x2.toInt64, aJ x3.toInt64] rfl rfl dX2_promise_63 h (fun o C18 I19 J20 R21 h => ?_)
    obtain ⟨r22, rfl, h⟩ := h
    show AW Γ 0 0 C18 I19 J20 R21 (63 + 3) [(0, aR (some x0)), (1, aI x1), (2, aI x2), (3, aI x3), (5, aI x5)] [aI r22]
    refine aw_if_eq G0 72 dX2_promise_66 (by decide) (fun c23 => ?_) (fun c23 => ?_)
    · have h := h.1 c23
      refine aw_iinc (v := x5 + 1) (lv' := [(5, aI (x5 + 1)), (0, aR (some x0)), (1, aI x1), (2, aI x2), (3, aI x3)]) G0 4 rfl rfl (by decide) rfl dX2_promise_72 ?_
      refine aw_goto G0 39 dX2_promise_75 (by decide) ?_
      exact (aw_lv [1, 2, 3, 4, 0] rfl (w39 x0 x1 x2 x3 (x5 + 1) C18 I19 J20 R21 h))
    · have h := h.2 c23
      refine aw_iload G0 4 rfl dX2_promise_69 ?_
      exact aw_ireturn G0 (Or.inl rfl) (by rw [G.2.2]; decide) (by rw [G.2.1]; decide) dX2_promise_71 h
theorem bX2_isShare_0 (G : Gb Γ yX2_isShare cX2_isShare 2 (some .boolean) [] rmX2_isShare bdX2_isShare) {x0 : Int32} {x1 : Int32}
    (h : ((x1 < (1 : Int32) →
      gK Γ (.inl (some (aI (0 : Int32)))) C I J R) ∧
      (¬ x1 < (1 : Int32) →
      (((1000000 : Int32) < x1 →
      gK Γ (.inl (some (aI (0 : Int32)))) C I J R) ∧
      (¬ (1000000 : Int32) < x1 →
      ((x0 < 0 →
      gK Γ (.inl (some (aI (0 : Int32)))) C I J R) ∧
      (¬ x0 < 0 →
      ((x1 < x0 →
      gK Γ (.inl (some (aI (0 : Int32)))) C I J R) ∧
      (¬ x1 < x0 →
      gK Γ (.inl (some (aI (1 : Int32)))) C I J R))))))))) :
    AW Γ 0 0 C I J R 0 [(0, aI x0), (1, aI x1)] [] := by
  have G0 := G.1
  refine aw_iload_n G0 1 rfl dX2_isShare_0 ?_
  refine aw_iconst (v := (1 : Int32)) G0 dX2_isShare_1 (by decide) ?_
  refine aw_icmp_lt G0 24 dX2_isShare_2 (by decide) (fun c1 => ?_) (fun c1 => ?_)
  · have h := h.1 c1
    refine aw_iconst (v := (0 : Int32)) G0 dX2_isShare_24 (by decide) ?_
    exact aw_ireturn G0 (Or.inr ⟨rfl, by decide⟩) (by rw [G.2.2]; decide) (by rw [G.2.1]; decide) dX2_isShare_25 h
  · have h := h.2 c1
    refine aw_iload_n G0 1 rfl dX2_isShare_5 ?_
    refine aw_ldc (v := (1000000 : Int32)) G0 q1205 dX2_isShare_6 ?_
    refine aw_icmp_gt G0 24 dX2_isShare_8 (by decide) (fun c2 => ?_) (fun c2 => ?_)
    · have h := h.1 c2
      refine aw_iconst (v := (0 : Int32)) G0 dX2_isShare_24 (by decide) ?_
      exact aw_ireturn G0 (Or.inr ⟨rfl, by decide⟩) (by rw [G.2.2]; decide) (by rw [G.2.1]; decide) dX2_isShare_25 h
    · have h := h.2 c2
      refine aw_iload_n G0 0 rfl dX2_isShare_11 ?_
      refine aw_if_lt G0 24 dX2_isShare_12 (by decide) (fun c3 => ?_) (fun c3 => ?_)
      · have h := h.1 c3
        refine aw_iconst (v := (0 : Int32)) G0 dX2_isShare_24 (by decide) ?_
        exact aw_ireturn G0 (Or.inr ⟨rfl, by decide⟩) (by rw [G.2.2]; decide) (by rw [G.2.1]; decide) dX2_isShare_25 h
      · have h := h.2 c3
        refine aw_iload_n G0 0 rfl dX2_isShare_15 ?_
        refine aw_iload_n G0 1 rfl dX2_isShare_16 ?_
        refine aw_icmp_gt G0 24 dX2_isShare_17 (by decide) (fun c4 => ?_) (fun c4 => ?_)
        · have h := h.1 c4
          refine aw_iconst (v := (0 : Int32)) G0 dX2_isShare_24 (by decide) ?_
          exact aw_ireturn G0 (Or.inr ⟨rfl, by decide⟩) (by rw [G.2.2]; decide) (by rw [G.2.1]; decide) dX2_isShare_25 h
        · have h := h.2 c4
          refine aw_iconst (v := (1 : Int32)) G0 dX2_isShare_20 (by decide) ?_
          refine aw_goto G0 25 dX2_isShare_21 (by decide) ?_
          exact aw_ireturn G0 (Or.inr ⟨rfl, by decide⟩) (by rw [G.2.2]; decide) (by rw [G.2.1]; decide) dX2_isShare_25 h
theorem bX2_isEnough_0 (G : Gb Γ yX2_isEnough cX2_isEnough 26 (some .boolean) [] rmX2_isEnough bdX2_isEnough)
    {Q20 : Int64 → Int64 → Int64 → Int64 → Int32 → Int32 → MC → MI → MJ → MR → Prop} (w20 : ∀ (x8 : Int64) (x10 : Int64) (x12 : Int64) (x14 : Int64) (x16 : Int32) (x17 : Int32) (C : MC) (I : MI) (J : MJ) (R : MR), Q20 x8 x10 x12 x14 x16 x17 C I J R → AW Γ 0 0 C I J R 20 [(8, aJ x8), (10, aJ x10), (12, aJ x12), (14, aJ x14), (16, aI x16), (17, aI x17)] []) {x0 : Int64} {x2 : Int64} {x4 : Int64} {x6 : Int64}
    (h : Q20 x0 x2 x4 x6 (0 : Int32) (0 : Int32) C I J R) :
    AW Γ 0 0 C I J R 0 [(0, aJ x0), (2, aJ x2), (4, aJ x4), (6, aJ x6)] [] := by
  have G0 := G.1
  refine aw_lload_n G0 0 rfl dX2_isEnough_0 ?_
  refine aw_lstore (lv' := [(8, aJ x0), (0, aJ x0), (2, aJ x2), (4, aJ x4), (6, aJ x6)]) G0 (by decide) rfl dX2_isEnough_1 ?_
  refine aw_lload_n G0 2 rfl dX2_isEnough_3 ?_
  refine aw_lstore (lv' := [(10, aJ x2), (8, aJ x0), (0, aJ x0), (2, aJ x2), (4, aJ x4), (6, aJ x6)]) G0 (by decide) rfl dX2_isEnough_4 ?_
  refine aw_lload G0 4 rfl dX2_isEnough_6 ?_
  refine aw_lstore (lv' := [(12, aJ x4), (10, aJ x2), (8, aJ x0), (0, aJ x0), (2, aJ x2), (4, aJ x4), (6, aJ x6)]) G0 (by decide) rfl dX2_isEnough_8 ?_
  refine aw_lload G0 6 rfl dX2_isEnough_10 ?_
  refine aw_lstore (lv' := [(14, aJ x6), (12, aJ x4), (10, aJ x2), (8, aJ x0), (0, aJ x0), (2, aJ x2), (4, aJ x4), (6, aJ x6)]) G0 (by decide) rfl dX2_isEnough_12 ?_
  refine aw_iconst (v := (0 : Int32)) G0 dX2_isEnough_14 (by decide) ?_
  refine aw_istore (lv' := [(16, aI (0 : Int32)), (14, aJ x6), (12, aJ x4), (10, aJ x2), (8, aJ x0), (0, aJ x0), (2, aJ x2), (4, aJ x4), (6, aJ x6)]) G0 (by decide) rfl dX2_isEnough_15 ?_
  refine aw_iconst (v := (0 : Int32)) G0 dX2_isEnough_17 (by decide) ?_
  refine aw_istore (lv' := [(17, aI (0 : Int32)), (16, aI (0 : Int32)), (14, aJ x6), (12, aJ x4), (10, aJ x2), (8, aJ x0), (0, aJ x0), (2, aJ x2), (4, aJ x4), (6, aJ x6)]) G0 (by decide) rfl dX2_isEnough_18 ?_
  exact (aw_lv [5, 4, 3, 2, 1, 0] rfl (w20 x0 x2 x4 x6 (0 : Int32) (0 : Int32) C I J R h))
theorem bX2_isEnough_20 (G : Gb Γ yX2_isEnough cX2_isEnough 26 (some .boolean) [] rmX2_isEnough bdX2_isEnough)
    {Q63 : Int32 → Int32 → MC → MI → MJ → MR → Prop} (w63 : ∀ (x16 : Int32) (s0 : Int32) (C : MC) (I : MI) (J : MJ) (R : MR), Q63 x16 s0 C I J R → AW Γ 0 0 C I J R 63 [(16, aI x16)] [aI s0])
    {Q104 : Int64 → Int64 → Int32 → Int32 → Int64 → Int64 → MC → MI → MJ → MR → Prop} (w104 : ∀ (x10 : Int64) (x14 : Int64) (x16 : Int32) (x17 : Int32) (x22 : Int64) (x24 : Int64) (C : MC) (I : MI) (J : MJ) (R : MR), Q104 x10 x14 x16 x17 x22 x24 C I J R → AW Γ 0 0 C I J R 104 [(10, aJ x10), (14, aJ x14), (16, aI x16), (17, aI x17), (22, aJ x22), (24, aJ x24)] []) {x8 : Int64} {x10 : Int64} {x12 : Int64} {x14 : Int64} {x16 : Int32} {x17 : Int32}
    (h : (((200 : Int32) ≤ x17 →
      gK Γ (.inl (some (aI (1 : Int32)))) C I J R) ∧
      (¬ (200 : Int32) ≤ x17 →
      ¬ x10 = 0 ∧
      ¬ x14 = 0 ∧
      (((x8 / x10) = (x12 / x14) →
      ((¬ (x8 - x8 / x10 * x10) = (0 : Int64) →
      Q104 x10 x14 x16 x17 (x8 - x8 / x10 * x10) (x12 - x12 / x14 * x14) C I J R) ∧
      ((x8 - x8 / x10 * x10) = (0 : Int64) →
      ((¬ (x12 - x12 / x14 * x14) = (0 : Int64) →
      Q104 x10 x14 x16 x17 (x8 - x8 / x10 * x10) (x12 - x12 / x14 * x14) C I J R) ∧
      ((x12 - x12 / x14 * x14) = (0 : Int64) →
      gK Γ (.inl (some (aI (1 : Int32)))) C I J R))))) ∧
      (¬ (x8 / x10) = (x12 / x14) →
      (((x8 / x10) ≤ (x12 / x14) →
      Q63 x16 (0 : Int32) C I J R) ∧
      (¬ (x8 / x10) ≤ (x12 / x14) →
      Q63 x16 (1 : Int32) C I J R))))))) :
    AW Γ 0 0 C I J R 20 [(8, aJ x8), (10, aJ x10), (12, aJ x12), (14, aJ x14), (16, aI x16), (17, aI x17)] [] := by
  have G0 := G.1
  refine aw_iload G0 5 rfl dX2_isEnough_20 ?_
  refine aw_sipush (v := (200 : Int32)) G0 dX2_isEnough_22 (by decide) ?_
  refine aw_icmp_ge G0 175 dX2_isEnough_25 (by decide) (fun c1 => ?_) (fun c1 => ?_)
  · have h := h.1 c1
    refine aw_iconst (v := (1 : Int32)) G0 dX2_isEnough_175 (by decide) ?_
    exact aw_ireturn G0 (Or.inr ⟨rfl, by decide⟩) (by rw [G.2.2]; decide) (by rw [G.2.1]; decide) dX2_isEnough_176 h
  · have h := h.2 c1
    refine aw_lload G0 0 rfl dX2_isEnough_28 ?_
    refine aw_lload G0 1 rfl dX2_isEnough_30 ?_
    obtain ⟨k2, h⟩ := h
    refine aw_ldiv G0 k2 dX2_isEnough_32 ?_
    refine aw_lstore (lv' := [(18, aJ (x8 / x10)), (8, aJ x8), (10, aJ x10), (12, aJ x12), (14, aJ x14), (16, aI x16), (17, aI x17)]) G0 (by decide) rfl dX2_isEnough_33 ?_
    refine aw_lload G0 3 rfl dX2_isEnough_35 ?_
    refine aw_lload G0 4 rfl dX2_isEnough_37 ?_
    obtain ⟨k3, h⟩ := h
    refine aw_ldiv G0 k3 dX2_isEnough_39 ?_
    refine aw_lstore (lv' := [(20, aJ (x12 / x14)), (18, aJ (x8 / x10)), (8, aJ x8), (10, aJ x10), (12, aJ x12), (14, aJ x14), (16, aI x16), (17, aI x17)]) G0 (by decide) rfl dX2_isEnough_40 ?_
    refine aw_lload G0 1 rfl dX2_isEnough_42 ?_
    refine aw_lload G0 0 rfl dX2_isEnough_44 ?_
    refine aw_lif_eq G0 74 dX2_isEnough_46 dX2_isEnough_47 (by decide) (fun c4 => ?_) (fun c4 => ?_)
    · have h := h.1 c4
      refine aw_lload G0 2 rfl dX2_isEnough_74 ?_
      refine aw_lload G0 3 rfl dX2_isEnough_76 ?_
      refine aw_lrem G0 k2 dX2_isEnough_78 ?_
      refine aw_lstore (lv' := [(22, aJ (x8 - x8 / x10 * x10)), (20, aJ (x12 / x14)), (18, aJ (x8 / x10)), (8, aJ x8), (10, aJ x10), (12, aJ x12), (14, aJ x14), (16, aI x16), (17, aI x17)]) G0 (by decide) rfl dX2_isEnough_79 ?_
      refine aw_lload G0 5 rfl dX2_isEnough_81 ?_
      refine aw_lload G0 6 rfl dX2_isEnough_83 ?_
      refine aw_lrem G0 k3 dX2_isEnough_85 ?_
      refine aw_lstore (lv' := [(24, aJ (x12 - x12 / x14 * x14)), (22, aJ (x8 - x8 / x10 * x10)), (20, aJ (x12 / x14)), (18, aJ (x8 / x10)), (8, aJ x8), (10, aJ x10), (12, aJ x12), (14, aJ x14), (16, aI x16), (17, aI x17)]) G0 (by decide) rfl dX2_isEnough_86 ?_
      refine aw_lload G0 1 rfl dX2_isEnough_88 ?_
      refine aw_lconst (v := (0 : Int64)) G0 dX2_isEnough_90 (by decide) ?_
      refine aw_lif_ne G0 104 dX2_isEnough_91 dX2_isEnough_92 (by decide) (fun c5 => ?_) (fun c5 => ?_)
      · have h := h.1 c5
        exact (aw_lv [5, 7, 8, 9, 1, 0] rfl (w104 x10 x14 x16 x17 (x8 - x8 / x10 * x10) (x12 - x12 / x14 * x14) C I J R h))
      · have h := h.2 c5
        refine aw_lload G0 0 rfl dX2_isEnough_95 ?_
        refine aw_lconst (v := (0 : Int64)) G0 dX2_isEnough_97 (by decide) ?_
        refine aw_lif_ne G0 104 dX2_isEnough_98 dX2_isEnough_99 (by decide) (fun c6 => ?_) (fun c6 => ?_)
        · have h := h.1 c6
          exact (aw_lv [5, 7, 8, 9, 1, 0] rfl (w104 x10 x14 x16 x17 (x8 - x8 / x10 * x10) (x12 - x12 / x14 * x14) C I J R h))
        · have h := h.2 c6
          refine aw_iconst (v := (1 : Int32)) G0 dX2_isEnough_102 (by decide) ?_
          exact aw_ireturn G0 (Or.inr ⟨rfl, by decide⟩) (by rw [G.2.2]; decide) (by rw [G.2.1]; decide) dX2_isEnough_103 h
    · have h := h.2 c4
      refine aw_lload G0 1 rfl dX2_isEnough_50 ?_
      refine aw_lload G0 0 rfl dX2_isEnough_52 ?_
      refine aw_lif_le G0 62 dX2_isEnough_54 dX2_isEnough_55 (by decide) (fun c7 => ?_) (fun c7 => ?_)
      · have h := h.1 c7
        refine aw_iconst (v := (0 : Int32)) G0 dX2_isEnough_62 (by decide) ?_
        exact (aw_lv [6] rfl (w63 x16 (0 : Int32) C I J R h))
      · have h := h.2 c7
        refine aw_iconst (v := (1 : Int32)) G0 dX2_isEnough_58 (by decide) ?_
        refine aw_goto G0 63 dX2_isEnough_59 (by decide) ?_
        exact (aw_lv [6] rfl (w63 x16 (1 : Int32) C I J R h))
theorem bX2_isEnough_63 (G : Gb Γ yX2_isEnough cX2_isEnough 26 (some .boolean) [] rmX2_isEnough bdX2_isEnough) {x16 : Int32} {s0 : Int32}
    (h : ((s0 = x16 →
      gK Γ (.inl (some (aI (0 : Int32)))) C I J R) ∧
      (¬ s0 = x16 →
      gK Γ (.inl (some (aI (1 : Int32)))) C I J R))) :
    AW Γ 0 0 C I J R 63 [(16, aI x16)] [aI s0] := by
  have G0 := G.1
  refine aw_iload G0 0 rfl dX2_isEnough_63 ?_
  refine aw_icmp_eq G0 72 dX2_isEnough_65 (by decide) (fun c1 => ?_) (fun c1 => ?_)
  · have h := h.1 c1
    refine aw_iconst (v := (0 : Int32)) G0 dX2_isEnough_72 (by decide) ?_
    exact aw_ireturn G0 (Or.inr ⟨rfl, by decide⟩) (by rw [G.2.2]; decide) (by rw [G.2.1]; decide) dX2_isEnough_73 h
  · have h := h.2 c1
    refine aw_iconst (v := (1 : Int32)) G0 dX2_isEnough_68 (by decide) ?_
    refine aw_goto G0 73 dX2_isEnough_69 (by decide) ?_
    exact aw_ireturn G0 (Or.inr ⟨rfl, by decide⟩) (by rw [G.2.2]; decide) (by rw [G.2.1]; decide) dX2_isEnough_73 h
theorem bX2_isEnough_104 (G : Gb Γ yX2_isEnough cX2_isEnough 26 (some .boolean) [] rmX2_isEnough bdX2_isEnough)
    {Q118 : Int32 → Int64 → MC → MI → MJ → MR → Prop} (w118 : ∀ (x16 : Int32) (x22 : Int64) (C : MC) (I : MI) (J : MJ) (R : MR), Q118 x16 x22 C I J R → AW Γ 0 0 C I J R 118 [(16, aI x16), (22, aJ x22)] [])
    {Q167 : Int64 → Int64 → Int64 → Int64 → Int32 → Int32 → MC → MI → MJ → MR → Prop} (w167 : ∀ (x8 : Int64) (x10 : Int64) (x12 : Int64) (x14 : Int64) (x17 : Int32) (s0 : Int32) (C : MC) (I : MI) (J : MJ) (R : MR), Q167 x8 x10 x12 x14 x17 s0 C I J R → AW Γ 0 0 C I J R 167 [(8, aJ x8), (10, aJ x10), (12, aJ x12), (14, aJ x14), (17, aI x17)] [aI s0]) {x10 : Int64} {x14 : Int64} {x16 : Int32} {x17 : Int32} {x22 : Int64} {x24 : Int64}
    (h : ((x22 = (0 : Int64) →
      Q118 x16 x22 C I J R) ∧
      (¬ x22 = (0 : Int64) →
      ((¬ x24 = (0 : Int64) →
      ((¬ x16 = 0 →
      Q167 x10 x22 x14 x24 x17 (0 : Int32) C I J R) ∧
      (x16 = 0 →
      Q167 x10 x22 x14 x24 x17 (1 : Int32) C I J R))) ∧
      (x24 = (0 : Int64) →
      Q118 x16 x22 C I J R))))) :
    AW Γ 0 0 C I J R 104 [(10, aJ x10), (14, aJ x14), (16, aI x16), (17, aI x17), (22, aJ x22), (24, aJ x24)] [] := by
  have G0 := G.1
  refine aw_lload G0 4 rfl dX2_isEnough_104 ?_
  refine aw_lconst (v := (0 : Int64)) G0 dX2_isEnough_106 (by decide) ?_
  refine aw_lif_eq G0 118 dX2_isEnough_107 dX2_isEnough_108 (by decide) (fun c1 => ?_) (fun c1 => ?_)
  · have h := h.1 c1
    exact (aw_lv [2, 4] rfl (w118 x16 x22 C I J R h))
  · have h := h.2 c1
    refine aw_lload G0 5 rfl dX2_isEnough_111 ?_
    refine aw_lconst (v := (0 : Int64)) G0 dX2_isEnough_113 (by decide) ?_
    refine aw_lif_ne G0 141 dX2_isEnough_114 dX2_isEnough_115 (by decide) (fun c2 => ?_) (fun c2 => ?_)
    · have h := h.1 c2
      refine aw_lload G0 0 rfl dX2_isEnough_141 ?_
      refine aw_lstore (lv' := [(8, aJ x10), (10, aJ x10), (14, aJ x14), (16, aI x16), (17, aI x17), (22, aJ x22), (24, aJ x24)]) G0 (by decide) rfl dX2_isEnough_143 ?_
      refine aw_lload G0 5 rfl dX2_isEnough_145 ?_
      refine aw_lstore (lv' := [(10, aJ x22), (8, aJ x10), (14, aJ x14), (16, aI x16), (17, aI x17), (22, aJ x22), (24, aJ x24)]) G0 (by decide) rfl dX2_isEnough_147 ?_
      refine aw_lload G0 2 rfl dX2_isEnough_149 ?_
      refine aw_lstore (lv' := [(12, aJ x14), (10, aJ x22), (8, aJ x10), (14, aJ x14), (16, aI x16), (17, aI x17), (22, aJ x22), (24, aJ x24)]) G0 (by decide) rfl dX2_isEnough_151 ?_
      refine aw_lload G0 7 rfl dX2_isEnough_153 ?_
      refine aw_lstore (lv' := [(14, aJ x24), (12, aJ x14), (10, aJ x22), (8, aJ x10), (16, aI x16), (17, aI x17), (22, aJ x22), (24, aJ x24)]) G0 (by decide) rfl dX2_isEnough_155 ?_
      refine aw_iload G0 4 rfl dX2_isEnough_157 ?_
      refine aw_if_ne G0 166 dX2_isEnough_159 (by decide) (fun c3 => ?_) (fun c3 => ?_)
      · have h := h.1 c3
        refine aw_iconst (v := (0 : Int32)) G0 dX2_isEnough_166 (by decide) ?_
        exact (aw_lv [3, 2, 1, 0, 5] rfl (w167 x10 x22 x14 x24 x17 (0 : Int32) C I J R h))
      · have h := h.2 c3
        refine aw_iconst (v := (1 : Int32)) G0 dX2_isEnough_162 (by decide) ?_
        refine aw_goto G0 167 dX2_isEnough_163 (by decide) ?_
        exact (aw_lv [3, 2, 1, 0, 5] rfl (w167 x10 x22 x14 x24 x17 (1 : Int32) C I J R h))
    · have h := h.2 c2
      exact (aw_lv [2, 4] rfl (w118 x16 x22 C I J R h))
theorem bX2_isEnough_118 (G : Gb Γ yX2_isEnough cX2_isEnough 26 (some .boolean) [] rmX2_isEnough bdX2_isEnough)
    {Q130 : Int32 → Int32 → MC → MI → MJ → MR → Prop} (w130 : ∀ (x16 : Int32) (s0 : Int32) (C : MC) (I : MI) (J : MJ) (R : MR), Q130 x16 s0 C I J R → AW Γ 0 0 C I J R 130 [(16, aI x16)] [aI s0]) {x16 : Int32} {x22 : Int64}
    (h : ((x22 ≤ (0 : Int64) →
      Q130 x16 (0 : Int32) C I J R) ∧
      (¬ x22 ≤ (0 : Int64) →
      Q130 x16 (1 : Int32) C I J R))) :
    AW Γ 0 0 C I J R 118 [(16, aI x16), (22, aJ x22)] [] := by
  have G0 := G.1
  refine aw_lload G0 1 rfl dX2_isEnough_118 ?_
  refine aw_lconst (v := (0 : Int64)) G0 dX2_isEnough_120 (by decide) ?_
  refine aw_lif_le G0 129 dX2_isEnough_121 dX2_isEnough_122 (by decide) (fun c1 => ?_) (fun c1 => ?_)
  · have h := h.1 c1
    refine aw_iconst (v := (0 : Int32)) G0 dX2_isEnough_129 (by decide) ?_
    exact (aw_lv [0] rfl (w130 x16 (0 : Int32) C I J R h))
  · have h := h.2 c1
    refine aw_iconst (v := (1 : Int32)) G0 dX2_isEnough_125 (by decide) ?_
    refine aw_goto G0 130 dX2_isEnough_126 (by decide) ?_
    exact (aw_lv [0] rfl (w130 x16 (1 : Int32) C I J R h))
theorem bX2_isEnough_130 (G : Gb Γ yX2_isEnough cX2_isEnough 26 (some .boolean) [] rmX2_isEnough bdX2_isEnough) {x16 : Int32} {s0 : Int32}
    (h : ((s0 = x16 →
      gK Γ (.inl (some (aI (0 : Int32)))) C I J R) ∧
      (¬ s0 = x16 →
      gK Γ (.inl (some (aI (1 : Int32)))) C I J R))) :
    AW Γ 0 0 C I J R 130 [(16, aI x16)] [aI s0] := by
  have G0 := G.1
  refine aw_iload G0 0 rfl dX2_isEnough_130 ?_
  refine aw_icmp_eq G0 139 dX2_isEnough_132 (by decide) (fun c1 => ?_) (fun c1 => ?_)
  · have h := h.1 c1
    refine aw_iconst (v := (0 : Int32)) G0 dX2_isEnough_139 (by decide) ?_
    exact aw_ireturn G0 (Or.inr ⟨rfl, by decide⟩) (by rw [G.2.2]; decide) (by rw [G.2.1]; decide) dX2_isEnough_140 h
  · have h := h.2 c1
    refine aw_iconst (v := (1 : Int32)) G0 dX2_isEnough_135 (by decide) ?_
    refine aw_goto G0 140 dX2_isEnough_136 (by decide) ?_
    exact aw_ireturn G0 (Or.inr ⟨rfl, by decide⟩) (by rw [G.2.2]; decide) (by rw [G.2.1]; decide) dX2_isEnough_140 h
theorem bX2_isEnough_167 (G : Gb Γ yX2_isEnough cX2_isEnough 26 (some .boolean) [] rmX2_isEnough bdX2_isEnough)
    {Q20 : Int64 → Int64 → Int64 → Int64 → Int32 → Int32 → MC → MI → MJ → MR → Prop} (w20 : ∀ (x8 : Int64) (x10 : Int64) (x12 : Int64) (x14 : Int64) (x16 : Int32) (x17 : Int32) (C : MC) (I : MI) (J : MJ) (R : MR), Q20 x8 x10 x12 x14 x16 x17 C I J R → AW Γ 0 0 C I J R 20 [(8, aJ x8), (10, aJ x10), (12, aJ x12), (14, aJ x14), (16, aI x16), (17, aI x17)] []) {x8 : Int64} {x10 : Int64} {x12 : Int64} {x14 : Int64} {x17 : Int32} {s0 : Int32}
    (h : Q20 x8 x10 x12 x14 s0 (x17 + 1) C I J R) :
    AW Γ 0 0 C I J R 167 [(8, aJ x8), (10, aJ x10), (12, aJ x12), (14, aJ x14), (17, aI x17)] [aI s0] := by
  have G0 := G.1
  refine aw_istore (lv' := [(16, aI s0), (8, aJ x8), (10, aJ x10), (12, aJ x12), (14, aJ x14), (17, aI x17)]) G0 (by decide) rfl dX2_isEnough_167 ?_
  refine aw_iinc (v := x17 + 1) (lv' := [(17, aI (x17 + 1)), (16, aI s0), (8, aJ x8), (10, aJ x10), (12, aJ x12), (14, aJ x14)]) G0 5 rfl rfl (by decide) rfl dX2_isEnough_169 ?_
  refine aw_goto G0 20 dX2_isEnough_172 (by decide) ?_
  exact (aw_lv [2, 3, 4, 5, 1, 0] rfl (w20 x8 x10 x12 x14 s0 (x17 + 1) C I J R h))
theorem bX2_bound_0 (G : Gb Γ yX2_bound cX2_bound 4 (some .int) [] rmX2_bound bdX2_bound) {F_X2_wrongTable : SPF} (S_X2_wrongTable : SpX2_wrongTable (gL Γ) F_X2_wrongTable)
    {Q10 : Nat → Int32 → Int32 → MC → MI → MJ → MR → Prop} (w10 : ∀ (x0 : Nat) (x1 : Int32) (x2 : Int32) (C : MC) (I : MI) (J : MJ) (R : MR), Q10 x0 x1 x2 C I J R → AW Γ 0 0 C I J R 10 [(0, aR (some x0)), (1, aI x1), (2, aI x2)] [])
    {Q19 : Nat → Int32 → Int32 → Int32 → MC → MI → MJ → MR → Prop} (w19 : ∀ (x0 : Nat) (x1 : Int32) (x2 : Int32) (s0 : Int32) (C : MC) (I : MI) (J : MJ) (R : MR), Q19 x0 x1 x2 s0 C I J R → AW Γ 0 0 C I J R 19 [(0, aR (some x0)), (1, aI x1), (2, aI x2)] [aI s0]) {x0 : Nat} {x1 : Int32} {x2 : Int32}
    (h : ((x2 < 0 →
      Q10 x0 x1 x2 C I J R) ∧
      (¬ x2 < 0 →
      ((x2 < (121 : Int32) →
      (C x0).1 = 3 ∧
      F_X2_wrongTable [aR (some x0), aI x1] C I J R (fun o C4 I5 J6 R7 =>
      ∃ r8 : Int32, o = .inl (some (aI r8)) ∧
      Q19 x0 x1 x2 r8 C4 I5 J6 R7)) ∧
      (¬ x2 < (121 : Int32) →
      Q10 x0 x1 x2 C I J R))))) :
    AW Γ 0 0 C I J R 0 [(0, aR (some x0)), (1, aI x1), (2, aI x2)] [] := by
  have G0 := G.1
  refine aw_iload_n G0 2 rfl dX2_bound_0 ?_
  refine aw_if_lt G0 10 dX2_bound_1 (by decide) (fun c1 => ?_) (fun c1 => ?_)
  · have h := h.1 c1
    exact (w10 x0 x1 x2 C I J R h)
  · have h := h.2 c1
    refine aw_iload_n G0 2 rfl dX2_bound_4 ?_
    refine aw_bipush (v := (121 : Int32)) G0 dX2_bound_5 (by decide) ?_
    refine aw_icmp_lt G0 14 dX2_bound_7 (by decide) (fun c2 => ?_) (fun c2 => ?_)
    · have h := h.1 c2
      refine aw_aload_n G0 0 rfl dX2_bound_14 ?_
      refine aw_iload_n G0 1 rfl dX2_bound_15 ?_
      obtain ⟨k3, h⟩ := h
      refine aw_callV (k1 := 0) (n1 := 0) (k2 := 0) (n2 := 0) (st := []) G0 S_X2_wrongTable gi_X2_230 (Or.inl (by rw [k3]; decide)) (by rw [k3]; rfl) md_X2_wrongTable (Nat.le_of_ble_eq_true rfl) (by decide) (by rw [G.2.1]; decide) (by rw [G.2.1]; decide) [aI x1] rfl rfl dX2_bound_16 h (fun o C4 I5 J6 R7 h => ?_)
      obtain ⟨r8, rfl, h⟩ := h
      show AW Γ 0 0 C4 I5 J6 R7 (16 + 3) [(0, aR (some x0)), (1, aI x1), (2, aI x2)] [aI r8]
      exact (w19 x0 x1 x2 r8 C4 I5 J6 R7 h)
    · have h := h.2 c2
      exact (w10 x0 x1 x2 C I J R h)
theorem bX2_bound_10 (G : Gb Γ yX2_bound cX2_bound 4 (some .int) [] rmX2_bound bdX2_bound)
    {Q19 : Nat → Int32 → Int32 → Int32 → MC → MI → MJ → MR → Prop} (w19 : ∀ (x0 : Nat) (x1 : Int32) (x2 : Int32) (s0 : Int32) (C : MC) (I : MI) (J : MJ) (R : MR), Q19 x0 x1 x2 s0 C I J R → AW Γ 0 0 C I J R 19 [(0, aR (some x0)), (1, aI x1), (2, aI x2)] [aI s0]) {x0 : Nat} {x1 : Int32} {x2 : Int32}
    (h : Q19 x0 x1 x2 (1 : Int32) C I J R) :
    AW Γ 0 0 C I J R 10 [(0, aR (some x0)), (1, aI x1), (2, aI x2)] [] := by
  have G0 := G.1
  refine aw_iconst (v := (1 : Int32)) G0 dX2_bound_10 (by decide) ?_
  refine aw_goto G0 19 dX2_bound_11 (by decide) ?_
  exact (w19 x0 x1 x2 (1 : Int32) C I J R h)
theorem bX2_bound_19 (G : Gb Γ yX2_bound cX2_bound 4 (some .int) [] rmX2_bound bdX2_bound) {F_X2_bounds : SPF} (S_X2_bounds : SpX2_bounds (gL Γ) F_X2_bounds)
    {Q35 : Nat → Int32 → Int32 → Int32 → MC → MI → MJ → MR → Prop} (w35 : ∀ (x0 : Nat) (x1 : Int32) (x2 : Int32) (x3 : Int32) (C : MC) (I : MI) (J : MJ) (R : MR), Q35 x0 x1 x2 x3 C I J R → AW Γ 0 0 C I J R 35 [(0, aR (some x0)), (1, aI x1), (2, aI x2), (3, aI x3)] []) {x0 : Nat} {x1 : Int32} {x2 : Int32} {s0 : Int32}
    (h : ((¬ s0 = 0 →
      Q35 x0 x1 x2 s0 C I J R) ∧
      (s0 = 0 →
      (C x0).1 = 3 ∧
      F_X2_bounds [aR (some x0), aI x1] C I J R (fun o C3 I4 J5 R6 =>
      ∃ r7 : Int32, o = .inl (some (aI r7)) ∧
      ((¬ r7 = 0 →
      Q35 x0 x1 x2 s0 C3 I4 J5 R6) ∧
      (r7 = 0 →
      Q35 x0 x1 x2 (9 : Int32) C3 I4 J5 R6)))))) :
    AW Γ 0 0 C I J R 19 [(0, aR (some x0)), (1, aI x1), (2, aI x2)] [aI s0] := by
  have G0 := G.1
  refine aw_istore_n (lv' := [(3, aI s0), (0, aR (some x0)), (1, aI x1), (2, aI x2)]) G0 (by decide) rfl dX2_bound_19 ?_
  refine aw_iload_n G0 0 rfl dX2_bound_20 ?_
  refine aw_if_ne G0 35 dX2_bound_21 (by decide) (fun c1 => ?_) (fun c1 => ?_)
  · have h := h.1 c1
    exact (aw_lv [1, 2, 3, 0] rfl (w35 x0 x1 x2 s0 C I J R h))
  · have h := h.2 c1
    refine aw_aload_n G0 1 rfl dX2_bound_24 ?_
    refine aw_iload_n G0 2 rfl dX2_bound_25 ?_
    obtain ⟨k2, h⟩ := h
    refine aw_callV (k1 := 0) (n1 := 0) (k2 := 0) (n2 := 0) (st := []) G0 S_X2_bounds gi_X2_267 (Or.inl (by rw [k2]; decide)) (by rw [k2]; rfl) md_X2_bounds (Nat.le_of_ble_eq_true rfl) (by decide) (by rw [G.2.1]; decide) (by rw [G.2.1]; decide) [aI x1] rfl rfl dX2_bound_26 h (fun o C3 I4 J5 R6 h => ?_)
    obtain ⟨r7, rfl, h⟩ := h
    show AW Γ 0 0 C3 I4 J5 R6 (26 + 3) [(3, aI s0), (0, aR (some x0)), (1, aI x1), (2, aI x2)] [aI r7]
    refine aw_if_ne G0 35 dX2_bound_29 (by decide) (fun c8 => ?_) (fun c8 => ?_)
    · have h := h.1 c8
      exact (aw_lv [1, 2, 3, 0] rfl (w35 x0 x1 x2 s0 C3 I4 J5 R6 h))
    · have h := h.2 c8
      refine aw_bipush (v := (9 : Int32)) G0 dX2_bound_32 (by decide) ?_
      refine aw_istore_n (lv' := [(3, aI (9 : Int32)), (0, aR (some x0)), (1, aI x1), (2, aI x2)]) G0 (by decide) rfl dX2_bound_34 ?_
      exact (aw_lv [1, 2, 3, 0] rfl (w35 x0 x1 x2 (9 : Int32) C3 I4 J5 R6 h))
theorem bX2_bound_35 (G : Gb Γ yX2_bound cX2_bound 4 (some .int) [] rmX2_bound bdX2_bound) {F_X2_at : SPF} (S_X2_at : SpX2_at (gL Γ) F_X2_at) {F_X2_tells : SPF} (S_X2_tells : SpX2_tells (gL Γ) F_X2_tells) {F_X2_refuse : SPF} (S_X2_refuse : SpX2_refuse (gL Γ) F_X2_refuse) {x0 : Nat} {x1 : Int32} {x2 : Int32} {x3 : Int32}
    (h : ((x3 ≤ 0 →
      (C x0).1 = 3 ∧
      F_X2_at [aI x1, aI x2] C I J R (fun o C3 I4 J5 R6 =>
      ∃ r7 : Int32, o = .inl (some (aI r7)) ∧
      ∃ q8 : Nat, R x0 32 = some q8 ∧
      (C3 q8).1 = 21 ∧
      vp_in r7 (C3 q8).2 ∧
      (C3 x0).1 = 3 ∧
      ∃ q12 : Nat, R6 x0 33 = some q12 ∧
      (C3 q12).1 = 21 ∧
      vp_in x1 (C3 q12).2 ∧
      F_X2_tells [aR (some x0), aJ (J5 q8 r7.toNatClampNeg), aJ (J5 q12 x1.toNatClampNeg)] C3 I4 J5 R6 (fun o C15 I16 J17 R18 =>
      ∃ r19 : Int32, o = .inl (some (aI r19)) ∧
      gK Γ (.inl (some (aI r19))) C15 I16 J17 R18))) ∧
      (¬ x3 ≤ 0 →
      (C x0).1 = 3 ∧
      F_X2_refuse [aR (some x0), aI x3] C I J R (fun o C21 I22 J23 R24 =>
      ∃ r25 : Int32, o = .inl (some (aI r25)) ∧
      gK Γ (.inl (some (aI r25))) C21 I22 J23 R24)))) :
    AW Γ 0 0 C I J R 35 [(0, aR (some x0)), (1, aI x1), (2, aI x2), (3, aI x3)] [] := by
  have G0 := G.1
  refine aw_iload_n G0 3 rfl dX2_bound_35 ?_
  refine aw_if_le G0 45 dX2_bound_36 (by decide) (fun c1 => ?_) (fun c1 => ?_)
  · have h := h.1 c1
    refine aw_aload_n G0 0 rfl dX2_bound_45 ?_
    refine aw_aload_n G0 0 rfl dX2_bound_46 ?_
    obtain ⟨k2, h⟩ := h
    refine aw_getR (f := 32) G0 (by rw [k2]; exact fb_X2_94) dX2_bound_47 ?_
    refine aw_iload_n G0 1 rfl dX2_bound_50 ?_
    refine aw_iload_n G0 2 rfl dX2_bound_51 ?_
    refine aw_callS (k1 := 0) (n1 := 0) (k2 := 0) (n2 := 0) (st := [aR (R x0 32), aR (some x0)]) G0 S_X2_at gi_X2_173 md_X2_at (Nat.le_of_ble_eq_true rfl) (by decide) (by rw [G.2.1]; decide) (by rw [G.2.1]; decide) [aI x1, aI x2] rfl rfl dX2_bound_52 h (fun o C3 I4 J5 R6 h => ?_)
    obtain ⟨r7, rfl, h⟩ := h
    show AW Γ 0 0 C3 I4 J5 R6 (52 + 3) [(0, aR (some x0)), (1, aI x1), (2, aI x2), (3, aI x3)] [aI r7, aR (R x0 32), aR (some x0)]
    obtain ⟨q8, e8, h⟩ := h
    refine aw_dr1 e8 ?_
    obtain ⟨k9, h⟩ := h
    obtain ⟨k10, h⟩ := h
    refine aw_lald G0 k9 k10 dX2_bound_55 ?_
    refine aw_aload_n G0 0 rfl dX2_bound_56 ?_
    obtain ⟨k11, h⟩ := h
    refine aw_getR (f := 33) G0 (by rw [k11]; exact fb_X2_97) dX2_bound_57 ?_
    refine aw_iload_n G0 1 rfl dX2_bound_60 ?_
    obtain ⟨q12, e12, h⟩ := h
    refine aw_dr1 e12 ?_
    obtain ⟨k13, h⟩ := h
    obtain ⟨k14, h⟩ := h
    refine aw_lald G0 k13 k14 dX2_bound_61 ?_
    refine aw_callV (k1 := 0) (n1 := 0) (k2 := 0) (n2 := 0) (st := []) G0 S_X2_tells gi_X2_240 (Or.inl (by rw [k11]; decide)) (by rw [k11]; rfl) md_X2_tells (Nat.le_of_ble_eq_true rfl) (by decide) (by rw [G.2.1]; decide) (by rw [G.2.1]; decide) [aJ (J5 q8 r7.toNatClampNeg), aJ (J5 q12 x1.toNatClampNeg)] rfl rfl dX2_bound_62 h (fun o C15 I16 J17 R18 h => ?_)
    obtain ⟨r19, rfl, h⟩ := h
    show AW Γ 0 0 C15 I16 J17 R18 (62 + 3) [(0, aR (some x0)), (1, aI x1), (2, aI x2), (3, aI x3)] [aI r19]
    exact aw_ireturn G0 (Or.inl rfl) (by rw [G.2.2]; decide) (by rw [G.2.1]; decide) dX2_bound_65 h
  · have h := h.2 c1
    refine aw_aload_n G0 0 rfl dX2_bound_39 ?_
    refine aw_iload_n G0 3 rfl dX2_bound_40 ?_
    obtain ⟨k20, h⟩ := h
    refine aw_callV (k1 := 0) (n1 := 0) (k2 := 0) (n2 := 0) (st := []) G0 S_X2_refuse gi_X2_147 (Or.inl (by rw [k20]; decide)) (by rw [k20]; rfl) md_X2_refuse (Nat.le_of_ble_eq_true rfl) (by decide) (by rw [G.2.1]; decide) (by rw [G.2.1]; decide) [aI x3] rfl rfl dX2_bound_41 h (fun o C21 I22 J23 R24 h => ?_)
    obtain ⟨r25, rfl, h⟩ := h
    show AW Γ 0 0 C21 I22 J23 R24 (41 + 3) [(0, aR (some x0)), (1, aI x1), (2, aI x2), (3, aI x3)] [aI r25]
    exact aw_ireturn G0 (Or.inl rfl) (by rw [G.2.2]; decide) (by rw [G.2.1]; decide) dX2_bound_44 h
theorem bX2_bounds_0 (G : Gb Γ yX2_bounds cX2_bounds 6 (some .boolean) [] rmX2_bounds bdX2_bounds)
    {Q2 : Nat → Int32 → Int32 → MC → MI → MJ → MR → Prop} (w2 : ∀ (x0 : Nat) (x1 : Int32) (x2 : Int32) (C : MC) (I : MI) (J : MJ) (R : MR), Q2 x0 x1 x2 C I J R → AW Γ 0 0 C I J R 2 [(0, aR (some x0)), (1, aI x1), (2, aI x2)] []) {x0 : Nat} {x1 : Int32}
    (h : Q2 x0 x1 x1 C I J R) :
    AW Γ 0 0 C I J R 0 [(0, aR (some x0)), (1, aI x1)] [] := by
  have G0 := G.1
  refine aw_iload_n G0 1 rfl dX2_bounds_0 ?_
  refine aw_istore_n (lv' := [(2, aI x1), (0, aR (some x0)), (1, aI x1)]) G0 (by decide) rfl dX2_bounds_1 ?_
  exact (aw_lv [1, 2, 0] rfl (w2 x0 x1 x1 C I J R h))
theorem bX2_bounds_2 (G : Gb Γ yX2_bounds cX2_bounds 6 (some .boolean) [] rmX2_bounds bdX2_bounds)
    {Q80 : Nat → Int32 → Int32 → Option Nat → Int32 → MC → MI → MJ → MR → Prop} (w80 : ∀ (x0 : Nat) (x1 : Int32) (x2 : Int32) (s0 : Option Nat) (s1 : Int32) (C : MC) (I : MI) (J : MJ) (R : MR), Q80 x0 x1 x2 s0 s1 C I J R → AW Γ 0 0 C I J R 80 [(0, aR (some x0)), (1, aI x1), (2, aI x2)] [aI s1, aR s0])
    {Q84 : Nat → Int32 → Int32 → Option Nat → Int32 → MC → MI → MJ → MR → Prop} (w84 : ∀ (x0 : Nat) (x1 : Int32) (x2 : Int32) (s0 : Option Nat) (s1 : Int32) (C : MC) (I : MI) (J : MJ) (R : MR), Q84 x0 x1 x2 s0 s1 C I J R → AW Γ 0 0 C I J R 84 [(0, aR (some x0)), (1, aI x1), (2, aI x2)] [aI s1, aR s0])
    {Q94 : Nat → Int32 → Int32 → MC → MI → MJ → MR → Prop} (w94 : ∀ (x0 : Nat) (x1 : Int32) (x2 : Int32) (C : MC) (I : MI) (J : MJ) (R : MR), Q94 x0 x1 x2 C I J R → AW Γ 0 0 C I J R 94 [(0, aR (some x0)), (1, aI x1), (2, aI x2)] []) {x0 : Nat} {x1 : Int32} {x2 : Int32}
    (h : ((x2 < 0 →
      Q94 x0 x1 (0 : Int32) C I J R) ∧
      (¬ x2 < 0 →
      (C x0).1 = 3 ∧
      ((x2 = x1 →
      Q80 x0 x1 x2 (R x0 36) x2 C I J R) ∧
      (¬ x2 = x1 →
      ∃ q4 : Nat, R x0 11 = some q4 ∧
      (C q4).1 = 20 ∧
      vp_in x2 (C q4).2 ∧
      (((I q4 x2.toNatClampNeg) = (-1 : Int32) →
      Q84 x0 x1 x2 (R x0 36) x2 C I J R) ∧
      (¬ (I q4 x2.toNatClampNeg) = (-1 : Int32) →
      ((x1 < (I q4 x2.toNatClampNeg) →
      Q84 x0 x1 x2 (R x0 36) x2 C I J R) ∧
      (¬ x1 < (I q4 x2.toNatClampNeg) →
      ∃ q9 : Nat, R x0 36 = some q9 ∧
      (C q9).1 = 24 ∧
      vp_in (I q4 x2.toNatClampNeg) (C q9).2 ∧
      (((I q9 (I q4 x2.toNatClampNeg).toNatClampNeg) = 0 →
      Q84 x0 x1 x2 (R x0 36) x2 C I J R) ∧
      (¬ (I q9 (I q4 x2.toNatClampNeg).toNatClampNeg) = 0 →
      ∃ q13 : Nat, R x0 7 = some q13 ∧
      (C q13).1 = 20 ∧
      vp_in (I q4 x2.toNatClampNeg) (C q13).2 ∧
      (((I q13 (I q4 x2.toNatClampNeg).toNatClampNeg) = (1 : Int32) →
      Q80 x0 x1 x2 (R x0 36) x2 C I J R) ∧
      (¬ (I q13 (I q4 x2.toNatClampNeg).toNatClampNeg) = (1 : Int32) →
      ((¬ (I q13 (I q4 x2.toNatClampNeg).toNatClampNeg) = (2 : Int32) →
      Q84 x0 x1 x2 (R x0 36) x2 C I J R) ∧
      ((I q13 (I q4 x2.toNatClampNeg).toNatClampNeg) = (2 : Int32) →
      Q80 x0 x1 x2 (R x0 36) x2 C I J R))))))))))))))) :
    AW Γ 0 0 C I J R 2 [(0, aR (some x0)), (1, aI x1), (2, aI x2)] [] := by
  have G0 := G.1
  refine aw_iload_n G0 2 rfl dX2_bounds_2 ?_
  refine aw_if_lt G0 92 dX2_bounds_3 (by decide) (fun c1 => ?_) (fun c1 => ?_)
  · have h := h.1 c1
    refine aw_iconst (v := (0 : Int32)) G0 dX2_bounds_92 (by decide) ?_
    refine aw_istore_n (lv' := [(2, aI (0 : Int32)), (0, aR (some x0)), (1, aI x1)]) G0 (by decide) rfl dX2_bounds_93 ?_
    exact (aw_lv [1, 2, 0] rfl (w94 x0 x1 (0 : Int32) C I J R h))
  · have h := h.2 c1
    refine aw_aload_n G0 0 rfl dX2_bounds_6 ?_
    obtain ⟨k2, h⟩ := h
    refine aw_getR (f := 36) G0 (by rw [k2]; exact fb_X2_106) dX2_bounds_7 ?_
    refine aw_iload_n G0 2 rfl dX2_bounds_10 ?_
    refine aw_iload_n G0 2 rfl dX2_bounds_11 ?_
    refine aw_iload_n G0 1 rfl dX2_bounds_12 ?_
    refine aw_icmp_eq G0 80 dX2_bounds_13 (by decide) (fun c3 => ?_) (fun c3 => ?_)
    · have h := h.1 c3
      exact (w80 x0 x1 x2 (R x0 36) x2 C I J R h)
    · have h := h.2 c3
      refine aw_aload_n G0 0 rfl dX2_bounds_16 ?_
      refine aw_getR (f := 11) G0 (by rw [k2]; exact fb_X2_36) dX2_bounds_17 ?_
      refine aw_iload_n G0 2 rfl dX2_bounds_20 ?_
      obtain ⟨q4, e4, h⟩ := h
      refine aw_dr1 e4 ?_
      obtain ⟨k5, h⟩ := h
      obtain ⟨k6, h⟩ := h
      refine aw_iald G0 (Or.inl k5) k6 dX2_bounds_21 ?_
      refine aw_iconst (v := (-1 : Int32)) G0 dX2_bounds_22 (by decide) ?_
      refine aw_icmp_eq G0 84 dX2_bounds_23 (by decide) (fun c7 => ?_) (fun c7 => ?_)
      · have h := h.1 c7
        exact (w84 x0 x1 x2 (R x0 36) x2 C I J R h)
      · have h := h.2 c7
        refine aw_aload_n G0 0 rfl dX2_bounds_26 ?_
        refine aw_getR (f := 11) G0 (by rw [k2]; exact fb_X2_36) dX2_bounds_27 ?_
        refine aw_iload_n G0 2 rfl dX2_bounds_30 ?_
        refine aw_dr1 e4 ?_
        refine aw_iald G0 (Or.inl k5) k6 dX2_bounds_31 ?_
        refine aw_iload_n G0 1 rfl dX2_bounds_32 ?_
        refine aw_icmp_gt G0 84 dX2_bounds_33 (by decide) (fun c8 => ?_) (fun c8 => ?_)
        · have h := h.1 c8
          exact (w84 x0 x1 x2 (R x0 36) x2 C I J R h)
        · have h := h.2 c8
          refine aw_aload_n G0 0 rfl dX2_bounds_36 ?_
          refine aw_getR (f := 36) G0 (by rw [k2]; exact fb_X2_106) dX2_bounds_37 ?_
          refine aw_aload_n G0 0 rfl dX2_bounds_40 ?_
          refine aw_getR (f := 11) G0 (by rw [k2]; exact fb_X2_36) dX2_bounds_41 ?_
          refine aw_iload_n G0 2 rfl dX2_bounds_44 ?_
          refine aw_dr1 e4 ?_
          refine aw_iald G0 (Or.inl k5) k6 dX2_bounds_45 ?_
          obtain ⟨q9, e9, h⟩ := h
          refine aw_dr1 e9 ?_
          obtain ⟨k10, h⟩ := h
          obtain ⟨k11, h⟩ := h
          refine aw_zald G0 k10 k11 dX2_bounds_46 ?_
          refine aw_if_eq G0 84 dX2_bounds_47 (by decide) (fun c12 => ?_) (fun c12 => ?_)
          · have h := h.1 c12
            exact (w84 x0 x1 x2 (R x0 36) x2 C I J R h)
          · have h := h.2 c12
            refine aw_aload_n G0 0 rfl dX2_bounds_50 ?_
            refine aw_getR (f := 7) G0 (by rw [k2]; exact fb_X2_24) dX2_bounds_51 ?_
            refine aw_aload_n G0 0 rfl dX2_bounds_54 ?_
            refine aw_getR (f := 11) G0 (by rw [k2]; exact fb_X2_36) dX2_bounds_55 ?_
            refine aw_iload_n G0 2 rfl dX2_bounds_58 ?_
            refine aw_dr1 e4 ?_
            refine aw_iald G0 (Or.inl k5) k6 dX2_bounds_59 ?_
            obtain ⟨q13, e13, h⟩ := h
            refine aw_dr1 e13 ?_
            obtain ⟨k14, h⟩ := h
            obtain ⟨k15, h⟩ := h
            refine aw_iald G0 (Or.inl k14) k15 dX2_bounds_60 ?_
            refine aw_iconst (v := (1 : Int32)) G0 dX2_bounds_61 (by decide) ?_
            refine aw_icmp_eq G0 80 dX2_bounds_62 (by decide) (fun c16 => ?_) (fun c16 => ?_)
            · have h := h.1 c16
              exact (w80 x0 x1 x2 (R x0 36) x2 C I J R h)
            · have h := h.2 c16
              refine aw_aload_n G0 0 rfl dX2_bounds_65 ?_
              refine aw_getR (f := 7) G0 (by rw [k2]; exact fb_X2_24) dX2_bounds_66 ?_
              refine aw_aload_n G0 0 rfl dX2_bounds_69 ?_
              refine aw_getR (f := 11) G0 (by rw [k2]; exact fb_X2_36) dX2_bounds_70 ?_
              refine aw_iload_n G0 2 rfl dX2_bounds_73 ?_
              refine aw_dr1 e4 ?_
              refine aw_iald G0 (Or.inl k5) k6 dX2_bounds_74 ?_
              refine aw_dr1 e13 ?_
              refine aw_iald G0 (Or.inl k14) k15 dX2_bounds_75 ?_
              refine aw_iconst (v := (2 : Int32)) G0 dX2_bounds_76 (by decide) ?_
              refine aw_icmp_ne G0 84 dX2_bounds_77 (by decide) (fun c17 => ?_) (fun c17 => ?_)
              · have h := h.1 c17
                exact (w84 x0 x1 x2 (R x0 36) x2 C I J R h)
              · have h := h.2 c17
                exact (w80 x0 x1 x2 (R x0 36) x2 C I J R h)
theorem bX2_bounds_80 (G : Gb Γ yX2_bounds cX2_bounds 6 (some .boolean) [] rmX2_bounds bdX2_bounds)
    {Q85 : Nat → Int32 → Int32 → Option Nat → Int32 → Int32 → MC → MI → MJ → MR → Prop} (w85 : ∀ (x0 : Nat) (x1 : Int32) (x2 : Int32) (s0 : Option Nat) (s1 : Int32) (s2 : Int32) (C : MC) (I : MI) (J : MJ) (R : MR), Q85 x0 x1 x2 s0 s1 s2 C I J R → AW Γ 0 0 C I J R 85 [(0, aR (some x0)), (1, aI x1), (2, aI x2)] [aI s2, aI s1, aR s0]) {x0 : Nat} {x1 : Int32} {x2 : Int32} {s0 : Option Nat} {s1 : Int32}
    (h : Q85 x0 x1 x2 s0 s1 (1 : Int32) C I J R) :
    AW Γ 0 0 C I J R 80 [(0, aR (some x0)), (1, aI x1), (2, aI x2)] [aI s1, aR s0] := by
  have G0 := G.1
  refine aw_iconst (v := (1 : Int32)) G0 dX2_bounds_80 (by decide) ?_
  refine aw_goto G0 85 dX2_bounds_81 (by decide) ?_
  exact (w85 x0 x1 x2 s0 s1 (1 : Int32) C I J R h)
theorem bX2_bounds_84 (G : Gb Γ yX2_bounds cX2_bounds 6 (some .boolean) [] rmX2_bounds bdX2_bounds)
    {Q85 : Nat → Int32 → Int32 → Option Nat → Int32 → Int32 → MC → MI → MJ → MR → Prop} (w85 : ∀ (x0 : Nat) (x1 : Int32) (x2 : Int32) (s0 : Option Nat) (s1 : Int32) (s2 : Int32) (C : MC) (I : MI) (J : MJ) (R : MR), Q85 x0 x1 x2 s0 s1 s2 C I J R → AW Γ 0 0 C I J R 85 [(0, aR (some x0)), (1, aI x1), (2, aI x2)] [aI s2, aI s1, aR s0]) {x0 : Nat} {x1 : Int32} {x2 : Int32} {s0 : Option Nat} {s1 : Int32}
    (h : Q85 x0 x1 x2 s0 s1 (0 : Int32) C I J R) :
    AW Γ 0 0 C I J R 84 [(0, aR (some x0)), (1, aI x1), (2, aI x2)] [aI s1, aR s0] := by
  have G0 := G.1
  refine aw_iconst (v := (0 : Int32)) G0 dX2_bounds_84 (by decide) ?_
  exact (w85 x0 x1 x2 s0 s1 (0 : Int32) C I J R h)
theorem bX2_bounds_85 (G : Gb Γ yX2_bounds cX2_bounds 6 (some .boolean) [] rmX2_bounds bdX2_bounds)
    {Q2 : Nat → Int32 → Int32 → MC → MI → MJ → MR → Prop} (w2 : ∀ (x0 : Nat) (x1 : Int32) (x2 : Int32) (C : MC) (I : MI) (J : MJ) (R : MR), Q2 x0 x1 x2 C I J R → AW Γ 0 0 C I J R 2 [(0, aR (some x0)), (1, aI x1), (2, aI x2)] []) {x0 : Nat} {x1 : Int32} {x2 : Int32} {s0 : Option Nat} {s1 : Int32} {s2 : Int32}
    (h : ∃ q1 : Nat, s0 = some q1 ∧
      (C q1).1 = 24 ∧
      vp_in s1 (C q1).2 ∧
      (s2 = 0 ∨ s2 = 1) ∧
      ∀ I5 : MI, I5 = va_up I q1 (va_up (I q1) s1.toNatClampNeg s2) →
      Q2 x0 x1 (x2 + (-1)) C I5 J R) :
    AW Γ 0 0 C I J R 85 [(0, aR (some x0)), (1, aI x1), (2, aI x2)] [aI s2, aI s1, aR s0] := by
  have G0 := G.1
  obtain ⟨q1, e1, h⟩ := h
  refine aw_dr2 e1 ?_
  obtain ⟨k2, h⟩ := h
  obtain ⟨k3, h⟩ := h
  obtain ⟨k4, h⟩ := h
  refine aw_zast G0 k2 k3 k4 dX2_bounds_85 ?_
  generalize gI5 : va_up I q1 (va_up (I q1) s1.toNatClampNeg s2) = I5
  have h := h I5 gI5.symm
  refine aw_iinc (v := x2 + (-1)) (lv' := [(2, aI (x2 + (-1))), (0, aR (some x0)), (1, aI x1)]) G0 2 rfl (congrArg (fun w9 => x2 + w9) (show Int32.ofInt (-1) = (-1) by decide)) (by decide) rfl dX2_bounds_86 ?_
  refine aw_goto G0 2 dX2_bounds_89 (by decide) ?_
  exact (aw_lv [1, 2, 0] rfl (w2 x0 x1 (x2 + (-1)) C I5 J R h))
theorem bX2_bounds_94 (G : Gb Γ yX2_bounds cX2_bounds 6 (some .boolean) [] rmX2_bounds bdX2_bounds)
    {Q131 : Nat → Int32 → Int32 → MC → MI → MJ → MR → Prop} (w131 : ∀ (x0 : Nat) (x1 : Int32) (x2 : Int32) (C : MC) (I : MI) (J : MJ) (R : MR), Q131 x0 x1 x2 C I J R → AW Γ 0 0 C I J R 131 [(0, aR (some x0)), (1, aI x1), (2, aI x2)] [])
    {Q141 : Nat → Int32 → Int32 → Int64 → MC → MI → MJ → MR → Prop} (w141 : ∀ (x0 : Nat) (x1 : Int32) (x2 : Int32) (s0 : Int64) (C : MC) (I : MI) (J : MJ) (R : MR), Q141 x0 x1 x2 s0 C I J R → AW Γ 0 0 C I J R 141 [(0, aR (some x0)), (1, aI x1), (2, aI x2)] [aJ s0])
    {Q375 : Nat → Int32 → Int32 → MC → MI → MJ → MR → Prop} (w375 : ∀ (x0 : Nat) (x1 : Int32) (x2 : Int32) (C : MC) (I : MI) (J : MJ) (R : MR), Q375 x0 x1 x2 C I J R → AW Γ 0 0 C I J R 375 [(0, aR (some x0)), (1, aI x1), (2, aI x2)] []) {x0 : Nat} {x1 : Int32} {x2 : Int32}
    (h : ((x1 < x2 →
      gK Γ (.inl (some (aI (1 : Int32)))) C I J R) ∧
      (¬ x1 < x2 →
      (C x0).1 = 3 ∧
      ∃ q3 : Nat, R x0 36 = some q3 ∧
      (C q3).1 = 24 ∧
      vp_in x2 (C q3).2 ∧
      ((¬ (I q3 x2.toNatClampNeg) = 0 →
      ∃ q7 : Nat, R x0 7 = some q7 ∧
      (C q7).1 = 20 ∧
      vp_in x2 (C q7).2 ∧
      (((I q7 x2.toNatClampNeg) = (1 : Int32) →
      Q131 x0 x1 x2 C I J R) ∧
      (¬ (I q7 x2.toNatClampNeg) = (1 : Int32) →
      ((¬ (I q7 x2.toNatClampNeg) = (2 : Int32) →
      ∃ q12 : Nat, R x0 24 = some q12 ∧
      (C q12).1 = 21 ∧
      vp_in x2 (C q12).2 ∧
      Q141 x0 x1 x2 (J q12 x2.toNatClampNeg) C I J R) ∧
      ((I q7 x2.toNatClampNeg) = (2 : Int32) →
      Q131 x0 x1 x2 C I J R))))) ∧
      ((I q3 x2.toNatClampNeg) = 0 →
      Q375 x0 x1 x2 C I J R))))) :
    AW Γ 0 0 C I J R 94 [(0, aR (some x0)), (1, aI x1), (2, aI x2)] [] := by
  have G0 := G.1
  refine aw_iload_n G0 2 rfl dX2_bounds_94 ?_
  refine aw_iload_n G0 1 rfl dX2_bounds_95 ?_
  refine aw_icmp_gt G0 381 dX2_bounds_96 (by decide) (fun c1 => ?_) (fun c1 => ?_)
  · have h := h.1 c1
    refine aw_iconst (v := (1 : Int32)) G0 dX2_bounds_381 (by decide) ?_
    exact aw_ireturn G0 (Or.inr ⟨rfl, by decide⟩) (by rw [G.2.2]; decide) (by rw [G.2.1]; decide) dX2_bounds_382 h
  · have h := h.2 c1
    refine aw_aload_n G0 0 rfl dX2_bounds_99 ?_
    obtain ⟨k2, h⟩ := h
    refine aw_getR (f := 36) G0 (by rw [k2]; exact fb_X2_106) dX2_bounds_100 ?_
    refine aw_iload_n G0 2 rfl dX2_bounds_103 ?_
    obtain ⟨q3, e3, h⟩ := h
    refine aw_dr1 e3 ?_
    obtain ⟨k4, h⟩ := h
    obtain ⟨k5, h⟩ := h
    refine aw_zald G0 k4 k5 dX2_bounds_104 ?_
    refine aw_if_ne G0 111 dX2_bounds_105 (by decide) (fun c6 => ?_) (fun c6 => ?_)
    · have h := h.1 c6
      refine aw_aload_n G0 0 rfl dX2_bounds_111 ?_
      refine aw_getR (f := 7) G0 (by rw [k2]; exact fb_X2_24) dX2_bounds_112 ?_
      refine aw_iload_n G0 2 rfl dX2_bounds_115 ?_
      obtain ⟨q7, e7, h⟩ := h
      refine aw_dr1 e7 ?_
      obtain ⟨k8, h⟩ := h
      obtain ⟨k9, h⟩ := h
      refine aw_iald G0 (Or.inl k8) k9 dX2_bounds_116 ?_
      refine aw_iconst (v := (1 : Int32)) G0 dX2_bounds_117 (by decide) ?_
      refine aw_icmp_eq G0 131 dX2_bounds_118 (by decide) (fun c10 => ?_) (fun c10 => ?_)
      · have h := h.1 c10
        exact (w131 x0 x1 x2 C I J R h)
      · have h := h.2 c10
        refine aw_aload_n G0 0 rfl dX2_bounds_121 ?_
        refine aw_getR (f := 7) G0 (by rw [k2]; exact fb_X2_24) dX2_bounds_122 ?_
        refine aw_iload_n G0 2 rfl dX2_bounds_125 ?_
        refine aw_dr1 e7 ?_
        refine aw_iald G0 (Or.inl k8) k9 dX2_bounds_126 ?_
        refine aw_iconst (v := (2 : Int32)) G0 dX2_bounds_127 (by decide) ?_
        refine aw_icmp_ne G0 135 dX2_bounds_128 (by decide) (fun c11 => ?_) (fun c11 => ?_)
        · have h := h.1 c11
          refine aw_aload_n G0 0 rfl dX2_bounds_135 ?_
          refine aw_getR (f := 24) G0 (by rw [k2]; exact fb_X2_72) dX2_bounds_136 ?_
          refine aw_iload_n G0 2 rfl dX2_bounds_139 ?_
          obtain ⟨q12, e12, h⟩ := h
          refine aw_dr1 e12 ?_
          obtain ⟨k13, h⟩ := h
          obtain ⟨k14, h⟩ := h
          refine aw_lald G0 k13 k14 dX2_bounds_140 ?_
          exact (w141 x0 x1 x2 (J q12 x2.toNatClampNeg) C I J R h)
        · have h := h.2 c11
          exact (w131 x0 x1 x2 C I J R h)
    · have h := h.2 c6
      refine aw_goto G0 375 dX2_bounds_108 (by decide) ?_
      exact (w375 x0 x1 x2 C I J R h)
theorem bX2_bounds_131 (G : Gb Γ yX2_bounds cX2_bounds 6 (some .boolean) [] rmX2_bounds bdX2_bounds)
    {Q141 : Nat → Int32 → Int32 → Int64 → MC → MI → MJ → MR → Prop} (w141 : ∀ (x0 : Nat) (x1 : Int32) (x2 : Int32) (s0 : Int64) (C : MC) (I : MI) (J : MJ) (R : MR), Q141 x0 x1 x2 s0 C I J R → AW Γ 0 0 C I J R 141 [(0, aR (some x0)), (1, aI x1), (2, aI x2)] [aJ s0]) {x0 : Nat} {x1 : Int32} {x2 : Int32}
    (h : Q141 x0 x1 x2 (1 : Int64) C I J R) :
    AW Γ 0 0 C I J R 131 [(0, aR (some x0)), (1, aI x1), (2, aI x2)] [] := by
  have G0 := G.1
  refine aw_lconst (v := (1 : Int64)) G0 dX2_bounds_131 (by decide) ?_
  refine aw_goto G0 141 dX2_bounds_132 (by decide) ?_
  exact (w141 x0 x1 x2 (1 : Int64) C I J R h)
theorem bX2_bounds_141 (G : Gb Γ yX2_bounds cX2_bounds 6 (some .boolean) [] rmX2_bounds bdX2_bounds)
    {Q145 : Nat → Int32 → Int32 → Int64 → Int32 → MC → MI → MJ → MR → Prop} (w145 : ∀ (x0 : Nat) (x1 : Int32) (x2 : Int32) (x3 : Int64) (x5 : Int32) (C : MC) (I : MI) (J : MJ) (R : MR), Q145 x0 x1 x2 x3 x5 C I J R → AW Γ 0 0 C I J R 145 [(0, aR (some x0)), (1, aI x1), (2, aI x2), (3, aJ x3), (5, aI x5)] []) {x0 : Nat} {x1 : Int32} {x2 : Int32} {s0 : Int64}
    (h : Q145 x0 x1 x2 s0 (0 : Int32) C I J R) :
    AW Γ 0 0 C I J R 141 [(0, aR (some x0)), (1, aI x1), (2, aI x2)] [aJ s0] := by
  have G0 := G.1
  refine aw_lstore_n (lv' := [(3, aJ s0), (0, aR (some x0)), (1, aI x1), (2, aI x2)]) G0 (by decide) rfl dX2_bounds_141 ?_
  refine aw_iconst (v := (0 : Int32)) G0 dX2_bounds_142 (by decide) ?_
  refine aw_istore (lv' := [(5, aI (0 : Int32)), (3, aJ s0), (0, aR (some x0)), (1, aI x1), (2, aI x2)]) G0 (by decide) rfl dX2_bounds_143 ?_
  exact (aw_lv [2, 3, 4, 1, 0] rfl (w145 x0 x1 x2 s0 (0 : Int32) C I J R h))
theorem bX2_bounds_145 (G : Gb Γ yX2_bounds cX2_bounds 6 (some .boolean) [] rmX2_bounds bdX2_bounds)
    {Q171 : Nat → Int32 → Int32 → Int64 → Int32 → MC → MI → MJ → MR → Prop} (w171 : ∀ (x0 : Nat) (x1 : Int32) (x2 : Int32) (x3 : Int64) (x5 : Int32) (C : MC) (I : MI) (J : MJ) (R : MR), Q171 x0 x1 x2 x3 x5 C I J R → AW Γ 0 0 C I J R 171 [(0, aR (some x0)), (1, aI x1), (2, aI x2), (3, aJ x3), (5, aI x5)] [])
    {Q238 : Nat → Int32 → Int32 → Int64 → MC → MI → MJ → MR → Prop} (w238 : ∀ (x0 : Nat) (x1 : Int32) (x2 : Int32) (x3 : Int64) (C : MC) (I : MI) (J : MJ) (R : MR), Q238 x0 x1 x2 x3 C I J R → AW Γ 0 0 C I J R 238 [(0, aR (some x0)), (1, aI x1), (2, aI x2), (3, aJ x3)] []) {x0 : Nat} {x1 : Int32} {x2 : Int32} {x3 : Int64} {x5 : Int32}
    (h : (((4 : Int32) ≤ x5 →
      Q238 x0 x1 x2 x3 C I J R) ∧
      (¬ (4 : Int32) ≤ x5 →
      (C x0).1 = 3 ∧
      ∃ q3 : Nat, R x0 7 = some q3 ∧
      (C q3).1 = 20 ∧
      vp_in x2 (C q3).2 ∧
      (((I q3 x2.toNatClampNeg) = (1 : Int32) →
      Q171 x0 x1 x2 x3 x5 C I J R) ∧
      (¬ (I q3 x2.toNatClampNeg) = (1 : Int32) →
      ((¬ (I q3 x2.toNatClampNeg) = (2 : Int32) →
      Q238 x0 x1 x2 x3 C I J R) ∧
      ((I q3 x2.toNatClampNeg) = (2 : Int32) →
      Q171 x0 x1 x2 x3 x5 C I J R))))))) :
    AW Γ 0 0 C I J R 145 [(0, aR (some x0)), (1, aI x1), (2, aI x2), (3, aJ x3), (5, aI x5)] [] := by
  have G0 := G.1
  refine aw_iload G0 4 rfl dX2_bounds_145 ?_
  refine aw_iconst (v := (4 : Int32)) G0 dX2_bounds_147 (by decide) ?_
  refine aw_icmp_ge G0 238 dX2_bounds_148 (by decide) (fun c1 => ?_) (fun c1 => ?_)
  · have h := h.1 c1
    exact (aw_lv [0, 1, 2, 3] rfl (w238 x0 x1 x2 x3 C I J R h))
  · have h := h.2 c1
    refine aw_aload_n G0 0 rfl dX2_bounds_151 ?_
    obtain ⟨k2, h⟩ := h
    refine aw_getR (f := 7) G0 (by rw [k2]; exact fb_X2_24) dX2_bounds_152 ?_
    refine aw_iload_n G0 2 rfl dX2_bounds_155 ?_
    obtain ⟨q3, e3, h⟩ := h
    refine aw_dr1 e3 ?_
    obtain ⟨k4, h⟩ := h
    obtain ⟨k5, h⟩ := h
    refine aw_iald G0 (Or.inl k4) k5 dX2_bounds_156 ?_
    refine aw_iconst (v := (1 : Int32)) G0 dX2_bounds_157 (by decide) ?_
    refine aw_icmp_eq G0 171 dX2_bounds_158 (by decide) (fun c6 => ?_) (fun c6 => ?_)
    · have h := h.1 c6
      exact (w171 x0 x1 x2 x3 x5 C I J R h)
    · have h := h.2 c6
      refine aw_aload_n G0 0 rfl dX2_bounds_161 ?_
      refine aw_getR (f := 7) G0 (by rw [k2]; exact fb_X2_24) dX2_bounds_162 ?_
      refine aw_iload_n G0 2 rfl dX2_bounds_165 ?_
      refine aw_dr1 e3 ?_
      refine aw_iald G0 (Or.inl k4) k5 dX2_bounds_166 ?_
      refine aw_iconst (v := (2 : Int32)) G0 dX2_bounds_167 (by decide) ?_
      refine aw_icmp_ne G0 238 dX2_bounds_168 (by decide) (fun c7 => ?_) (fun c7 => ?_)
      · have h := h.1 c7
        exact (aw_lv [0, 1, 2, 3] rfl (w238 x0 x1 x2 x3 C I J R h))
      · have h := h.2 c7
        exact (w171 x0 x1 x2 x3 x5 C I J R h)
theorem bX2_bounds_171 (G : Gb Γ yX2_bounds cX2_bounds 6 (some .boolean) [] rmX2_bounds bdX2_bounds)
    {Q145 : Nat → Int32 → Int32 → Int64 → Int32 → MC → MI → MJ → MR → Prop} (w145 : ∀ (x0 : Nat) (x1 : Int32) (x2 : Int32) (x3 : Int64) (x5 : Int32) (C : MC) (I : MI) (J : MJ) (R : MR), Q145 x0 x1 x2 x3 x5 C I J R → AW Γ 0 0 C I J R 145 [(0, aR (some x0)), (1, aI x1), (2, aI x2), (3, aJ x3), (5, aI x5)] [])
    {Q238 : Nat → Int32 → Int32 → Int64 → MC → MI → MJ → MR → Prop} (w238 : ∀ (x0 : Nat) (x1 : Int32) (x2 : Int32) (x3 : Int64) (C : MC) (I : MI) (J : MJ) (R : MR), Q238 x0 x1 x2 x3 C I J R → AW Γ 0 0 C I J R 238 [(0, aR (some x0)), (1, aI x1), (2, aI x2), (3, aJ x3)] []) {x0 : Nat} {x1 : Int32} {x2 : Int32} {x3 : Int64} {x5 : Int32}
    (h : (C x0).1 = 3 ∧
      ∃ q2 : Nat, R x0 8 = some q2 ∧
      (C q2).1 = 20 ∧
      vp_in (((4 : Int32) * x2) + x5) (C q2).2 ∧
      (((I q2 (((4 : Int32) * x2) + x5).toNatClampNeg) = (-1 : Int32) →
      Q238 x0 x1 x2 x3 C I J R) ∧
      (¬ (I q2 (((4 : Int32) * x2) + x5).toNatClampNeg) = (-1 : Int32) →
      ∃ q6 : Nat, R x0 33 = some q6 ∧
      (C q6).1 = 21 ∧
      vp_in (I q2 (((4 : Int32) * x2) + x5).toNatClampNeg) (C q6).2 ∧
      ¬ (J q6 (I q2 (((4 : Int32) * x2) + x5).toNatClampNeg).toNatClampNeg) = 0 ∧
      ((x3 ≤ ((1152921504606846975 : Int64) / (J q6 (I q2 (((4 : Int32) * x2) + x5).toNatClampNeg).toNatClampNeg)) →
      Q145 x0 x1 x2 (x3 * (J q6 (I q2 (((4 : Int32) * x2) + x5).toNatClampNeg).toNatClampNeg)) (x5 + 1) C I J R) ∧
      (¬ x3 ≤ ((1152921504606846975 : Int64) / (J q6 (I q2 (((4 : Int32) * x2) + x5).toNatClampNeg).toNatClampNeg)) →
      gK Γ (.inl (some (aI (0 : Int32)))) C I J R))))) :
    AW Γ 0 0 C I J R 171 [(0, aR (some x0)), (1, aI x1), (2, aI x2), (3, aJ x3), (5, aI x5)] [] := by
  have G0 := G.1
  refine aw_aload_n G0 0 rfl dX2_bounds_171 ?_
  obtain ⟨k1, h⟩ := h
  refine aw_getR (f := 8) G0 (by rw [k1]; exact fb_X2_27) dX2_bounds_172 ?_
  refine aw_iconst (v := (4 : Int32)) G0 dX2_bounds_175 (by decide) ?_
  refine aw_iload_n G0 2 rfl dX2_bounds_176 ?_
  refine aw_imul G0 dX2_bounds_177 ?_
  refine aw_iload G0 4 rfl dX2_bounds_178 ?_
  refine aw_iadd G0 dX2_bounds_180 ?_
  obtain ⟨q2, e2, h⟩ := h
  refine aw_dr1 e2 ?_
  obtain ⟨k3, h⟩ := h
  obtain ⟨k4, h⟩ := h
  refine aw_iald G0 (Or.inl k3) k4 dX2_bounds_181 ?_
  refine aw_iconst (v := (-1 : Int32)) G0 dX2_bounds_182 (by decide) ?_
  refine aw_icmp_eq G0 238 dX2_bounds_183 (by decide) (fun c5 => ?_) (fun c5 => ?_)
  · have h := h.1 c5
    exact (aw_lv [0, 1, 2, 3] rfl (w238 x0 x1 x2 x3 C I J R h))
  · have h := h.2 c5
    refine aw_lload_n G0 3 rfl dX2_bounds_186 ?_
    refine aw_ldc2 (v := (1152921504606846975 : Int64)) G0 q1217 dX2_bounds_187 ?_
    refine aw_aload_n G0 0 rfl dX2_bounds_190 ?_
    refine aw_getR (f := 33) G0 (by rw [k1]; exact fb_X2_97) dX2_bounds_191 ?_
    refine aw_aload_n G0 0 rfl dX2_bounds_194 ?_
    refine aw_getR (f := 8) G0 (by rw [k1]; exact fb_X2_27) dX2_bounds_195 ?_
    refine aw_iconst (v := (4 : Int32)) G0 dX2_bounds_198 (by decide) ?_
    refine aw_iload_n G0 2 rfl dX2_bounds_199 ?_
    refine aw_imul G0 dX2_bounds_200 ?_
    refine aw_iload G0 4 rfl dX2_bounds_201 ?_
    refine aw_iadd G0 dX2_bounds_203 ?_
    refine aw_dr1 e2 ?_
    refine aw_iald G0 (Or.inl k3) k4 dX2_bounds_204 ?_
    obtain ⟨q6, e6, h⟩ := h
    refine aw_dr1 e6 ?_
    obtain ⟨k7, h⟩ := h
    obtain ⟨k8, h⟩ := h
    refine aw_lald G0 k7 k8 dX2_bounds_205 ?_
    obtain ⟨k9, h⟩ := h
    refine aw_ldiv G0 k9 dX2_bounds_206 ?_
    refine aw_lif_le G0 213 dX2_bounds_207 dX2_bounds_208 (by decide) (fun c10 => ?_) (fun c10 => ?_)
    · have h := h.1 c10
      refine aw_lload_n G0 3 rfl dX2_bounds_213 ?_
      refine aw_aload_n G0 0 rfl dX2_bounds_214 ?_
      refine aw_getR (f := 33) G0 (by rw [k1]; exact fb_X2_97) dX2_bounds_215 ?_
      refine aw_aload_n G0 0 rfl dX2_bounds_218 ?_
      refine aw_getR (f := 8) G0 (by rw [k1]; exact fb_X2_27) dX2_bounds_219 ?_
      refine aw_iconst (v := (4 : Int32)) G0 dX2_bounds_222 (by decide) ?_
      refine aw_iload_n G0 2 rfl dX2_bounds_223 ?_
      refine aw_imul G0 dX2_bounds_224 ?_
      refine aw_iload G0 4 rfl dX2_bounds_225 ?_
      refine aw_iadd G0 dX2_bounds_227 ?_
      refine aw_dr1 e2 ?_
      refine aw_iald G0 (Or.inl k3) k4 dX2_bounds_228 ?_
      refine aw_dr1 e6 ?_
      refine aw_lald G0 k7 k8 dX2_bounds_229 ?_
      refine aw_lmul G0 dX2_bounds_230 ?_
      refine aw_lstore_n (lv' := [(3, aJ (x3 * (J q6 (I q2 (((4 : Int32) * x2) + x5).toNatClampNeg).toNatClampNeg))), (0, aR (some x0)), (1, aI x1), (2, aI x2), (5, aI x5)]) G0 (by decide) rfl dX2_bounds_231 ?_
      refine aw_iinc (v := x5 + 1) (lv' := [(5, aI (x5 + 1)), (3, aJ (x3 * (J q6 (I q2 (((4 : Int32) * x2) + x5).toNatClampNeg).toNatClampNeg))), (0, aR (some x0)), (1, aI x1), (2, aI x2)]) G0 4 rfl rfl (by decide) rfl dX2_bounds_232 ?_
      refine aw_goto G0 145 dX2_bounds_235 (by decide) ?_
      exact (aw_lv [2, 3, 4, 1, 0] rfl (w145 x0 x1 x2 (x3 * (J q6 (I q2 (((4 : Int32) * x2) + x5).toNatClampNeg).toNatClampNeg)) (x5 + 1) C I J R h))
    · have h := h.2 c10
      refine aw_iconst (v := (0 : Int32)) G0 dX2_bounds_211 (by decide) ?_
      exact aw_ireturn G0 (Or.inr ⟨rfl, by decide⟩) (by rw [G.2.2]; decide) (by rw [G.2.1]; decide) dX2_bounds_212 h
theorem bX2_bounds_238 (G : Gb Γ yX2_bounds cX2_bounds 6 (some .boolean) [] rmX2_bounds bdX2_bounds) {F_X2_told0 : SPF} (S_X2_told0 : SpX2_told0 (gL Γ) F_X2_told0)
    {Q284 : Nat → Int32 → Int32 → Int64 → MC → MI → MJ → MR → Prop} (w284 : ∀ (x0 : Nat) (x1 : Int32) (x2 : Int32) (x3 : Int64) (C : MC) (I : MI) (J : MJ) (R : MR), Q284 x0 x1 x2 x3 C I J R → AW Γ 0 0 C I J R 284 [(0, aR (some x0)), (1, aI x1), (2, aI x2), (3, aJ x3)] []) {x0 : Nat} {x1 : Int32} {x2 : Int32} {x3 : Int64}
    (h : (C x0).1 = 3 ∧
      ∃ q2 : Nat, R x0 7 = some q2 ∧
      (C q2).1 = 20 ∧
      vp_in x2 (C q2).2 ∧
      ((¬ (I q2 x2.toNatClampNeg) = (2 : Int32) →
      Q284 x0 x1 x2 x3 C I J R) ∧
      ((I q2 x2.toNatClampNeg) = (2 : Int32) →
      F_X2_told0 [aR (some x0), aI x2] C I J R (fun o C6 I7 J8 R9 =>
      ∃ r10 : Int32, o = .inl (some (aI r10)) ∧
      (C6 x0).1 = 3 ∧
      ∃ q12 : Nat, R9 x0 9 = some q12 ∧
      (C6 q12).1 = 20 ∧
      vp_in x2 (C6 q12).2 ∧
      ¬ (((r10 - (I7 q12 x2.toNatClampNeg)) + (1 : Int32)).toInt64) = 0 ∧
      ((x3 ≤ ((1152921504606846975 : Int64) / (((r10 - (I7 q12 x2.toNatClampNeg)) + (1 : Int32)).toInt64)) →
      Q284 x0 x1 x2 (x3 * (((r10 - (I7 q12 x2.toNatClampNeg)) + (1 : Int32)).toInt64)) C6 I7 J8 R9) ∧
      (¬ x3 ≤ ((1152921504606846975 : Int64) / (((r10 - (I7 q12 x2.toNatClampNeg)) + (1 : Int32)).toInt64)) →
      gK Γ (.inl (some (aI (0 : Int32)))) C6 I7 J8 R9)))))) :
    AW Γ 0 0 C I J R 238 [(0, aR (some x0)), (1, aI x1), (2, aI x2), (3, aJ x3)] [] := by
  have G0 := G.1
  refine aw_aload_n G0 0 rfl dX2_bounds_238 ?_
  obtain ⟨k1, h⟩ := h
  refine aw_getR (f := 7) G0 (by rw [k1]; exact fb_X2_24) dX2_bounds_239 ?_
  refine aw_iload_n G0 2 rfl dX2_bounds_242 ?_
  obtain ⟨q2, e2, h⟩ := h
  refine aw_dr1 e2 ?_
  obtain ⟨k3, h⟩ := h
  obtain ⟨k4, h⟩ := h
  refine aw_iald G0 (Or.inl k3) k4 dX2_bounds_243 ?_
  refine aw_iconst (v := (2 : Int32)) G0 dX2_bounds_244 (by decide) ?_
  refine aw_icmp_ne G0 284 dX2_bounds_245 (by decide) (fun c5 => ?_) (fun c5 => ?_)
  · have h := h.1 c5
    exact (w284 x0 x1 x2 x3 C I J R h)
  · have h := h.2 c5
    refine aw_aload_n G0 0 rfl dX2_bounds_248 ?_
    refine aw_iload_n G0 2 rfl dX2_bounds_249 ?_
    refine aw_callV (k1 := 0) (n1 := 0) (k2 := 0) (n2 := 0) (st := []) G0 S_X2_told0 gi_X2_254 (Or.inl (by rw [k1]; decide)) (by rw [k1]; rfl) md_X2_told0 (Nat.le_of_ble_eq_true rfl) (by decide) (by rw [G.2.1]; decide) (by rw [G.2.1]; decide) [aI x2] rfl rfl dX2_bounds_250 h (fun o C6 I7 J8 R9 h => ?_)
    obtain ⟨r10, rfl, h⟩ := h
    show AW Γ 0 0 C6 I7 J8 R9 (250 + 3) [(0, aR (some x0)), (1, aI x1), (2, aI x2), (3, aJ x3)] [aI r10]
    refine aw_aload_n G0 0 rfl dX2_bounds_253 ?_
    obtain ⟨k11, h⟩ := h
    refine aw_getR (f := 9) G0 (by rw [k11]; exact fb_X2_30) dX2_bounds_254 ?_
    refine aw_iload_n G0 2 rfl dX2_bounds_257 ?_
    obtain ⟨q12, e12, h⟩ := h
    refine aw_dr1 e12 ?_
    obtain ⟨k13, h⟩ := h
    obtain ⟨k14, h⟩ := h
    refine aw_iald G0 (Or.inl k13) k14 dX2_bounds_258 ?_
    refine aw_isub G0 dX2_bounds_259 ?_
    refine aw_iconst (v := (1 : Int32)) G0 dX2_bounds_260 (by decide) ?_
    refine aw_iadd G0 dX2_bounds_261 ?_
    refine aw_istore (lv' := [(5, aI ((r10 - (I7 q12 x2.toNatClampNeg)) + (1 : Int32))), (0, aR (some x0)), (1, aI x1), (2, aI x2), (3, aJ x3)]) G0 (by decide) rfl dX2_bounds_262 ?_
    refine aw_lload_n G0 4 rfl dX2_bounds_264 ?_
    refine aw_ldc2 (v := (1152921504606846975 : Int64)) G0 q1217 dX2_bounds_265 ?_
    refine aw_iload G0 0 rfl dX2_bounds_268 ?_
    refine aw_i2l G0 dX2_bounds_270 ?_
    obtain ⟨k15, h⟩ := h
    refine aw_ldiv G0 k15 dX2_bounds_271 ?_
    refine aw_lif_le G0 278 dX2_bounds_272 dX2_bounds_273 (by decide) (fun c16 => ?_) (fun c16 => ?_)
    · have h := h.1 c16
      refine aw_lload_n G0 4 rfl dX2_bounds_278 ?_
      refine aw_iload G0 0 rfl dX2_bounds_279 ?_
      refine aw_i2l G0 dX2_bounds_281 ?_
      refine aw_lmul G0 dX2_bounds_282 ?_
      refine aw_lstore_n (lv' := [(3, aJ (x3 * (((r10 - (I7 q12 x2.toNatClampNeg)) + (1 : Int32)).toInt64))), (5, aI ((r10 - (I7 q12 x2.toNatClampNeg)) + (1 : Int32))), (0, aR (some x0)), (1, aI x1), (2, aI x2)]) G0 (by decide) rfl dX2_bounds_283 ?_
      exact (aw_lv [2, 3, 4, 0] rfl (w284 x0 x1 x2 (x3 * (((r10 - (I7 q12 x2.toNatClampNeg)) + (1 : Int32)).toInt64)) C6 I7 J8 R9 h))
    · have h := h.2 c16
      refine aw_iconst (v := (0 : Int32)) G0 dX2_bounds_276 (by decide) ?_
      exact aw_ireturn G0 (Or.inr ⟨rfl, by decide⟩) (by rw [G.2.2]; decide) (by rw [G.2.1]; decide) dX2_bounds_277 h
theorem bX2_bounds_284 (G : Gb Γ yX2_bounds cX2_bounds 6 (some .boolean) [] rmX2_bounds bdX2_bounds) {F_X2_boundRow : SPF} (S_X2_boundRow : SpX2_boundRow (gL Γ) F_X2_boundRow)
    {Q322 : Nat → Int32 → Int32 → Int64 → Int32 → MC → MI → MJ → MR → Prop} (w322 : ∀ (x0 : Nat) (x1 : Int32) (x2 : Int32) (x3 : Int64) (x5 : Int32) (C : MC) (I : MI) (J : MJ) (R : MR), Q322 x0 x1 x2 x3 x5 C I J R → AW Γ 0 0 C I J R 322 [(0, aR (some x0)), (1, aI x1), (2, aI x2), (3, aJ x3), (5, aI x5)] [])
    {Q375 : Nat → Int32 → Int32 → MC → MI → MJ → MR → Prop} (w375 : ∀ (x0 : Nat) (x1 : Int32) (x2 : Int32) (C : MC) (I : MI) (J : MJ) (R : MR), Q375 x0 x1 x2 C I J R → AW Γ 0 0 C I J R 375 [(0, aR (some x0)), (1, aI x1), (2, aI x2)] []) {x0 : Nat} {x1 : Int32} {x2 : Int32} {x3 : Int64}
    (h : ((x3 < (1152921504606846976 : Int64) →
      (C x0).1 = 3 ∧
      ∃ q3 : Nat, R x0 33 = some q3 ∧
      (C q3).1 = 21 ∧
      vp_in x2 (C q3).2 ∧
      ∀ J6 : MJ, J6 = va_up J q3 (va_up (J q3) x2.toNatClampNeg x3) →
      ∃ q7 : Nat, R x0 7 = some q7 ∧
      (C q7).1 = 20 ∧
      vp_in x2 (C q7).2 ∧
      ((¬ (I q7 x2.toNatClampNeg) = (1 : Int32) →
      Q322 x0 x1 x2 x3 (0 : Int32) C I J6 R) ∧
      ((I q7 x2.toNatClampNeg) = (1 : Int32) →
      F_X2_boundRow [aR (some x0), aI x2] C I J6 R (fun o C11 I12 J13 R14 =>
      o = .inl none ∧
      Q375 x0 x1 x2 C11 I12 J13 R14)))) ∧
      (¬ x3 < (1152921504606846976 : Int64) →
      gK Γ (.inl (some (aI (0 : Int32)))) C I J R))) :
    AW Γ 0 0 C I J R 284 [(0, aR (some x0)), (1, aI x1), (2, aI x2), (3, aJ x3)] [] := by
  have G0 := G.1
  refine aw_lload_n G0 3 rfl dX2_bounds_284 ?_
  refine aw_ldc2 (v := (1152921504606846976 : Int64)) G0 q1222 dX2_bounds_285 ?_
  refine aw_lif_lt G0 294 dX2_bounds_288 dX2_bounds_289 (by decide) (fun c1 => ?_) (fun c1 => ?_)
  · have h := h.1 c1
    refine aw_aload_n G0 0 rfl dX2_bounds_294 ?_
    obtain ⟨k2, h⟩ := h
    refine aw_getR (f := 33) G0 (by rw [k2]; exact fb_X2_97) dX2_bounds_295 ?_
    refine aw_iload_n G0 2 rfl dX2_bounds_298 ?_
    refine aw_lload_n G0 3 rfl dX2_bounds_299 ?_
    obtain ⟨q3, e3, h⟩ := h
    refine aw_dr2 e3 ?_
    obtain ⟨k4, h⟩ := h
    obtain ⟨k5, h⟩ := h
    refine aw_last G0 k4 k5 dX2_bounds_300 ?_
    generalize gJ6 : va_up J q3 (va_up (J q3) x2.toNatClampNeg x3) = J6
    have h := h J6 gJ6.symm
    refine aw_aload_n G0 0 rfl dX2_bounds_301 ?_
    refine aw_getR (f := 7) G0 (by rw [k2]; exact fb_X2_24) dX2_bounds_302 ?_
    refine aw_iload_n G0 2 rfl dX2_bounds_305 ?_
    obtain ⟨q7, e7, h⟩ := h
    refine aw_dr1 e7 ?_
    obtain ⟨k8, h⟩ := h
    obtain ⟨k9, h⟩ := h
    refine aw_iald G0 (Or.inl k8) k9 dX2_bounds_306 ?_
    refine aw_iconst (v := (1 : Int32)) G0 dX2_bounds_307 (by decide) ?_
    refine aw_icmp_ne G0 319 dX2_bounds_308 (by decide) (fun c10 => ?_) (fun c10 => ?_)
    · have h := h.1 c10
      refine aw_iconst (v := (0 : Int32)) G0 dX2_bounds_319 (by decide) ?_
      refine aw_istore (lv' := [(5, aI (0 : Int32)), (0, aR (some x0)), (1, aI x1), (2, aI x2), (3, aJ x3)]) G0 (by decide) rfl dX2_bounds_320 ?_
      exact (aw_lv [1, 2, 3, 4, 0] rfl (w322 x0 x1 x2 x3 (0 : Int32) C I J6 R h))
    · have h := h.2 c10
      refine aw_aload_n G0 0 rfl dX2_bounds_311 ?_
      refine aw_iload_n G0 2 rfl dX2_bounds_312 ?_
      refine aw_callV (k1 := 0) (n1 := 0) (k2 := 0) (n2 := 0) (st := []) G0 S_X2_boundRow gi_X2_259 (Or.inl (by rw [k2]; decide)) (by rw [k2]; rfl) md_X2_boundRow (Nat.le_of_ble_eq_true rfl) (by decide) (by rw [G.2.1]; decide) (by rw [G.2.1]; decide) [aI x2] rfl rfl dX2_bounds_313 h (fun o C11 I12 J13 R14 h => ?_)
      obtain ⟨rfl, h⟩ := h
      show AW Γ 0 0 C11 I12 J13 R14 (313 + 3) [(0, aR (some x0)), (1, aI x1), (2, aI x2), (3, aJ x3)] []
      refine aw_goto G0 375 dX2_bounds_316 (by decide) ?_
      exact (aw_lv [0, 1, 2] rfl (w375 x0 x1 x2 C11 I12 J13 R14 h))
  · have h := h.2 c1
    refine aw_iconst (v := (0 : Int32)) G0 dX2_bounds_292 (by decide) ?_
    exact aw_ireturn G0 (Or.inr ⟨rfl, by decide⟩) (by rw [G.2.2]; decide) (by rw [G.2.1]; decide) dX2_bounds_293 h
theorem bX2_bounds_322 (G : Gb Γ yX2_bounds cX2_bounds 6 (some .boolean) [] rmX2_bounds bdX2_bounds) {F_X2_at : SPF} (S_X2_at : SpX2_at (gL Γ) F_X2_at) {F_X2_by0 : SPF} (S_X2_by0 : SpX2_by0 (gL Γ) F_X2_by0) {F_X2_boundFan : SPF} (S_X2_boundFan : SpX2_boundFan (gL Γ) F_X2_boundFan)
    {Q368 : Nat → Int32 → Int32 → Int64 → Int32 → Option Nat → Int32 → Int64 → MC → MI → MJ → MR → Prop} (w368 : ∀ (x0 : Nat) (x1 : Int32) (x2 : Int32) (x3 : Int64) (x5 : Int32) (s0 : Option Nat) (s1 : Int32) (s2 : Int64) (C : MC) (I : MI) (J : MJ) (R : MR), Q368 x0 x1 x2 x3 x5 s0 s1 s2 C I J R → AW Γ 0 0 C I J R 368 [(0, aR (some x0)), (1, aI x1), (2, aI x2), (3, aJ x3), (5, aI x5)] [aJ s2, aI s1, aR s0])
    {Q375 : Nat → Int32 → Int32 → MC → MI → MJ → MR → Prop} (w375 : ∀ (x0 : Nat) (x1 : Int32) (x2 : Int32) (C : MC) (I : MI) (J : MJ) (R : MR), Q375 x0 x1 x2 C I J R → AW Γ 0 0 C I J R 375 [(0, aR (some x0)), (1, aI x1), (2, aI x2)] []) {x0 : Nat} {x1 : Int32} {x2 : Int32} {x3 : Int64} {x5 : Int32}
    (h : (((121 : Int32) ≤ x5 →
      Q375 x0 x1 x2 C I J R) ∧
      (¬ (121 : Int32) ≤ x5 →
      (C x0).1 = 3 ∧
      F_X2_at [aI x2, aI x5] C I J R (fun o C3 I4 J5 R6 =>
      ∃ r7 : Int32, o = .inl (some (aI r7)) ∧
      (C3 x0).1 = 3 ∧
      ∃ q9 : Nat, R6 x0 7 = some q9 ∧
      (C3 q9).1 = 20 ∧
      vp_in x2 (C3 q9).2 ∧
      ((¬ (I4 q9 x2.toNatClampNeg) = (2 : Int32) →
      F_X2_by0 [aR (some x0), aI x2, aI x5] C3 I4 J5 R6 (fun o C13 I14 J15 R16 =>
      ∃ r17 : Int64, o = .inl (some (aJ r17)) ∧
      Q368 x0 x1 x2 x3 x5 (R x0 32) r7 (x3 - r17) C13 I14 J15 R16)) ∧
      ((I4 q9 x2.toNatClampNeg) = (2 : Int32) →
      F_X2_boundFan [aR (some x0), aI x2, aI x5] C3 I4 J5 R6 (fun o C18 I19 J20 R21 =>
      ∃ r22 : Int64, o = .inl (some (aJ r22)) ∧
      Q368 x0 x1 x2 x3 x5 (R x0 32) r7 r22 C18 I19 J20 R21))))))) :
    AW Γ 0 0 C I J R 322 [(0, aR (some x0)), (1, aI x1), (2, aI x2), (3, aJ x3), (5, aI x5)] [] := by
  have G0 := G.1
  refine aw_iload G0 4 rfl dX2_bounds_322 ?_
  refine aw_bipush (v := (121 : Int32)) G0 dX2_bounds_324 (by decide) ?_
  refine aw_icmp_ge G0 375 dX2_bounds_326 (by decide) (fun c1 => ?_) (fun c1 => ?_)
  · have h := h.1 c1
    exact (aw_lv [0, 1, 2] rfl (w375 x0 x1 x2 C I J R h))
  · have h := h.2 c1
    refine aw_aload_n G0 0 rfl dX2_bounds_329 ?_
    obtain ⟨k2, h⟩ := h
    refine aw_getR (f := 32) G0 (by rw [k2]; exact fb_X2_94) dX2_bounds_330 ?_
    refine aw_iload_n G0 2 rfl dX2_bounds_333 ?_
    refine aw_iload G0 4 rfl dX2_bounds_334 ?_
    refine aw_callS (k1 := 0) (n1 := 0) (k2 := 0) (n2 := 0) (st := [aR (R x0 32)]) G0 S_X2_at gi_X2_173 md_X2_at (Nat.le_of_ble_eq_true rfl) (by decide) (by rw [G.2.1]; decide) (by rw [G.2.1]; decide) [aI x2, aI x5] rfl rfl dX2_bounds_336 h (fun o C3 I4 J5 R6 h => ?_)
    obtain ⟨r7, rfl, h⟩ := h
    show AW Γ 0 0 C3 I4 J5 R6 (336 + 3) [(0, aR (some x0)), (1, aI x1), (2, aI x2), (3, aJ x3), (5, aI x5)] [aI r7, aR (R x0 32)]
    refine aw_aload_n G0 0 rfl dX2_bounds_339 ?_
    obtain ⟨k8, h⟩ := h
    refine aw_getR (f := 7) G0 (by rw [k8]; exact fb_X2_24) dX2_bounds_340 ?_
    refine aw_iload_n G0 2 rfl dX2_bounds_343 ?_
    obtain ⟨q9, e9, h⟩ := h
    refine aw_dr1 e9 ?_
    obtain ⟨k10, h⟩ := h
    obtain ⟨k11, h⟩ := h
    refine aw_iald G0 (Or.inl k10) k11 dX2_bounds_344 ?_
    refine aw_iconst (v := (2 : Int32)) G0 dX2_bounds_345 (by decide) ?_
    refine aw_icmp_ne G0 359 dX2_bounds_346 (by decide) (fun c12 => ?_) (fun c12 => ?_)
    · have h := h.1 c12
      refine aw_lload_n G0 3 rfl dX2_bounds_359 ?_
      refine aw_aload_n G0 0 rfl dX2_bounds_360 ?_
      refine aw_iload_n G0 2 rfl dX2_bounds_361 ?_
      refine aw_iload G0 4 rfl dX2_bounds_362 ?_
      refine aw_callV (k1 := 0) (n1 := 0) (k2 := 0) (n2 := 0) (st := [aJ x3, aI r7, aR (R x0 32)]) G0 S_X2_by0 gi_X2_236 (Or.inl (by rw [k8]; decide)) (by rw [k8]; rfl) md_X2_by0 (Nat.le_of_ble_eq_true rfl) (by decide) (by rw [G.2.1]; decide) (by rw [G.2.1]; decide) [aI x2, aI x5] rfl rfl dX2_bounds_364 h (fun o C13 I14 J15 R16 h => ?_)
      obtain ⟨r17, rfl, h⟩ := h
      show AW Γ 0 0 C13 I14 J15 R16 (364 + 3) [(0, aR (some x0)), (1, aI x1), (2, aI x2), (3, aJ x3), (5, aI x5)] [aJ r17, aJ x3, aI r7, aR (R x0 32)]
      refine aw_lsub G0 dX2_bounds_367 ?_
      exact (w368 x0 x1 x2 x3 x5 (R x0 32) r7 (x3 - r17) C13 I14 J15 R16 h)
    · have h := h.2 c12
      refine aw_aload_n G0 0 rfl dX2_bounds_349 ?_
      refine aw_iload_n G0 2 rfl dX2_bounds_350 ?_
      refine aw_iload G0 4 rfl dX2_bounds_351 ?_
      refine aw_callV (k1 := 0) (n1 := 0) (k2 := 0) (n2 := 0) (st := [aI r7, aR (R x0 32)]) G0 S_X2_boundFan gi_X2_262 (Or.inl (by rw [k8]; decide)) (by rw [k8]; rfl) md_X2_boundFan (Nat.le_of_ble_eq_true rfl) (by decide) (by rw [G.2.1]; decide) (by rw [G.2.1]; decide) [aI x2, aI x5] rfl rfl dX2_bounds_353 h (fun o C18 I19 J20 R21 h => ?_)
      obtain ⟨r22, rfl, h⟩ := h
      show AW Γ 0 0 C18 I19 J20 R21 (353 + 3) [(0, aR (some x0)), (1, aI x1), (2, aI x2), (3, aJ x3), (5, aI x5)] [aJ r22, aI r7, aR (R x0 32)]
      refine aw_goto G0 368 dX2_bounds_356 (by decide) ?_
      exact (w368 x0 x1 x2 x3 x5 (R x0 32) r7 r22 C18 I19 J20 R21 h)
theorem bX2_bounds_368 (G : Gb Γ yX2_bounds cX2_bounds 6 (some .boolean) [] rmX2_bounds bdX2_bounds)
    {Q322 : Nat → Int32 → Int32 → Int64 → Int32 → MC → MI → MJ → MR → Prop} (w322 : ∀ (x0 : Nat) (x1 : Int32) (x2 : Int32) (x3 : Int64) (x5 : Int32) (C : MC) (I : MI) (J : MJ) (R : MR), Q322 x0 x1 x2 x3 x5 C I J R → AW Γ 0 0 C I J R 322 [(0, aR (some x0)), (1, aI x1), (2, aI x2), (3, aJ x3), (5, aI x5)] []) {x0 : Nat} {x1 : Int32} {x2 : Int32} {x3 : Int64} {x5 : Int32} {s0 : Option Nat} {s1 : Int32} {s2 : Int64}
    (h : ∃ q1 : Nat, s0 = some q1 ∧
      (C q1).1 = 21 ∧
      vp_in s1 (C q1).2 ∧
      ∀ J4 : MJ, J4 = va_up J q1 (va_up (J q1) s1.toNatClampNeg s2) →
      Q322 x0 x1 x2 x3 (x5 + 1) C I J4 R) :
    AW Γ 0 0 C I J R 368 [(0, aR (some x0)), (1, aI x1), (2, aI x2), (3, aJ x3), (5, aI x5)] [aJ s2, aI s1, aR s0] := by
  have G0 := G.1
  obtain ⟨q1, e1, h⟩ := h
  refine aw_dr2 e1 ?_
  obtain ⟨k2, h⟩ := h
  obtain ⟨k3, h⟩ := h
  refine aw_last G0 k2 k3 dX2_bounds_368 ?_
  generalize gJ4 : va_up J q1 (va_up (J q1) s1.toNatClampNeg s2) = J4
  have h := h J4 gJ4.symm
  refine aw_iinc (v := x5 + 1) (lv' := [(5, aI (x5 + 1)), (0, aR (some x0)), (1, aI x1), (2, aI x2), (3, aJ x3)]) G0 4 rfl rfl (by decide) rfl dX2_bounds_369 ?_
  refine aw_goto G0 322 dX2_bounds_372 (by decide) ?_
  exact (aw_lv [1, 2, 3, 4, 0] rfl (w322 x0 x1 x2 x3 (x5 + 1) C I J4 R h))
theorem bX2_bounds_375 (G : Gb Γ yX2_bounds cX2_bounds 6 (some .boolean) [] rmX2_bounds bdX2_bounds)
    {Q94 : Nat → Int32 → Int32 → MC → MI → MJ → MR → Prop} (w94 : ∀ (x0 : Nat) (x1 : Int32) (x2 : Int32) (C : MC) (I : MI) (J : MJ) (R : MR), Q94 x0 x1 x2 C I J R → AW Γ 0 0 C I J R 94 [(0, aR (some x0)), (1, aI x1), (2, aI x2)] []) {x0 : Nat} {x1 : Int32} {x2 : Int32}
    (h : Q94 x0 x1 (x2 + 1) C I J R) :
    AW Γ 0 0 C I J R 375 [(0, aR (some x0)), (1, aI x1), (2, aI x2)] [] := by
  have G0 := G.1
  refine aw_iinc (v := x2 + 1) (lv' := [(2, aI (x2 + 1)), (0, aR (some x0)), (1, aI x1)]) G0 2 rfl rfl (by decide) rfl dX2_bounds_375 ?_
  refine aw_goto G0 94 dX2_bounds_378 (by decide) ?_
  exact (aw_lv [1, 2, 0] rfl (w94 x0 x1 (x2 + 1) C I J R h))
theorem bX2_told0_0 (G : Gb Γ yX2_told0 cX2_told0 4 (some .int) [] rmX2_told0 bdX2_told0)
    {Q4 : Nat → Int32 → Int32 → Int32 → MC → MI → MJ → MR → Prop} (w4 : ∀ (x0 : Nat) (x1 : Int32) (x2 : Int32) (x3 : Int32) (C : MC) (I : MI) (J : MJ) (R : MR), Q4 x0 x1 x2 x3 C I J R → AW Γ 0 0 C I J R 4 [(0, aR (some x0)), (1, aI x1), (2, aI x2), (3, aI x3)] []) {x0 : Nat} {x1 : Int32}
    (h : Q4 x0 x1 (0 : Int32) (0 : Int32) C I J R) :
    AW Γ 0 0 C I J R 0 [(0, aR (some x0)), (1, aI x1)] [] := by
  have G0 := G.1
  refine aw_iconst (v := (0 : Int32)) G0 dX2_told0_0 (by decide) ?_
  refine aw_istore_n (lv' := [(2, aI (0 : Int32)), (0, aR (some x0)), (1, aI x1)]) G0 (by decide) rfl dX2_told0_1 ?_
  refine aw_iconst (v := (0 : Int32)) G0 dX2_told0_2 (by decide) ?_
  refine aw_istore_n (lv' := [(3, aI (0 : Int32)), (2, aI (0 : Int32)), (0, aR (some x0)), (1, aI x1)]) G0 (by decide) rfl dX2_told0_3 ?_
  exact (aw_lv [2, 3, 1, 0] rfl (w4 x0 x1 (0 : Int32) (0 : Int32) C I J R h))
theorem bX2_told0_4 (G : Gb Γ yX2_told0 cX2_told0 4 (some .int) [] rmX2_told0 bdX2_told0)
    {Q29 : Nat → Int32 → Int32 → Int32 → Int32 → MC → MI → MJ → MR → Prop} (w29 : ∀ (x0 : Nat) (x1 : Int32) (x3 : Int32) (s0 : Int32) (s1 : Int32) (C : MC) (I : MI) (J : MJ) (R : MR), Q29 x0 x1 x3 s0 s1 C I J R → AW Γ 0 0 C I J R 29 [(0, aR (some x0)), (1, aI x1), (3, aI x3)] [aI s1, aI s0]) {x0 : Nat} {x1 : Int32} {x2 : Int32} {x3 : Int32}
    (h : (((4 : Int32) ≤ x3 →
      gK Γ (.inl (some (aI x2))) C I J R) ∧
      (¬ (4 : Int32) ≤ x3 →
      (C x0).1 = 3 ∧
      ∃ q3 : Nat, R x0 8 = some q3 ∧
      (C q3).1 = 20 ∧
      vp_in (((4 : Int32) * x1) + x3) (C q3).2 ∧
      ((¬ (I q3 (((4 : Int32) * x1) + x3).toNatClampNeg) = (-1 : Int32) →
      Q29 x0 x1 x3 x2 (1 : Int32) C I J R) ∧
      ((I q3 (((4 : Int32) * x1) + x3).toNatClampNeg) = (-1 : Int32) →
      Q29 x0 x1 x3 x2 (0 : Int32) C I J R))))) :
    AW Γ 0 0 C I J R 4 [(0, aR (some x0)), (1, aI x1), (2, aI x2), (3, aI x3)] [] := by
  have G0 := G.1
  refine aw_iload_n G0 3 rfl dX2_told0_4 ?_
  refine aw_iconst (v := (4 : Int32)) G0 dX2_told0_5 (by decide) ?_
  refine aw_icmp_ge G0 37 dX2_told0_6 (by decide) (fun c1 => ?_) (fun c1 => ?_)
  · have h := h.1 c1
    refine aw_iload_n G0 2 rfl dX2_told0_37 ?_
    exact aw_ireturn G0 (Or.inl rfl) (by rw [G.2.2]; decide) (by rw [G.2.1]; decide) dX2_told0_38 h
  · have h := h.2 c1
    refine aw_iload_n G0 2 rfl dX2_told0_9 ?_
    refine aw_aload_n G0 0 rfl dX2_told0_10 ?_
    obtain ⟨k2, h⟩ := h
    refine aw_getR (f := 8) G0 (by rw [k2]; exact fb_X2_27) dX2_told0_11 ?_
    refine aw_iconst (v := (4 : Int32)) G0 dX2_told0_14 (by decide) ?_
    refine aw_iload_n G0 1 rfl dX2_told0_15 ?_
    refine aw_imul G0 dX2_told0_16 ?_
    refine aw_iload_n G0 3 rfl dX2_told0_17 ?_
    refine aw_iadd G0 dX2_told0_18 ?_
    obtain ⟨q3, e3, h⟩ := h
    refine aw_dr1 e3 ?_
    obtain ⟨k4, h⟩ := h
    obtain ⟨k5, h⟩ := h
    refine aw_iald G0 (Or.inl k4) k5 dX2_told0_19 ?_
    refine aw_iconst (v := (-1 : Int32)) G0 dX2_told0_20 (by decide) ?_
    refine aw_icmp_ne G0 28 dX2_told0_21 (by decide) (fun c6 => ?_) (fun c6 => ?_)
    · have h := h.1 c6
      refine aw_iconst (v := (1 : Int32)) G0 dX2_told0_28 (by decide) ?_
      exact (aw_lv [0, 1, 3] rfl (w29 x0 x1 x3 x2 (1 : Int32) C I J R h))
    · have h := h.2 c6
      refine aw_iconst (v := (0 : Int32)) G0 dX2_told0_24 (by decide) ?_
      refine aw_goto G0 29 dX2_told0_25 (by decide) ?_
      exact (aw_lv [0, 1, 3] rfl (w29 x0 x1 x3 x2 (0 : Int32) C I J R h))
theorem bX2_told0_29 (G : Gb Γ yX2_told0 cX2_told0 4 (some .int) [] rmX2_told0 bdX2_told0)
    {Q4 : Nat → Int32 → Int32 → Int32 → MC → MI → MJ → MR → Prop} (w4 : ∀ (x0 : Nat) (x1 : Int32) (x2 : Int32) (x3 : Int32) (C : MC) (I : MI) (J : MJ) (R : MR), Q4 x0 x1 x2 x3 C I J R → AW Γ 0 0 C I J R 4 [(0, aR (some x0)), (1, aI x1), (2, aI x2), (3, aI x3)] []) {x0 : Nat} {x1 : Int32} {x3 : Int32} {s0 : Int32} {s1 : Int32}
    (h : Q4 x0 x1 (s0 + s1) (x3 + 1) C I J R) :
    AW Γ 0 0 C I J R 29 [(0, aR (some x0)), (1, aI x1), (3, aI x3)] [aI s1, aI s0] := by
  have G0 := G.1
  refine aw_iadd G0 dX2_told0_29 ?_
  refine aw_istore_n (lv' := [(2, aI (s0 + s1)), (0, aR (some x0)), (1, aI x1), (3, aI x3)]) G0 (by decide) rfl dX2_told0_30 ?_
  refine aw_iinc (v := x3 + 1) (lv' := [(3, aI (x3 + 1)), (2, aI (s0 + s1)), (0, aR (some x0)), (1, aI x1)]) G0 3 rfl rfl (by decide) rfl dX2_told0_31 ?_
  refine aw_goto G0 4 dX2_told0_34 (by decide) ?_
  exact (aw_lv [2, 3, 1, 0] rfl (w4 x0 x1 (s0 + s1) (x3 + 1) C I J R h))
theorem bX2_boundRow_0 (G : Gb Γ yX2_boundRow cX2_boundRow 10 (none) [] rmX2_boundRow bdX2_boundRow)
    {Q2 : Nat → Int32 → Int32 → MC → MI → MJ → MR → Prop} (w2 : ∀ (x0 : Nat) (x1 : Int32) (x2 : Int32) (C : MC) (I : MI) (J : MJ) (R : MR), Q2 x0 x1 x2 C I J R → AW Γ 0 0 C I J R 2 [(0, aR (some x0)), (1, aI x1), (2, aI x2)] []) {x0 : Nat} {x1 : Int32}
    (h : Q2 x0 x1 (0 : Int32) C I J R) :
    AW Γ 0 0 C I J R 0 [(0, aR (some x0)), (1, aI x1)] [] := by
  have G0 := G.1
  refine aw_iconst (v := (0 : Int32)) G0 dX2_boundRow_0 (by decide) ?_
  refine aw_istore_n (lv' := [(2, aI (0 : Int32)), (0, aR (some x0)), (1, aI x1)]) G0 (by decide) rfl dX2_boundRow_1 ?_
  exact (aw_lv [1, 2, 0] rfl (w2 x0 x1 (0 : Int32) C I J R h))
theorem bX2_boundRow_2 (G : Gb Γ yX2_boundRow cX2_boundRow 10 (none) [] rmX2_boundRow bdX2_boundRow)
    {Q2 : Nat → Int32 → Int32 → MC → MI → MJ → MR → Prop} (w2 : ∀ (x0 : Nat) (x1 : Int32) (x2 : Int32) (C : MC) (I : MI) (J : MJ) (R : MR), Q2 x0 x1 x2 C I J R → AW Γ 0 0 C I J R 2 [(0, aR (some x0)), (1, aI x1), (2, aI x2)] [])
    {Q23 : Nat → Int32 → Int32 → MC → MI → MJ → MR → Prop} (w23 : ∀ (x0 : Nat) (x1 : Int32) (x2 : Int32) (C : MC) (I : MI) (J : MJ) (R : MR), Q23 x0 x1 x2 C I J R → AW Γ 0 0 C I J R 23 [(0, aR (some x0)), (1, aI x1), (2, aI x2)] []) {x0 : Nat} {x1 : Int32} {x2 : Int32}
    (h : (((121 : Int32) ≤ x2 →
      Q23 x0 x1 (0 : Int32) C I J R) ∧
      (¬ (121 : Int32) ≤ x2 →
      (C x0).1 = 3 ∧
      ∃ q3 : Nat, R x0 34 = some q3 ∧
      (C q3).1 = 21 ∧
      vp_in x2 (C q3).2 ∧
      ∀ J6 : MJ, J6 = va_up J q3 (va_up (J q3) x2.toNatClampNeg (0 : Int64)) →
      Q2 x0 x1 (x2 + 1) C I J6 R))) :
    AW Γ 0 0 C I J R 2 [(0, aR (some x0)), (1, aI x1), (2, aI x2)] [] := by
  have G0 := G.1
  refine aw_iload_n G0 2 rfl dX2_boundRow_2 ?_
  refine aw_bipush (v := (121 : Int32)) G0 dX2_boundRow_3 (by decide) ?_
  refine aw_icmp_ge G0 21 dX2_boundRow_5 (by decide) (fun c1 => ?_) (fun c1 => ?_)
  · have h := h.1 c1
    refine aw_iconst (v := (0 : Int32)) G0 dX2_boundRow_21 (by decide) ?_
    refine aw_istore_n (lv' := [(2, aI (0 : Int32)), (0, aR (some x0)), (1, aI x1)]) G0 (by decide) rfl dX2_boundRow_22 ?_
    exact (aw_lv [1, 2, 0] rfl (w23 x0 x1 (0 : Int32) C I J R h))
  · have h := h.2 c1
    refine aw_aload_n G0 0 rfl dX2_boundRow_8 ?_
    obtain ⟨k2, h⟩ := h
    refine aw_getR (f := 34) G0 (by rw [k2]; exact fb_X2_100) dX2_boundRow_9 ?_
    refine aw_iload_n G0 2 rfl dX2_boundRow_12 ?_
    refine aw_lconst (v := (0 : Int64)) G0 dX2_boundRow_13 (by decide) ?_
    obtain ⟨q3, e3, h⟩ := h
    refine aw_dr2 e3 ?_
    obtain ⟨k4, h⟩ := h
    obtain ⟨k5, h⟩ := h
    refine aw_last G0 k4 k5 dX2_boundRow_14 ?_
    generalize gJ6 : va_up J q3 (va_up (J q3) x2.toNatClampNeg (0 : Int64)) = J6
    have h := h J6 gJ6.symm
    refine aw_iinc (v := x2 + 1) (lv' := [(2, aI (x2 + 1)), (0, aR (some x0)), (1, aI x1)]) G0 2 rfl rfl (by decide) rfl dX2_boundRow_15 ?_
    refine aw_goto G0 2 dX2_boundRow_18 (by decide) ?_
    exact (aw_lv [1, 2, 0] rfl (w2 x0 x1 (x2 + 1) C I J6 R h))
theorem bX2_boundRow_23 (G : Gb Γ yX2_boundRow cX2_boundRow 10 (none) [] rmX2_boundRow bdX2_boundRow)
    {Q71 : Nat → Int32 → Int32 → Int32 → Int64 → Int32 → MC → MI → MJ → MR → Prop} (w71 : ∀ (x0 : Nat) (x1 : Int32) (x2 : Int32) (x3 : Int32) (x4 : Int64) (x6 : Int32) (C : MC) (I : MI) (J : MJ) (R : MR), Q71 x0 x1 x2 x3 x4 x6 C I J R → AW Γ 0 0 C I J R 71 [(0, aR (some x0)), (1, aI x1), (2, aI x2), (3, aI x3), (4, aJ x4), (6, aI x6)] [])
    {Q225 : Nat → Int32 → MC → MI → MJ → MR → Prop} (w225 : ∀ (x0 : Nat) (x1 : Int32) (C : MC) (I : MI) (J : MJ) (R : MR), Q225 x0 x1 C I J R → AW Γ 0 0 C I J R 225 [(0, aR (some x0)), (1, aI x1)] []) {x0 : Nat} {x1 : Int32} {x2 : Int32}
    (h : (((4 : Int32) ≤ x2 →
      Q225 x0 x1 C I J R) ∧
      (¬ (4 : Int32) ≤ x2 →
      (C x0).1 = 3 ∧
      ∃ q3 : Nat, R x0 8 = some q3 ∧
      (C q3).1 = 20 ∧
      vp_in (((4 : Int32) * x1) + x2) (C q3).2 ∧
      (((I q3 (((4 : Int32) * x1) + x2).toNatClampNeg) = (-1 : Int32) →
      Q225 x0 x1 C I J R) ∧
      (¬ (I q3 (((4 : Int32) * x1) + x2).toNatClampNeg) = (-1 : Int32) →
      ∃ q7 : Nat, R x0 33 = some q7 ∧
      (C q7).1 = 21 ∧
      vp_in x1 (C q7).2 ∧
      vp_in (I q3 (((4 : Int32) * x1) + x2).toNatClampNeg) (C q7).2 ∧
      ¬ (J q7 (I q3 (((4 : Int32) * x1) + x2).toNatClampNeg).toNatClampNeg) = 0 ∧
      Q71 x0 x1 x2 (I q3 (((4 : Int32) * x1) + x2).toNatClampNeg) ((J q7 x1.toNatClampNeg) / (J q7 (I q3 (((4 : Int32) * x1) + x2).toNatClampNeg).toNatClampNeg)) (0 : Int32) C I J R))))) :
    AW Γ 0 0 C I J R 23 [(0, aR (some x0)), (1, aI x1), (2, aI x2)] [] := by
  have G0 := G.1
  refine aw_iload_n G0 2 rfl dX2_boundRow_23 ?_
  refine aw_iconst (v := (4 : Int32)) G0 dX2_boundRow_24 (by decide) ?_
  refine aw_icmp_ge G0 225 dX2_boundRow_25 (by decide) (fun c1 => ?_) (fun c1 => ?_)
  · have h := h.1 c1
    exact (aw_lv [0, 1] rfl (w225 x0 x1 C I J R h))
  · have h := h.2 c1
    refine aw_aload_n G0 0 rfl dX2_boundRow_28 ?_
    obtain ⟨k2, h⟩ := h
    refine aw_getR (f := 8) G0 (by rw [k2]; exact fb_X2_27) dX2_boundRow_29 ?_
    refine aw_iconst (v := (4 : Int32)) G0 dX2_boundRow_32 (by decide) ?_
    refine aw_iload_n G0 1 rfl dX2_boundRow_33 ?_
    refine aw_imul G0 dX2_boundRow_34 ?_
    refine aw_iload_n G0 2 rfl dX2_boundRow_35 ?_
    refine aw_iadd G0 dX2_boundRow_36 ?_
    obtain ⟨q3, e3, h⟩ := h
    refine aw_dr1 e3 ?_
    obtain ⟨k4, h⟩ := h
    obtain ⟨k5, h⟩ := h
    refine aw_iald G0 (Or.inl k4) k5 dX2_boundRow_37 ?_
    refine aw_iconst (v := (-1 : Int32)) G0 dX2_boundRow_38 (by decide) ?_
    refine aw_icmp_eq G0 225 dX2_boundRow_39 (by decide) (fun c6 => ?_) (fun c6 => ?_)
    · have h := h.1 c6
      exact (aw_lv [0, 1] rfl (w225 x0 x1 C I J R h))
    · have h := h.2 c6
      refine aw_aload_n G0 0 rfl dX2_boundRow_42 ?_
      refine aw_getR (f := 8) G0 (by rw [k2]; exact fb_X2_27) dX2_boundRow_43 ?_
      refine aw_iconst (v := (4 : Int32)) G0 dX2_boundRow_46 (by decide) ?_
      refine aw_iload_n G0 1 rfl dX2_boundRow_47 ?_
      refine aw_imul G0 dX2_boundRow_48 ?_
      refine aw_iload_n G0 2 rfl dX2_boundRow_49 ?_
      refine aw_iadd G0 dX2_boundRow_50 ?_
      refine aw_dr1 e3 ?_
      refine aw_iald G0 (Or.inl k4) k5 dX2_boundRow_51 ?_
      refine aw_istore_n (lv' := [(3, aI (I q3 (((4 : Int32) * x1) + x2).toNatClampNeg)), (0, aR (some x0)), (1, aI x1), (2, aI x2)]) G0 (by decide) rfl dX2_boundRow_52 ?_
      refine aw_aload_n G0 1 rfl dX2_boundRow_53 ?_
      refine aw_getR (f := 33) G0 (by rw [k2]; exact fb_X2_97) dX2_boundRow_54 ?_
      refine aw_iload_n G0 2 rfl dX2_boundRow_57 ?_
      obtain ⟨q7, e7, h⟩ := h
      refine aw_dr1 e7 ?_
      obtain ⟨k8, h⟩ := h
      obtain ⟨k9, h⟩ := h
      refine aw_lald G0 k8 k9 dX2_boundRow_58 ?_
      refine aw_aload_n G0 1 rfl dX2_boundRow_59 ?_
      refine aw_getR (f := 33) G0 (by rw [k2]; exact fb_X2_97) dX2_boundRow_60 ?_
      refine aw_iload_n G0 0 rfl dX2_boundRow_63 ?_
      refine aw_dr1 e7 ?_
      obtain ⟨k10, h⟩ := h
      refine aw_lald G0 k8 k10 dX2_boundRow_64 ?_
      obtain ⟨k11, h⟩ := h
      refine aw_ldiv G0 k11 dX2_boundRow_65 ?_
      refine aw_lstore (lv' := [(4, aJ ((J q7 x1.toNatClampNeg) / (J q7 (I q3 (((4 : Int32) * x1) + x2).toNatClampNeg).toNatClampNeg))), (3, aI (I q3 (((4 : Int32) * x1) + x2).toNatClampNeg)), (0, aR (some x0)), (1, aI x1), (2, aI x2)]) G0 (by decide) rfl dX2_boundRow_66 ?_
      refine aw_iconst (v := (0 : Int32)) G0 dX2_boundRow_68 (by decide) ?_
      refine aw_istore (lv' := [(6, aI (0 : Int32)), (4, aJ ((J q7 x1.toNatClampNeg) / (J q7 (I q3 (((4 : Int32) * x1) + x2).toNatClampNeg).toNatClampNeg))), (3, aI (I q3 (((4 : Int32) * x1) + x2).toNatClampNeg)), (0, aR (some x0)), (1, aI x1), (2, aI x2)]) G0 (by decide) rfl dX2_boundRow_69 ?_
      exact (aw_lv [3, 4, 5, 2, 1, 0] rfl (w71 x0 x1 x2 (I q3 (((4 : Int32) * x1) + x2).toNatClampNeg) ((J q7 x1.toNatClampNeg) / (J q7 (I q3 (((4 : Int32) * x1) + x2).toNatClampNeg).toNatClampNeg)) (0 : Int32) C I J R h))
theorem bX2_boundRow_71 (G : Gb Γ yX2_boundRow cX2_boundRow 10 (none) [] rmX2_boundRow bdX2_boundRow) {F_X2_at : SPF} (S_X2_at : SpX2_at (gL Γ) F_X2_at)
    {Q120 : Nat → Int32 → Int32 → Int32 → Int64 → Int32 → Int64 → MC → MI → MJ → MR → Prop} (w120 : ∀ (x0 : Nat) (x1 : Int32) (x2 : Int32) (x3 : Int32) (x4 : Int64) (x6 : Int32) (s0 : Int64) (C : MC) (I : MI) (J : MJ) (R : MR), Q120 x0 x1 x2 x3 x4 x6 s0 C I J R → AW Γ 0 0 C I J R 120 [(0, aR (some x0)), (1, aI x1), (2, aI x2), (3, aI x3), (4, aJ x4), (6, aI x6)] [aJ s0])
    {Q192 : Nat → Int32 → Int32 → Int32 → MC → MI → MJ → MR → Prop} (w192 : ∀ (x0 : Nat) (x1 : Int32) (x2 : Int32) (x6 : Int32) (C : MC) (I : MI) (J : MJ) (R : MR), Q192 x0 x1 x2 x6 C I J R → AW Γ 0 0 C I J R 192 [(0, aR (some x0)), (1, aI x1), (2, aI x2), (6, aI x6)] []) {x0 : Nat} {x1 : Int32} {x2 : Int32} {x3 : Int32} {x4 : Int64} {x6 : Int32}
    (h : (((121 : Int32) ≤ x6 →
      Q192 x0 x1 x2 (0 : Int32) C I J R) ∧
      (¬ (121 : Int32) ≤ x6 →
      ((¬ x2 = 0 →
      (C x0).1 = 3 ∧
      ∃ q4 : Nat, R x0 34 = some q4 ∧
      (C q4).1 = 21 ∧
      vp_in (0 : Int32) (C q4).2 ∧
      F_X2_at [aI x3, aI x6] C I J R (fun o C7 I8 J9 R10 =>
      ∃ r11 : Int32, o = .inl (some (aI r11)) ∧
      ∃ q12 : Nat, R x0 32 = some q12 ∧
      (C7 q12).1 = 21 ∧
      vp_in r11 (C7 q12).2 ∧
      Q120 x0 x1 x2 x3 x4 x6 ((J q4 (0 : Int32).toNatClampNeg) + ((J9 q12 r11.toNatClampNeg) * x4)) C7 I8 J9 R10)) ∧
      (x2 = 0 →
      (C x0).1 = 3 ∧
      F_X2_at [aI x3, aI x6] C I J R (fun o C16 I17 J18 R19 =>
      ∃ r20 : Int32, o = .inl (some (aI r20)) ∧
      ∃ q21 : Nat, R x0 32 = some q21 ∧
      (C16 q21).1 = 21 ∧
      vp_in r20 (C16 q21).2 ∧
      Q120 x0 x1 x2 x3 x4 x6 ((J18 q21 r20.toNatClampNeg) * x4) C16 I17 J18 R19)))))) :
    AW Γ 0 0 C I J R 71 [(0, aR (some x0)), (1, aI x1), (2, aI x2), (3, aI x3), (4, aJ x4), (6, aI x6)] [] := by
  have G0 := G.1
  refine aw_iload G0 5 rfl dX2_boundRow_71 ?_
  refine aw_bipush (v := (121 : Int32)) G0 dX2_boundRow_73 (by decide) ?_
  refine aw_icmp_ge G0 189 dX2_boundRow_75 (by decide) (fun c1 => ?_) (fun c1 => ?_)
  · have h := h.1 c1
    refine aw_iconst (v := (0 : Int32)) G0 dX2_boundRow_189 (by decide) ?_
    refine aw_istore (lv' := [(6, aI (0 : Int32)), (0, aR (some x0)), (1, aI x1), (2, aI x2), (3, aI x3), (4, aJ x4)]) G0 (by decide) rfl dX2_boundRow_190 ?_
    exact (aw_lv [1, 2, 3, 0] rfl (w192 x0 x1 x2 (0 : Int32) C I J R h))
  · have h := h.2 c1
    refine aw_iload_n G0 2 rfl dX2_boundRow_78 ?_
    refine aw_if_ne G0 99 dX2_boundRow_79 (by decide) (fun c2 => ?_) (fun c2 => ?_)
    · have h := h.1 c2
      refine aw_aload_n G0 0 rfl dX2_boundRow_99 ?_
      obtain ⟨k3, h⟩ := h
      refine aw_getR (f := 34) G0 (by rw [k3]; exact fb_X2_100) dX2_boundRow_100 ?_
      refine aw_iconst (v := (0 : Int32)) G0 dX2_boundRow_103 (by decide) ?_
      obtain ⟨q4, e4, h⟩ := h
      refine aw_dr1 e4 ?_
      obtain ⟨k5, h⟩ := h
      obtain ⟨k6, h⟩ := h
      refine aw_lald G0 k5 k6 dX2_boundRow_104 ?_
      refine aw_aload_n G0 0 rfl dX2_boundRow_105 ?_
      refine aw_getR (f := 32) G0 (by rw [k3]; exact fb_X2_94) dX2_boundRow_106 ?_
      refine aw_iload_n G0 3 rfl dX2_boundRow_109 ?_
      refine aw_iload G0 5 rfl dX2_boundRow_110 ?_
      refine aw_callS (k1 := 0) (n1 := 0) (k2 := 0) (n2 := 0) (st := [aR (R x0 32), aJ (J q4 (0 : Int32).toNatClampNeg)]) G0 S_X2_at gi_X2_173 md_X2_at (Nat.le_of_ble_eq_true rfl) (by decide) (by rw [G.2.1]; decide) (by rw [G.2.1]; decide) [aI x3, aI x6] rfl rfl dX2_boundRow_112 h (fun o C7 I8 J9 R10 h => ?_)
      obtain ⟨r11, rfl, h⟩ := h
      show AW Γ 0 0 C7 I8 J9 R10 (112 + 3) [(0, aR (some x0)), (1, aI x1), (2, aI x2), (3, aI x3), (4, aJ x4), (6, aI x6)] [aI r11, aR (R x0 32), aJ (J q4 (0 : Int32).toNatClampNeg)]
      obtain ⟨q12, e12, h⟩ := h
      refine aw_dr1 e12 ?_
      obtain ⟨k13, h⟩ := h
      obtain ⟨k14, h⟩ := h
      refine aw_lald G0 k13 k14 dX2_boundRow_115 ?_
      refine aw_lload G0 4 rfl dX2_boundRow_116 ?_
      refine aw_lmul G0 dX2_boundRow_118 ?_
      refine aw_ladd G0 dX2_boundRow_119 ?_
      exact (w120 x0 x1 x2 x3 x4 x6 ((J q4 (0 : Int32).toNatClampNeg) + ((J9 q12 r11.toNatClampNeg) * x4)) C7 I8 J9 R10 h)
    · have h := h.2 c2
      refine aw_aload_n G0 0 rfl dX2_boundRow_82 ?_
      obtain ⟨k15, h⟩ := h
      refine aw_getR (f := 32) G0 (by rw [k15]; exact fb_X2_94) dX2_boundRow_83 ?_
      refine aw_iload_n G0 3 rfl dX2_boundRow_86 ?_
      refine aw_iload G0 5 rfl dX2_boundRow_87 ?_
      refine aw_callS (k1 := 0) (n1 := 0) (k2 := 0) (n2 := 0) (st := [aR (R x0 32)]) G0 S_X2_at gi_X2_173 md_X2_at (Nat.le_of_ble_eq_true rfl) (by decide) (by rw [G.2.1]; decide) (by rw [G.2.1]; decide) [aI x3, aI x6] rfl rfl dX2_boundRow_89 h (fun o C16 I17 J18 R19 h => ?_)
      obtain ⟨r20, rfl, h⟩ := h
      show AW Γ 0 0 C16 I17 J18 R19 (89 + 3) [(0, aR (some x0)), (1, aI x1), (2, aI x2), (3, aI x3), (4, aJ x4), (6, aI x6)] [aI r20, aR (R x0 32)]
      obtain ⟨q21, e21, h⟩ := h
      refine aw_dr1 e21 ?_
      obtain ⟨k22, h⟩ := h
      obtain ⟨k23, h⟩ := h
      refine aw_lald G0 k22 k23 dX2_boundRow_92 ?_
      refine aw_lload G0 4 rfl dX2_boundRow_93 ?_
      refine aw_lmul G0 dX2_boundRow_95 ?_
      refine aw_goto G0 120 dX2_boundRow_96 (by decide) ?_
      exact (w120 x0 x1 x2 x3 x4 x6 ((J18 q21 r20.toNatClampNeg) * x4) C16 I17 J18 R19 h)
theorem bX2_boundRow_120 (G : Gb Γ yX2_boundRow cX2_boundRow 10 (none) [] rmX2_boundRow bdX2_boundRow)
    {Q125 : Nat → Int32 → Int32 → Int32 → Int64 → Int32 → Int64 → Int32 → MC → MI → MJ → MR → Prop} (w125 : ∀ (x0 : Nat) (x1 : Int32) (x2 : Int32) (x3 : Int32) (x4 : Int64) (x6 : Int32) (x7 : Int64) (x9 : Int32) (C : MC) (I : MI) (J : MJ) (R : MR), Q125 x0 x1 x2 x3 x4 x6 x7 x9 C I J R → AW Γ 0 0 C I J R 125 [(0, aR (some x0)), (1, aI x1), (2, aI x2), (3, aI x3), (4, aJ x4), (6, aI x6), (7, aJ x7), (9, aI x9)] []) {x0 : Nat} {x1 : Int32} {x2 : Int32} {x3 : Int32} {x4 : Int64} {x6 : Int32} {s0 : Int64}
    (h : Q125 x0 x1 x2 x3 x4 x6 s0 (0 : Int32) C I J R) :
    AW Γ 0 0 C I J R 120 [(0, aR (some x0)), (1, aI x1), (2, aI x2), (3, aI x3), (4, aJ x4), (6, aI x6)] [aJ s0] := by
  have G0 := G.1
  refine aw_lstore (lv' := [(7, aJ s0), (0, aR (some x0)), (1, aI x1), (2, aI x2), (3, aI x3), (4, aJ x4), (6, aI x6)]) G0 (by decide) rfl dX2_boundRow_120 ?_
  refine aw_iconst (v := (0 : Int32)) G0 dX2_boundRow_122 (by decide) ?_
  refine aw_istore (lv' := [(9, aI (0 : Int32)), (7, aJ s0), (0, aR (some x0)), (1, aI x1), (2, aI x2), (3, aI x3), (4, aJ x4), (6, aI x6)]) G0 (by decide) rfl dX2_boundRow_123 ?_
  exact (aw_lv [2, 3, 4, 5, 6, 7, 1, 0] rfl (w125 x0 x1 x2 x3 x4 x6 s0 (0 : Int32) C I J R h))
theorem bX2_boundRow_125 (G : Gb Γ yX2_boundRow cX2_boundRow 10 (none) [] rmX2_boundRow bdX2_boundRow) {F_X2_at : SPF} (S_X2_at : SpX2_at (gL Γ) F_X2_at)
    {Q125 : Nat → Int32 → Int32 → Int32 → Int64 → Int32 → Int64 → Int32 → MC → MI → MJ → MR → Prop} (w125 : ∀ (x0 : Nat) (x1 : Int32) (x2 : Int32) (x3 : Int32) (x4 : Int64) (x6 : Int32) (x7 : Int64) (x9 : Int32) (C : MC) (I : MI) (J : MJ) (R : MR), Q125 x0 x1 x2 x3 x4 x6 x7 x9 C I J R → AW Γ 0 0 C I J R 125 [(0, aR (some x0)), (1, aI x1), (2, aI x2), (3, aI x3), (4, aJ x4), (6, aI x6), (7, aJ x7), (9, aI x9)] [])
    {Q174 : Nat → Int32 → Int32 → Int32 → Int64 → Int32 → Int64 → MC → MI → MJ → MR → Prop} (w174 : ∀ (x0 : Nat) (x1 : Int32) (x2 : Int32) (x3 : Int32) (x4 : Int64) (x6 : Int32) (x7 : Int64) (C : MC) (I : MI) (J : MJ) (R : MR), Q174 x0 x1 x2 x3 x4 x6 x7 C I J R → AW Γ 0 0 C I J R 174 [(0, aR (some x0)), (1, aI x1), (2, aI x2), (3, aI x3), (4, aJ x4), (6, aI x6), (7, aJ x7)] []) {x0 : Nat} {x1 : Int32} {x2 : Int32} {x3 : Int32} {x4 : Int64} {x6 : Int32} {x7 : Int64} {x9 : Int32}
    (h : ((x6 < x9 →
      Q174 x0 x1 x2 x3 x4 x6 x7 C I J R) ∧
      (¬ x6 < x9 →
      ((x2 ≤ 0 →
      Q174 x0 x1 x2 x3 x4 x6 x7 C I J R) ∧
      (¬ x2 ≤ 0 →
      (C x0).1 = 3 ∧
      ∃ q4 : Nat, R x0 34 = some q4 ∧
      (C q4).1 = 21 ∧
      vp_in (x6 - x9) (C q4).2 ∧
      F_X2_at [aI x3, aI x9] C I J R (fun o C7 I8 J9 R10 =>
      ∃ r11 : Int32, o = .inl (some (aI r11)) ∧
      ∃ q12 : Nat, R x0 32 = some q12 ∧
      (C7 q12).1 = 21 ∧
      vp_in r11 (C7 q12).2 ∧
      Q125 x0 x1 x2 x3 x4 x6 (if ((J q4 (x6 - x9).toNatClampNeg) + ((J9 q12 r11.toNatClampNeg) * x4)) < x7 then ((J q4 (x6 - x9).toNatClampNeg) + ((J9 q12 r11.toNatClampNeg) * x4)) else x7) (x9 + 1) C7 I8 J9 R10)))))) :
    AW Γ 0 0 C I J R 125 [(0, aR (some x0)), (1, aI x1), (2, aI x2), (3, aI x3), (4, aJ x4), (6, aI x6), (7, aJ x7), (9, aI x9)] [] := by
  have G0 := G.1
  refine aw_iload G0 7 rfl dX2_boundRow_125 ?_
  refine aw_iload G0 5 rfl dX2_boundRow_127 ?_
  refine aw_icmp_gt G0 174 dX2_boundRow_129 (by decide) (fun c1 => ?_) (fun c1 => ?_)
  · have h := h.1 c1
    exact (aw_lv [0, 1, 2, 3, 4, 5, 6] rfl (w174 x0 x1 x2 x3 x4 x6 x7 C I J R h))
  · have h := h.2 c1
    refine aw_iload_n G0 2 rfl dX2_boundRow_132 ?_
    refine aw_if_le G0 174 dX2_boundRow_133 (by decide) (fun c2 => ?_) (fun c2 => ?_)
    · have h := h.1 c2
      exact (aw_lv [0, 1, 2, 3, 4, 5, 6] rfl (w174 x0 x1 x2 x3 x4 x6 x7 C I J R h))
    · have h := h.2 c2
      refine aw_lload G0 6 rfl dX2_boundRow_136 ?_
      refine aw_aload_n G0 0 rfl dX2_boundRow_138 ?_
      obtain ⟨k3, h⟩ := h
      refine aw_getR (f := 34) G0 (by rw [k3]; exact fb_X2_100) dX2_boundRow_139 ?_
      refine aw_iload G0 5 rfl dX2_boundRow_142 ?_
      refine aw_iload G0 7 rfl dX2_boundRow_144 ?_
      refine aw_isub G0 dX2_boundRow_146 ?_
      obtain ⟨q4, e4, h⟩ := h
      refine aw_dr1 e4 ?_
      obtain ⟨k5, h⟩ := h
      obtain ⟨k6, h⟩ := h
      refine aw_lald G0 k5 k6 dX2_boundRow_147 ?_
      refine aw_aload_n G0 0 rfl dX2_boundRow_148 ?_
      refine aw_getR (f := 32) G0 (by rw [k3]; exact fb_X2_94) dX2_boundRow_149 ?_
      refine aw_iload_n G0 3 rfl dX2_boundRow_152 ?_
      refine aw_iload G0 7 rfl dX2_boundRow_153 ?_
      refine aw_callS (k1 := 0) (n1 := 0) (k2 := 0) (n2 := 0) (st := [aR (R x0 32), aJ (J q4 (x6 - x9).toNatClampNeg), aJ x7]) G0 S_X2_at gi_X2_173 md_X2_at (Nat.le_of_ble_eq_true rfl) (by decide) (by rw [G.2.1]; decide) (by rw [G.2.1]; decide) [aI x3, aI x9] rfl rfl dX2_boundRow_155 h (fun o C7 I8 J9 R10 h => ?_)
      obtain ⟨r11, rfl, h⟩ := h
      show AW Γ 0 0 C7 I8 J9 R10 (155 + 3) [(0, aR (some x0)), (1, aI x1), (2, aI x2), (3, aI x3), (4, aJ x4), (6, aI x6), (7, aJ x7), (9, aI x9)] [aI r11, aR (R x0 32), aJ (J q4 (x6 - x9).toNatClampNeg), aJ x7]
      obtain ⟨q12, e12, h⟩ := h
      refine aw_dr1 e12 ?_
      obtain ⟨k13, h⟩ := h
      obtain ⟨k14, h⟩ := h
      refine aw_lald G0 k13 k14 dX2_boundRow_158 ?_
      refine aw_lload G0 4 rfl dX2_boundRow_159 ?_
      refine aw_lmul G0 dX2_boundRow_161 ?_
      refine aw_ladd G0 dX2_boundRow_162 ?_
      refine aw_mminl G0 q1227 (by rw [G.2.1]; decide) (by rw [G.2.1]; exact Nat.le_of_ble_eq_true rfl) (by rw [G.2.1]; decide) dX2_boundRow_163 ?_
      refine aw_lstore (lv' := [(7, aJ (if ((J q4 (x6 - x9).toNatClampNeg) + ((J9 q12 r11.toNatClampNeg) * x4)) < x7 then ((J q4 (x6 - x9).toNatClampNeg) + ((J9 q12 r11.toNatClampNeg) * x4)) else x7)), (0, aR (some x0)), (1, aI x1), (2, aI x2), (3, aI x3), (4, aJ x4), (6, aI x6), (9, aI x9)]) G0 (by decide) rfl dX2_boundRow_166 ?_
      refine aw_iinc (v := x9 + 1) (lv' := [(9, aI (x9 + 1)), (7, aJ (if ((J q4 (x6 - x9).toNatClampNeg) + ((J9 q12 r11.toNatClampNeg) * x4)) < x7 then ((J q4 (x6 - x9).toNatClampNeg) + ((J9 q12 r11.toNatClampNeg) * x4)) else x7)), (0, aR (some x0)), (1, aI x1), (2, aI x2), (3, aI x3), (4, aJ x4), (6, aI x6)]) G0 7 rfl rfl (by decide) rfl dX2_boundRow_168 ?_
      refine aw_goto G0 125 dX2_boundRow_171 (by decide) ?_
      exact (aw_lv [2, 3, 4, 5, 6, 7, 1, 0] rfl (w125 x0 x1 x2 x3 x4 x6 (if ((J q4 (x6 - x9).toNatClampNeg) + ((J9 q12 r11.toNatClampNeg) * x4)) < x7 then ((J q4 (x6 - x9).toNatClampNeg) + ((J9 q12 r11.toNatClampNeg) * x4)) else x7) (x9 + 1) C7 I8 J9 R10 h))
theorem bX2_boundRow_174 (G : Gb Γ yX2_boundRow cX2_boundRow 10 (none) [] rmX2_boundRow bdX2_boundRow)
    {Q71 : Nat → Int32 → Int32 → Int32 → Int64 → Int32 → MC → MI → MJ → MR → Prop} (w71 : ∀ (x0 : Nat) (x1 : Int32) (x2 : Int32) (x3 : Int32) (x4 : Int64) (x6 : Int32) (C : MC) (I : MI) (J : MJ) (R : MR), Q71 x0 x1 x2 x3 x4 x6 C I J R → AW Γ 0 0 C I J R 71 [(0, aR (some x0)), (1, aI x1), (2, aI x2), (3, aI x3), (4, aJ x4), (6, aI x6)] []) {x0 : Nat} {x1 : Int32} {x2 : Int32} {x3 : Int32} {x4 : Int64} {x6 : Int32} {x7 : Int64}
    (h : (C x0).1 = 3 ∧
      ∃ q2 : Nat, R x0 35 = some q2 ∧
      (C q2).1 = 21 ∧
      vp_in x6 (C q2).2 ∧
      ∀ J5 : MJ, J5 = va_up J q2 (va_up (J q2) x6.toNatClampNeg x7) →
      Q71 x0 x1 x2 x3 x4 (x6 + 1) C I J5 R) :
    AW Γ 0 0 C I J R 174 [(0, aR (some x0)), (1, aI x1), (2, aI x2), (3, aI x3), (4, aJ x4), (6, aI x6), (7, aJ x7)] [] := by
  have G0 := G.1
  refine aw_aload_n G0 0 rfl dX2_boundRow_174 ?_
  obtain ⟨k1, h⟩ := h
  refine aw_getR (f := 35) G0 (by rw [k1]; exact fb_X2_103) dX2_boundRow_175 ?_
  refine aw_iload G0 5 rfl dX2_boundRow_178 ?_
  refine aw_lload G0 6 rfl dX2_boundRow_180 ?_
  obtain ⟨q2, e2, h⟩ := h
  refine aw_dr2 e2 ?_
  obtain ⟨k3, h⟩ := h
  obtain ⟨k4, h⟩ := h
  refine aw_last G0 k3 k4 dX2_boundRow_182 ?_
  generalize gJ5 : va_up J q2 (va_up (J q2) x6.toNatClampNeg x7) = J5
  have h := h J5 gJ5.symm
  refine aw_iinc (v := x6 + 1) (lv' := [(6, aI (x6 + 1)), (0, aR (some x0)), (1, aI x1), (2, aI x2), (3, aI x3), (4, aJ x4), (7, aJ x7)]) G0 5 rfl rfl (by decide) rfl dX2_boundRow_183 ?_
  refine aw_goto G0 71 dX2_boundRow_186 (by decide) ?_
  exact (aw_lv [1, 2, 3, 4, 5, 0] rfl (w71 x0 x1 x2 x3 x4 (x6 + 1) C I J5 R h))
theorem bX2_boundRow_192 (G : Gb Γ yX2_boundRow cX2_boundRow 10 (none) [] rmX2_boundRow bdX2_boundRow)
    {Q23 : Nat → Int32 → Int32 → MC → MI → MJ → MR → Prop} (w23 : ∀ (x0 : Nat) (x1 : Int32) (x2 : Int32) (C : MC) (I : MI) (J : MJ) (R : MR), Q23 x0 x1 x2 C I J R → AW Γ 0 0 C I J R 23 [(0, aR (some x0)), (1, aI x1), (2, aI x2)] [])
    {Q192 : Nat → Int32 → Int32 → Int32 → MC → MI → MJ → MR → Prop} (w192 : ∀ (x0 : Nat) (x1 : Int32) (x2 : Int32) (x6 : Int32) (C : MC) (I : MI) (J : MJ) (R : MR), Q192 x0 x1 x2 x6 C I J R → AW Γ 0 0 C I J R 192 [(0, aR (some x0)), (1, aI x1), (2, aI x2), (6, aI x6)] []) {x0 : Nat} {x1 : Int32} {x2 : Int32} {x6 : Int32}
    (h : (((121 : Int32) ≤ x6 →
      Q23 x0 x1 (x2 + 1) C I J R) ∧
      (¬ (121 : Int32) ≤ x6 →
      (C x0).1 = 3 ∧
      ∃ q3 : Nat, R x0 35 = some q3 ∧
      (C q3).1 = 21 ∧
      vp_in x6 (C q3).2 ∧
      ∃ q6 : Nat, R x0 34 = some q6 ∧
      (C q6).1 = 21 ∧
      vp_in x6 (C q6).2 ∧
      ∀ J9 : MJ, J9 = va_up J q6 (va_up (J q6) x6.toNatClampNeg (J q3 x6.toNatClampNeg)) →
      Q192 x0 x1 x2 (x6 + 1) C I J9 R))) :
    AW Γ 0 0 C I J R 192 [(0, aR (some x0)), (1, aI x1), (2, aI x2), (6, aI x6)] [] := by
  have G0 := G.1
  refine aw_iload G0 3 rfl dX2_boundRow_192 ?_
  refine aw_bipush (v := (121 : Int32)) G0 dX2_boundRow_194 (by decide) ?_
  refine aw_icmp_ge G0 219 dX2_boundRow_196 (by decide) (fun c1 => ?_) (fun c1 => ?_)
  · have h := h.1 c1
    refine aw_iinc (v := x2 + 1) (lv' := [(2, aI (x2 + 1)), (0, aR (some x0)), (1, aI x1), (6, aI x6)]) G0 2 rfl rfl (by decide) rfl dX2_boundRow_219 ?_
    refine aw_goto G0 23 dX2_boundRow_222 (by decide) ?_
    exact (aw_lv [1, 2, 0] rfl (w23 x0 x1 (x2 + 1) C I J R h))
  · have h := h.2 c1
    refine aw_aload_n G0 0 rfl dX2_boundRow_199 ?_
    obtain ⟨k2, h⟩ := h
    refine aw_getR (f := 34) G0 (by rw [k2]; exact fb_X2_100) dX2_boundRow_200 ?_
    refine aw_iload G0 3 rfl dX2_boundRow_203 ?_
    refine aw_aload_n G0 0 rfl dX2_boundRow_205 ?_
    refine aw_getR (f := 35) G0 (by rw [k2]; exact fb_X2_103) dX2_boundRow_206 ?_
    refine aw_iload G0 3 rfl dX2_boundRow_209 ?_
    obtain ⟨q3, e3, h⟩ := h
    refine aw_dr1 e3 ?_
    obtain ⟨k4, h⟩ := h
    obtain ⟨k5, h⟩ := h
    refine aw_lald G0 k4 k5 dX2_boundRow_211 ?_
    obtain ⟨q6, e6, h⟩ := h
    refine aw_dr2 e6 ?_
    obtain ⟨k7, h⟩ := h
    obtain ⟨k8, h⟩ := h
    refine aw_last G0 k7 k8 dX2_boundRow_212 ?_
    generalize gJ9 : va_up J q6 (va_up (J q6) x6.toNatClampNeg (J q3 x6.toNatClampNeg)) = J9
    have h := h J9 gJ9.symm
    refine aw_iinc (v := x6 + 1) (lv' := [(6, aI (x6 + 1)), (0, aR (some x0)), (1, aI x1), (2, aI x2)]) G0 3 rfl rfl (by decide) rfl dX2_boundRow_213 ?_
    refine aw_goto G0 192 dX2_boundRow_216 (by decide) ?_
    exact (aw_lv [1, 2, 3, 0] rfl (w192 x0 x1 x2 (x6 + 1) C I J9 R h))
theorem bX2_boundRow_225 (G : Gb Γ yX2_boundRow cX2_boundRow 10 (none) [] rmX2_boundRow bdX2_boundRow)
    {Q227 : Nat → Int32 → Int32 → MC → MI → MJ → MR → Prop} (w227 : ∀ (x0 : Nat) (x1 : Int32) (x2 : Int32) (C : MC) (I : MI) (J : MJ) (R : MR), Q227 x0 x1 x2 C I J R → AW Γ 0 0 C I J R 227 [(0, aR (some x0)), (1, aI x1), (2, aI x2)] []) {x0 : Nat} {x1 : Int32}
    (h : Q227 x0 x1 (0 : Int32) C I J R) :
    AW Γ 0 0 C I J R 225 [(0, aR (some x0)), (1, aI x1)] [] := by
  have G0 := G.1
  refine aw_iconst (v := (0 : Int32)) G0 dX2_boundRow_225 (by decide) ?_
  refine aw_istore_n (lv' := [(2, aI (0 : Int32)), (0, aR (some x0)), (1, aI x1)]) G0 (by decide) rfl dX2_boundRow_226 ?_
  exact (aw_lv [1, 2, 0] rfl (w227 x0 x1 (0 : Int32) C I J R h))
theorem bX2_boundRow_227 (G : Gb Γ yX2_boundRow cX2_boundRow 10 (none) [] rmX2_boundRow bdX2_boundRow) {F_X2_at : SPF} (S_X2_at : SpX2_at (gL Γ) F_X2_at)
    {Q227 : Nat → Int32 → Int32 → MC → MI → MJ → MR → Prop} (w227 : ∀ (x0 : Nat) (x1 : Int32) (x2 : Int32) (C : MC) (I : MI) (J : MJ) (R : MR), Q227 x0 x1 x2 C I J R → AW Γ 0 0 C I J R 227 [(0, aR (some x0)), (1, aI x1), (2, aI x2)] []) {x0 : Nat} {x1 : Int32} {x2 : Int32}
    (h : (((121 : Int32) ≤ x2 →
      gK Γ (.inl none) C I J R) ∧
      (¬ (121 : Int32) ≤ x2 →
      (C x0).1 = 3 ∧
      F_X2_at [aI x1, aI x2] C I J R (fun o C3 I4 J5 R6 =>
      ∃ r7 : Int32, o = .inl (some (aI r7)) ∧
      (C3 x0).1 = 3 ∧
      ∃ q9 : Nat, R6 x0 33 = some q9 ∧
      (C3 q9).1 = 21 ∧
      vp_in x1 (C3 q9).2 ∧
      ∃ q12 : Nat, R6 x0 34 = some q12 ∧
      (C3 q12).1 = 21 ∧
      vp_in x2 (C3 q12).2 ∧
      ∃ q15 : Nat, R x0 32 = some q15 ∧
      (C3 q15).1 = 21 ∧
      vp_in r7 (C3 q15).2 ∧
      ∀ J18 : MJ, J18 = va_up J5 q15 (va_up (J5 q15) r7.toNatClampNeg (if (J5 q12 x2.toNatClampNeg) < (J5 q9 x1.toNatClampNeg) then (J5 q12 x2.toNatClampNeg) else (J5 q9 x1.toNatClampNeg))) →
      Q227 x0 x1 (x2 + 1) C3 I4 J18 R6)))) :
    AW Γ 0 0 C I J R 227 [(0, aR (some x0)), (1, aI x1), (2, aI x2)] [] := by
  have G0 := G.1
  refine aw_iload_n G0 2 rfl dX2_boundRow_227 ?_
  refine aw_bipush (v := (121 : Int32)) G0 dX2_boundRow_228 (by decide) ?_
  refine aw_icmp_ge G0 264 dX2_boundRow_230 (by decide) (fun c1 => ?_) (fun c1 => ?_)
  · have h := h.1 c1
    exact aw_return G0 (by rw [G.2.2]; decide) (by rw [G.2.1]; decide) dX2_boundRow_264 h
  · have h := h.2 c1
    refine aw_aload_n G0 0 rfl dX2_boundRow_233 ?_
    obtain ⟨k2, h⟩ := h
    refine aw_getR (f := 32) G0 (by rw [k2]; exact fb_X2_94) dX2_boundRow_234 ?_
    refine aw_iload_n G0 1 rfl dX2_boundRow_237 ?_
    refine aw_iload_n G0 2 rfl dX2_boundRow_238 ?_
    refine aw_callS (k1 := 0) (n1 := 0) (k2 := 0) (n2 := 0) (st := [aR (R x0 32)]) G0 S_X2_at gi_X2_173 md_X2_at (Nat.le_of_ble_eq_true rfl) (by decide) (by rw [G.2.1]; decide) (by rw [G.2.1]; decide) [aI x1, aI x2] rfl rfl dX2_boundRow_239 h (fun o C3 I4 J5 R6 h => ?_)
    obtain ⟨r7, rfl, h⟩ := h
    show AW Γ 0 0 C3 I4 J5 R6 (239 + 3) [(0, aR (some x0)), (1, aI x1), (2, aI x2)] [aI r7, aR (R x0 32)]
    refine aw_aload_n G0 0 rfl dX2_boundRow_242 ?_
    obtain ⟨k8, h⟩ := h
    refine aw_getR (f := 33) G0 (by rw [k8]; exact fb_X2_97) dX2_boundRow_243 ?_
    refine aw_iload_n G0 1 rfl dX2_boundRow_246 ?_
    obtain ⟨q9, e9, h⟩ := h
    refine aw_dr1 e9 ?_
    obtain ⟨k10, h⟩ := h
    obtain ⟨k11, h⟩ := h
    refine aw_lald G0 k10 k11 dX2_boundRow_247 ?_
    refine aw_aload_n G0 0 rfl dX2_boundRow_248 ?_
    refine aw_getR (f := 34) G0 (by rw [k8]; exact fb_X2_100) dX2_boundRow_249 ?_
    refine aw_iload_n G0 2 rfl dX2_boundRow_252 ?_
    obtain ⟨q12, e12, h⟩ := h
    refine aw_dr1 e12 ?_
    obtain ⟨k13, h⟩ := h
    obtain ⟨k14, h⟩ := h
    refine aw_lald G0 k13 k14 dX2_boundRow_253 ?_
    refine aw_mminl G0 q1227 (by rw [G.2.1]; decide) (by rw [G.2.1]; exact Nat.le_of_ble_eq_true rfl) (by rw [G.2.1]; decide) dX2_boundRow_254 ?_
    obtain ⟨q15, e15, h⟩ := h
    refine aw_dr2 e15 ?_
    obtain ⟨k16, h⟩ := h
    obtain ⟨k17, h⟩ := h
    refine aw_last G0 k16 k17 dX2_boundRow_257 ?_
    generalize gJ18 : va_up J5 q15 (va_up (J5 q15) r7.toNatClampNeg (if (J5 q12 x2.toNatClampNeg) < (J5 q9 x1.toNatClampNeg) then (J5 q12 x2.toNatClampNeg) else (J5 q9 x1.toNatClampNeg))) = J18
    have h := h J18 gJ18.symm
    refine aw_iinc (v := x2 + 1) (lv' := [(2, aI (x2 + 1)), (0, aR (some x0)), (1, aI x1)]) G0 2 rfl rfl (by decide) rfl dX2_boundRow_258 ?_
    refine aw_goto G0 227 dX2_boundRow_261 (by decide) ?_
    exact (aw_lv [1, 2, 0] rfl (w227 x0 x1 (x2 + 1) C3 I4 J18 R6 h))
theorem bX2_boundFan_0 (G : Gb Γ yX2_boundFan cX2_boundFan 10 (some .long) [] rmX2_boundFan bdX2_boundFan) {F_X2_told0 : SPF} (S_X2_told0 : SpX2_told0 (gL Γ) F_X2_told0)
    {Q32 : Nat → Int32 → Int32 → Int64 → Int64 → Int32 → MC → MI → MJ → MR → Prop} (w32 : ∀ (x0 : Nat) (x1 : Int32) (x2 : Int32) (x5 : Int64) (x7 : Int64) (x9 : Int32) (C : MC) (I : MI) (J : MJ) (R : MR), Q32 x0 x1 x2 x5 x7 x9 C I J R → AW Γ 0 0 C I J R 32 [(0, aR (some x0)), (1, aI x1), (2, aI x2), (5, aJ x5), (7, aJ x7), (9, aI x9)] []) {x0 : Nat} {x1 : Int32} {x2 : Int32}
    (h : (C x0).1 = 3 ∧
      F_X2_told0 [aR (some x0), aI x1] C I J R (fun o C2 I3 J4 R5 =>
      ∃ r6 : Int32, o = .inl (some (aI r6)) ∧
      (C2 x0).1 = 3 ∧
      ∃ q8 : Nat, R5 x0 9 = some q8 ∧
      (C2 q8).1 = 20 ∧
      vp_in x1 (C2 q8).2 ∧
      ∃ q11 : Nat, R5 x0 33 = some q11 ∧
      (C2 q11).1 = 21 ∧
      vp_in x1 (C2 q11).2 ∧
      ¬ (((r6 - (I3 q8 x1.toNatClampNeg)) + (1 : Int32)).toInt64) = 0 ∧
      Q32 x0 x1 x2 ((J4 q11 x1.toNatClampNeg) / (((r6 - (I3 q8 x1.toNatClampNeg)) + (1 : Int32)).toInt64)) (0 : Int64) (0 : Int32) C2 I3 J4 R5)) :
    AW Γ 0 0 C I J R 0 [(0, aR (some x0)), (1, aI x1), (2, aI x2)] [] := by
  have G0 := G.1
  refine aw_aload_n G0 0 rfl dX2_boundFan_0 ?_
  refine aw_iload_n G0 1 rfl dX2_boundFan_1 ?_
  obtain ⟨k1, h⟩ := h
  refine aw_callV (k1 := 0) (n1 := 0) (k2 := 0) (n2 := 0) (st := []) G0 S_X2_told0 gi_X2_254 (Or.inl (by rw [k1]; decide)) (by rw [k1]; rfl) md_X2_told0 (Nat.le_of_ble_eq_true rfl) (by decide) (by rw [G.2.1]; decide) (by rw [G.2.1]; decide) [aI x1] rfl rfl dX2_boundFan_2 h (fun o C2 I3 J4 R5 h => ?_)
  obtain ⟨r6, rfl, h⟩ := h
  show AW Γ 0 0 C2 I3 J4 R5 (2 + 3) [(0, aR (some x0)), (1, aI x1), (2, aI x2)] [aI r6]
  refine aw_aload_n G0 0 rfl dX2_boundFan_5 ?_
  obtain ⟨k7, h⟩ := h
  refine aw_getR (f := 9) G0 (by rw [k7]; exact fb_X2_30) dX2_boundFan_6 ?_
  refine aw_iload_n G0 1 rfl dX2_boundFan_9 ?_
  obtain ⟨q8, e8, h⟩ := h
  refine aw_dr1 e8 ?_
  obtain ⟨k9, h⟩ := h
  obtain ⟨k10, h⟩ := h
  refine aw_iald G0 (Or.inl k9) k10 dX2_boundFan_10 ?_
  refine aw_isub G0 dX2_boundFan_11 ?_
  refine aw_iconst (v := (1 : Int32)) G0 dX2_boundFan_12 (by decide) ?_
  refine aw_iadd G0 dX2_boundFan_13 ?_
  refine aw_i2l G0 dX2_boundFan_14 ?_
  refine aw_lstore_n (lv' := [(3, aJ (((r6 - (I3 q8 x1.toNatClampNeg)) + (1 : Int32)).toInt64)), (0, aR (some x0)), (1, aI x1), (2, aI x2)]) G0 (by decide) rfl dX2_boundFan_15 ?_
  refine aw_aload_n G0 1 rfl dX2_boundFan_16 ?_
  refine aw_getR (f := 33) G0 (by rw [k7]; exact fb_X2_97) dX2_boundFan_17 ?_
  refine aw_iload_n G0 2 rfl dX2_boundFan_20 ?_
  obtain ⟨q11, e11, h⟩ := h
  refine aw_dr1 e11 ?_
  obtain ⟨k12, h⟩ := h
  obtain ⟨k13, h⟩ := h
  refine aw_lald G0 k12 k13 dX2_boundFan_21 ?_
  refine aw_lload_n G0 0 rfl dX2_boundFan_22 ?_
  obtain ⟨k14, h⟩ := h
  refine aw_ldiv G0 k14 dX2_boundFan_23 ?_
  refine aw_lstore (lv' := [(5, aJ ((J4 q11 x1.toNatClampNeg) / (((r6 - (I3 q8 x1.toNatClampNeg)) + (1 : Int32)).toInt64))), (3, aJ (((r6 - (I3 q8 x1.toNatClampNeg)) + (1 : Int32)).toInt64)), (0, aR (some x0)), (1, aI x1), (2, aI x2)]) G0 (by decide) rfl dX2_boundFan_24 ?_
  refine aw_lconst (v := (0 : Int64)) G0 dX2_boundFan_26 (by decide) ?_
  refine aw_lstore (lv' := [(7, aJ (0 : Int64)), (5, aJ ((J4 q11 x1.toNatClampNeg) / (((r6 - (I3 q8 x1.toNatClampNeg)) + (1 : Int32)).toInt64))), (3, aJ (((r6 - (I3 q8 x1.toNatClampNeg)) + (1 : Int32)).toInt64)), (0, aR (some x0)), (1, aI x1), (2, aI x2)]) G0 (by decide) rfl dX2_boundFan_27 ?_
  refine aw_iconst (v := (0 : Int32)) G0 dX2_boundFan_29 (by decide) ?_
  refine aw_istore (lv' := [(9, aI (0 : Int32)), (7, aJ (0 : Int64)), (5, aJ ((J4 q11 x1.toNatClampNeg) / (((r6 - (I3 q8 x1.toNatClampNeg)) + (1 : Int32)).toInt64))), (3, aJ (((r6 - (I3 q8 x1.toNatClampNeg)) + (1 : Int32)).toInt64)), (0, aR (some x0)), (1, aI x1), (2, aI x2)]) G0 (by decide) rfl dX2_boundFan_30 ?_
  exact (aw_lv [4, 5, 6, 2, 1, 0] rfl (w32 x0 x1 x2 ((J4 q11 x1.toNatClampNeg) / (((r6 - (I3 q8 x1.toNatClampNeg)) + (1 : Int32)).toInt64)) (0 : Int64) (0 : Int32) C2 I3 J4 R5 h))
theorem bX2_boundFan_32 (G : Gb Γ yX2_boundFan cX2_boundFan 10 (some .long) [] rmX2_boundFan bdX2_boundFan) {F_X2_at : SPF} (S_X2_at : SpX2_at (gL Γ) F_X2_at)
    {Q32 : Nat → Int32 → Int32 → Int64 → Int64 → Int32 → MC → MI → MJ → MR → Prop} (w32 : ∀ (x0 : Nat) (x1 : Int32) (x2 : Int32) (x5 : Int64) (x7 : Int64) (x9 : Int32) (C : MC) (I : MI) (J : MJ) (R : MR), Q32 x0 x1 x2 x5 x7 x9 C I J R → AW Γ 0 0 C I J R 32 [(0, aR (some x0)), (1, aI x1), (2, aI x2), (5, aJ x5), (7, aJ x7), (9, aI x9)] [])
    {Q104 : Nat → Int32 → Int64 → MC → MI → MJ → MR → Prop} (w104 : ∀ (x0 : Nat) (x1 : Int32) (x7 : Int64) (C : MC) (I : MI) (J : MJ) (R : MR), Q104 x0 x1 x7 C I J R → AW Γ 0 0 C I J R 104 [(0, aR (some x0)), (1, aI x1), (7, aJ x7)] []) {x0 : Nat} {x1 : Int32} {x2 : Int32} {x5 : Int64} {x7 : Int64} {x9 : Int32}
    (h : (((4 : Int32) ≤ x9 →
      Q104 x0 x1 x7 C I J R) ∧
      (¬ (4 : Int32) ≤ x9 →
      (C x0).1 = 3 ∧
      ∃ q3 : Nat, R x0 8 = some q3 ∧
      (C q3).1 = 20 ∧
      vp_in (((4 : Int32) * x1) + x9) (C q3).2 ∧
      (((I q3 (((4 : Int32) * x1) + x9).toNatClampNeg) = (-1 : Int32) →
      Q104 x0 x1 x7 C I J R) ∧
      (¬ (I q3 (((4 : Int32) * x1) + x9).toNatClampNeg) = (-1 : Int32) →
      F_X2_at [aI (I q3 (((4 : Int32) * x1) + x9).toNatClampNeg), aI x2] C I J R (fun o C7 I8 J9 R10 =>
      ∃ r11 : Int32, o = .inl (some (aI r11)) ∧
      ∃ q12 : Nat, R x0 32 = some q12 ∧
      (C7 q12).1 = 21 ∧
      vp_in r11 (C7 q12).2 ∧
      (C7 x0).1 = 3 ∧
      ∃ q16 : Nat, R10 x0 8 = some q16 ∧
      (C7 q16).1 = 20 ∧
      vp_in (((4 : Int32) * x1) + x9) (C7 q16).2 ∧
      ∃ q19 : Nat, R10 x0 33 = some q19 ∧
      (C7 q19).1 = 21 ∧
      vp_in (I8 q16 (((4 : Int32) * x1) + x9).toNatClampNeg) (C7 q19).2 ∧
      ¬ (J9 q19 (I8 q16 (((4 : Int32) * x1) + x9).toNatClampNeg).toNatClampNeg) = 0 ∧
      Q32 x0 x1 x2 x5 (x7 + ((J9 q12 r11.toNatClampNeg) * (x5 / (J9 q19 (I8 q16 (((4 : Int32) * x1) + x9).toNatClampNeg).toNatClampNeg)))) (x9 + 1) C7 I8 J9 R10)))))) :
    AW Γ 0 0 C I J R 32 [(0, aR (some x0)), (1, aI x1), (2, aI x2), (5, aJ x5), (7, aJ x7), (9, aI x9)] [] := by
  have G0 := G.1
  refine aw_iload G0 5 rfl dX2_boundFan_32 ?_
  refine aw_iconst (v := (4 : Int32)) G0 dX2_boundFan_34 (by decide) ?_
  refine aw_icmp_ge G0 104 dX2_boundFan_35 (by decide) (fun c1 => ?_) (fun c1 => ?_)
  · have h := h.1 c1
    exact (aw_lv [0, 1, 4] rfl (w104 x0 x1 x7 C I J R h))
  · have h := h.2 c1
    refine aw_aload_n G0 0 rfl dX2_boundFan_38 ?_
    obtain ⟨k2, h⟩ := h
    refine aw_getR (f := 8) G0 (by rw [k2]; exact fb_X2_27) dX2_boundFan_39 ?_
    refine aw_iconst (v := (4 : Int32)) G0 dX2_boundFan_42 (by decide) ?_
    refine aw_iload_n G0 1 rfl dX2_boundFan_43 ?_
    refine aw_imul G0 dX2_boundFan_44 ?_
    refine aw_iload G0 5 rfl dX2_boundFan_45 ?_
    refine aw_iadd G0 dX2_boundFan_47 ?_
    obtain ⟨q3, e3, h⟩ := h
    refine aw_dr1 e3 ?_
    obtain ⟨k4, h⟩ := h
    obtain ⟨k5, h⟩ := h
    refine aw_iald G0 (Or.inl k4) k5 dX2_boundFan_48 ?_
    refine aw_iconst (v := (-1 : Int32)) G0 dX2_boundFan_49 (by decide) ?_
    refine aw_icmp_eq G0 104 dX2_boundFan_50 (by decide) (fun c6 => ?_) (fun c6 => ?_)
    · have h := h.1 c6
      exact (aw_lv [0, 1, 4] rfl (w104 x0 x1 x7 C I J R h))
    · have h := h.2 c6
      refine aw_lload G0 4 rfl dX2_boundFan_53 ?_
      refine aw_aload_n G0 0 rfl dX2_boundFan_55 ?_
      refine aw_getR (f := 32) G0 (by rw [k2]; exact fb_X2_94) dX2_boundFan_56 ?_
      refine aw_aload_n G0 0 rfl dX2_boundFan_59 ?_
      refine aw_getR (f := 8) G0 (by rw [k2]; exact fb_X2_27) dX2_boundFan_60 ?_
      refine aw_iconst (v := (4 : Int32)) G0 dX2_boundFan_63 (by decide) ?_
      refine aw_iload_n G0 1 rfl dX2_boundFan_64 ?_
      refine aw_imul G0 dX2_boundFan_65 ?_
      refine aw_iload G0 5 rfl dX2_boundFan_66 ?_
      refine aw_iadd G0 dX2_boundFan_68 ?_
      refine aw_dr1 e3 ?_
      refine aw_iald G0 (Or.inl k4) k5 dX2_boundFan_69 ?_
      refine aw_iload_n G0 2 rfl dX2_boundFan_70 ?_
      refine aw_callS (k1 := 0) (n1 := 0) (k2 := 0) (n2 := 0) (st := [aR (R x0 32), aJ x7]) G0 S_X2_at gi_X2_173 md_X2_at (Nat.le_of_ble_eq_true rfl) (by decide) (by rw [G.2.1]; decide) (by rw [G.2.1]; decide) [aI (I q3 (((4 : Int32) * x1) + x9).toNatClampNeg), aI x2] rfl rfl dX2_boundFan_71 h (fun o C7 I8 J9 R10 h => ?_)
      obtain ⟨r11, rfl, h⟩ := h
      show AW Γ 0 0 C7 I8 J9 R10 (71 + 3) [(0, aR (some x0)), (1, aI x1), (2, aI x2), (5, aJ x5), (7, aJ x7), (9, aI x9)] [aI r11, aR (R x0 32), aJ x7]
      obtain ⟨q12, e12, h⟩ := h
      refine aw_dr1 e12 ?_
      obtain ⟨k13, h⟩ := h
      obtain ⟨k14, h⟩ := h
      refine aw_lald G0 k13 k14 dX2_boundFan_74 ?_
      refine aw_lload G0 3 rfl dX2_boundFan_75 ?_
      refine aw_aload_n G0 0 rfl dX2_boundFan_77 ?_
      obtain ⟨k15, h⟩ := h
      refine aw_getR (f := 33) G0 (by rw [k15]; exact fb_X2_97) dX2_boundFan_78 ?_
      refine aw_aload_n G0 0 rfl dX2_boundFan_81 ?_
      refine aw_getR (f := 8) G0 (by rw [k15]; exact fb_X2_27) dX2_boundFan_82 ?_
      refine aw_iconst (v := (4 : Int32)) G0 dX2_boundFan_85 (by decide) ?_
      refine aw_iload_n G0 1 rfl dX2_boundFan_86 ?_
      refine aw_imul G0 dX2_boundFan_87 ?_
      refine aw_iload G0 5 rfl dX2_boundFan_88 ?_
      refine aw_iadd G0 dX2_boundFan_90 ?_
      obtain ⟨q16, e16, h⟩ := h
      refine aw_dr1 e16 ?_
      obtain ⟨k17, h⟩ := h
      obtain ⟨k18, h⟩ := h
      refine aw_iald G0 (Or.inl k17) k18 dX2_boundFan_91 ?_
      obtain ⟨q19, e19, h⟩ := h
      refine aw_dr1 e19 ?_
      obtain ⟨k20, h⟩ := h
      obtain ⟨k21, h⟩ := h
      refine aw_lald G0 k20 k21 dX2_boundFan_92 ?_
      obtain ⟨k22, h⟩ := h
      refine aw_ldiv G0 k22 dX2_boundFan_93 ?_
      refine aw_lmul G0 dX2_boundFan_94 ?_
      refine aw_ladd G0 dX2_boundFan_95 ?_
      refine aw_lstore (lv' := [(7, aJ (x7 + ((J9 q12 r11.toNatClampNeg) * (x5 / (J9 q19 (I8 q16 (((4 : Int32) * x1) + x9).toNatClampNeg).toNatClampNeg))))), (0, aR (some x0)), (1, aI x1), (2, aI x2), (5, aJ x5), (9, aI x9)]) G0 (by decide) rfl dX2_boundFan_96 ?_
      refine aw_iinc (v := x9 + 1) (lv' := [(9, aI (x9 + 1)), (7, aJ (x7 + ((J9 q12 r11.toNatClampNeg) * (x5 / (J9 q19 (I8 q16 (((4 : Int32) * x1) + x9).toNatClampNeg).toNatClampNeg))))), (0, aR (some x0)), (1, aI x1), (2, aI x2), (5, aJ x5)]) G0 5 rfl rfl (by decide) rfl dX2_boundFan_98 ?_
      refine aw_goto G0 32 dX2_boundFan_101 (by decide) ?_
      exact (aw_lv [2, 3, 4, 5, 1, 0] rfl (w32 x0 x1 x2 x5 (x7 + ((J9 q12 r11.toNatClampNeg) * (x5 / (J9 q19 (I8 q16 (((4 : Int32) * x1) + x9).toNatClampNeg).toNatClampNeg)))) (x9 + 1) C7 I8 J9 R10 h))
theorem bX2_boundFan_104 (G : Gb Γ yX2_boundFan cX2_boundFan 10 (some .long) [] rmX2_boundFan bdX2_boundFan) {x0 : Nat} {x1 : Int32} {x7 : Int64}
    (h : (C x0).1 = 3 ∧
      ∃ q2 : Nat, R x0 33 = some q2 ∧
      (C q2).1 = 21 ∧
      vp_in x1 (C q2).2 ∧
      gK Γ (.inl (some (aJ (if x7 < (J q2 x1.toNatClampNeg) then x7 else (J q2 x1.toNatClampNeg))))) C I J R) :
    AW Γ 0 0 C I J R 104 [(0, aR (some x0)), (1, aI x1), (7, aJ x7)] [] := by
  have G0 := G.1
  refine aw_aload_n G0 0 rfl dX2_boundFan_104 ?_
  obtain ⟨k1, h⟩ := h
  refine aw_getR (f := 33) G0 (by rw [k1]; exact fb_X2_97) dX2_boundFan_105 ?_
  refine aw_iload_n G0 1 rfl dX2_boundFan_108 ?_
  obtain ⟨q2, e2, h⟩ := h
  refine aw_dr1 e2 ?_
  obtain ⟨k3, h⟩ := h
  obtain ⟨k4, h⟩ := h
  refine aw_lald G0 k3 k4 dX2_boundFan_109 ?_
  refine aw_lload G0 2 rfl dX2_boundFan_110 ?_
  refine aw_mminl G0 q1227 (by rw [G.2.1]; decide) (by rw [G.2.1]; exact Nat.le_of_ble_eq_true rfl) (by rw [G.2.1]; decide) dX2_boundFan_112 ?_
  exact aw_lreturn G0 (by rw [G.2.2]; decide) (by rw [G.2.1]; decide) dX2_boundFan_115 h
theorem bX2_asks_0 (G : Gb Γ yX2_asks cX2_asks 5 (some .int) [] rmX2_asks bdX2_asks) {F_X2_isThing : SPF} (S_X2_isThing : SpX2_isThing (gL Γ) F_X2_isThing) {F_X2_refuse : SPF} (S_X2_refuse : SpX2_refuse (gL Γ) F_X2_refuse) {F_X2_isLeaf : SPF} (S_X2_isLeaf : SpX2_isLeaf (gL Γ) F_X2_isLeaf) {F_X2_has : SPF} (S_X2_has : SpX2_has (gL Γ) F_X2_has)
    {Q41 : Nat → Int32 → Int32 → Int32 → MC → MI → MJ → MR → Prop} (w41 : ∀ (x0 : Nat) (x1 : Int32) (x3 : Int32) (x4 : Int32) (C : MC) (I : MI) (J : MJ) (R : MR), Q41 x0 x1 x3 x4 C I J R → AW Γ 0 0 C I J R 41 [(0, aR (some x0)), (1, aI x1), (3, aI x3), (4, aI x4)] []) {x0 : Nat} {x1 : Int32} {x2 : Int32}
    (h : (C x0).1 = 3 ∧
      F_X2_isThing [aR (some x0), aI x1] C I J R (fun o C2 I3 J4 R5 =>
      ∃ r6 : Int32, o = .inl (some (aI r6)) ∧
      ((r6 = 0 →
      (C2 x0).1 = 3 ∧
      F_X2_refuse [aR (some x0), aI (1 : Int32)] C2 I3 J4 R5 (fun o C9 I10 J11 R12 =>
      ∃ r13 : Int32, o = .inl (some (aI r13)) ∧
      gK Γ (.inl (some (aI r13))) C9 I10 J11 R12)) ∧
      (¬ r6 = 0 →
      (C2 x0).1 = 3 ∧
      F_X2_isLeaf [aR (some x0), aI x2] C2 I3 J4 R5 (fun o C15 I16 J17 R18 =>
      ∃ r19 : Int32, o = .inl (some (aI r19)) ∧
      ((r19 = 0 →
      (C15 x0).1 = 3 ∧
      F_X2_refuse [aR (some x0), aI (1 : Int32)] C15 I16 J17 R18 (fun o C22 I23 J24 R25 =>
      ∃ r26 : Int32, o = .inl (some (aI r26)) ∧
      gK Γ (.inl (some (aI r26))) C22 I23 J24 R25)) ∧
      (¬ r19 = 0 →
      (C15 x0).1 = 3 ∧
      F_X2_has [aR (some x0), aI x1, aI x2] C15 I16 J17 R18 (fun o C28 I29 J30 R31 =>
      ∃ r32 : Int32, o = .inl (some (aI r32)) ∧
      ((¬ r32 = 0 →
      (C28 x0).1 = 3 ∧
      ∀ I35 : MI, I35 = va_up I29 x0 (va_up (I29 x0) 0 (0 : Int32)) →
      Q41 x0 x1 (1 : Int32) x2 C28 I35 J30 R31) ∧
      (r32 = 0 →
      (C28 x0).1 = 3 ∧
      F_X2_refuse [aR (some x0), aI (1 : Int32)] C28 I29 J30 R31 (fun o C37 I38 J39 R40 =>
      ∃ r41 : Int32, o = .inl (some (aI r41)) ∧
      gK Γ (.inl (some (aI r41))) C37 I38 J39 R40))))))))))) :
    AW Γ 0 0 C I J R 0 [(0, aR (some x0)), (1, aI x1), (2, aI x2)] [] := by
  have G0 := G.1
  refine aw_aload_n G0 0 rfl dX2_asks_0 ?_
  refine aw_iload_n G0 1 rfl dX2_asks_1 ?_
  obtain ⟨k1, h⟩ := h
  refine aw_callV (k1 := 0) (n1 := 0) (k2 := 0) (n2 := 0) (st := []) G0 S_X2_isThing gi_X2_139 (Or.inl (by rw [k1]; decide)) (by rw [k1]; rfl) md_X2_isThing (Nat.le_of_ble_eq_true rfl) (by decide) (by rw [G.2.1]; decide) (by rw [G.2.1]; decide) [aI x1] rfl rfl dX2_asks_2 h (fun o C2 I3 J4 R5 h => ?_)
  obtain ⟨r6, rfl, h⟩ := h
  show AW Γ 0 0 C2 I3 J4 R5 (2 + 3) [(0, aR (some x0)), (1, aI x1), (2, aI x2)] [aI r6]
  refine aw_if_eq G0 25 dX2_asks_5 (by decide) (fun c7 => ?_) (fun c7 => ?_)
  · have h := h.1 c7
    refine aw_aload_n G0 0 rfl dX2_asks_25 ?_
    refine aw_iconst (v := (1 : Int32)) G0 dX2_asks_26 (by decide) ?_
    obtain ⟨k8, h⟩ := h
    refine aw_callV (k1 := 0) (n1 := 0) (k2 := 0) (n2 := 0) (st := []) G0 S_X2_refuse gi_X2_147 (Or.inl (by rw [k8]; decide)) (by rw [k8]; rfl) md_X2_refuse (Nat.le_of_ble_eq_true rfl) (by decide) (by rw [G.2.1]; decide) (by rw [G.2.1]; decide) [aI (1 : Int32)] rfl rfl dX2_asks_27 h (fun o C9 I10 J11 R12 h => ?_)
    obtain ⟨r13, rfl, h⟩ := h
    show AW Γ 0 0 C9 I10 J11 R12 (27 + 3) [(0, aR (some x0)), (1, aI x1), (2, aI x2)] [aI r13]
    exact aw_ireturn G0 (Or.inl rfl) (by rw [G.2.2]; decide) (by rw [G.2.1]; decide) dX2_asks_30 h
  · have h := h.2 c7
    refine aw_aload_n G0 0 rfl dX2_asks_8 ?_
    refine aw_iload_n G0 2 rfl dX2_asks_9 ?_
    obtain ⟨k14, h⟩ := h
    refine aw_callV (k1 := 0) (n1 := 0) (k2 := 0) (n2 := 0) (st := []) G0 S_X2_isLeaf gi_X2_270 (Or.inl (by rw [k14]; decide)) (by rw [k14]; rfl) md_X2_isLeaf (Nat.le_of_ble_eq_true rfl) (by decide) (by rw [G.2.1]; decide) (by rw [G.2.1]; decide) [aI x2] rfl rfl dX2_asks_10 h (fun o C15 I16 J17 R18 h => ?_)
    obtain ⟨r19, rfl, h⟩ := h
    show AW Γ 0 0 C15 I16 J17 R18 (10 + 3) [(0, aR (some x0)), (1, aI x1), (2, aI x2)] [aI r19]
    refine aw_if_eq G0 25 dX2_asks_13 (by decide) (fun c20 => ?_) (fun c20 => ?_)
    · have h := h.1 c20
      refine aw_aload_n G0 0 rfl dX2_asks_25 ?_
      refine aw_iconst (v := (1 : Int32)) G0 dX2_asks_26 (by decide) ?_
      obtain ⟨k21, h⟩ := h
      refine aw_callV (k1 := 0) (n1 := 0) (k2 := 0) (n2 := 0) (st := []) G0 S_X2_refuse gi_X2_147 (Or.inl (by rw [k21]; decide)) (by rw [k21]; rfl) md_X2_refuse (Nat.le_of_ble_eq_true rfl) (by decide) (by rw [G.2.1]; decide) (by rw [G.2.1]; decide) [aI (1 : Int32)] rfl rfl dX2_asks_27 h (fun o C22 I23 J24 R25 h => ?_)
      obtain ⟨r26, rfl, h⟩ := h
      show AW Γ 0 0 C22 I23 J24 R25 (27 + 3) [(0, aR (some x0)), (1, aI x1), (2, aI x2)] [aI r26]
      exact aw_ireturn G0 (Or.inl rfl) (by rw [G.2.2]; decide) (by rw [G.2.1]; decide) dX2_asks_30 h
    · have h := h.2 c20
      refine aw_aload_n G0 0 rfl dX2_asks_16 ?_
      refine aw_iload_n G0 1 rfl dX2_asks_17 ?_
      refine aw_iload_n G0 2 rfl dX2_asks_18 ?_
      obtain ⟨k27, h⟩ := h
      refine aw_callV (k1 := 0) (n1 := 0) (k2 := 0) (n2 := 0) (st := []) G0 S_X2_has gi_X2_226 (Or.inl (by rw [k27]; decide)) (by rw [k27]; rfl) md_X2_has (Nat.le_of_ble_eq_true rfl) (by decide) (by rw [G.2.1]; decide) (by rw [G.2.1]; decide) [aI x1, aI x2] rfl rfl dX2_asks_19 h (fun o C28 I29 J30 R31 h => ?_)
      obtain ⟨r32, rfl, h⟩ := h
      show AW Γ 0 0 C28 I29 J30 R31 (19 + 3) [(0, aR (some x0)), (1, aI x1), (2, aI x2)] [aI r32]
      refine aw_if_ne G0 31 dX2_asks_22 (by decide) (fun c33 => ?_) (fun c33 => ?_)
      · have h := h.1 c33
        refine aw_aload_n G0 0 rfl dX2_asks_31 ?_
        refine aw_iconst (v := (0 : Int32)) G0 dX2_asks_32 (by decide) ?_
        obtain ⟨k34, h⟩ := h
        refine aw_putI (f := 0) G0 (by rw [k34]; exact fp_X2_112 _) dX2_asks_33 ?_
        generalize gI35 : va_up I29 x0 (va_up (I29 x0) 0 (0 : Int32)) = I35
        have h := h I35 gI35.symm
        refine aw_iconst (v := (1 : Int32)) G0 dX2_asks_36 (by decide) ?_
        refine aw_istore_n (lv' := [(3, aI (1 : Int32)), (0, aR (some x0)), (1, aI x1), (2, aI x2)]) G0 (by decide) rfl dX2_asks_37 ?_
        refine aw_iload_n G0 3 rfl dX2_asks_38 ?_
        refine aw_istore (lv' := [(4, aI x2), (3, aI (1 : Int32)), (0, aR (some x0)), (1, aI x1), (2, aI x2)]) G0 (by decide) rfl dX2_asks_39 ?_
        exact (aw_lv [2, 3, 1, 0] rfl (w41 x0 x1 (1 : Int32) x2 C28 I35 J30 R31 h))
      · have h := h.2 c33
        refine aw_aload_n G0 0 rfl dX2_asks_25 ?_
        refine aw_iconst (v := (1 : Int32)) G0 dX2_asks_26 (by decide) ?_
        obtain ⟨k36, h⟩ := h
        refine aw_callV (k1 := 0) (n1 := 0) (k2 := 0) (n2 := 0) (st := []) G0 S_X2_refuse gi_X2_147 (Or.inl (by rw [k36]; decide)) (by rw [k36]; rfl) md_X2_refuse (Nat.le_of_ble_eq_true rfl) (by decide) (by rw [G.2.1]; decide) (by rw [G.2.1]; decide) [aI (1 : Int32)] rfl rfl dX2_asks_27 h (fun o C37 I38 J39 R40 h => ?_)
        obtain ⟨r41, rfl, h⟩ := h
        show AW Γ 0 0 C37 I38 J39 R40 (27 + 3) [(0, aR (some x0)), (1, aI x1), (2, aI x2)] [aI r41]
        exact aw_ireturn G0 (Or.inl rfl) (by rw [G.2.2]; decide) (by rw [G.2.1]; decide) dX2_asks_30 h
theorem bX2_asks_41 (G : Gb Γ yX2_asks cX2_asks 5 (some .int) [] rmX2_asks bdX2_asks) {F_X2_factor : SPF} (S_X2_factor : SpX2_factor (gL Γ) F_X2_factor)
    {Q41 : Nat → Int32 → Int32 → Int32 → MC → MI → MJ → MR → Prop} (w41 : ∀ (x0 : Nat) (x1 : Int32) (x3 : Int32) (x4 : Int32) (C : MC) (I : MI) (J : MJ) (R : MR), Q41 x0 x1 x3 x4 C I J R → AW Γ 0 0 C I J R 41 [(0, aR (some x0)), (1, aI x1), (3, aI x3), (4, aI x4)] []) {x0 : Nat} {x1 : Int32} {x3 : Int32} {x4 : Int32}
    (h : ((x4 = x1 →
      gK Γ (.inl (some (aI x3))) C I J R) ∧
      (¬ x4 = x1 →
      (C x0).1 = 3 ∧
      ∃ q3 : Nat, R x0 11 = some q3 ∧
      (C q3).1 = 20 ∧
      vp_in x4 (C q3).2 ∧
      F_X2_factor [aR (some x0), aI (I q3 x4.toNatClampNeg)] C I J R (fun o C6 I7 J8 R9 =>
      ∃ r10 : Int32, o = .inl (some (aI r10)) ∧
      (C6 x0).1 = 3 ∧
      ∃ q12 : Nat, R9 x0 11 = some q12 ∧
      (C6 q12).1 = 20 ∧
      vp_in x4 (C6 q12).2 ∧
      Q41 x0 x1 (x3 * r10) (I7 q12 x4.toNatClampNeg) C6 I7 J8 R9)))) :
    AW Γ 0 0 C I J R 41 [(0, aR (some x0)), (1, aI x1), (3, aI x3), (4, aI x4)] [] := by
  have G0 := G.1
  refine aw_iload G0 3 rfl dX2_asks_41 ?_
  refine aw_iload_n G0 1 rfl dX2_asks_43 ?_
  refine aw_icmp_eq G0 73 dX2_asks_44 (by decide) (fun c1 => ?_) (fun c1 => ?_)
  · have h := h.1 c1
    refine aw_iload_n G0 2 rfl dX2_asks_73 ?_
    exact aw_ireturn G0 (Or.inl rfl) (by rw [G.2.2]; decide) (by rw [G.2.1]; decide) dX2_asks_74 h
  · have h := h.2 c1
    refine aw_iload_n G0 2 rfl dX2_asks_47 ?_
    refine aw_aload_n G0 0 rfl dX2_asks_48 ?_
    refine aw_aload_n G0 0 rfl dX2_asks_49 ?_
    obtain ⟨k2, h⟩ := h
    refine aw_getR (f := 11) G0 (by rw [k2]; exact fb_X2_36) dX2_asks_50 ?_
    refine aw_iload G0 3 rfl dX2_asks_53 ?_
    obtain ⟨q3, e3, h⟩ := h
    refine aw_dr1 e3 ?_
    obtain ⟨k4, h⟩ := h
    obtain ⟨k5, h⟩ := h
    refine aw_iald G0 (Or.inl k4) k5 dX2_asks_55 ?_
    refine aw_callV (k1 := 0) (n1 := 0) (k2 := 0) (n2 := 0) (st := [aI x3]) G0 S_X2_factor gi_X2_273 (Or.inl (by rw [k2]; decide)) (by rw [k2]; rfl) md_X2_factor (Nat.le_of_ble_eq_true rfl) (by decide) (by rw [G.2.1]; decide) (by rw [G.2.1]; decide) [aI (I q3 x4.toNatClampNeg)] rfl rfl dX2_asks_56 h (fun o C6 I7 J8 R9 h => ?_)
    obtain ⟨r10, rfl, h⟩ := h
    show AW Γ 0 0 C6 I7 J8 R9 (56 + 3) [(0, aR (some x0)), (1, aI x1), (3, aI x3), (4, aI x4)] [aI r10, aI x3]
    refine aw_imul G0 dX2_asks_59 ?_
    refine aw_istore_n (lv' := [(3, aI (x3 * r10)), (0, aR (some x0)), (1, aI x1), (4, aI x4)]) G0 (by decide) rfl dX2_asks_60 ?_
    refine aw_aload_n G0 1 rfl dX2_asks_61 ?_
    obtain ⟨k11, h⟩ := h
    refine aw_getR (f := 11) G0 (by rw [k11]; exact fb_X2_36) dX2_asks_62 ?_
    refine aw_iload G0 3 rfl dX2_asks_65 ?_
    obtain ⟨q12, e12, h⟩ := h
    refine aw_dr1 e12 ?_
    obtain ⟨k13, h⟩ := h
    obtain ⟨k14, h⟩ := h
    refine aw_iald G0 (Or.inl k13) k14 dX2_asks_67 ?_
    refine aw_istore (lv' := [(4, aI (I7 q12 x4.toNatClampNeg)), (3, aI (x3 * r10)), (0, aR (some x0)), (1, aI x1)]) G0 (by decide) rfl dX2_asks_68 ?_
    refine aw_goto G0 41 dX2_asks_70 (by decide) ?_
    exact (aw_lv [2, 3, 1, 0] rfl (w41 x0 x1 (x3 * r10) (I7 q12 x4.toNatClampNeg) C6 I7 J8 R9 h))
theorem bX2_isLeaf_0 (G : Gb Γ yX2_isLeaf cX2_isLeaf 2 (some .boolean) [] rmX2_isLeaf bdX2_isLeaf) {F_X2_isThing : SPF} (S_X2_isThing : SpX2_isThing (gL Γ) F_X2_isThing) {x0 : Nat} {x1 : Int32}
    (h : (C x0).1 = 3 ∧
      F_X2_isThing [aR (some x0), aI x1] C I J R (fun o C2 I3 J4 R5 =>
      ∃ r6 : Int32, o = .inl (some (aI r6)) ∧
      ((r6 = 0 →
      gK Γ (.inl (some (aI (0 : Int32)))) C2 I3 J4 R5) ∧
      (¬ r6 = 0 →
      (C2 x0).1 = 3 ∧
      ∃ q9 : Nat, R5 x0 7 = some q9 ∧
      (C2 q9).1 = 20 ∧
      vp_in x1 (C2 q9).2 ∧
      ((¬ (I3 q9 x1.toNatClampNeg) = 0 →
      gK Γ (.inl (some (aI (0 : Int32)))) C2 I3 J4 R5) ∧
      ((I3 q9 x1.toNatClampNeg) = 0 →
      gK Γ (.inl (some (aI (1 : Int32)))) C2 I3 J4 R5)))))) :
    AW Γ 0 0 C I J R 0 [(0, aR (some x0)), (1, aI x1)] [] := by
  have G0 := G.1
  refine aw_aload_n G0 0 rfl dX2_isLeaf_0 ?_
  refine aw_iload_n G0 1 rfl dX2_isLeaf_1 ?_
  obtain ⟨k1, h⟩ := h
  refine aw_callV (k1 := 0) (n1 := 0) (k2 := 0) (n2 := 0) (st := []) G0 S_X2_isThing gi_X2_139 (Or.inl (by rw [k1]; decide)) (by rw [k1]; rfl) md_X2_isThing (Nat.le_of_ble_eq_true rfl) (by decide) (by rw [G.2.1]; decide) (by rw [G.2.1]; decide) [aI x1] rfl rfl dX2_isLeaf_2 h (fun o C2 I3 J4 R5 h => ?_)
  obtain ⟨r6, rfl, h⟩ := h
  show AW Γ 0 0 C2 I3 J4 R5 (2 + 3) [(0, aR (some x0)), (1, aI x1)] [aI r6]
  refine aw_if_eq G0 21 dX2_isLeaf_5 (by decide) (fun c7 => ?_) (fun c7 => ?_)
  · have h := h.1 c7
    refine aw_iconst (v := (0 : Int32)) G0 dX2_isLeaf_21 (by decide) ?_
    exact aw_ireturn G0 (Or.inr ⟨rfl, by decide⟩) (by rw [G.2.2]; decide) (by rw [G.2.1]; decide) dX2_isLeaf_22 h
  · have h := h.2 c7
    refine aw_aload_n G0 0 rfl dX2_isLeaf_8 ?_
    obtain ⟨k8, h⟩ := h
    refine aw_getR (f := 7) G0 (by rw [k8]; exact fb_X2_24) dX2_isLeaf_9 ?_
    refine aw_iload_n G0 1 rfl dX2_isLeaf_12 ?_
    obtain ⟨q9, e9, h⟩ := h
    refine aw_dr1 e9 ?_
    obtain ⟨k10, h⟩ := h
    obtain ⟨k11, h⟩ := h
    refine aw_iald G0 (Or.inl k10) k11 dX2_isLeaf_13 ?_
    refine aw_if_ne G0 21 dX2_isLeaf_14 (by decide) (fun c12 => ?_) (fun c12 => ?_)
    · have h := h.1 c12
      refine aw_iconst (v := (0 : Int32)) G0 dX2_isLeaf_21 (by decide) ?_
      exact aw_ireturn G0 (Or.inr ⟨rfl, by decide⟩) (by rw [G.2.2]; decide) (by rw [G.2.1]; decide) dX2_isLeaf_22 h
    · have h := h.2 c12
      refine aw_iconst (v := (1 : Int32)) G0 dX2_isLeaf_17 (by decide) ?_
      refine aw_goto G0 22 dX2_isLeaf_18 (by decide) ?_
      exact aw_ireturn G0 (Or.inr ⟨rfl, by decide⟩) (by rw [G.2.2]; decide) (by rw [G.2.1]; decide) dX2_isLeaf_22 h
theorem bX2_factor_0 (G : Gb Γ yX2_factor cX2_factor 2 (some .int) [] rmX2_factor bdX2_factor) {x0 : Nat} {x1 : Int32}
    (h : (C x0).1 = 3 ∧
      ∃ q2 : Nat, R x0 7 = some q2 ∧
      (C q2).1 = 20 ∧
      vp_in x1 (C q2).2 ∧
      ((¬ (I q2 x1.toNatClampNeg) = (4 : Int32) →
      ((¬ (I q2 x1.toNatClampNeg) = (5 : Int32) →
      gK Γ (.inl (some (aI (1 : Int32)))) C I J R) ∧
      ((I q2 x1.toNatClampNeg) = (5 : Int32) →
      gK Γ (.inl (some (aI (2 : Int32)))) C I J R))) ∧
      ((I q2 x1.toNatClampNeg) = (4 : Int32) →
      ∃ q7 : Nat, R x0 10 = some q7 ∧
      (C q7).1 = 20 ∧
      vp_in x1 (C q7).2 ∧
      gK Γ (.inl (some (aI ((I q7 x1.toNatClampNeg) + (1 : Int32))))) C I J R))) :
    AW Γ 0 0 C I J R 0 [(0, aR (some x0)), (1, aI x1)] [] := by
  have G0 := G.1
  refine aw_aload_n G0 0 rfl dX2_factor_0 ?_
  obtain ⟨k1, h⟩ := h
  refine aw_getR (f := 7) G0 (by rw [k1]; exact fb_X2_24) dX2_factor_1 ?_
  refine aw_iload_n G0 1 rfl dX2_factor_4 ?_
  obtain ⟨q2, e2, h⟩ := h
  refine aw_dr1 e2 ?_
  obtain ⟨k3, h⟩ := h
  obtain ⟨k4, h⟩ := h
  refine aw_iald G0 (Or.inl k3) k4 dX2_factor_5 ?_
  refine aw_iconst (v := (4 : Int32)) G0 dX2_factor_6 (by decide) ?_
  refine aw_icmp_ne G0 21 dX2_factor_7 (by decide) (fun c5 => ?_) (fun c5 => ?_)
  · have h := h.1 c5
    refine aw_aload_n G0 0 rfl dX2_factor_21 ?_
    refine aw_getR (f := 7) G0 (by rw [k1]; exact fb_X2_24) dX2_factor_22 ?_
    refine aw_iload_n G0 1 rfl dX2_factor_25 ?_
    refine aw_dr1 e2 ?_
    refine aw_iald G0 (Or.inl k3) k4 dX2_factor_26 ?_
    refine aw_iconst (v := (5 : Int32)) G0 dX2_factor_27 (by decide) ?_
    refine aw_icmp_ne G0 35 dX2_factor_28 (by decide) (fun c6 => ?_) (fun c6 => ?_)
    · have h := h.1 c6
      refine aw_iconst (v := (1 : Int32)) G0 dX2_factor_35 (by decide) ?_
      exact aw_ireturn G0 (Or.inl rfl) (by rw [G.2.2]; decide) (by rw [G.2.1]; decide) dX2_factor_36 h
    · have h := h.2 c6
      refine aw_iconst (v := (2 : Int32)) G0 dX2_factor_31 (by decide) ?_
      refine aw_goto G0 36 dX2_factor_32 (by decide) ?_
      exact aw_ireturn G0 (Or.inl rfl) (by rw [G.2.2]; decide) (by rw [G.2.1]; decide) dX2_factor_36 h
  · have h := h.2 c5
    refine aw_aload_n G0 0 rfl dX2_factor_10 ?_
    refine aw_getR (f := 10) G0 (by rw [k1]; exact fb_X2_33) dX2_factor_11 ?_
    refine aw_iload_n G0 1 rfl dX2_factor_14 ?_
    obtain ⟨q7, e7, h⟩ := h
    refine aw_dr1 e7 ?_
    obtain ⟨k8, h⟩ := h
    obtain ⟨k9, h⟩ := h
    refine aw_iald G0 (Or.inl k8) k9 dX2_factor_15 ?_
    refine aw_iconst (v := (1 : Int32)) G0 dX2_factor_16 (by decide) ?_
    refine aw_iadd G0 dX2_factor_17 ?_
    refine aw_goto G0 36 dX2_factor_18 (by decide) ?_
    exact aw_ireturn G0 (Or.inl rfl) (by rw [G.2.2]; decide) (by rw [G.2.1]; decide) dX2_factor_36 h
theorem bX2_change_0 (G : Gb Γ yX2_change cX2_change 5 (some .boolean) [] rmX2_change bdX2_change) {F_X2_isLeaf : SPF} (S_X2_isLeaf : SpX2_isLeaf (gL Γ) F_X2_isLeaf) {F_X2_wrongWeights : SPF} (S_X2_wrongWeights : SpX2_wrongWeights (gL Γ) F_X2_wrongWeights)
    {Q18 : Nat → Int32 → Int32 → Int32 → Int32 → MC → MI → MJ → MR → Prop} (w18 : ∀ (x0 : Nat) (x1 : Int32) (x2 : Int32) (x3 : Int32) (s0 : Int32) (C : MC) (I : MI) (J : MJ) (R : MR), Q18 x0 x1 x2 x3 s0 C I J R → AW Γ 0 0 C I J R 18 [(0, aR (some x0)), (1, aI x1), (2, aI x2), (3, aI x3)] [aI s0]) {x0 : Nat} {x1 : Int32} {x2 : Int32} {x3 : Int32}
    (h : (C x0).1 = 3 ∧
      F_X2_isLeaf [aR (some x0), aI x1] C I J R (fun o C2 I3 J4 R5 =>
      ∃ r6 : Int32, o = .inl (some (aI r6)) ∧
      ((¬ r6 = 0 →
      (C2 x0).1 = 3 ∧
      F_X2_wrongWeights [aR (some x0), aI x2, aI x3] C2 I3 J4 R5 (fun o C9 I10 J11 R12 =>
      ∃ r13 : Int32, o = .inl (some (aI r13)) ∧
      Q18 x0 x1 x2 x3 r13 C9 I10 J11 R12)) ∧
      (r6 = 0 →
      Q18 x0 x1 x2 x3 (1 : Int32) C2 I3 J4 R5)))) :
    AW Γ 0 0 C I J R 0 [(0, aR (some x0)), (1, aI x1), (2, aI x2), (3, aI x3)] [] := by
  have G0 := G.1
  refine aw_aload_n G0 0 rfl dX2_change_0 ?_
  refine aw_iload_n G0 1 rfl dX2_change_1 ?_
  obtain ⟨k1, h⟩ := h
  refine aw_callV (k1 := 0) (n1 := 0) (k2 := 0) (n2 := 0) (st := []) G0 S_X2_isLeaf gi_X2_270 (Or.inl (by rw [k1]; decide)) (by rw [k1]; rfl) md_X2_isLeaf (Nat.le_of_ble_eq_true rfl) (by decide) (by rw [G.2.1]; decide) (by rw [G.2.1]; decide) [aI x1] rfl rfl dX2_change_2 h (fun o C2 I3 J4 R5 h => ?_)
  obtain ⟨r6, rfl, h⟩ := h
  show AW Γ 0 0 C2 I3 J4 R5 (2 + 3) [(0, aR (some x0)), (1, aI x1), (2, aI x2), (3, aI x3)] [aI r6]
  refine aw_if_ne G0 12 dX2_change_5 (by decide) (fun c7 => ?_) (fun c7 => ?_)
  · have h := h.1 c7
    refine aw_aload_n G0 0 rfl dX2_change_12 ?_
    refine aw_iload_n G0 2 rfl dX2_change_13 ?_
    refine aw_iload_n G0 3 rfl dX2_change_14 ?_
    obtain ⟨k8, h⟩ := h
    refine aw_callV (k1 := 0) (n1 := 0) (k2 := 0) (n2 := 0) (st := []) G0 S_X2_wrongWeights gi_X2_144 (Or.inl (by rw [k8]; decide)) (by rw [k8]; rfl) md_X2_wrongWeights (Nat.le_of_ble_eq_true rfl) (by decide) (by rw [G.2.1]; decide) (by rw [G.2.1]; decide) [aI x2, aI x3] rfl rfl dX2_change_15 h (fun o C9 I10 J11 R12 h => ?_)
    obtain ⟨r13, rfl, h⟩ := h
    show AW Γ 0 0 C9 I10 J11 R12 (15 + 3) [(0, aR (some x0)), (1, aI x1), (2, aI x2), (3, aI x3)] [aI r13]
    exact (w18 x0 x1 x2 x3 r13 C9 I10 J11 R12 h)
  · have h := h.2 c7
    refine aw_iconst (v := (1 : Int32)) G0 dX2_change_8 (by decide) ?_
    refine aw_goto G0 18 dX2_change_9 (by decide) ?_
    exact (w18 x0 x1 x2 x3 (1 : Int32) C2 I3 J4 R5 h)
theorem bX2_change_18 (G : Gb Γ yX2_change cX2_change 5 (some .boolean) [] rmX2_change bdX2_change) {F_X2_is : SPF} (S_X2_is : SpX2_is (gL Γ) F_X2_is) {F_X2_takeWeights : SPF} (S_X2_takeWeights : SpX2_takeWeights (gL Γ) F_X2_takeWeights) {x0 : Nat} {x1 : Int32} {x2 : Int32} {x3 : Int32} {s0 : Int32}
    (h : ((¬ s0 = 0 →
      (C x0).1 = 3 ∧
      F_X2_is [aR (some x0), aI s0] C I J R (fun o C3 I4 J5 R6 =>
      ∃ r7 : Int32, o = .inl (some (aI r7)) ∧
      (r7 = 0 ∨ r7 = 1) ∧ gK Γ (.inl (some (aI r7))) C3 I4 J5 R6)) ∧
      (s0 = 0 →
      (C x0).1 = 3 ∧
      F_X2_takeWeights [aR (some x0), aI x1, aI (0 : Int32), aI x2, aI x3] C I J R (fun o C10 I11 J12 R13 =>
      o = .inl none ∧
      (C10 x0).1 = 3 ∧
      F_X2_is [aR (some x0), aI s0] C10 I11 J12 R13 (fun o C16 I17 J18 R19 =>
      ∃ r20 : Int32, o = .inl (some (aI r20)) ∧
      (r20 = 0 ∨ r20 = 1) ∧ gK Γ (.inl (some (aI r20))) C16 I17 J18 R19))))) :
    AW Γ 0 0 C I J R 18 [(0, aR (some x0)), (1, aI x1), (2, aI x2), (3, aI x3)] [aI s0] := by
  have G0 := G.1
  refine aw_istore (lv' := [(4, aI s0), (0, aR (some x0)), (1, aI x1), (2, aI x2), (3, aI x3)]) G0 (by decide) rfl dX2_change_18 ?_
  refine aw_iload G0 0 rfl dX2_change_20 ?_
  refine aw_if_ne G0 33 dX2_change_22 (by decide) (fun c1 => ?_) (fun c1 => ?_)
  · have h := h.1 c1
    refine aw_aload_n G0 1 rfl dX2_change_33 ?_
    refine aw_iload G0 0 rfl dX2_change_34 ?_
    obtain ⟨k2, h⟩ := h
    refine aw_callV (k1 := 0) (n1 := 0) (k2 := 0) (n2 := 0) (st := []) G0 S_X2_is gi_X2_123 (Or.inl (by rw [k2]; decide)) (by rw [k2]; rfl) md_X2_is (Nat.le_of_ble_eq_true rfl) (by decide) (by rw [G.2.1]; decide) (by rw [G.2.1]; decide) [aI s0] rfl rfl dX2_change_36 h (fun o C3 I4 J5 R6 h => ?_)
    obtain ⟨r7, rfl, h⟩ := h
    show AW Γ 0 0 C3 I4 J5 R6 (36 + 3) [(4, aI s0), (0, aR (some x0)), (1, aI x1), (2, aI x2), (3, aI x3)] [aI r7]
    obtain ⟨k8, h⟩ := h
    exact aw_ireturn G0 (Or.inr ⟨rfl, k8⟩) (by rw [G.2.2]; decide) (by rw [G.2.1]; decide) dX2_change_39 h
  · have h := h.2 c1
    refine aw_aload_n G0 1 rfl dX2_change_25 ?_
    refine aw_iload_n G0 2 rfl dX2_change_26 ?_
    refine aw_iconst (v := (0 : Int32)) G0 dX2_change_27 (by decide) ?_
    refine aw_iload_n G0 3 rfl dX2_change_28 ?_
    refine aw_iload_n G0 4 rfl dX2_change_29 ?_
    obtain ⟨k9, h⟩ := h
    refine aw_callV (k1 := 0) (n1 := 0) (k2 := 0) (n2 := 0) (st := []) G0 S_X2_takeWeights gi_X2_151 (Or.inl (by rw [k9]; decide)) (by rw [k9]; rfl) md_X2_takeWeights (Nat.le_of_ble_eq_true rfl) (by decide) (by rw [G.2.1]; decide) (by rw [G.2.1]; decide) [aI x1, aI (0 : Int32), aI x2, aI x3] rfl rfl dX2_change_30 h (fun o C10 I11 J12 R13 h => ?_)
    obtain ⟨rfl, h⟩ := h
    show AW Γ 0 0 C10 I11 J12 R13 (30 + 3) [(4, aI s0), (0, aR (some x0)), (1, aI x1), (2, aI x2), (3, aI x3)] []
    refine aw_aload_n G0 1 rfl dX2_change_33 ?_
    refine aw_iload G0 0 rfl dX2_change_34 ?_
    obtain ⟨k15, h⟩ := h
    refine aw_callV (k1 := 0) (n1 := 0) (k2 := 0) (n2 := 0) (st := []) G0 S_X2_is gi_X2_123 (Or.inl (by rw [k15]; decide)) (by rw [k15]; rfl) md_X2_is (Nat.le_of_ble_eq_true rfl) (by decide) (by rw [G.2.1]; decide) (by rw [G.2.1]; decide) [aI s0] rfl rfl dX2_change_36 h (fun o C16 I17 J18 R19 h => ?_)
    obtain ⟨r20, rfl, h⟩ := h
    show AW Γ 0 0 C16 I17 J18 R19 (36 + 3) [(4, aI s0), (0, aR (some x0)), (1, aI x1), (2, aI x2), (3, aI x3)] [aI r20]
    obtain ⟨k21, h⟩ := h
    exact aw_ireturn G0 (Or.inr ⟨rfl, k21⟩) (by rw [G.2.2]; decide) (by rw [G.2.1]; decide) dX2_change_39 h
theorem bX2_price_0 (G : Gb Γ yX2_price cX2_price 3 (some .boolean) [] rmX2_price bdX2_price) {F_X2_isLeaf : SPF} (S_X2_isLeaf : SpX2_isLeaf (gL Γ) F_X2_isLeaf) {F_X2_is : SPF} (S_X2_is : SpX2_is (gL Γ) F_X2_is) {F_X2_isPrice : SPF} (S_X2_isPrice : SpX2_isPrice (gL Γ) F_X2_isPrice) {x0 : Nat} {x1 : Int32} {x2 : Int32}
    (h : (C x0).1 = 3 ∧
      F_X2_isLeaf [aR (some x0), aI x1] C I J R (fun o C2 I3 J4 R5 =>
      ∃ r6 : Int32, o = .inl (some (aI r6)) ∧
      ((r6 = 0 →
      (C2 x0).1 = 3 ∧
      F_X2_is [aR (some x0), aI (1 : Int32)] C2 I3 J4 R5 (fun o C9 I10 J11 R12 =>
      ∃ r13 : Int32, o = .inl (some (aI r13)) ∧
      (r13 = 0 ∨ r13 = 1) ∧ gK Γ (.inl (some (aI r13))) C9 I10 J11 R12)) ∧
      (¬ r6 = 0 →
      F_X2_isPrice [aI x2] C2 I3 J4 R5 (fun o C15 I16 J17 R18 =>
      ∃ r19 : Int32, o = .inl (some (aI r19)) ∧
      ((¬ r19 = 0 →
      (C15 x0).1 = 3 ∧
      ∃ q22 : Nat, R18 x0 13 = some q22 ∧
      (C15 q22).1 = 20 ∧
      vp_in ((3 : Int32) * x1) (C15 q22).2 ∧
      ∀ I25 : MI, I25 = va_up I16 q22 (va_up (I16 q22) ((3 : Int32) * x1).toNatClampNeg x2) →
      F_X2_is [aR (some x0), aI (0 : Int32)] C15 I25 J17 R18 (fun o C26 I27 J28 R29 =>
      ∃ r30 : Int32, o = .inl (some (aI r30)) ∧
      (r30 = 0 ∨ r30 = 1) ∧ gK Γ (.inl (some (aI r30))) C26 I27 J28 R29)) ∧
      (r19 = 0 →
      (C15 x0).1 = 3 ∧
      F_X2_is [aR (some x0), aI (1 : Int32)] C15 I16 J17 R18 (fun o C33 I34 J35 R36 =>
      ∃ r37 : Int32, o = .inl (some (aI r37)) ∧
      (r37 = 0 ∨ r37 = 1) ∧ gK Γ (.inl (some (aI r37))) C33 I34 J35 R36)))))))) :
    AW Γ 0 0 C I J R 0 [(0, aR (some x0)), (1, aI x1), (2, aI x2)] [] := by
  have G0 := G.1
  refine aw_aload_n G0 0 rfl dX2_price_0 ?_
  refine aw_iload_n G0 1 rfl dX2_price_1 ?_
  obtain ⟨k1, h⟩ := h
  refine aw_callV (k1 := 0) (n1 := 0) (k2 := 0) (n2 := 0) (st := []) G0 S_X2_isLeaf gi_X2_270 (Or.inl (by rw [k1]; decide)) (by rw [k1]; rfl) md_X2_isLeaf (Nat.le_of_ble_eq_true rfl) (by decide) (by rw [G.2.1]; decide) (by rw [G.2.1]; decide) [aI x1] rfl rfl dX2_price_2 h (fun o C2 I3 J4 R5 h => ?_)
  obtain ⟨r6, rfl, h⟩ := h
  show AW Γ 0 0 C2 I3 J4 R5 (2 + 3) [(0, aR (some x0)), (1, aI x1), (2, aI x2)] [aI r6]
  refine aw_if_eq G0 15 dX2_price_5 (by decide) (fun c7 => ?_) (fun c7 => ?_)
  · have h := h.1 c7
    refine aw_aload_n G0 0 rfl dX2_price_15 ?_
    refine aw_iconst (v := (1 : Int32)) G0 dX2_price_16 (by decide) ?_
    obtain ⟨k8, h⟩ := h
    refine aw_callV (k1 := 0) (n1 := 0) (k2 := 0) (n2 := 0) (st := []) G0 S_X2_is gi_X2_123 (Or.inl (by rw [k8]; decide)) (by rw [k8]; rfl) md_X2_is (Nat.le_of_ble_eq_true rfl) (by decide) (by rw [G.2.1]; decide) (by rw [G.2.1]; decide) [aI (1 : Int32)] rfl rfl dX2_price_17 h (fun o C9 I10 J11 R12 h => ?_)
    obtain ⟨r13, rfl, h⟩ := h
    show AW Γ 0 0 C9 I10 J11 R12 (17 + 3) [(0, aR (some x0)), (1, aI x1), (2, aI x2)] [aI r13]
    obtain ⟨k14, h⟩ := h
    exact aw_ireturn G0 (Or.inr ⟨rfl, k14⟩) (by rw [G.2.2]; decide) (by rw [G.2.1]; decide) dX2_price_20 h
  · have h := h.2 c7
    refine aw_iload_n G0 2 rfl dX2_price_8 ?_
    refine aw_callS (k1 := 0) (n1 := 0) (k2 := 0) (n2 := 0) (st := []) G0 S_X2_isPrice gi_X2_276 md_X2_isPrice (Nat.le_of_ble_eq_true rfl) (by decide) (by rw [G.2.1]; decide) (by rw [G.2.1]; decide) [aI x2] rfl rfl dX2_price_9 h (fun o C15 I16 J17 R18 h => ?_)
    obtain ⟨r19, rfl, h⟩ := h
    show AW Γ 0 0 C15 I16 J17 R18 (9 + 3) [(0, aR (some x0)), (1, aI x1), (2, aI x2)] [aI r19]
    refine aw_if_ne G0 21 dX2_price_12 (by decide) (fun c20 => ?_) (fun c20 => ?_)
    · have h := h.1 c20
      refine aw_aload_n G0 0 rfl dX2_price_21 ?_
      obtain ⟨k21, h⟩ := h
      refine aw_getR (f := 13) G0 (by rw [k21]; exact fb_X2_42) dX2_price_22 ?_
      refine aw_iconst (v := (3 : Int32)) G0 dX2_price_25 (by decide) ?_
      refine aw_iload_n G0 1 rfl dX2_price_26 ?_
      refine aw_imul G0 dX2_price_27 ?_
      refine aw_iload_n G0 2 rfl dX2_price_28 ?_
      obtain ⟨q22, e22, h⟩ := h
      refine aw_dr2 e22 ?_
      obtain ⟨k23, h⟩ := h
      obtain ⟨k24, h⟩ := h
      refine aw_iast G0 k23 k24 dX2_price_29 ?_
      generalize gI25 : va_up I16 q22 (va_up (I16 q22) ((3 : Int32) * x1).toNatClampNeg x2) = I25
      have h := h I25 gI25.symm
      refine aw_aload_n G0 0 rfl dX2_price_30 ?_
      refine aw_iconst (v := (0 : Int32)) G0 dX2_price_31 (by decide) ?_
      refine aw_callV (k1 := 0) (n1 := 0) (k2 := 0) (n2 := 0) (st := []) G0 S_X2_is gi_X2_123 (Or.inl (by rw [k21]; decide)) (by rw [k21]; rfl) md_X2_is (Nat.le_of_ble_eq_true rfl) (by decide) (by rw [G.2.1]; decide) (by rw [G.2.1]; decide) [aI (0 : Int32)] rfl rfl dX2_price_32 h (fun o C26 I27 J28 R29 h => ?_)
      obtain ⟨r30, rfl, h⟩ := h
      show AW Γ 0 0 C26 I27 J28 R29 (32 + 3) [(0, aR (some x0)), (1, aI x1), (2, aI x2)] [aI r30]
      obtain ⟨k31, h⟩ := h
      exact aw_ireturn G0 (Or.inr ⟨rfl, k31⟩) (by rw [G.2.2]; decide) (by rw [G.2.1]; decide) dX2_price_35 h
    · have h := h.2 c20
      refine aw_aload_n G0 0 rfl dX2_price_15 ?_
      refine aw_iconst (v := (1 : Int32)) G0 dX2_price_16 (by decide) ?_
      obtain ⟨k32, h⟩ := h
      refine aw_callV (k1 := 0) (n1 := 0) (k2 := 0) (n2 := 0) (st := []) G0 S_X2_is gi_X2_123 (Or.inl (by rw [k32]; decide)) (by rw [k32]; rfl) md_X2_is (Nat.le_of_ble_eq_true rfl) (by decide) (by rw [G.2.1]; decide) (by rw [G.2.1]; decide) [aI (1 : Int32)] rfl rfl dX2_price_17 h (fun o C33 I34 J35 R36 h => ?_)
      obtain ⟨r37, rfl, h⟩ := h
      show AW Γ 0 0 C33 I34 J35 R36 (17 + 3) [(0, aR (some x0)), (1, aI x1), (2, aI x2)] [aI r37]
      obtain ⟨k38, h⟩ := h
      exact aw_ireturn G0 (Or.inr ⟨rfl, k38⟩) (by rw [G.2.2]; decide) (by rw [G.2.1]; decide) dX2_price_20 h
theorem bX2_isPrice_0 (G : Gb Γ yX2_isPrice cX2_isPrice 1 (some .boolean) [] rmX2_isPrice bdX2_isPrice) {x0 : Int32}
    (h : ((x0 < 0 →
      gK Γ (.inl (some (aI (0 : Int32)))) C I J R) ∧
      (¬ x0 < 0 →
      (((10000 : Int32) < x0 →
      gK Γ (.inl (some (aI (0 : Int32)))) C I J R) ∧
      (¬ (10000 : Int32) < x0 →
      gK Γ (.inl (some (aI (1 : Int32)))) C I J R))))) :
    AW Γ 0 0 C I J R 0 [(0, aI x0)] [] := by
  have G0 := G.1
  refine aw_iload_n G0 0 rfl dX2_isPrice_0 ?_
  refine aw_if_lt G0 15 dX2_isPrice_1 (by decide) (fun c1 => ?_) (fun c1 => ?_)
  · have h := h.1 c1
    refine aw_iconst (v := (0 : Int32)) G0 dX2_isPrice_15 (by decide) ?_
    exact aw_ireturn G0 (Or.inr ⟨rfl, by decide⟩) (by rw [G.2.2]; decide) (by rw [G.2.1]; decide) dX2_isPrice_16 h
  · have h := h.2 c1
    refine aw_iload_n G0 0 rfl dX2_isPrice_4 ?_
    refine aw_sipush (v := (10000 : Int32)) G0 dX2_isPrice_5 (by decide) ?_
    refine aw_icmp_gt G0 15 dX2_isPrice_8 (by decide) (fun c2 => ?_) (fun c2 => ?_)
    · have h := h.1 c2
      refine aw_iconst (v := (0 : Int32)) G0 dX2_isPrice_15 (by decide) ?_
      exact aw_ireturn G0 (Or.inr ⟨rfl, by decide⟩) (by rw [G.2.2]; decide) (by rw [G.2.1]; decide) dX2_isPrice_16 h
    · have h := h.2 c2
      refine aw_iconst (v := (1 : Int32)) G0 dX2_isPrice_11 (by decide) ?_
      refine aw_goto G0 16 dX2_isPrice_12 (by decide) ?_
      exact aw_ireturn G0 (Or.inr ⟨rfl, by decide⟩) (by rw [G.2.2]; decide) (by rw [G.2.1]; decide) dX2_isPrice_16 h
theorem bX2_grade_0 (G : Gb Γ yX2_grade cX2_grade 8 (some .int) [] rmX2_grade bdX2_grade) {F_X2_isLeaf : SPF} (S_X2_isLeaf : SpX2_isLeaf (gL Γ) F_X2_isLeaf) {F_X2_isPrice : SPF} (S_X2_isPrice : SpX2_isPrice (gL Γ) F_X2_isPrice) {F_X2_wrongWeights : SPF} (S_X2_wrongWeights : SpX2_wrongWeights (gL Γ) F_X2_wrongWeights)
    {Q16 : Nat → Int32 → Int32 → Int32 → Int32 → MC → MI → MJ → MR → Prop} (w16 : ∀ (x0 : Nat) (x1 : Int32) (x2 : Int32) (x3 : Int32) (x4 : Int32) (C : MC) (I : MI) (J : MJ) (R : MR), Q16 x0 x1 x2 x3 x4 C I J R → AW Γ 0 0 C I J R 16 [(0, aR (some x0)), (1, aI x1), (2, aI x2), (3, aI x3), (4, aI x4)] [])
    {Q26 : Nat → Int32 → Int32 → Int32 → Int32 → Int32 → MC → MI → MJ → MR → Prop} (w26 : ∀ (x0 : Nat) (x1 : Int32) (x2 : Int32) (x3 : Int32) (x4 : Int32) (s0 : Int32) (C : MC) (I : MI) (J : MJ) (R : MR), Q26 x0 x1 x2 x3 x4 s0 C I J R → AW Γ 0 0 C I J R 26 [(0, aR (some x0)), (1, aI x1), (2, aI x2), (3, aI x3), (4, aI x4)] [aI s0]) {x0 : Nat} {x1 : Int32} {x2 : Int32} {x3 : Int32} {x4 : Int32}
    (h : (C x0).1 = 3 ∧
      F_X2_isLeaf [aR (some x0), aI x1] C I J R (fun o C2 I3 J4 R5 =>
      ∃ r6 : Int32, o = .inl (some (aI r6)) ∧
      ((r6 = 0 →
      Q16 x0 x1 x2 x3 x4 C2 I3 J4 R5) ∧
      (¬ r6 = 0 →
      F_X2_isPrice [aI x4] C2 I3 J4 R5 (fun o C8 I9 J10 R11 =>
      ∃ r12 : Int32, o = .inl (some (aI r12)) ∧
      ((¬ r12 = 0 →
      (C8 x0).1 = 3 ∧
      F_X2_wrongWeights [aR (some x0), aI x2, aI x3] C8 I9 J10 R11 (fun o C15 I16 J17 R18 =>
      ∃ r19 : Int32, o = .inl (some (aI r19)) ∧
      Q26 x0 x1 x2 x3 x4 r19 C15 I16 J17 R18)) ∧
      (r12 = 0 →
      Q16 x0 x1 x2 x3 x4 C8 I9 J10 R11))))))) :
    AW Γ 0 0 C I J R 0 [(0, aR (some x0)), (1, aI x1), (2, aI x2), (3, aI x3), (4, aI x4)] [] := by
  have G0 := G.1
  refine aw_aload_n G0 0 rfl dX2_grade_0 ?_
  refine aw_iload_n G0 1 rfl dX2_grade_1 ?_
  obtain ⟨k1, h⟩ := h
  refine aw_callV (k1 := 0) (n1 := 0) (k2 := 0) (n2 := 0) (st := []) G0 S_X2_isLeaf gi_X2_270 (Or.inl (by rw [k1]; decide)) (by rw [k1]; rfl) md_X2_isLeaf (Nat.le_of_ble_eq_true rfl) (by decide) (by rw [G.2.1]; decide) (by rw [G.2.1]; decide) [aI x1] rfl rfl dX2_grade_2 h (fun o C2 I3 J4 R5 h => ?_)
  obtain ⟨r6, rfl, h⟩ := h
  show AW Γ 0 0 C2 I3 J4 R5 (2 + 3) [(0, aR (some x0)), (1, aI x1), (2, aI x2), (3, aI x3), (4, aI x4)] [aI r6]
  refine aw_if_eq G0 16 dX2_grade_5 (by decide) (fun c7 => ?_) (fun c7 => ?_)
  · have h := h.1 c7
    exact (w16 x0 x1 x2 x3 x4 C2 I3 J4 R5 h)
  · have h := h.2 c7
    refine aw_iload G0 4 rfl dX2_grade_8 ?_
    refine aw_callS (k1 := 0) (n1 := 0) (k2 := 0) (n2 := 0) (st := []) G0 S_X2_isPrice gi_X2_276 md_X2_isPrice (Nat.le_of_ble_eq_true rfl) (by decide) (by rw [G.2.1]; decide) (by rw [G.2.1]; decide) [aI x4] rfl rfl dX2_grade_10 h (fun o C8 I9 J10 R11 h => ?_)
    obtain ⟨r12, rfl, h⟩ := h
    show AW Γ 0 0 C8 I9 J10 R11 (10 + 3) [(0, aR (some x0)), (1, aI x1), (2, aI x2), (3, aI x3), (4, aI x4)] [aI r12]
    refine aw_if_ne G0 20 dX2_grade_13 (by decide) (fun c13 => ?_) (fun c13 => ?_)
    · have h := h.1 c13
      refine aw_aload_n G0 0 rfl dX2_grade_20 ?_
      refine aw_iload_n G0 2 rfl dX2_grade_21 ?_
      refine aw_iload_n G0 3 rfl dX2_grade_22 ?_
      obtain ⟨k14, h⟩ := h
      refine aw_callV (k1 := 0) (n1 := 0) (k2 := 0) (n2 := 0) (st := []) G0 S_X2_wrongWeights gi_X2_144 (Or.inl (by rw [k14]; decide)) (by rw [k14]; rfl) md_X2_wrongWeights (Nat.le_of_ble_eq_true rfl) (by decide) (by rw [G.2.1]; decide) (by rw [G.2.1]; decide) [aI x2, aI x3] rfl rfl dX2_grade_23 h (fun o C15 I16 J17 R18 h => ?_)
      obtain ⟨r19, rfl, h⟩ := h
      show AW Γ 0 0 C15 I16 J17 R18 (23 + 3) [(0, aR (some x0)), (1, aI x1), (2, aI x2), (3, aI x3), (4, aI x4)] [aI r19]
      exact (w26 x0 x1 x2 x3 x4 r19 C15 I16 J17 R18 h)
    · have h := h.2 c13
      exact (w16 x0 x1 x2 x3 x4 C8 I9 J10 R11 h)
theorem bX2_grade_16 (G : Gb Γ yX2_grade cX2_grade 8 (some .int) [] rmX2_grade bdX2_grade)
    {Q26 : Nat → Int32 → Int32 → Int32 → Int32 → Int32 → MC → MI → MJ → MR → Prop} (w26 : ∀ (x0 : Nat) (x1 : Int32) (x2 : Int32) (x3 : Int32) (x4 : Int32) (s0 : Int32) (C : MC) (I : MI) (J : MJ) (R : MR), Q26 x0 x1 x2 x3 x4 s0 C I J R → AW Γ 0 0 C I J R 26 [(0, aR (some x0)), (1, aI x1), (2, aI x2), (3, aI x3), (4, aI x4)] [aI s0]) {x0 : Nat} {x1 : Int32} {x2 : Int32} {x3 : Int32} {x4 : Int32}
    (h : Q26 x0 x1 x2 x3 x4 (1 : Int32) C I J R) :
    AW Γ 0 0 C I J R 16 [(0, aR (some x0)), (1, aI x1), (2, aI x2), (3, aI x3), (4, aI x4)] [] := by
  have G0 := G.1
  refine aw_iconst (v := (1 : Int32)) G0 dX2_grade_16 (by decide) ?_
  refine aw_goto G0 26 dX2_grade_17 (by decide) ?_
  exact (w26 x0 x1 x2 x3 x4 (1 : Int32) C I J R h)
theorem bX2_grade_26 (G : Gb Γ yX2_grade cX2_grade 8 (some .int) [] rmX2_grade bdX2_grade)
    {Q34 : Nat → Int32 → Int32 → Int32 → Int32 → Int32 → Int32 → Int32 → MC → MI → MJ → MR → Prop} (w34 : ∀ (x0 : Nat) (x1 : Int32) (x2 : Int32) (x3 : Int32) (x4 : Int32) (x5 : Int32) (x6 : Int32) (x7 : Int32) (C : MC) (I : MI) (J : MJ) (R : MR), Q34 x0 x1 x2 x3 x4 x5 x6 x7 C I J R → AW Γ 0 0 C I J R 34 [(0, aR (some x0)), (1, aI x1), (2, aI x2), (3, aI x3), (4, aI x4), (5, aI x5), (6, aI x6), (7, aI x7)] []) {x0 : Nat} {x1 : Int32} {x2 : Int32} {x3 : Int32} {x4 : Int32} {s0 : Int32}
    (h : Q34 x0 x1 x2 x3 x4 s0 (0 : Int32) (0 : Int32) C I J R) :
    AW Γ 0 0 C I J R 26 [(0, aR (some x0)), (1, aI x1), (2, aI x2), (3, aI x3), (4, aI x4)] [aI s0] := by
  have G0 := G.1
  refine aw_istore (lv' := [(5, aI s0), (0, aR (some x0)), (1, aI x1), (2, aI x2), (3, aI x3), (4, aI x4)]) G0 (by decide) rfl dX2_grade_26 ?_
  refine aw_iconst (v := (0 : Int32)) G0 dX2_grade_28 (by decide) ?_
  refine aw_istore (lv' := [(6, aI (0 : Int32)), (5, aI s0), (0, aR (some x0)), (1, aI x1), (2, aI x2), (3, aI x3), (4, aI x4)]) G0 (by decide) rfl dX2_grade_29 ?_
  refine aw_iconst (v := (0 : Int32)) G0 dX2_grade_31 (by decide) ?_
  refine aw_istore (lv' := [(7, aI (0 : Int32)), (6, aI (0 : Int32)), (5, aI s0), (0, aR (some x0)), (1, aI x1), (2, aI x2), (3, aI x3), (4, aI x4)]) G0 (by decide) rfl dX2_grade_32 ?_
  exact (aw_lv [3, 4, 5, 6, 7, 2, 1, 0] rfl (w34 x0 x1 x2 x3 x4 s0 (0 : Int32) (0 : Int32) C I J R h))
theorem bX2_grade_34 (G : Gb Γ yX2_grade cX2_grade 8 (some .int) [] rmX2_grade bdX2_grade)
    {Q70 : Nat → Int32 → Int32 → Int32 → Int32 → Int32 → Int32 → Int32 → MC → MI → MJ → MR → Prop} (w70 : ∀ (x0 : Nat) (x1 : Int32) (x2 : Int32) (x3 : Int32) (x4 : Int32) (x5 : Int32) (x7 : Int32) (s0 : Int32) (C : MC) (I : MI) (J : MJ) (R : MR), Q70 x0 x1 x2 x3 x4 x5 x7 s0 C I J R → AW Γ 0 0 C I J R 70 [(0, aR (some x0)), (1, aI x1), (2, aI x2), (3, aI x3), (4, aI x4), (5, aI x5), (7, aI x7)] [aI s0])
    {Q71 : Nat → Int32 → Int32 → Int32 → Int32 → Int32 → Int32 → Int32 → Int32 → MC → MI → MJ → MR → Prop} (w71 : ∀ (x0 : Nat) (x1 : Int32) (x2 : Int32) (x3 : Int32) (x4 : Int32) (x5 : Int32) (x7 : Int32) (s0 : Int32) (s1 : Int32) (C : MC) (I : MI) (J : MJ) (R : MR), Q71 x0 x1 x2 x3 x4 x5 x7 s0 s1 C I J R → AW Γ 0 0 C I J R 71 [(0, aR (some x0)), (1, aI x1), (2, aI x2), (3, aI x3), (4, aI x4), (5, aI x5), (7, aI x7)] [aI s1, aI s0])
    {Q111 : Nat → Int32 → Int32 → Int32 → Int32 → MC → MI → MJ → MR → Prop} (w111 : ∀ (x0 : Nat) (x1 : Int32) (x2 : Int32) (x3 : Int32) (x4 : Int32) (C : MC) (I : MI) (J : MJ) (R : MR), Q111 x0 x1 x2 x3 x4 C I J R → AW Γ 0 0 C I J R 111 [(0, aR (some x0)), (1, aI x1), (2, aI x2), (3, aI x3), (4, aI x4)] [])
    {Q114 : Nat → Int32 → Int32 → Int32 → Int32 → Int32 → MC → MI → MJ → MR → Prop} (w114 : ∀ (x0 : Nat) (x1 : Int32) (x2 : Int32) (x3 : Int32) (x4 : Int32) (x5 : Int32) (C : MC) (I : MI) (J : MJ) (R : MR), Q114 x0 x1 x2 x3 x4 x5 C I J R → AW Γ 0 0 C I J R 114 [(0, aR (some x0)), (1, aI x1), (2, aI x2), (3, aI x3), (4, aI x4), (5, aI x5)] []) {x0 : Nat} {x1 : Int32} {x2 : Int32} {x3 : Int32} {x4 : Int32} {x5 : Int32} {x6 : Int32} {x7 : Int32}
    (h : (C x0).1 = 3 ∧
      (((I x0 6) ≤ x7 →
      ((¬ x5 = 0 →
      Q114 x0 x1 x2 x3 x4 x5 C I J R) ∧
      (x5 = 0 →
      ∃ q4 : Nat, R x0 12 = some q4 ∧
      (C q4).1 = 20 ∧
      vp_in x1 (C q4).2 ∧
      (((I q4 x1.toNatClampNeg) = (3 : Int32) →
      Q111 x0 x1 x2 x3 x4 C I J R) ∧
      (¬ (I q4 x1.toNatClampNeg) = (3 : Int32) →
      ((¬ (I q4 x1.toNatClampNeg) = (1 : Int32) →
      Q114 x0 x1 x2 x3 x4 x5 C I J R) ∧
      ((I q4 x1.toNatClampNeg) = (1 : Int32) →
      ((¬ x6 = (4 : Int32) →
      Q114 x0 x1 x2 x3 x4 x5 C I J R) ∧
      (x6 = (4 : Int32) →
      Q111 x0 x1 x2 x3 x4 C I J R))))))))) ∧
      (¬ (I x0 6) ≤ x7 →
      ∃ q10 : Nat, R x0 7 = some q10 ∧
      (C q10).1 = 20 ∧
      vp_in x7 (C q10).2 ∧
      ((¬ (I q10 x7.toNatClampNeg) = 0 →
      Q70 x0 x1 x2 x3 x4 x5 x7 x6 C I J R) ∧
      ((I q10 x7.toNatClampNeg) = 0 →
      ∃ q14 : Nat, R x0 12 = some q14 ∧
      (C q14).1 = 20 ∧
      vp_in x7 (C q14).2 ∧
      (((I q14 x7.toNatClampNeg) ≤ (1 : Int32) →
      Q70 x0 x1 x2 x3 x4 x5 x7 x6 C I J R) ∧
      (¬ (I q14 x7.toNatClampNeg) ≤ (1 : Int32) →
      Q71 x0 x1 x2 x3 x4 x5 x7 x6 (1 : Int32) C I J R))))))) :
    AW Γ 0 0 C I J R 34 [(0, aR (some x0)), (1, aI x1), (2, aI x2), (3, aI x3), (4, aI x4), (5, aI x5), (6, aI x6), (7, aI x7)] [] := by
  have G0 := G.1
  refine aw_iload G0 7 rfl dX2_grade_34 ?_
  refine aw_aload_n G0 0 rfl dX2_grade_36 ?_
  obtain ⟨k1, h⟩ := h
  refine aw_getI (f := 6) G0 (by rw [k1]; exact fb_X2_136) dX2_grade_37 ?_
  refine aw_icmp_ge G0 80 dX2_grade_40 (by decide) (fun c2 => ?_) (fun c2 => ?_)
  · have h := h.1 c2
    refine aw_iload G0 5 rfl dX2_grade_80 ?_
    refine aw_if_ne G0 114 dX2_grade_82 (by decide) (fun c3 => ?_) (fun c3 => ?_)
    · have h := h.1 c3
      exact (aw_lv [0, 1, 2, 3, 4, 5] rfl (w114 x0 x1 x2 x3 x4 x5 C I J R h))
    · have h := h.2 c3
      refine aw_aload_n G0 0 rfl dX2_grade_85 ?_
      refine aw_getR (f := 12) G0 (by rw [k1]; exact fb_X2_39) dX2_grade_86 ?_
      refine aw_iload_n G0 1 rfl dX2_grade_89 ?_
      obtain ⟨q4, e4, h⟩ := h
      refine aw_dr1 e4 ?_
      obtain ⟨k5, h⟩ := h
      obtain ⟨k6, h⟩ := h
      refine aw_iald G0 (Or.inl k5) k6 dX2_grade_90 ?_
      refine aw_iconst (v := (3 : Int32)) G0 dX2_grade_91 (by decide) ?_
      refine aw_icmp_eq G0 111 dX2_grade_92 (by decide) (fun c7 => ?_) (fun c7 => ?_)
      · have h := h.1 c7
        exact (aw_lv [0, 1, 2, 3, 4] rfl (w111 x0 x1 x2 x3 x4 C I J R h))
      · have h := h.2 c7
        refine aw_aload_n G0 0 rfl dX2_grade_95 ?_
        refine aw_getR (f := 12) G0 (by rw [k1]; exact fb_X2_39) dX2_grade_96 ?_
        refine aw_iload_n G0 1 rfl dX2_grade_99 ?_
        refine aw_dr1 e4 ?_
        refine aw_iald G0 (Or.inl k5) k6 dX2_grade_100 ?_
        refine aw_iconst (v := (1 : Int32)) G0 dX2_grade_101 (by decide) ?_
        refine aw_icmp_ne G0 114 dX2_grade_102 (by decide) (fun c8 => ?_) (fun c8 => ?_)
        · have h := h.1 c8
          exact (aw_lv [0, 1, 2, 3, 4, 5] rfl (w114 x0 x1 x2 x3 x4 x5 C I J R h))
        · have h := h.2 c8
          refine aw_iload G0 6 rfl dX2_grade_105 ?_
          refine aw_iconst (v := (4 : Int32)) G0 dX2_grade_107 (by decide) ?_
          refine aw_icmp_ne G0 114 dX2_grade_108 (by decide) (fun c9 => ?_) (fun c9 => ?_)
          · have h := h.1 c9
            exact (aw_lv [0, 1, 2, 3, 4, 5] rfl (w114 x0 x1 x2 x3 x4 x5 C I J R h))
          · have h := h.2 c9
            exact (aw_lv [0, 1, 2, 3, 4] rfl (w111 x0 x1 x2 x3 x4 C I J R h))
  · have h := h.2 c2
    refine aw_iload G0 6 rfl dX2_grade_43 ?_
    refine aw_aload_n G0 0 rfl dX2_grade_45 ?_
    refine aw_getR (f := 7) G0 (by rw [k1]; exact fb_X2_24) dX2_grade_46 ?_
    refine aw_iload G0 7 rfl dX2_grade_49 ?_
    obtain ⟨q10, e10, h⟩ := h
    refine aw_dr1 e10 ?_
    obtain ⟨k11, h⟩ := h
    obtain ⟨k12, h⟩ := h
    refine aw_iald G0 (Or.inl k11) k12 dX2_grade_51 ?_
    refine aw_if_ne G0 70 dX2_grade_52 (by decide) (fun c13 => ?_) (fun c13 => ?_)
    · have h := h.1 c13
      exact (aw_lv [0, 1, 2, 3, 4, 5, 7] rfl (w70 x0 x1 x2 x3 x4 x5 x7 x6 C I J R h))
    · have h := h.2 c13
      refine aw_aload_n G0 0 rfl dX2_grade_55 ?_
      refine aw_getR (f := 12) G0 (by rw [k1]; exact fb_X2_39) dX2_grade_56 ?_
      refine aw_iload G0 7 rfl dX2_grade_59 ?_
      obtain ⟨q14, e14, h⟩ := h
      refine aw_dr1 e14 ?_
      obtain ⟨k15, h⟩ := h
      obtain ⟨k16, h⟩ := h
      refine aw_iald G0 (Or.inl k15) k16 dX2_grade_61 ?_
      refine aw_iconst (v := (1 : Int32)) G0 dX2_grade_62 (by decide) ?_
      refine aw_icmp_le G0 70 dX2_grade_63 (by decide) (fun c17 => ?_) (fun c17 => ?_)
      · have h := h.1 c17
        exact (aw_lv [0, 1, 2, 3, 4, 5, 7] rfl (w70 x0 x1 x2 x3 x4 x5 x7 x6 C I J R h))
      · have h := h.2 c17
        refine aw_iconst (v := (1 : Int32)) G0 dX2_grade_66 (by decide) ?_
        refine aw_goto G0 71 dX2_grade_67 (by decide) ?_
        exact (aw_lv [0, 1, 2, 3, 4, 5, 7] rfl (w71 x0 x1 x2 x3 x4 x5 x7 x6 (1 : Int32) C I J R h))
theorem bX2_grade_70 (G : Gb Γ yX2_grade cX2_grade 8 (some .int) [] rmX2_grade bdX2_grade)
    {Q71 : Nat → Int32 → Int32 → Int32 → Int32 → Int32 → Int32 → Int32 → Int32 → MC → MI → MJ → MR → Prop} (w71 : ∀ (x0 : Nat) (x1 : Int32) (x2 : Int32) (x3 : Int32) (x4 : Int32) (x5 : Int32) (x7 : Int32) (s0 : Int32) (s1 : Int32) (C : MC) (I : MI) (J : MJ) (R : MR), Q71 x0 x1 x2 x3 x4 x5 x7 s0 s1 C I J R → AW Γ 0 0 C I J R 71 [(0, aR (some x0)), (1, aI x1), (2, aI x2), (3, aI x3), (4, aI x4), (5, aI x5), (7, aI x7)] [aI s1, aI s0]) {x0 : Nat} {x1 : Int32} {x2 : Int32} {x3 : Int32} {x4 : Int32} {x5 : Int32} {x7 : Int32} {s0 : Int32}
    (h : Q71 x0 x1 x2 x3 x4 x5 x7 s0 (0 : Int32) C I J R) :
    AW Γ 0 0 C I J R 70 [(0, aR (some x0)), (1, aI x1), (2, aI x2), (3, aI x3), (4, aI x4), (5, aI x5), (7, aI x7)] [aI s0] := by
  have G0 := G.1
  refine aw_iconst (v := (0 : Int32)) G0 dX2_grade_70 (by decide) ?_
  exact (w71 x0 x1 x2 x3 x4 x5 x7 s0 (0 : Int32) C I J R h)
theorem bX2_grade_71 (G : Gb Γ yX2_grade cX2_grade 8 (some .int) [] rmX2_grade bdX2_grade)
    {Q34 : Nat → Int32 → Int32 → Int32 → Int32 → Int32 → Int32 → Int32 → MC → MI → MJ → MR → Prop} (w34 : ∀ (x0 : Nat) (x1 : Int32) (x2 : Int32) (x3 : Int32) (x4 : Int32) (x5 : Int32) (x6 : Int32) (x7 : Int32) (C : MC) (I : MI) (J : MJ) (R : MR), Q34 x0 x1 x2 x3 x4 x5 x6 x7 C I J R → AW Γ 0 0 C I J R 34 [(0, aR (some x0)), (1, aI x1), (2, aI x2), (3, aI x3), (4, aI x4), (5, aI x5), (6, aI x6), (7, aI x7)] []) {x0 : Nat} {x1 : Int32} {x2 : Int32} {x3 : Int32} {x4 : Int32} {x5 : Int32} {x7 : Int32} {s0 : Int32} {s1 : Int32}
    (h : Q34 x0 x1 x2 x3 x4 x5 (s0 + s1) (x7 + 1) C I J R) :
    AW Γ 0 0 C I J R 71 [(0, aR (some x0)), (1, aI x1), (2, aI x2), (3, aI x3), (4, aI x4), (5, aI x5), (7, aI x7)] [aI s1, aI s0] := by
  have G0 := G.1
  refine aw_iadd G0 dX2_grade_71 ?_
  refine aw_istore (lv' := [(6, aI (s0 + s1)), (0, aR (some x0)), (1, aI x1), (2, aI x2), (3, aI x3), (4, aI x4), (5, aI x5), (7, aI x7)]) G0 (by decide) rfl dX2_grade_72 ?_
  refine aw_iinc (v := x7 + 1) (lv' := [(7, aI (x7 + 1)), (6, aI (s0 + s1)), (0, aR (some x0)), (1, aI x1), (2, aI x2), (3, aI x3), (4, aI x4), (5, aI x5)]) G0 7 rfl rfl (by decide) rfl dX2_grade_74 ?_
  refine aw_goto G0 34 dX2_grade_77 (by decide) ?_
  exact (aw_lv [2, 3, 4, 5, 6, 7, 1, 0] rfl (w34 x0 x1 x2 x3 x4 x5 (s0 + s1) (x7 + 1) C I J R h))
theorem bX2_grade_111 (G : Gb Γ yX2_grade cX2_grade 8 (some .int) [] rmX2_grade bdX2_grade)
    {Q114 : Nat → Int32 → Int32 → Int32 → Int32 → Int32 → MC → MI → MJ → MR → Prop} (w114 : ∀ (x0 : Nat) (x1 : Int32) (x2 : Int32) (x3 : Int32) (x4 : Int32) (x5 : Int32) (C : MC) (I : MI) (J : MJ) (R : MR), Q114 x0 x1 x2 x3 x4 x5 C I J R → AW Γ 0 0 C I J R 114 [(0, aR (some x0)), (1, aI x1), (2, aI x2), (3, aI x3), (4, aI x4), (5, aI x5)] []) {x0 : Nat} {x1 : Int32} {x2 : Int32} {x3 : Int32} {x4 : Int32}
    (h : Q114 x0 x1 x2 x3 x4 (4 : Int32) C I J R) :
    AW Γ 0 0 C I J R 111 [(0, aR (some x0)), (1, aI x1), (2, aI x2), (3, aI x3), (4, aI x4)] [] := by
  have G0 := G.1
  refine aw_iconst (v := (4 : Int32)) G0 dX2_grade_111 (by decide) ?_
  refine aw_istore (lv' := [(5, aI (4 : Int32)), (0, aR (some x0)), (1, aI x1), (2, aI x2), (3, aI x3), (4, aI x4)]) G0 (by decide) rfl dX2_grade_112 ?_
  exact (aw_lv [1, 2, 3, 4, 5, 0] rfl (w114 x0 x1 x2 x3 x4 (4 : Int32) C I J R h))
theorem bX2_grade_114 (G : Gb Γ yX2_grade cX2_grade 8 (some .int) [] rmX2_grade bdX2_grade) {F_X2_takeWeights : SPF} (S_X2_takeWeights : SpX2_takeWeights (gL Γ) F_X2_takeWeights) {F_X2_refuse : SPF} (S_X2_refuse : SpX2_refuse (gL Γ) F_X2_refuse) {x0 : Nat} {x1 : Int32} {x2 : Int32} {x3 : Int32} {x4 : Int32} {x5 : Int32}
    (h : ((x5 ≤ 0 →
      (C x0).1 = 3 ∧
      ∃ q3 : Nat, R x0 12 = some q3 ∧
      (C q3).1 = 20 ∧
      vp_in x1 (C q3).2 ∧
      F_X2_takeWeights [aR (some x0), aI x1, aI (I q3 x1.toNatClampNeg), aI x2, aI x3] C I J R (fun o C6 I7 J8 R9 =>
      o = .inl none ∧
      (C6 x0).1 = 3 ∧
      ∃ q12 : Nat, R9 x0 12 = some q12 ∧
      (C6 q12).1 = 20 ∧
      vp_in x1 (C6 q12).2 ∧
      ∃ q15 : Nat, R9 x0 13 = some q15 ∧
      (C6 q15).1 = 20 ∧
      vp_in (((3 : Int32) * x1) + (I7 q12 x1.toNatClampNeg)) (C6 q15).2 ∧
      ∀ I18 : MI, I18 = va_up I7 q15 (va_up (I7 q15) (((3 : Int32) * x1) + (I7 q12 x1.toNatClampNeg)).toNatClampNeg x4) →
      ∀ I19 : MI, I19 = va_up I18 q12 (va_up (I18 q12) x1.toNatClampNeg ((I18 q12 x1.toNatClampNeg) + (1 : Int32))) →
      ∀ I20 : MI, I20 = va_up I19 x0 (va_up (I19 x0) 0 (0 : Int32)) →
      gK Γ (.inl (some (aI ((I20 q12 x1.toNatClampNeg) - (1 : Int32))))) C6 I20 J8 R9)) ∧
      (¬ x5 ≤ 0 →
      (C x0).1 = 3 ∧
      F_X2_refuse [aR (some x0), aI x5] C I J R (fun o C22 I23 J24 R25 =>
      ∃ r26 : Int32, o = .inl (some (aI r26)) ∧
      gK Γ (.inl (some (aI r26))) C22 I23 J24 R25)))) :
    AW Γ 0 0 C I J R 114 [(0, aR (some x0)), (1, aI x1), (2, aI x2), (3, aI x3), (4, aI x4), (5, aI x5)] [] := by
  have G0 := G.1
  refine aw_iload G0 5 rfl dX2_grade_114 ?_
  refine aw_if_le G0 126 dX2_grade_116 (by decide) (fun c1 => ?_) (fun c1 => ?_)
  · have h := h.1 c1
    refine aw_aload_n G0 0 rfl dX2_grade_126 ?_
    refine aw_iload_n G0 1 rfl dX2_grade_127 ?_
    refine aw_aload_n G0 0 rfl dX2_grade_128 ?_
    obtain ⟨k2, h⟩ := h
    refine aw_getR (f := 12) G0 (by rw [k2]; exact fb_X2_39) dX2_grade_129 ?_
    refine aw_iload_n G0 1 rfl dX2_grade_132 ?_
    obtain ⟨q3, e3, h⟩ := h
    refine aw_dr1 e3 ?_
    obtain ⟨k4, h⟩ := h
    obtain ⟨k5, h⟩ := h
    refine aw_iald G0 (Or.inl k4) k5 dX2_grade_133 ?_
    refine aw_iload_n G0 2 rfl dX2_grade_134 ?_
    refine aw_iload_n G0 3 rfl dX2_grade_135 ?_
    refine aw_callV (k1 := 0) (n1 := 0) (k2 := 0) (n2 := 0) (st := []) G0 S_X2_takeWeights gi_X2_151 (Or.inl (by rw [k2]; decide)) (by rw [k2]; rfl) md_X2_takeWeights (Nat.le_of_ble_eq_true rfl) (by decide) (by rw [G.2.1]; decide) (by rw [G.2.1]; decide) [aI x1, aI (I q3 x1.toNatClampNeg), aI x2, aI x3] rfl rfl dX2_grade_136 h (fun o C6 I7 J8 R9 h => ?_)
    obtain ⟨rfl, h⟩ := h
    show AW Γ 0 0 C6 I7 J8 R9 (136 + 3) [(0, aR (some x0)), (1, aI x1), (2, aI x2), (3, aI x3), (4, aI x4), (5, aI x5)] []
    refine aw_aload_n G0 0 rfl dX2_grade_139 ?_
    obtain ⟨k11, h⟩ := h
    refine aw_getR (f := 13) G0 (by rw [k11]; exact fb_X2_42) dX2_grade_140 ?_
    refine aw_iconst (v := (3 : Int32)) G0 dX2_grade_143 (by decide) ?_
    refine aw_iload_n G0 1 rfl dX2_grade_144 ?_
    refine aw_imul G0 dX2_grade_145 ?_
    refine aw_aload_n G0 0 rfl dX2_grade_146 ?_
    refine aw_getR (f := 12) G0 (by rw [k11]; exact fb_X2_39) dX2_grade_147 ?_
    refine aw_iload_n G0 1 rfl dX2_grade_150 ?_
    obtain ⟨q12, e12, h⟩ := h
    refine aw_dr1 e12 ?_
    obtain ⟨k13, h⟩ := h
    obtain ⟨k14, h⟩ := h
    refine aw_iald G0 (Or.inl k13) k14 dX2_grade_151 ?_
    refine aw_iadd G0 dX2_grade_152 ?_
    refine aw_iload G0 4 rfl dX2_grade_153 ?_
    obtain ⟨q15, e15, h⟩ := h
    refine aw_dr2 e15 ?_
    obtain ⟨k16, h⟩ := h
    obtain ⟨k17, h⟩ := h
    refine aw_iast G0 k16 k17 dX2_grade_155 ?_
    generalize gI18 : va_up I7 q15 (va_up (I7 q15) (((3 : Int32) * x1) + (I7 q12 x1.toNatClampNeg)).toNatClampNeg x4) = I18
    have h := h I18 gI18.symm
    refine aw_aload_n G0 0 rfl dX2_grade_156 ?_
    refine aw_getR (f := 12) G0 (by rw [k11]; exact fb_X2_39) dX2_grade_157 ?_
    refine aw_iload_n G0 1 rfl dX2_grade_160 ?_
    refine aw_dup2IR G0 dX2_grade_161 ?_
    refine aw_dr1 e12 ?_
    refine aw_iald G0 (Or.inl k13) k14 dX2_grade_162 ?_
    refine aw_iconst (v := (1 : Int32)) G0 dX2_grade_163 (by decide) ?_
    refine aw_iadd G0 dX2_grade_164 ?_
    refine aw_dr2 e12 ?_
    refine aw_iast G0 k13 k14 dX2_grade_165 ?_
    generalize gI19 : va_up I18 q12 (va_up (I18 q12) x1.toNatClampNeg ((I18 q12 x1.toNatClampNeg) + (1 : Int32))) = I19
    have h := h I19 gI19.symm
    refine aw_aload_n G0 0 rfl dX2_grade_166 ?_
    refine aw_iconst (v := (0 : Int32)) G0 dX2_grade_167 (by decide) ?_
    refine aw_putI (f := 0) G0 (by rw [k11]; exact fp_X2_112 _) dX2_grade_168 ?_
    generalize gI20 : va_up I19 x0 (va_up (I19 x0) 0 (0 : Int32)) = I20
    have h := h I20 gI20.symm
    refine aw_aload_n G0 0 rfl dX2_grade_171 ?_
    refine aw_getR (f := 12) G0 (by rw [k11]; exact fb_X2_39) dX2_grade_172 ?_
    refine aw_iload_n G0 1 rfl dX2_grade_175 ?_
    refine aw_dr1 e12 ?_
    refine aw_iald G0 (Or.inl k13) k14 dX2_grade_176 ?_
    refine aw_iconst (v := (1 : Int32)) G0 dX2_grade_177 (by decide) ?_
    refine aw_isub G0 dX2_grade_178 ?_
    exact aw_ireturn G0 (Or.inl rfl) (by rw [G.2.2]; decide) (by rw [G.2.1]; decide) dX2_grade_179 h
  · have h := h.2 c1
    refine aw_aload_n G0 0 rfl dX2_grade_119 ?_
    refine aw_iload G0 5 rfl dX2_grade_120 ?_
    obtain ⟨k21, h⟩ := h
    refine aw_callV (k1 := 0) (n1 := 0) (k2 := 0) (n2 := 0) (st := []) G0 S_X2_refuse gi_X2_147 (Or.inl (by rw [k21]; decide)) (by rw [k21]; rfl) md_X2_refuse (Nat.le_of_ble_eq_true rfl) (by decide) (by rw [G.2.1]; decide) (by rw [G.2.1]; decide) [aI x5] rfl rfl dX2_grade_122 h (fun o C22 I23 J24 R25 h => ?_)
    obtain ⟨r26, rfl, h⟩ := h
    show AW Γ 0 0 C22 I23 J24 R25 (122 + 3) [(0, aR (some x0)), (1, aI x1), (2, aI x2), (3, aI x3), (4, aI x4), (5, aI x5)] [aI r26]
    exact aw_ireturn G0 (Or.inl rfl) (by rw [G.2.2]; decide) (by rw [G.2.1]; decide) dX2_grade_125 h
theorem bX2_best_0 (G : Gb Γ yX2_best cX2_best 9 (some .int) [] rmX2_best bdX2_best) {F_X2_isThing : SPF} (S_X2_isThing : SpX2_isThing (gL Γ) F_X2_isThing) {F_X2_refuse : SPF} (S_X2_refuse : SpX2_refuse (gL Γ) F_X2_refuse) {F_X2_isShare : SPF} (S_X2_isShare : SpX2_isShare (gL Γ) F_X2_isShare) {F_X2_usual : SPF} (S_X2_usual : SpX2_usual (gL Γ) F_X2_usual)
    {Q43 : Nat → Int32 → Int32 → Int32 → Int32 → Int32 → Int32 → MC → MI → MJ → MR → Prop} (w43 : ∀ (x0 : Nat) (x1 : Int32) (x2 : Int32) (x3 : Int32) (x4 : Int32) (x5 : Int32) (x6 : Int32) (C : MC) (I : MI) (J : MJ) (R : MR), Q43 x0 x1 x2 x3 x4 x5 x6 C I J R → AW Γ 0 0 C I J R 43 [(0, aR (some x0)), (1, aI x1), (2, aI x2), (3, aI x3), (4, aI x4), (5, aI x5), (6, aI x6)] []) {x0 : Nat} {x1 : Int32} {x2 : Int32} {x3 : Int32} {x4 : Int32}
    (h : (C x0).1 = 3 ∧
      F_X2_isThing [aR (some x0), aI x1] C I J R (fun o C2 I3 J4 R5 =>
      ∃ r6 : Int32, o = .inl (some (aI r6)) ∧
      ((r6 = 0 →
      (C2 x0).1 = 3 ∧
      F_X2_refuse [aR (some x0), aI (1 : Int32)] C2 I3 J4 R5 (fun o C9 I10 J11 R12 =>
      ∃ r13 : Int32, o = .inl (some (aI r13)) ∧
      gK Γ (.inl (some (aI r13))) C9 I10 J11 R12)) ∧
      (¬ r6 = 0 →
      ((x2 < 0 →
      (C2 x0).1 = 3 ∧
      F_X2_refuse [aR (some x0), aI (1 : Int32)] C2 I3 J4 R5 (fun o C16 I17 J18 R19 =>
      ∃ r20 : Int32, o = .inl (some (aI r20)) ∧
      gK Γ (.inl (some (aI r20))) C16 I17 J18 R19)) ∧
      (¬ x2 < 0 →
      (((121 : Int32) ≤ x2 →
      (C2 x0).1 = 3 ∧
      F_X2_refuse [aR (some x0), aI (1 : Int32)] C2 I3 J4 R5 (fun o C23 I24 J25 R26 =>
      ∃ r27 : Int32, o = .inl (some (aI r27)) ∧
      gK Γ (.inl (some (aI r27))) C23 I24 J25 R26)) ∧
      (¬ (121 : Int32) ≤ x2 →
      F_X2_isShare [aI x3, aI x4] C2 I3 J4 R5 (fun o C28 I29 J30 R31 =>
      ∃ r32 : Int32, o = .inl (some (aI r32)) ∧
      ((¬ r32 = 0 →
      (C28 x0).1 = 3 ∧
      F_X2_usual [aR (some x0)] C28 I29 J30 R31 (fun o C35 I36 J37 R38 =>
      o = .inl none ∧
      Q43 x0 x1 x2 x3 x4 (-1 : Int32) (1 : Int32) C35 I36 J37 R38)) ∧
      (r32 = 0 →
      (C28 x0).1 = 3 ∧
      F_X2_refuse [aR (some x0), aI (1 : Int32)] C28 I29 J30 R31 (fun o C41 I42 J43 R44 =>
      ∃ r45 : Int32, o = .inl (some (aI r45)) ∧
      gK Γ (.inl (some (aI r45))) C41 I42 J43 R44)))))))))))) :
    AW Γ 0 0 C I J R 0 [(0, aR (some x0)), (1, aI x1), (2, aI x2), (3, aI x3), (4, aI x4)] [] := by
  have G0 := G.1
  refine aw_aload_n G0 0 rfl dX2_best_0 ?_
  refine aw_iload_n G0 1 rfl dX2_best_1 ?_
  obtain ⟨k1, h⟩ := h
  refine aw_callV (k1 := 0) (n1 := 0) (k2 := 0) (n2 := 0) (st := []) G0 S_X2_isThing gi_X2_139 (Or.inl (by rw [k1]; decide)) (by rw [k1]; rfl) md_X2_isThing (Nat.le_of_ble_eq_true rfl) (by decide) (by rw [G.2.1]; decide) (by rw [G.2.1]; decide) [aI x1] rfl rfl dX2_best_2 h (fun o C2 I3 J4 R5 h => ?_)
  obtain ⟨r6, rfl, h⟩ := h
  show AW Γ 0 0 C2 I3 J4 R5 (2 + 3) [(0, aR (some x0)), (1, aI x1), (2, aI x2), (3, aI x3), (4, aI x4)] [aI r6]
  refine aw_if_eq G0 27 dX2_best_5 (by decide) (fun c7 => ?_) (fun c7 => ?_)
  · have h := h.1 c7
    refine aw_aload_n G0 0 rfl dX2_best_27 ?_
    refine aw_iconst (v := (1 : Int32)) G0 dX2_best_28 (by decide) ?_
    obtain ⟨k8, h⟩ := h
    refine aw_callV (k1 := 0) (n1 := 0) (k2 := 0) (n2 := 0) (st := []) G0 S_X2_refuse gi_X2_147 (Or.inl (by rw [k8]; decide)) (by rw [k8]; rfl) md_X2_refuse (Nat.le_of_ble_eq_true rfl) (by decide) (by rw [G.2.1]; decide) (by rw [G.2.1]; decide) [aI (1 : Int32)] rfl rfl dX2_best_29 h (fun o C9 I10 J11 R12 h => ?_)
    obtain ⟨r13, rfl, h⟩ := h
    show AW Γ 0 0 C9 I10 J11 R12 (29 + 3) [(0, aR (some x0)), (1, aI x1), (2, aI x2), (3, aI x3), (4, aI x4)] [aI r13]
    exact aw_ireturn G0 (Or.inl rfl) (by rw [G.2.2]; decide) (by rw [G.2.1]; decide) dX2_best_32 h
  · have h := h.2 c7
    refine aw_iload_n G0 2 rfl dX2_best_8 ?_
    refine aw_if_lt G0 27 dX2_best_9 (by decide) (fun c14 => ?_) (fun c14 => ?_)
    · have h := h.1 c14
      refine aw_aload_n G0 0 rfl dX2_best_27 ?_
      refine aw_iconst (v := (1 : Int32)) G0 dX2_best_28 (by decide) ?_
      obtain ⟨k15, h⟩ := h
      refine aw_callV (k1 := 0) (n1 := 0) (k2 := 0) (n2 := 0) (st := []) G0 S_X2_refuse gi_X2_147 (Or.inl (by rw [k15]; decide)) (by rw [k15]; rfl) md_X2_refuse (Nat.le_of_ble_eq_true rfl) (by decide) (by rw [G.2.1]; decide) (by rw [G.2.1]; decide) [aI (1 : Int32)] rfl rfl dX2_best_29 h (fun o C16 I17 J18 R19 h => ?_)
      obtain ⟨r20, rfl, h⟩ := h
      show AW Γ 0 0 C16 I17 J18 R19 (29 + 3) [(0, aR (some x0)), (1, aI x1), (2, aI x2), (3, aI x3), (4, aI x4)] [aI r20]
      exact aw_ireturn G0 (Or.inl rfl) (by rw [G.2.2]; decide) (by rw [G.2.1]; decide) dX2_best_32 h
    · have h := h.2 c14
      refine aw_iload_n G0 2 rfl dX2_best_12 ?_
      refine aw_bipush (v := (121 : Int32)) G0 dX2_best_13 (by decide) ?_
      refine aw_icmp_ge G0 27 dX2_best_15 (by decide) (fun c21 => ?_) (fun c21 => ?_)
      · have h := h.1 c21
        refine aw_aload_n G0 0 rfl dX2_best_27 ?_
        refine aw_iconst (v := (1 : Int32)) G0 dX2_best_28 (by decide) ?_
        obtain ⟨k22, h⟩ := h
        refine aw_callV (k1 := 0) (n1 := 0) (k2 := 0) (n2 := 0) (st := []) G0 S_X2_refuse gi_X2_147 (Or.inl (by rw [k22]; decide)) (by rw [k22]; rfl) md_X2_refuse (Nat.le_of_ble_eq_true rfl) (by decide) (by rw [G.2.1]; decide) (by rw [G.2.1]; decide) [aI (1 : Int32)] rfl rfl dX2_best_29 h (fun o C23 I24 J25 R26 h => ?_)
        obtain ⟨r27, rfl, h⟩ := h
        show AW Γ 0 0 C23 I24 J25 R26 (29 + 3) [(0, aR (some x0)), (1, aI x1), (2, aI x2), (3, aI x3), (4, aI x4)] [aI r27]
        exact aw_ireturn G0 (Or.inl rfl) (by rw [G.2.2]; decide) (by rw [G.2.1]; decide) dX2_best_32 h
      · have h := h.2 c21
        refine aw_iload_n G0 3 rfl dX2_best_18 ?_
        refine aw_iload G0 4 rfl dX2_best_19 ?_
        refine aw_callS (k1 := 0) (n1 := 0) (k2 := 0) (n2 := 0) (st := []) G0 S_X2_isShare gi_X2_245 md_X2_isShare (Nat.le_of_ble_eq_true rfl) (by decide) (by rw [G.2.1]; decide) (by rw [G.2.1]; decide) [aI x3, aI x4] rfl rfl dX2_best_21 h (fun o C28 I29 J30 R31 h => ?_)
        obtain ⟨r32, rfl, h⟩ := h
        show AW Γ 0 0 C28 I29 J30 R31 (21 + 3) [(0, aR (some x0)), (1, aI x1), (2, aI x2), (3, aI x3), (4, aI x4)] [aI r32]
        refine aw_if_ne G0 33 dX2_best_24 (by decide) (fun c33 => ?_) (fun c33 => ?_)
        · have h := h.1 c33
          refine aw_aload_n G0 0 rfl dX2_best_33 ?_
          obtain ⟨k34, h⟩ := h
          refine aw_callV (k1 := 0) (n1 := 0) (k2 := 0) (n2 := 0) (st := []) G0 S_X2_usual gi_X2_220 (Or.inl (by rw [k34]; decide)) (by rw [k34]; rfl) md_X2_usual (Nat.le_of_ble_eq_true rfl) (by decide) (by rw [G.2.1]; decide) (by rw [G.2.1]; decide) [] rfl rfl dX2_best_34 h (fun o C35 I36 J37 R38 h => ?_)
          obtain ⟨rfl, h⟩ := h
          show AW Γ 0 0 C35 I36 J37 R38 (34 + 3) [(0, aR (some x0)), (1, aI x1), (2, aI x2), (3, aI x3), (4, aI x4)] []
          refine aw_iconst (v := (-1 : Int32)) G0 dX2_best_37 (by decide) ?_
          refine aw_istore (lv' := [(5, aI (-1 : Int32)), (0, aR (some x0)), (1, aI x1), (2, aI x2), (3, aI x3), (4, aI x4)]) G0 (by decide) rfl dX2_best_38 ?_
          refine aw_iconst (v := (1 : Int32)) G0 dX2_best_40 (by decide) ?_
          refine aw_istore (lv' := [(6, aI (1 : Int32)), (5, aI (-1 : Int32)), (0, aR (some x0)), (1, aI x1), (2, aI x2), (3, aI x3), (4, aI x4)]) G0 (by decide) rfl dX2_best_41 ?_
          exact (aw_lv [2, 3, 4, 5, 6, 1, 0] rfl (w43 x0 x1 x2 x3 x4 (-1 : Int32) (1 : Int32) C35 I36 J37 R38 h))
        · have h := h.2 c33
          refine aw_aload_n G0 0 rfl dX2_best_27 ?_
          refine aw_iconst (v := (1 : Int32)) G0 dX2_best_28 (by decide) ?_
          obtain ⟨k40, h⟩ := h
          refine aw_callV (k1 := 0) (n1 := 0) (k2 := 0) (n2 := 0) (st := []) G0 S_X2_refuse gi_X2_147 (Or.inl (by rw [k40]; decide)) (by rw [k40]; rfl) md_X2_refuse (Nat.le_of_ble_eq_true rfl) (by decide) (by rw [G.2.1]; decide) (by rw [G.2.1]; decide) [aI (1 : Int32)] rfl rfl dX2_best_29 h (fun o C41 I42 J43 R44 h => ?_)
          obtain ⟨r45, rfl, h⟩ := h
          show AW Γ 0 0 C41 I42 J43 R44 (29 + 3) [(0, aR (some x0)), (1, aI x1), (2, aI x2), (3, aI x3), (4, aI x4)] [aI r45]
          exact aw_ireturn G0 (Or.inl rfl) (by rw [G.2.2]; decide) (by rw [G.2.1]; decide) dX2_best_32 h
theorem bX2_best_43 (G : Gb Γ yX2_best cX2_best 9 (some .int) [] rmX2_best bdX2_best) {F_X2_usual : SPF} (S_X2_usual : SpX2_usual (gL Γ) F_X2_usual) {F_X2_refuse : SPF} (S_X2_refuse : SpX2_refuse (gL Γ) F_X2_refuse) {F_X2_tables : SPF} (S_X2_tables : SpX2_tables (gL Γ) F_X2_tables)
    {Q79 : Nat → Int32 → Int32 → Int32 → Int32 → Int32 → Int32 → Int32 → MC → MI → MJ → MR → Prop} (w79 : ∀ (x0 : Nat) (x1 : Int32) (x2 : Int32) (x3 : Int32) (x4 : Int32) (x5 : Int32) (x7 : Int32) (x8 : Int32) (C : MC) (I : MI) (J : MJ) (R : MR), Q79 x0 x1 x2 x3 x4 x5 x7 x8 C I J R → AW Γ 0 0 C I J R 79 [(0, aR (some x0)), (1, aI x1), (2, aI x2), (3, aI x3), (4, aI x4), (5, aI x5), (7, aI x7), (8, aI x8)] [])
    {Q271 : Nat → Int32 → Int32 → MC → MI → MJ → MR → Prop} (w271 : ∀ (x0 : Nat) (x5 : Int32) (x7 : Int32) (C : MC) (I : MI) (J : MJ) (R : MR), Q271 x0 x5 x7 C I J R → AW Γ 0 0 C I J R 271 [(0, aR (some x0)), (5, aI x5), (7, aI x7)] []) {x0 : Nat} {x1 : Int32} {x2 : Int32} {x3 : Int32} {x4 : Int32} {x5 : Int32} {x6 : Int32}
    (h : ((x6 = 0 →
      (C x0).1 = 3 ∧
      F_X2_usual [aR (some x0)] C I J R (fun o C3 I4 J5 R6 =>
      o = .inl none ∧
      ((¬ x5 = (-1 : Int32) →
      (C3 x0).1 = 3 ∧
      ∀ I10 : MI, I10 = va_up I4 x0 (va_up (I4 x0) 21 (1 : Int32)) →
      Q271 x0 x5 (0 : Int32) C3 I10 J5 R6) ∧
      (x5 = (-1 : Int32) →
      (C3 x0).1 = 3 ∧
      F_X2_refuse [aR (some x0), aI (6 : Int32)] C3 I4 J5 R6 (fun o C12 I13 J14 R15 =>
      ∃ r16 : Int32, o = .inl (some (aI r16)) ∧
      gK Γ (.inl (some (aI r16))) C12 I13 J14 R15))))) ∧
      (¬ x6 = 0 →
      (C x0).1 = 3 ∧
      F_X2_tables [aR (some x0), aI x1] C I J R (fun o C18 I19 J20 R21 =>
      o = .inl none ∧
      (C18 x0).1 = 3 ∧
      ∃ q24 : Nat, R21 x0 25 = some q24 ∧
      (C18 q24).1 = 24 ∧
      vp_in x1 (C18 q24).2 ∧
      (((I19 q24 x1.toNatClampNeg) = 0 →
      Q79 x0 x1 x2 x3 x4 x5 (0 : Int32) (0 : Int32) C18 I19 J20 R21) ∧
      (¬ (I19 q24 x1.toNatClampNeg) = 0 →
      F_X2_usual [aR (some x0)] C18 I19 J20 R21 (fun o C28 I29 J30 R31 =>
      o = .inl none ∧
      (C28 x0).1 = 3 ∧
      F_X2_refuse [aR (some x0), aI (9 : Int32)] C28 I29 J30 R31 (fun o C34 I35 J36 R37 =>
      ∃ r38 : Int32, o = .inl (some (aI r38)) ∧
      gK Γ (.inl (some (aI r38))) C34 I35 J36 R37)))))))) :
    AW Γ 0 0 C I J R 43 [(0, aR (some x0)), (1, aI x1), (2, aI x2), (3, aI x3), (4, aI x4), (5, aI x5), (6, aI x6)] [] := by
  have G0 := G.1
  refine aw_iload G0 6 rfl dX2_best_43 ?_
  refine aw_if_eq G0 246 dX2_best_45 (by decide) (fun c1 => ?_) (fun c1 => ?_)
  · have h := h.1 c1
    refine aw_aload_n G0 0 rfl dX2_best_246 ?_
    obtain ⟨k2, h⟩ := h
    refine aw_callV (k1 := 0) (n1 := 0) (k2 := 0) (n2 := 0) (st := []) G0 S_X2_usual gi_X2_220 (Or.inl (by rw [k2]; decide)) (by rw [k2]; rfl) md_X2_usual (Nat.le_of_ble_eq_true rfl) (by decide) (by rw [G.2.1]; decide) (by rw [G.2.1]; decide) [] rfl rfl dX2_best_247 h (fun o C3 I4 J5 R6 h => ?_)
    obtain ⟨rfl, h⟩ := h
    show AW Γ 0 0 C3 I4 J5 R6 (247 + 3) [(0, aR (some x0)), (1, aI x1), (2, aI x2), (3, aI x3), (4, aI x4), (5, aI x5), (6, aI x6)] []
    refine aw_iload G0 5 rfl dX2_best_250 ?_
    refine aw_iconst (v := (-1 : Int32)) G0 dX2_best_252 (by decide) ?_
    refine aw_icmp_ne G0 263 dX2_best_253 (by decide) (fun c8 => ?_) (fun c8 => ?_)
    · have h := h.1 c8
      refine aw_aload_n G0 0 rfl dX2_best_263 ?_
      refine aw_iconst (v := (1 : Int32)) G0 dX2_best_264 (by decide) ?_
      obtain ⟨k9, h⟩ := h
      refine aw_putZ (f := 21) G0 (by decide) (by rw [k9]; exact fp_X2_282 _) dX2_best_265 ?_
      generalize gI10 : va_up I4 x0 (va_up (I4 x0) 21 (1 : Int32)) = I10
      have h := h I10 gI10.symm
      refine aw_iconst (v := (0 : Int32)) G0 dX2_best_268 (by decide) ?_
      refine aw_istore (lv' := [(7, aI (0 : Int32)), (0, aR (some x0)), (1, aI x1), (2, aI x2), (3, aI x3), (4, aI x4), (5, aI x5), (6, aI x6)]) G0 (by decide) rfl dX2_best_269 ?_
      exact (aw_lv [1, 6, 0] rfl (w271 x0 x5 (0 : Int32) C3 I10 J5 R6 h))
    · have h := h.2 c8
      refine aw_aload_n G0 0 rfl dX2_best_256 ?_
      refine aw_bipush (v := (6 : Int32)) G0 dX2_best_257 (by decide) ?_
      obtain ⟨k11, h⟩ := h
      refine aw_callV (k1 := 0) (n1 := 0) (k2 := 0) (n2 := 0) (st := []) G0 S_X2_refuse gi_X2_147 (Or.inl (by rw [k11]; decide)) (by rw [k11]; rfl) md_X2_refuse (Nat.le_of_ble_eq_true rfl) (by decide) (by rw [G.2.1]; decide) (by rw [G.2.1]; decide) [aI (6 : Int32)] rfl rfl dX2_best_259 h (fun o C12 I13 J14 R15 h => ?_)
      obtain ⟨r16, rfl, h⟩ := h
      show AW Γ 0 0 C12 I13 J14 R15 (259 + 3) [(0, aR (some x0)), (1, aI x1), (2, aI x2), (3, aI x3), (4, aI x4), (5, aI x5), (6, aI x6)] [aI r16]
      exact aw_ireturn G0 (Or.inl rfl) (by rw [G.2.2]; decide) (by rw [G.2.1]; decide) dX2_best_262 h
  · have h := h.2 c1
    refine aw_aload_n G0 0 rfl dX2_best_48 ?_
    refine aw_iload_n G0 1 rfl dX2_best_49 ?_
    obtain ⟨k17, h⟩ := h
    refine aw_callV (k1 := 0) (n1 := 0) (k2 := 0) (n2 := 0) (st := []) G0 S_X2_tables gi_X2_223 (Or.inl (by rw [k17]; decide)) (by rw [k17]; rfl) md_X2_tables (Nat.le_of_ble_eq_true rfl) (by decide) (by rw [G.2.1]; decide) (by rw [G.2.1]; decide) [aI x1] rfl rfl dX2_best_50 h (fun o C18 I19 J20 R21 h => ?_)
    obtain ⟨rfl, h⟩ := h
    show AW Γ 0 0 C18 I19 J20 R21 (50 + 3) [(0, aR (some x0)), (1, aI x1), (2, aI x2), (3, aI x3), (4, aI x4), (5, aI x5), (6, aI x6)] []
    refine aw_aload_n G0 0 rfl dX2_best_53 ?_
    obtain ⟨k23, h⟩ := h
    refine aw_getR (f := 25) G0 (by rw [k23]; exact fb_X2_75) dX2_best_54 ?_
    refine aw_iload_n G0 1 rfl dX2_best_57 ?_
    obtain ⟨q24, e24, h⟩ := h
    refine aw_dr1 e24 ?_
    obtain ⟨k25, h⟩ := h
    obtain ⟨k26, h⟩ := h
    refine aw_zald G0 k25 k26 dX2_best_58 ?_
    refine aw_if_eq G0 73 dX2_best_59 (by decide) (fun c27 => ?_) (fun c27 => ?_)
    · have h := h.1 c27
      refine aw_iconst (v := (0 : Int32)) G0 dX2_best_73 (by decide) ?_
      refine aw_istore (lv' := [(7, aI (0 : Int32)), (0, aR (some x0)), (1, aI x1), (2, aI x2), (3, aI x3), (4, aI x4), (5, aI x5), (6, aI x6)]) G0 (by decide) rfl dX2_best_74 ?_
      refine aw_iconst (v := (0 : Int32)) G0 dX2_best_76 (by decide) ?_
      refine aw_istore (lv' := [(8, aI (0 : Int32)), (7, aI (0 : Int32)), (0, aR (some x0)), (1, aI x1), (2, aI x2), (3, aI x3), (4, aI x4), (5, aI x5), (6, aI x6)]) G0 (by decide) rfl dX2_best_77 ?_
      exact (aw_lv [2, 3, 4, 5, 6, 7, 1, 0] rfl (w79 x0 x1 x2 x3 x4 x5 (0 : Int32) (0 : Int32) C18 I19 J20 R21 h))
    · have h := h.2 c27
      refine aw_aload_n G0 0 rfl dX2_best_62 ?_
      refine aw_callV (k1 := 0) (n1 := 0) (k2 := 0) (n2 := 0) (st := []) G0 S_X2_usual gi_X2_220 (Or.inl (by rw [k23]; decide)) (by rw [k23]; rfl) md_X2_usual (Nat.le_of_ble_eq_true rfl) (by decide) (by rw [G.2.1]; decide) (by rw [G.2.1]; decide) [] rfl rfl dX2_best_63 h (fun o C28 I29 J30 R31 h => ?_)
      obtain ⟨rfl, h⟩ := h
      show AW Γ 0 0 C28 I29 J30 R31 (63 + 3) [(0, aR (some x0)), (1, aI x1), (2, aI x2), (3, aI x3), (4, aI x4), (5, aI x5), (6, aI x6)] []
      refine aw_aload_n G0 0 rfl dX2_best_66 ?_
      refine aw_bipush (v := (9 : Int32)) G0 dX2_best_67 (by decide) ?_
      obtain ⟨k33, h⟩ := h
      refine aw_callV (k1 := 0) (n1 := 0) (k2 := 0) (n2 := 0) (st := []) G0 S_X2_refuse gi_X2_147 (Or.inl (by rw [k33]; decide)) (by rw [k33]; rfl) md_X2_refuse (Nat.le_of_ble_eq_true rfl) (by decide) (by rw [G.2.1]; decide) (by rw [G.2.1]; decide) [aI (9 : Int32)] rfl rfl dX2_best_69 h (fun o C34 I35 J36 R37 h => ?_)
      obtain ⟨r38, rfl, h⟩ := h
      show AW Γ 0 0 C34 I35 J36 R37 (69 + 3) [(0, aR (some x0)), (1, aI x1), (2, aI x2), (3, aI x3), (4, aI x4), (5, aI x5), (6, aI x6)] [aI r38]
      exact aw_ireturn G0 (Or.inl rfl) (by rw [G.2.2]; decide) (by rw [G.2.1]; decide) dX2_best_72 h
theorem bX2_best_79 (G : Gb Γ yX2_best cX2_best 9 (some .int) [] rmX2_best bdX2_best) {F_X2_has : SPF} (S_X2_has : SpX2_has (gL Γ) F_X2_has)
    {Q130 : Nat → Int32 → Int32 → Int32 → Int32 → Int32 → Int32 → Int32 → MC → MI → MJ → MR → Prop} (w130 : ∀ (x0 : Nat) (x1 : Int32) (x2 : Int32) (x3 : Int32) (x4 : Int32) (x5 : Int32) (x8 : Int32) (s0 : Int32) (C : MC) (I : MI) (J : MJ) (R : MR), Q130 x0 x1 x2 x3 x4 x5 x8 s0 C I J R → AW Γ 0 0 C I J R 130 [(0, aR (some x0)), (1, aI x1), (2, aI x2), (3, aI x3), (4, aI x4), (5, aI x5), (8, aI x8)] [aI s0])
    {Q131 : Nat → Int32 → Int32 → Int32 → Int32 → Int32 → Int32 → Int32 → Int32 → MC → MI → MJ → MR → Prop} (w131 : ∀ (x0 : Nat) (x1 : Int32) (x2 : Int32) (x3 : Int32) (x4 : Int32) (x5 : Int32) (x8 : Int32) (s0 : Int32) (s1 : Int32) (C : MC) (I : MI) (J : MJ) (R : MR), Q131 x0 x1 x2 x3 x4 x5 x8 s0 s1 C I J R → AW Γ 0 0 C I J R 131 [(0, aR (some x0)), (1, aI x1), (2, aI x2), (3, aI x3), (4, aI x4), (5, aI x5), (8, aI x8)] [aI s1, aI s0])
    {Q153 : Nat → Int32 → Int32 → Int32 → Int32 → Int32 → Int32 → MC → MI → MJ → MR → Prop} (w153 : ∀ (x0 : Nat) (x1 : Int32) (x2 : Int32) (x3 : Int32) (x4 : Int32) (x5 : Int32) (x7 : Int32) (C : MC) (I : MI) (J : MJ) (R : MR), Q153 x0 x1 x2 x3 x4 x5 x7 C I J R → AW Γ 0 0 C I J R 153 [(0, aR (some x0)), (1, aI x1), (2, aI x2), (3, aI x3), (4, aI x4), (5, aI x5), (7, aI x7)] [])
    {Q236 : Nat → Int32 → Int32 → Int32 → Int32 → Int32 → MC → MI → MJ → MR → Prop} (w236 : ∀ (x0 : Nat) (x1 : Int32) (x2 : Int32) (x3 : Int32) (x4 : Int32) (x5 : Int32) (C : MC) (I : MI) (J : MJ) (R : MR), Q236 x0 x1 x2 x3 x4 x5 C I J R → AW Γ 0 0 C I J R 236 [(0, aR (some x0)), (1, aI x1), (2, aI x2), (3, aI x3), (4, aI x4), (5, aI x5)] []) {x0 : Nat} {x1 : Int32} {x2 : Int32} {x3 : Int32} {x4 : Int32} {x5 : Int32} {x7 : Int32} {x8 : Int32}
    (h : (C x0).1 = 3 ∧
      (((I x0 6) ≤ x8 →
      ((x5 = (-1 : Int32) →
      Q153 x0 x1 x2 x3 x4 x5 x7 C I J R) ∧
      (¬ x5 = (-1 : Int32) →
      ((x5 ≤ x7 →
      Q236 x0 x1 x2 x3 x4 x5 C I J R) ∧
      (¬ x5 ≤ x7 →
      Q153 x0 x1 x2 x3 x4 x5 x7 C I J R))))) ∧
      (¬ (I x0 6) ≤ x8 →
      ∃ q5 : Nat, R x0 7 = some q5 ∧
      (C q5).1 = 20 ∧
      vp_in x8 (C q5).2 ∧
      ((¬ (I q5 x8.toNatClampNeg) = 0 →
      Q130 x0 x1 x2 x3 x4 x5 x8 x7 C I J R) ∧
      ((I q5 x8.toNatClampNeg) = 0 →
      F_X2_has [aR (some x0), aI x1, aI x8] C I J R (fun o C9 I10 J11 R12 =>
      ∃ r13 : Int32, o = .inl (some (aI r13)) ∧
      ((r13 = 0 →
      Q130 x0 x1 x2 x3 x4 x5 x8 x7 C9 I10 J11 R12) ∧
      (¬ r13 = 0 →
      (C9 x0).1 = 3 ∧
      ∃ q16 : Nat, R12 x0 15 = some q16 ∧
      (C9 q16).1 = 20 ∧
      vp_in x8 (C9 q16).2 ∧
      ∃ q19 : Nat, R12 x0 13 = some q19 ∧
      (C9 q19).1 = 20 ∧
      vp_in (((3 : Int32) * x8) + (I10 q16 x8.toNatClampNeg)) (C9 q19).2 ∧
      Q131 x0 x1 x2 x3 x4 x5 x8 x7 (I10 q19 (((3 : Int32) * x8) + (I10 q16 x8.toNatClampNeg)).toNatClampNeg) C9 I10 J11 R12)))))))) :
    AW Γ 0 0 C I J R 79 [(0, aR (some x0)), (1, aI x1), (2, aI x2), (3, aI x3), (4, aI x4), (5, aI x5), (7, aI x7), (8, aI x8)] [] := by
  have G0 := G.1
  refine aw_iload G0 7 rfl dX2_best_79 ?_
  refine aw_aload_n G0 0 rfl dX2_best_81 ?_
  obtain ⟨k1, h⟩ := h
  refine aw_getI (f := 6) G0 (by rw [k1]; exact fb_X2_136) dX2_best_82 ?_
  refine aw_icmp_ge G0 140 dX2_best_85 (by decide) (fun c2 => ?_) (fun c2 => ?_)
  · have h := h.1 c2
    refine aw_iload G0 5 rfl dX2_best_140 ?_
    refine aw_iconst (v := (-1 : Int32)) G0 dX2_best_142 (by decide) ?_
    refine aw_icmp_eq G0 153 dX2_best_143 (by decide) (fun c3 => ?_) (fun c3 => ?_)
    · have h := h.1 c3
      exact (aw_lv [0, 1, 2, 3, 4, 5, 6] rfl (w153 x0 x1 x2 x3 x4 x5 x7 C I J R h))
    · have h := h.2 c3
      refine aw_iload G0 6 rfl dX2_best_146 ?_
      refine aw_iload G0 5 rfl dX2_best_148 ?_
      refine aw_icmp_ge G0 236 dX2_best_150 (by decide) (fun c4 => ?_) (fun c4 => ?_)
      · have h := h.1 c4
        exact (aw_lv [0, 1, 2, 3, 4, 5] rfl (w236 x0 x1 x2 x3 x4 x5 C I J R h))
      · have h := h.2 c4
        exact (aw_lv [0, 1, 2, 3, 4, 5, 6] rfl (w153 x0 x1 x2 x3 x4 x5 x7 C I J R h))
  · have h := h.2 c2
    refine aw_iload G0 6 rfl dX2_best_88 ?_
    refine aw_aload_n G0 0 rfl dX2_best_90 ?_
    refine aw_getR (f := 7) G0 (by rw [k1]; exact fb_X2_24) dX2_best_91 ?_
    refine aw_iload G0 7 rfl dX2_best_94 ?_
    obtain ⟨q5, e5, h⟩ := h
    refine aw_dr1 e5 ?_
    obtain ⟨k6, h⟩ := h
    obtain ⟨k7, h⟩ := h
    refine aw_iald G0 (Or.inl k6) k7 dX2_best_96 ?_
    refine aw_if_ne G0 130 dX2_best_97 (by decide) (fun c8 => ?_) (fun c8 => ?_)
    · have h := h.1 c8
      exact (aw_lv [0, 1, 2, 3, 4, 5, 7] rfl (w130 x0 x1 x2 x3 x4 x5 x8 x7 C I J R h))
    · have h := h.2 c8
      refine aw_aload_n G0 0 rfl dX2_best_100 ?_
      refine aw_iload_n G0 1 rfl dX2_best_101 ?_
      refine aw_iload G0 7 rfl dX2_best_102 ?_
      refine aw_callV (k1 := 0) (n1 := 0) (k2 := 0) (n2 := 0) (st := [aI x7]) G0 S_X2_has gi_X2_226 (Or.inl (by rw [k1]; decide)) (by rw [k1]; rfl) md_X2_has (Nat.le_of_ble_eq_true rfl) (by decide) (by rw [G.2.1]; decide) (by rw [G.2.1]; decide) [aI x1, aI x8] rfl rfl dX2_best_104 h (fun o C9 I10 J11 R12 h => ?_)
      obtain ⟨r13, rfl, h⟩ := h
      show AW Γ 0 0 C9 I10 J11 R12 (104 + 3) [(0, aR (some x0)), (1, aI x1), (2, aI x2), (3, aI x3), (4, aI x4), (5, aI x5), (7, aI x7), (8, aI x8)] [aI r13, aI x7]
      refine aw_if_eq G0 130 dX2_best_107 (by decide) (fun c14 => ?_) (fun c14 => ?_)
      · have h := h.1 c14
        exact (aw_lv [0, 1, 2, 3, 4, 5, 7] rfl (w130 x0 x1 x2 x3 x4 x5 x8 x7 C9 I10 J11 R12 h))
      · have h := h.2 c14
        refine aw_aload_n G0 0 rfl dX2_best_110 ?_
        obtain ⟨k15, h⟩ := h
        refine aw_getR (f := 13) G0 (by rw [k15]; exact fb_X2_42) dX2_best_111 ?_
        refine aw_iconst (v := (3 : Int32)) G0 dX2_best_114 (by decide) ?_
        refine aw_iload G0 7 rfl dX2_best_115 ?_
        refine aw_imul G0 dX2_best_117 ?_
        refine aw_aload_n G0 0 rfl dX2_best_118 ?_
        refine aw_getR (f := 15) G0 (by rw [k15]; exact fb_X2_48) dX2_best_119 ?_
        refine aw_iload G0 7 rfl dX2_best_122 ?_
        obtain ⟨q16, e16, h⟩ := h
        refine aw_dr1 e16 ?_
        obtain ⟨k17, h⟩ := h
        obtain ⟨k18, h⟩ := h
        refine aw_iald G0 (Or.inl k17) k18 dX2_best_124 ?_
        refine aw_iadd G0 dX2_best_125 ?_
        obtain ⟨q19, e19, h⟩ := h
        refine aw_dr1 e19 ?_
        obtain ⟨k20, h⟩ := h
        obtain ⟨k21, h⟩ := h
        refine aw_iald G0 (Or.inl k20) k21 dX2_best_126 ?_
        refine aw_goto G0 131 dX2_best_127 (by decide) ?_
        exact (aw_lv [0, 1, 2, 3, 4, 5, 7] rfl (w131 x0 x1 x2 x3 x4 x5 x8 x7 (I10 q19 (((3 : Int32) * x8) + (I10 q16 x8.toNatClampNeg)).toNatClampNeg) C9 I10 J11 R12 h))
theorem bX2_best_130 (G : Gb Γ yX2_best cX2_best 9 (some .int) [] rmX2_best bdX2_best)
    {Q131 : Nat → Int32 → Int32 → Int32 → Int32 → Int32 → Int32 → Int32 → Int32 → MC → MI → MJ → MR → Prop} (w131 : ∀ (x0 : Nat) (x1 : Int32) (x2 : Int32) (x3 : Int32) (x4 : Int32) (x5 : Int32) (x8 : Int32) (s0 : Int32) (s1 : Int32) (C : MC) (I : MI) (J : MJ) (R : MR), Q131 x0 x1 x2 x3 x4 x5 x8 s0 s1 C I J R → AW Γ 0 0 C I J R 131 [(0, aR (some x0)), (1, aI x1), (2, aI x2), (3, aI x3), (4, aI x4), (5, aI x5), (8, aI x8)] [aI s1, aI s0]) {x0 : Nat} {x1 : Int32} {x2 : Int32} {x3 : Int32} {x4 : Int32} {x5 : Int32} {x8 : Int32} {s0 : Int32}
    (h : Q131 x0 x1 x2 x3 x4 x5 x8 s0 (0 : Int32) C I J R) :
    AW Γ 0 0 C I J R 130 [(0, aR (some x0)), (1, aI x1), (2, aI x2), (3, aI x3), (4, aI x4), (5, aI x5), (8, aI x8)] [aI s0] := by
  have G0 := G.1
  refine aw_iconst (v := (0 : Int32)) G0 dX2_best_130 (by decide) ?_
  exact (w131 x0 x1 x2 x3 x4 x5 x8 s0 (0 : Int32) C I J R h)
theorem bX2_best_131 (G : Gb Γ yX2_best cX2_best 9 (some .int) [] rmX2_best bdX2_best)
    {Q79 : Nat → Int32 → Int32 → Int32 → Int32 → Int32 → Int32 → Int32 → MC → MI → MJ → MR → Prop} (w79 : ∀ (x0 : Nat) (x1 : Int32) (x2 : Int32) (x3 : Int32) (x4 : Int32) (x5 : Int32) (x7 : Int32) (x8 : Int32) (C : MC) (I : MI) (J : MJ) (R : MR), Q79 x0 x1 x2 x3 x4 x5 x7 x8 C I J R → AW Γ 0 0 C I J R 79 [(0, aR (some x0)), (1, aI x1), (2, aI x2), (3, aI x3), (4, aI x4), (5, aI x5), (7, aI x7), (8, aI x8)] []) {x0 : Nat} {x1 : Int32} {x2 : Int32} {x3 : Int32} {x4 : Int32} {x5 : Int32} {x8 : Int32} {s0 : Int32} {s1 : Int32}
    (h : Q79 x0 x1 x2 x3 x4 x5 (s0 + s1) (x8 + 1) C I J R) :
    AW Γ 0 0 C I J R 131 [(0, aR (some x0)), (1, aI x1), (2, aI x2), (3, aI x3), (4, aI x4), (5, aI x5), (8, aI x8)] [aI s1, aI s0] := by
  have G0 := G.1
  refine aw_iadd G0 dX2_best_131 ?_
  refine aw_istore (lv' := [(7, aI (s0 + s1)), (0, aR (some x0)), (1, aI x1), (2, aI x2), (3, aI x3), (4, aI x4), (5, aI x5), (8, aI x8)]) G0 (by decide) rfl dX2_best_132 ?_
  refine aw_iinc (v := x8 + 1) (lv' := [(8, aI (x8 + 1)), (7, aI (s0 + s1)), (0, aR (some x0)), (1, aI x1), (2, aI x2), (3, aI x3), (4, aI x4), (5, aI x5)]) G0 7 rfl rfl (by decide) rfl dX2_best_134 ?_
  refine aw_goto G0 79 dX2_best_137 (by decide) ?_
  exact (aw_lv [2, 3, 4, 5, 6, 7, 1, 0] rfl (w79 x0 x1 x2 x3 x4 x5 (s0 + s1) (x8 + 1) C I J R h))
theorem bX2_best_153 (G : Gb Γ yX2_best cX2_best 9 (some .int) [] rmX2_best bdX2_best) {F_X2_by0 : SPF} (S_X2_by0 : SpX2_by0 (gL Γ) F_X2_by0) {F_X2_isEnough : SPF} (S_X2_isEnough : SpX2_isEnough (gL Γ) F_X2_isEnough)
    {Q183 : Nat → Int32 → Int32 → Int32 → Int32 → Int32 → Int32 → MC → MI → MJ → MR → Prop} (w183 : ∀ (x0 : Nat) (x1 : Int32) (x2 : Int32) (x3 : Int32) (x4 : Int32) (x5 : Int32) (x8 : Int32) (C : MC) (I : MI) (J : MJ) (R : MR), Q183 x0 x1 x2 x3 x4 x5 x8 C I J R → AW Γ 0 0 C I J R 183 [(0, aR (some x0)), (1, aI x1), (2, aI x2), (3, aI x3), (4, aI x4), (5, aI x5), (8, aI x8)] [])
    {Q236 : Nat → Int32 → Int32 → Int32 → Int32 → Int32 → MC → MI → MJ → MR → Prop} (w236 : ∀ (x0 : Nat) (x1 : Int32) (x2 : Int32) (x3 : Int32) (x4 : Int32) (x5 : Int32) (C : MC) (I : MI) (J : MJ) (R : MR), Q236 x0 x1 x2 x3 x4 x5 C I J R → AW Γ 0 0 C I J R 236 [(0, aR (some x0)), (1, aI x1), (2, aI x2), (3, aI x3), (4, aI x4), (5, aI x5)] []) {x0 : Nat} {x1 : Int32} {x2 : Int32} {x3 : Int32} {x4 : Int32} {x5 : Int32} {x7 : Int32}
    (h : (C x0).1 = 3 ∧
      F_X2_by0 [aR (some x0), aI x1, aI x2] C I J R (fun o C2 I3 J4 R5 =>
      ∃ r6 : Int64, o = .inl (some (aJ r6)) ∧
      (C2 x0).1 = 3 ∧
      ∃ q8 : Nat, R5 x0 24 = some q8 ∧
      (C2 q8).1 = 21 ∧
      vp_in x1 (C2 q8).2 ∧
      F_X2_isEnough [aJ r6, aJ (J4 q8 x1.toNatClampNeg), aJ x3.toInt64, aJ x4.toInt64] C2 I3 J4 R5 (fun o C11 I12 J13 R14 =>
      ∃ r15 : Int32, o = .inl (some (aI r15)) ∧
      ((r15 = 0 →
      Q236 x0 x1 x2 x3 x4 x5 C11 I12 J13 R14) ∧
      (¬ r15 = 0 →
      Q183 x0 x1 x2 x3 x4 x7 (0 : Int32) C11 I12 J13 R14))))) :
    AW Γ 0 0 C I J R 153 [(0, aR (some x0)), (1, aI x1), (2, aI x2), (3, aI x3), (4, aI x4), (5, aI x5), (7, aI x7)] [] := by
  have G0 := G.1
  refine aw_aload_n G0 0 rfl dX2_best_153 ?_
  refine aw_iload_n G0 1 rfl dX2_best_154 ?_
  refine aw_iload_n G0 2 rfl dX2_best_155 ?_
  obtain ⟨k1, h⟩ := h
  refine aw_callV (k1 := 0) (n1 := 0) (k2 := 0) (n2 := 0) (st := []) G0 S_X2_by0 gi_X2_236 (Or.inl (by rw [k1]; decide)) (by rw [k1]; rfl) md_X2_by0 (Nat.le_of_ble_eq_true rfl) (by decide) (by rw [G.2.1]; decide) (by rw [G.2.1]; decide) [aI x1, aI x2] rfl rfl dX2_best_156 h (fun o C2 I3 J4 R5 h => ?_)
  obtain ⟨r6, rfl, h⟩ := h
  show AW Γ 0 0 C2 I3 J4 R5 (156 + 3) [(0, aR (some x0)), (1, aI x1), (2, aI x2), (3, aI x3), (4, aI x4), (5, aI x5), (7, aI x7)] [aJ r6]
  refine aw_aload_n G0 0 rfl dX2_best_159 ?_
  obtain ⟨k7, h⟩ := h
  refine aw_getR (f := 24) G0 (by rw [k7]; exact fb_X2_72) dX2_best_160 ?_
  refine aw_iload_n G0 1 rfl dX2_best_163 ?_
  obtain ⟨q8, e8, h⟩ := h
  refine aw_dr1 e8 ?_
  obtain ⟨k9, h⟩ := h
  obtain ⟨k10, h⟩ := h
  refine aw_lald G0 k9 k10 dX2_best_164 ?_
  refine aw_iload_n G0 3 rfl dX2_best_165 ?_
  refine aw_i2l G0 dX2_best_166 ?_
  refine aw_iload G0 4 rfl dX2_best_167 ?_
  refine aw_i2l G0 dX2_best_169 ?_
  refine aw_callS (k1 := 0) (n1 := 0) (k2 := 0) (n2 := 0) (st := []) G0 S_X2_isEnough gi_X2_248 md_X2_isEnough (Nat.le_of_ble_eq_true rfl) (by decide) (by rw [G.2.1]; decide) (by rw [G.2.1]; decide) [aJ r6, aJ (J4 q8 x1.toNatClampNeg), aJ x3.toInt64, aJ x4.toInt64] rfl rfl dX2_best_170 h (fun o C11 I12 J13 R14 h => ?_)
  obtain ⟨r15, rfl, h⟩ := h
  show AW Γ 0 0 C11 I12 J13 R14 (170 + 3) [(0, aR (some x0)), (1, aI x1), (2, aI x2), (3, aI x3), (4, aI x4), (5, aI x5), (7, aI x7)] [aI r15]
  refine aw_if_eq G0 236 dX2_best_173 (by decide) (fun c16 => ?_) (fun c16 => ?_)
  · have h := h.1 c16
    exact (aw_lv [0, 1, 2, 3, 4, 5] rfl (w236 x0 x1 x2 x3 x4 x5 C11 I12 J13 R14 h))
  · have h := h.2 c16
    refine aw_iload G0 6 rfl dX2_best_176 ?_
    refine aw_istore (lv' := [(5, aI x7), (0, aR (some x0)), (1, aI x1), (2, aI x2), (3, aI x3), (4, aI x4), (7, aI x7)]) G0 (by decide) rfl dX2_best_178 ?_
    refine aw_iconst (v := (0 : Int32)) G0 dX2_best_180 (by decide) ?_
    refine aw_istore (lv' := [(8, aI (0 : Int32)), (5, aI x7), (0, aR (some x0)), (1, aI x1), (2, aI x2), (3, aI x3), (4, aI x4), (7, aI x7)]) G0 (by decide) rfl dX2_best_181 ?_
    exact (aw_lv [2, 3, 4, 5, 6, 1, 0] rfl (w183 x0 x1 x2 x3 x4 x7 (0 : Int32) C11 I12 J13 R14 h))
theorem bX2_best_183 (G : Gb Γ yX2_best cX2_best 9 (some .int) [] rmX2_best bdX2_best) {F_X2_has : SPF} (S_X2_has : SpX2_has (gL Γ) F_X2_has)
    {Q228 : Nat → Int32 → Int32 → Int32 → Int32 → Int32 → Int32 → Option Nat → Int32 → MC → MI → MJ → MR → Prop} (w228 : ∀ (x0 : Nat) (x1 : Int32) (x2 : Int32) (x3 : Int32) (x4 : Int32) (x5 : Int32) (x8 : Int32) (s0 : Option Nat) (s1 : Int32) (C : MC) (I : MI) (J : MJ) (R : MR), Q228 x0 x1 x2 x3 x4 x5 x8 s0 s1 C I J R → AW Γ 0 0 C I J R 228 [(0, aR (some x0)), (1, aI x1), (2, aI x2), (3, aI x3), (4, aI x4), (5, aI x5), (8, aI x8)] [aI s1, aR s0])
    {Q229 : Nat → Int32 → Int32 → Int32 → Int32 → Int32 → Int32 → Option Nat → Int32 → Int32 → MC → MI → MJ → MR → Prop} (w229 : ∀ (x0 : Nat) (x1 : Int32) (x2 : Int32) (x3 : Int32) (x4 : Int32) (x5 : Int32) (x8 : Int32) (s0 : Option Nat) (s1 : Int32) (s2 : Int32) (C : MC) (I : MI) (J : MJ) (R : MR), Q229 x0 x1 x2 x3 x4 x5 x8 s0 s1 s2 C I J R → AW Γ 0 0 C I J R 229 [(0, aR (some x0)), (1, aI x1), (2, aI x2), (3, aI x3), (4, aI x4), (5, aI x5), (8, aI x8)] [aI s2, aI s1, aR s0])
    {Q236 : Nat → Int32 → Int32 → Int32 → Int32 → Int32 → MC → MI → MJ → MR → Prop} (w236 : ∀ (x0 : Nat) (x1 : Int32) (x2 : Int32) (x3 : Int32) (x4 : Int32) (x5 : Int32) (C : MC) (I : MI) (J : MJ) (R : MR), Q236 x0 x1 x2 x3 x4 x5 C I J R → AW Γ 0 0 C I J R 236 [(0, aR (some x0)), (1, aI x1), (2, aI x2), (3, aI x3), (4, aI x4), (5, aI x5)] []) {x0 : Nat} {x1 : Int32} {x2 : Int32} {x3 : Int32} {x4 : Int32} {x5 : Int32} {x8 : Int32}
    (h : (C x0).1 = 3 ∧
      (((I x0 6) ≤ x8 →
      Q236 x0 x1 x2 x3 x4 x5 C I J R) ∧
      (¬ (I x0 6) ≤ x8 →
      ∃ q3 : Nat, R x0 7 = some q3 ∧
      (C q3).1 = 20 ∧
      vp_in x8 (C q3).2 ∧
      ((¬ (I q3 x8.toNatClampNeg) = 0 →
      Q228 x0 x1 x2 x3 x4 x5 x8 (R x0 37) x8 C I J R) ∧
      ((I q3 x8.toNatClampNeg) = 0 →
      F_X2_has [aR (some x0), aI x1, aI x8] C I J R (fun o C7 I8 J9 R10 =>
      ∃ r11 : Int32, o = .inl (some (aI r11)) ∧
      ((r11 = 0 →
      Q228 x0 x1 x2 x3 x4 x5 x8 (R x0 37) x8 C7 I8 J9 R10) ∧
      (¬ r11 = 0 →
      (C7 x0).1 = 3 ∧
      ∃ q14 : Nat, R10 x0 15 = some q14 ∧
      (C7 q14).1 = 20 ∧
      vp_in x8 (C7 q14).2 ∧
      Q229 x0 x1 x2 x3 x4 x5 x8 (R x0 37) x8 (I8 q14 x8.toNatClampNeg) C7 I8 J9 R10)))))))) :
    AW Γ 0 0 C I J R 183 [(0, aR (some x0)), (1, aI x1), (2, aI x2), (3, aI x3), (4, aI x4), (5, aI x5), (8, aI x8)] [] := by
  have G0 := G.1
  refine aw_iload G0 6 rfl dX2_best_183 ?_
  refine aw_aload_n G0 0 rfl dX2_best_185 ?_
  obtain ⟨k1, h⟩ := h
  refine aw_getI (f := 6) G0 (by rw [k1]; exact fb_X2_136) dX2_best_186 ?_
  refine aw_icmp_ge G0 236 dX2_best_189 (by decide) (fun c2 => ?_) (fun c2 => ?_)
  · have h := h.1 c2
    exact (aw_lv [0, 1, 2, 3, 4, 5] rfl (w236 x0 x1 x2 x3 x4 x5 C I J R h))
  · have h := h.2 c2
    refine aw_aload_n G0 0 rfl dX2_best_192 ?_
    refine aw_getR (f := 37) G0 (by rw [k1]; exact fb_X2_109) dX2_best_193 ?_
    refine aw_iload G0 6 rfl dX2_best_196 ?_
    refine aw_aload_n G0 0 rfl dX2_best_198 ?_
    refine aw_getR (f := 7) G0 (by rw [k1]; exact fb_X2_24) dX2_best_199 ?_
    refine aw_iload G0 6 rfl dX2_best_202 ?_
    obtain ⟨q3, e3, h⟩ := h
    refine aw_dr1 e3 ?_
    obtain ⟨k4, h⟩ := h
    obtain ⟨k5, h⟩ := h
    refine aw_iald G0 (Or.inl k4) k5 dX2_best_204 ?_
    refine aw_if_ne G0 228 dX2_best_205 (by decide) (fun c6 => ?_) (fun c6 => ?_)
    · have h := h.1 c6
      exact (w228 x0 x1 x2 x3 x4 x5 x8 (R x0 37) x8 C I J R h)
    · have h := h.2 c6
      refine aw_aload_n G0 0 rfl dX2_best_208 ?_
      refine aw_iload_n G0 1 rfl dX2_best_209 ?_
      refine aw_iload G0 6 rfl dX2_best_210 ?_
      refine aw_callV (k1 := 0) (n1 := 0) (k2 := 0) (n2 := 0) (st := [aI x8, aR (R x0 37)]) G0 S_X2_has gi_X2_226 (Or.inl (by rw [k1]; decide)) (by rw [k1]; rfl) md_X2_has (Nat.le_of_ble_eq_true rfl) (by decide) (by rw [G.2.1]; decide) (by rw [G.2.1]; decide) [aI x1, aI x8] rfl rfl dX2_best_212 h (fun o C7 I8 J9 R10 h => ?_)
      obtain ⟨r11, rfl, h⟩ := h
      show AW Γ 0 0 C7 I8 J9 R10 (212 + 3) [(0, aR (some x0)), (1, aI x1), (2, aI x2), (3, aI x3), (4, aI x4), (5, aI x5), (8, aI x8)] [aI r11, aI x8, aR (R x0 37)]
      refine aw_if_eq G0 228 dX2_best_215 (by decide) (fun c12 => ?_) (fun c12 => ?_)
      · have h := h.1 c12
        exact (w228 x0 x1 x2 x3 x4 x5 x8 (R x0 37) x8 C7 I8 J9 R10 h)
      · have h := h.2 c12
        refine aw_aload_n G0 0 rfl dX2_best_218 ?_
        obtain ⟨k13, h⟩ := h
        refine aw_getR (f := 15) G0 (by rw [k13]; exact fb_X2_48) dX2_best_219 ?_
        refine aw_iload G0 6 rfl dX2_best_222 ?_
        obtain ⟨q14, e14, h⟩ := h
        refine aw_dr1 e14 ?_
        obtain ⟨k15, h⟩ := h
        obtain ⟨k16, h⟩ := h
        refine aw_iald G0 (Or.inl k15) k16 dX2_best_224 ?_
        refine aw_goto G0 229 dX2_best_225 (by decide) ?_
        exact (w229 x0 x1 x2 x3 x4 x5 x8 (R x0 37) x8 (I8 q14 x8.toNatClampNeg) C7 I8 J9 R10 h)
theorem bX2_best_228 (G : Gb Γ yX2_best cX2_best 9 (some .int) [] rmX2_best bdX2_best)
    {Q229 : Nat → Int32 → Int32 → Int32 → Int32 → Int32 → Int32 → Option Nat → Int32 → Int32 → MC → MI → MJ → MR → Prop} (w229 : ∀ (x0 : Nat) (x1 : Int32) (x2 : Int32) (x3 : Int32) (x4 : Int32) (x5 : Int32) (x8 : Int32) (s0 : Option Nat) (s1 : Int32) (s2 : Int32) (C : MC) (I : MI) (J : MJ) (R : MR), Q229 x0 x1 x2 x3 x4 x5 x8 s0 s1 s2 C I J R → AW Γ 0 0 C I J R 229 [(0, aR (some x0)), (1, aI x1), (2, aI x2), (3, aI x3), (4, aI x4), (5, aI x5), (8, aI x8)] [aI s2, aI s1, aR s0]) {x0 : Nat} {x1 : Int32} {x2 : Int32} {x3 : Int32} {x4 : Int32} {x5 : Int32} {x8 : Int32} {s0 : Option Nat} {s1 : Int32}
    (h : Q229 x0 x1 x2 x3 x4 x5 x8 s0 s1 (-1 : Int32) C I J R) :
    AW Γ 0 0 C I J R 228 [(0, aR (some x0)), (1, aI x1), (2, aI x2), (3, aI x3), (4, aI x4), (5, aI x5), (8, aI x8)] [aI s1, aR s0] := by
  have G0 := G.1
  refine aw_iconst (v := (-1 : Int32)) G0 dX2_best_228 (by decide) ?_
  exact (w229 x0 x1 x2 x3 x4 x5 x8 s0 s1 (-1 : Int32) C I J R h)
theorem bX2_best_229 (G : Gb Γ yX2_best cX2_best 9 (some .int) [] rmX2_best bdX2_best)
    {Q183 : Nat → Int32 → Int32 → Int32 → Int32 → Int32 → Int32 → MC → MI → MJ → MR → Prop} (w183 : ∀ (x0 : Nat) (x1 : Int32) (x2 : Int32) (x3 : Int32) (x4 : Int32) (x5 : Int32) (x8 : Int32) (C : MC) (I : MI) (J : MJ) (R : MR), Q183 x0 x1 x2 x3 x4 x5 x8 C I J R → AW Γ 0 0 C I J R 183 [(0, aR (some x0)), (1, aI x1), (2, aI x2), (3, aI x3), (4, aI x4), (5, aI x5), (8, aI x8)] []) {x0 : Nat} {x1 : Int32} {x2 : Int32} {x3 : Int32} {x4 : Int32} {x5 : Int32} {x8 : Int32} {s0 : Option Nat} {s1 : Int32} {s2 : Int32}
    (h : ∃ q1 : Nat, s0 = some q1 ∧
      (C q1).1 = 20 ∧
      vp_in s1 (C q1).2 ∧
      ∀ I4 : MI, I4 = va_up I q1 (va_up (I q1) s1.toNatClampNeg s2) →
      Q183 x0 x1 x2 x3 x4 x5 (x8 + 1) C I4 J R) :
    AW Γ 0 0 C I J R 229 [(0, aR (some x0)), (1, aI x1), (2, aI x2), (3, aI x3), (4, aI x4), (5, aI x5), (8, aI x8)] [aI s2, aI s1, aR s0] := by
  have G0 := G.1
  obtain ⟨q1, e1, h⟩ := h
  refine aw_dr2 e1 ?_
  obtain ⟨k2, h⟩ := h
  obtain ⟨k3, h⟩ := h
  refine aw_iast G0 k2 k3 dX2_best_229 ?_
  generalize gI4 : va_up I q1 (va_up (I q1) s1.toNatClampNeg s2) = I4
  have h := h I4 gI4.symm
  refine aw_iinc (v := x8 + 1) (lv' := [(8, aI (x8 + 1)), (0, aR (some x0)), (1, aI x1), (2, aI x2), (3, aI x3), (4, aI x4), (5, aI x5)]) G0 6 rfl rfl (by decide) rfl dX2_best_230 ?_
  refine aw_goto G0 183 dX2_best_233 (by decide) ?_
  exact (aw_lv [1, 2, 3, 4, 5, 6, 0] rfl (w183 x0 x1 x2 x3 x4 x5 (x8 + 1) C I4 J R h))
theorem bX2_best_236 (G : Gb Γ yX2_best cX2_best 9 (some .int) [] rmX2_best bdX2_best) {F_X2_next : SPF} (S_X2_next : SpX2_next (gL Γ) F_X2_next)
    {Q43 : Nat → Int32 → Int32 → Int32 → Int32 → Int32 → Int32 → MC → MI → MJ → MR → Prop} (w43 : ∀ (x0 : Nat) (x1 : Int32) (x2 : Int32) (x3 : Int32) (x4 : Int32) (x5 : Int32) (x6 : Int32) (C : MC) (I : MI) (J : MJ) (R : MR), Q43 x0 x1 x2 x3 x4 x5 x6 C I J R → AW Γ 0 0 C I J R 43 [(0, aR (some x0)), (1, aI x1), (2, aI x2), (3, aI x3), (4, aI x4), (5, aI x5), (6, aI x6)] []) {x0 : Nat} {x1 : Int32} {x2 : Int32} {x3 : Int32} {x4 : Int32} {x5 : Int32}
    (h : (C x0).1 = 3 ∧
      F_X2_next [aR (some x0), aI x1] C I J R (fun o C2 I3 J4 R5 =>
      ∃ r6 : Int32, o = .inl (some (aI r6)) ∧
      Q43 x0 x1 x2 x3 x4 x5 r6 C2 I3 J4 R5)) :
    AW Γ 0 0 C I J R 236 [(0, aR (some x0)), (1, aI x1), (2, aI x2), (3, aI x3), (4, aI x4), (5, aI x5)] [] := by
  have G0 := G.1
  refine aw_aload_n G0 0 rfl dX2_best_236 ?_
  refine aw_iload_n G0 1 rfl dX2_best_237 ?_
  obtain ⟨k1, h⟩ := h
  refine aw_callV (k1 := 0) (n1 := 0) (k2 := 0) (n2 := 0) (st := []) G0 S_X2_next gi_X2_279 (Or.inl (by rw [k1]; decide)) (by rw [k1]; rfl) md_X2_next (Nat.le_of_ble_eq_true rfl) (by decide) (by rw [G.2.1]; decide) (by rw [G.2.1]; decide) [aI x1] rfl rfl dX2_best_238 h (fun o C2 I3 J4 R5 h => ?_)
  obtain ⟨r6, rfl, h⟩ := h
  show AW Γ 0 0 C2 I3 J4 R5 (238 + 3) [(0, aR (some x0)), (1, aI x1), (2, aI x2), (3, aI x3), (4, aI x4), (5, aI x5)] [aI r6]
  refine aw_istore (lv' := [(6, aI r6), (0, aR (some x0)), (1, aI x1), (2, aI x2), (3, aI x3), (4, aI x4), (5, aI x5)]) G0 (by decide) rfl dX2_best_241 ?_
  refine aw_goto G0 43 dX2_best_243 (by decide) ?_
  exact (aw_lv [1, 2, 3, 4, 5, 6, 0] rfl (w43 x0 x1 x2 x3 x4 x5 r6 C2 I3 J4 R5 h))
theorem bX2_best_271 (G : Gb Γ yX2_best cX2_best 9 (some .int) [] rmX2_best bdX2_best)
    {Q271 : Nat → Int32 → Int32 → MC → MI → MJ → MR → Prop} (w271 : ∀ (x0 : Nat) (x5 : Int32) (x7 : Int32) (C : MC) (I : MI) (J : MJ) (R : MR), Q271 x0 x5 x7 C I J R → AW Γ 0 0 C I J R 271 [(0, aR (some x0)), (5, aI x5), (7, aI x7)] []) {x0 : Nat} {x5 : Int32} {x7 : Int32}
    (h : (C x0).1 = 3 ∧
      (((I x0 6) ≤ x7 →
      ∀ I3 : MI, I3 = va_up I x0 (va_up (I x0) 0 (0 : Int32)) →
      gK Γ (.inl (some (aI x5))) C I3 J R) ∧
      (¬ (I x0 6) ≤ x7 →
      ∃ q4 : Nat, R x0 37 = some q4 ∧
      (C q4).1 = 20 ∧
      vp_in x7 (C q4).2 ∧
      ∃ q7 : Nat, R x0 17 = some q7 ∧
      (C q7).1 = 20 ∧
      vp_in x7 (C q7).2 ∧
      ∀ I10 : MI, I10 = va_up I q7 (va_up (I q7) x7.toNatClampNeg (I q4 x7.toNatClampNeg)) →
      Q271 x0 x5 (x7 + 1) C I10 J R))) :
    AW Γ 0 0 C I J R 271 [(0, aR (some x0)), (5, aI x5), (7, aI x7)] [] := by
  have G0 := G.1
  refine aw_iload G0 2 rfl dX2_best_271 ?_
  refine aw_aload_n G0 0 rfl dX2_best_273 ?_
  obtain ⟨k1, h⟩ := h
  refine aw_getI (f := 6) G0 (by rw [k1]; exact fb_X2_136) dX2_best_274 ?_
  refine aw_icmp_ge G0 300 dX2_best_277 (by decide) (fun c2 => ?_) (fun c2 => ?_)
  · have h := h.1 c2
    refine aw_aload_n G0 0 rfl dX2_best_300 ?_
    refine aw_iconst (v := (0 : Int32)) G0 dX2_best_301 (by decide) ?_
    refine aw_putI (f := 0) G0 (by rw [k1]; exact fp_X2_112 _) dX2_best_302 ?_
    generalize gI3 : va_up I x0 (va_up (I x0) 0 (0 : Int32)) = I3
    have h := h I3 gI3.symm
    refine aw_iload G0 1 rfl dX2_best_305 ?_
    exact aw_ireturn G0 (Or.inl rfl) (by rw [G.2.2]; decide) (by rw [G.2.1]; decide) dX2_best_307 h
  · have h := h.2 c2
    refine aw_aload_n G0 0 rfl dX2_best_280 ?_
    refine aw_getR (f := 17) G0 (by rw [k1]; exact fb_X2_54) dX2_best_281 ?_
    refine aw_iload G0 2 rfl dX2_best_284 ?_
    refine aw_aload_n G0 0 rfl dX2_best_286 ?_
    refine aw_getR (f := 37) G0 (by rw [k1]; exact fb_X2_109) dX2_best_287 ?_
    refine aw_iload G0 2 rfl dX2_best_290 ?_
    obtain ⟨q4, e4, h⟩ := h
    refine aw_dr1 e4 ?_
    obtain ⟨k5, h⟩ := h
    obtain ⟨k6, h⟩ := h
    refine aw_iald G0 (Or.inl k5) k6 dX2_best_292 ?_
    obtain ⟨q7, e7, h⟩ := h
    refine aw_dr2 e7 ?_
    obtain ⟨k8, h⟩ := h
    obtain ⟨k9, h⟩ := h
    refine aw_iast G0 k8 k9 dX2_best_293 ?_
    generalize gI10 : va_up I q7 (va_up (I q7) x7.toNatClampNeg (I q4 x7.toNatClampNeg)) = I10
    have h := h I10 gI10.symm
    refine aw_iinc (v := x7 + 1) (lv' := [(7, aI (x7 + 1)), (0, aR (some x0)), (5, aI x5)]) G0 2 rfl rfl (by decide) rfl dX2_best_294 ?_
    refine aw_goto G0 271 dX2_best_297 (by decide) ?_
    exact (aw_lv [1, 2, 0] rfl (w271 x0 x5 (x7 + 1) C I10 J R h))
theorem bX2_next_0 (G : Gb Γ yX2_next cX2_next 3 (some .boolean) [] rmX2_next bdX2_next)
    {Q7 : Nat → Int32 → Int32 → MC → MI → MJ → MR → Prop} (w7 : ∀ (x0 : Nat) (x1 : Int32) (x2 : Int32) (C : MC) (I : MI) (J : MJ) (R : MR), Q7 x0 x1 x2 C I J R → AW Γ 0 0 C I J R 7 [(0, aR (some x0)), (1, aI x1), (2, aI x2)] []) {x0 : Nat} {x1 : Int32}
    (h : (C x0).1 = 3 ∧
      Q7 x0 x1 ((I x0 6) - (1 : Int32)) C I J R) :
    AW Γ 0 0 C I J R 0 [(0, aR (some x0)), (1, aI x1)] [] := by
  have G0 := G.1
  refine aw_aload_n G0 0 rfl dX2_next_0 ?_
  obtain ⟨k1, h⟩ := h
  refine aw_getI (f := 6) G0 (by rw [k1]; exact fb_X2_136) dX2_next_1 ?_
  refine aw_iconst (v := (1 : Int32)) G0 dX2_next_4 (by decide) ?_
  refine aw_isub G0 dX2_next_5 ?_
  refine aw_istore_n (lv' := [(2, aI ((I x0 6) - (1 : Int32))), (0, aR (some x0)), (1, aI x1)]) G0 (by decide) rfl dX2_next_6 ?_
  exact (aw_lv [1, 2, 0] rfl (w7 x0 x1 ((I x0 6) - (1 : Int32)) C I J R h))
theorem bX2_next_7 (G : Gb Γ yX2_next cX2_next 3 (some .boolean) [] rmX2_next bdX2_next) {F_X2_has : SPF} (S_X2_has : SpX2_has (gL Γ) F_X2_has)
    {Q66 : Nat → Int32 → Int32 → MC → MI → MJ → MR → Prop} (w66 : ∀ (x0 : Nat) (x1 : Int32) (x2 : Int32) (C : MC) (I : MI) (J : MJ) (R : MR), Q66 x0 x1 x2 C I J R → AW Γ 0 0 C I J R 66 [(0, aR (some x0)), (1, aI x1), (2, aI x2)] []) {x0 : Nat} {x1 : Int32} {x2 : Int32}
    (h : ((x2 < 0 →
      gK Γ (.inl (some (aI (0 : Int32)))) C I J R) ∧
      (¬ x2 < 0 →
      (C x0).1 = 3 ∧
      ∃ q3 : Nat, R x0 7 = some q3 ∧
      (C q3).1 = 20 ∧
      vp_in x2 (C q3).2 ∧
      ((¬ (I q3 x2.toNatClampNeg) = 0 →
      Q66 x0 x1 x2 C I J R) ∧
      ((I q3 x2.toNatClampNeg) = 0 →
      F_X2_has [aR (some x0), aI x1, aI x2] C I J R (fun o C7 I8 J9 R10 =>
      ∃ r11 : Int32, o = .inl (some (aI r11)) ∧
      ((¬ r11 = 0 →
      (C7 x0).1 = 3 ∧
      ∃ q14 : Nat, R10 x0 15 = some q14 ∧
      (C7 q14).1 = 20 ∧
      vp_in x2 (C7 q14).2 ∧
      ∀ I17 : MI, I17 = va_up I8 q14 (va_up (I8 q14) x2.toNatClampNeg ((I8 q14 x2.toNatClampNeg) + (1 : Int32))) →
      ∃ q18 : Nat, R10 x0 12 = some q18 ∧
      (C7 q18).1 = 20 ∧
      vp_in x2 (C7 q18).2 ∧
      (((I17 q18 x2.toNatClampNeg) ≤ (I17 q14 x2.toNatClampNeg) →
      ∀ I22 : MI, I22 = va_up I17 q14 (va_up (I17 q14) x2.toNatClampNeg (0 : Int32)) →
      Q66 x0 x1 x2 C7 I22 J9 R10) ∧
      (¬ (I17 q18 x2.toNatClampNeg) ≤ (I17 q14 x2.toNatClampNeg) →
      gK Γ (.inl (some (aI (1 : Int32)))) C7 I17 J9 R10))) ∧
      (r11 = 0 →
      Q66 x0 x1 x2 C7 I8 J9 R10)))))))) :
    AW Γ 0 0 C I J R 7 [(0, aR (some x0)), (1, aI x1), (2, aI x2)] [] := by
  have G0 := G.1
  refine aw_iload_n G0 2 rfl dX2_next_7 ?_
  refine aw_if_lt G0 72 dX2_next_8 (by decide) (fun c1 => ?_) (fun c1 => ?_)
  · have h := h.1 c1
    refine aw_iconst (v := (0 : Int32)) G0 dX2_next_72 (by decide) ?_
    exact aw_ireturn G0 (Or.inr ⟨rfl, by decide⟩) (by rw [G.2.2]; decide) (by rw [G.2.1]; decide) dX2_next_73 h
  · have h := h.2 c1
    refine aw_aload_n G0 0 rfl dX2_next_11 ?_
    obtain ⟨k2, h⟩ := h
    refine aw_getR (f := 7) G0 (by rw [k2]; exact fb_X2_24) dX2_next_12 ?_
    refine aw_iload_n G0 2 rfl dX2_next_15 ?_
    obtain ⟨q3, e3, h⟩ := h
    refine aw_dr1 e3 ?_
    obtain ⟨k4, h⟩ := h
    obtain ⟨k5, h⟩ := h
    refine aw_iald G0 (Or.inl k4) k5 dX2_next_16 ?_
    refine aw_if_ne G0 66 dX2_next_17 (by decide) (fun c6 => ?_) (fun c6 => ?_)
    · have h := h.1 c6
      exact (w66 x0 x1 x2 C I J R h)
    · have h := h.2 c6
      refine aw_aload_n G0 0 rfl dX2_next_20 ?_
      refine aw_iload_n G0 1 rfl dX2_next_21 ?_
      refine aw_iload_n G0 2 rfl dX2_next_22 ?_
      refine aw_callV (k1 := 0) (n1 := 0) (k2 := 0) (n2 := 0) (st := []) G0 S_X2_has gi_X2_226 (Or.inl (by rw [k2]; decide)) (by rw [k2]; rfl) md_X2_has (Nat.le_of_ble_eq_true rfl) (by decide) (by rw [G.2.1]; decide) (by rw [G.2.1]; decide) [aI x1, aI x2] rfl rfl dX2_next_23 h (fun o C7 I8 J9 R10 h => ?_)
      obtain ⟨r11, rfl, h⟩ := h
      show AW Γ 0 0 C7 I8 J9 R10 (23 + 3) [(0, aR (some x0)), (1, aI x1), (2, aI x2)] [aI r11]
      refine aw_if_ne G0 32 dX2_next_26 (by decide) (fun c12 => ?_) (fun c12 => ?_)
      · have h := h.1 c12
        refine aw_aload_n G0 0 rfl dX2_next_32 ?_
        obtain ⟨k13, h⟩ := h
        refine aw_getR (f := 15) G0 (by rw [k13]; exact fb_X2_48) dX2_next_33 ?_
        refine aw_iload_n G0 2 rfl dX2_next_36 ?_
        refine aw_dup2IR G0 dX2_next_37 ?_
        obtain ⟨q14, e14, h⟩ := h
        refine aw_dr1 e14 ?_
        obtain ⟨k15, h⟩ := h
        obtain ⟨k16, h⟩ := h
        refine aw_iald G0 (Or.inl k15) k16 dX2_next_38 ?_
        refine aw_iconst (v := (1 : Int32)) G0 dX2_next_39 (by decide) ?_
        refine aw_iadd G0 dX2_next_40 ?_
        refine aw_dr2 e14 ?_
        refine aw_iast G0 k15 k16 dX2_next_41 ?_
        generalize gI17 : va_up I8 q14 (va_up (I8 q14) x2.toNatClampNeg ((I8 q14 x2.toNatClampNeg) + (1 : Int32))) = I17
        have h := h I17 gI17.symm
        refine aw_aload_n G0 0 rfl dX2_next_42 ?_
        refine aw_getR (f := 15) G0 (by rw [k13]; exact fb_X2_48) dX2_next_43 ?_
        refine aw_iload_n G0 2 rfl dX2_next_46 ?_
        refine aw_dr1 e14 ?_
        refine aw_iald G0 (Or.inl k15) k16 dX2_next_47 ?_
        refine aw_aload_n G0 0 rfl dX2_next_48 ?_
        refine aw_getR (f := 12) G0 (by rw [k13]; exact fb_X2_39) dX2_next_49 ?_
        refine aw_iload_n G0 2 rfl dX2_next_52 ?_
        obtain ⟨q18, e18, h⟩ := h
        refine aw_dr1 e18 ?_
        obtain ⟨k19, h⟩ := h
        obtain ⟨k20, h⟩ := h
        refine aw_iald G0 (Or.inl k19) k20 dX2_next_53 ?_
        refine aw_icmp_ge G0 59 dX2_next_54 (by decide) (fun c21 => ?_) (fun c21 => ?_)
        · have h := h.1 c21
          refine aw_aload_n G0 0 rfl dX2_next_59 ?_
          refine aw_getR (f := 15) G0 (by rw [k13]; exact fb_X2_48) dX2_next_60 ?_
          refine aw_iload_n G0 2 rfl dX2_next_63 ?_
          refine aw_iconst (v := (0 : Int32)) G0 dX2_next_64 (by decide) ?_
          refine aw_dr2 e14 ?_
          refine aw_iast G0 k15 k16 dX2_next_65 ?_
          generalize gI22 : va_up I17 q14 (va_up (I17 q14) x2.toNatClampNeg (0 : Int32)) = I22
          have h := h I22 gI22.symm
          exact (w66 x0 x1 x2 C7 I22 J9 R10 h)
        · have h := h.2 c21
          refine aw_iconst (v := (1 : Int32)) G0 dX2_next_57 (by decide) ?_
          exact aw_ireturn G0 (Or.inr ⟨rfl, by decide⟩) (by rw [G.2.2]; decide) (by rw [G.2.1]; decide) dX2_next_58 h
      · have h := h.2 c12
        refine aw_goto G0 66 dX2_next_29 (by decide) ?_
        exact (w66 x0 x1 x2 C7 I8 J9 R10 h)
theorem bX2_next_66 (G : Gb Γ yX2_next cX2_next 3 (some .boolean) [] rmX2_next bdX2_next)
    {Q7 : Nat → Int32 → Int32 → MC → MI → MJ → MR → Prop} (w7 : ∀ (x0 : Nat) (x1 : Int32) (x2 : Int32) (C : MC) (I : MI) (J : MJ) (R : MR), Q7 x0 x1 x2 C I J R → AW Γ 0 0 C I J R 7 [(0, aR (some x0)), (1, aI x1), (2, aI x2)] []) {x0 : Nat} {x1 : Int32} {x2 : Int32}
    (h : Q7 x0 x1 (x2 + (-1)) C I J R) :
    AW Γ 0 0 C I J R 66 [(0, aR (some x0)), (1, aI x1), (2, aI x2)] [] := by
  have G0 := G.1
  refine aw_iinc (v := x2 + (-1)) (lv' := [(2, aI (x2 + (-1))), (0, aR (some x0)), (1, aI x1)]) G0 2 rfl (congrArg (fun w9 => x2 + w9) (show Int32.ofInt (-1) = (-1) by decide)) (by decide) rfl dX2_next_66 ?_
  refine aw_goto G0 7 dX2_next_69 (by decide) ?_
  exact (aw_lv [1, 2, 0] rfl (w7 x0 x1 (x2 + (-1)) C I J R h))
theorem bX2_chosen_0 (G : Gb Γ yX2_chosen cX2_chosen 2 (some .int) [] rmX2_chosen bdX2_chosen) {F_X2_isLeaf : SPF} (S_X2_isLeaf : SpX2_isLeaf (gL Γ) F_X2_isLeaf) {F_X2_refuse : SPF} (S_X2_refuse : SpX2_refuse (gL Γ) F_X2_refuse) {x0 : Nat} {x1 : Int32}
    (h : (C x0).1 = 3 ∧
      F_X2_isLeaf [aR (some x0), aI x1] C I J R (fun o C2 I3 J4 R5 =>
      ∃ r6 : Int32, o = .inl (some (aI r6)) ∧
      ((¬ r6 = 0 →
      (C2 x0).1 = 3 ∧
      (((I3 x0 21) = 0 →
      F_X2_refuse [aR (some x0), aI (6 : Int32)] C2 I3 J4 R5 (fun o C10 I11 J12 R13 =>
      ∃ r14 : Int32, o = .inl (some (aI r14)) ∧
      gK Γ (.inl (some (aI r14))) C10 I11 J12 R13)) ∧
      (¬ (I3 x0 21) = 0 →
      ∃ q15 : Nat, R5 x0 17 = some q15 ∧
      (C2 q15).1 = 20 ∧
      vp_in x1 (C2 q15).2 ∧
      ((¬ (I3 q15 x1.toNatClampNeg) = (-1 : Int32) →
      ∀ I19 : MI, I19 = va_up I3 x0 (va_up (I3 x0) 0 (0 : Int32)) →
      gK Γ (.inl (some (aI (I19 q15 x1.toNatClampNeg)))) C2 I19 J4 R5) ∧
      ((I3 q15 x1.toNatClampNeg) = (-1 : Int32) →
      F_X2_refuse [aR (some x0), aI (6 : Int32)] C2 I3 J4 R5 (fun o C20 I21 J22 R23 =>
      ∃ r24 : Int32, o = .inl (some (aI r24)) ∧
      gK Γ (.inl (some (aI r24))) C20 I21 J22 R23)))))) ∧
      (r6 = 0 →
      (C2 x0).1 = 3 ∧
      F_X2_refuse [aR (some x0), aI (1 : Int32)] C2 I3 J4 R5 (fun o C26 I27 J28 R29 =>
      ∃ r30 : Int32, o = .inl (some (aI r30)) ∧
      gK Γ (.inl (some (aI r30))) C26 I27 J28 R29))))) :
    AW Γ 0 0 C I J R 0 [(0, aR (some x0)), (1, aI x1)] [] := by
  have G0 := G.1
  refine aw_aload_n G0 0 rfl dX2_chosen_0 ?_
  refine aw_iload_n G0 1 rfl dX2_chosen_1 ?_
  obtain ⟨k1, h⟩ := h
  refine aw_callV (k1 := 0) (n1 := 0) (k2 := 0) (n2 := 0) (st := []) G0 S_X2_isLeaf gi_X2_270 (Or.inl (by rw [k1]; decide)) (by rw [k1]; rfl) md_X2_isLeaf (Nat.le_of_ble_eq_true rfl) (by decide) (by rw [G.2.1]; decide) (by rw [G.2.1]; decide) [aI x1] rfl rfl dX2_chosen_2 h (fun o C2 I3 J4 R5 h => ?_)
  obtain ⟨r6, rfl, h⟩ := h
  show AW Γ 0 0 C2 I3 J4 R5 (2 + 3) [(0, aR (some x0)), (1, aI x1)] [aI r6]
  refine aw_if_ne G0 14 dX2_chosen_5 (by decide) (fun c7 => ?_) (fun c7 => ?_)
  · have h := h.1 c7
    refine aw_aload_n G0 0 rfl dX2_chosen_14 ?_
    obtain ⟨k8, h⟩ := h
    refine aw_getZ (f := 21) G0 (by rw [k8]; exact fb_X2_282) dX2_chosen_15 ?_
    refine aw_if_eq G0 31 dX2_chosen_18 (by decide) (fun c9 => ?_) (fun c9 => ?_)
    · have h := h.1 c9
      refine aw_aload_n G0 0 rfl dX2_chosen_31 ?_
      refine aw_bipush (v := (6 : Int32)) G0 dX2_chosen_32 (by decide) ?_
      refine aw_callV (k1 := 0) (n1 := 0) (k2 := 0) (n2 := 0) (st := []) G0 S_X2_refuse gi_X2_147 (Or.inl (by rw [k8]; decide)) (by rw [k8]; rfl) md_X2_refuse (Nat.le_of_ble_eq_true rfl) (by decide) (by rw [G.2.1]; decide) (by rw [G.2.1]; decide) [aI (6 : Int32)] rfl rfl dX2_chosen_34 h (fun o C10 I11 J12 R13 h => ?_)
      obtain ⟨r14, rfl, h⟩ := h
      show AW Γ 0 0 C10 I11 J12 R13 (34 + 3) [(0, aR (some x0)), (1, aI x1)] [aI r14]
      exact aw_ireturn G0 (Or.inl rfl) (by rw [G.2.2]; decide) (by rw [G.2.1]; decide) dX2_chosen_37 h
    · have h := h.2 c9
      refine aw_aload_n G0 0 rfl dX2_chosen_21 ?_
      refine aw_getR (f := 17) G0 (by rw [k8]; exact fb_X2_54) dX2_chosen_22 ?_
      refine aw_iload_n G0 1 rfl dX2_chosen_25 ?_
      obtain ⟨q15, e15, h⟩ := h
      refine aw_dr1 e15 ?_
      obtain ⟨k16, h⟩ := h
      obtain ⟨k17, h⟩ := h
      refine aw_iald G0 (Or.inl k16) k17 dX2_chosen_26 ?_
      refine aw_iconst (v := (-1 : Int32)) G0 dX2_chosen_27 (by decide) ?_
      refine aw_icmp_ne G0 38 dX2_chosen_28 (by decide) (fun c18 => ?_) (fun c18 => ?_)
      · have h := h.1 c18
        refine aw_aload_n G0 0 rfl dX2_chosen_38 ?_
        refine aw_iconst (v := (0 : Int32)) G0 dX2_chosen_39 (by decide) ?_
        refine aw_putI (f := 0) G0 (by rw [k8]; exact fp_X2_112 _) dX2_chosen_40 ?_
        generalize gI19 : va_up I3 x0 (va_up (I3 x0) 0 (0 : Int32)) = I19
        have h := h I19 gI19.symm
        refine aw_aload_n G0 0 rfl dX2_chosen_43 ?_
        refine aw_getR (f := 17) G0 (by rw [k8]; exact fb_X2_54) dX2_chosen_44 ?_
        refine aw_iload_n G0 1 rfl dX2_chosen_47 ?_
        refine aw_dr1 e15 ?_
        refine aw_iald G0 (Or.inl k16) k17 dX2_chosen_48 ?_
        exact aw_ireturn G0 (Or.inl rfl) (by rw [G.2.2]; decide) (by rw [G.2.1]; decide) dX2_chosen_49 h
      · have h := h.2 c18
        refine aw_aload_n G0 0 rfl dX2_chosen_31 ?_
        refine aw_bipush (v := (6 : Int32)) G0 dX2_chosen_32 (by decide) ?_
        refine aw_callV (k1 := 0) (n1 := 0) (k2 := 0) (n2 := 0) (st := []) G0 S_X2_refuse gi_X2_147 (Or.inl (by rw [k8]; decide)) (by rw [k8]; rfl) md_X2_refuse (Nat.le_of_ble_eq_true rfl) (by decide) (by rw [G.2.1]; decide) (by rw [G.2.1]; decide) [aI (6 : Int32)] rfl rfl dX2_chosen_34 h (fun o C20 I21 J22 R23 h => ?_)
        obtain ⟨r24, rfl, h⟩ := h
        show AW Γ 0 0 C20 I21 J22 R23 (34 + 3) [(0, aR (some x0)), (1, aI x1)] [aI r24]
        exact aw_ireturn G0 (Or.inl rfl) (by rw [G.2.2]; decide) (by rw [G.2.1]; decide) dX2_chosen_37 h
  · have h := h.2 c7
    refine aw_aload_n G0 0 rfl dX2_chosen_8 ?_
    refine aw_iconst (v := (1 : Int32)) G0 dX2_chosen_9 (by decide) ?_
    obtain ⟨k25, h⟩ := h
    refine aw_callV (k1 := 0) (n1 := 0) (k2 := 0) (n2 := 0) (st := []) G0 S_X2_refuse gi_X2_147 (Or.inl (by rw [k25]; decide)) (by rw [k25]; rfl) md_X2_refuse (Nat.le_of_ble_eq_true rfl) (by decide) (by rw [G.2.1]; decide) (by rw [G.2.1]; decide) [aI (1 : Int32)] rfl rfl dX2_chosen_10 h (fun o C26 I27 J28 R29 h => ?_)
    obtain ⟨r30, rfl, h⟩ := h
    show AW Γ 0 0 C26 I27 J28 R29 (10 + 3) [(0, aR (some x0)), (1, aI x1)] [aI r30]
    exact aw_ireturn G0 (Or.inl rfl) (by rw [G.2.2]; decide) (by rw [G.2.1]; decide) dX2_chosen_13 h
theorem bX2_part_0 (G : Gb Γ yX2_part cX2_part 3 (some .boolean) [] rmX2_part bdX2_part) {F_X2_isLeaf : SPF} (S_X2_isLeaf : SpX2_isLeaf (gL Γ) F_X2_isLeaf) {F_X2_is : SPF} (S_X2_is : SpX2_is (gL Γ) F_X2_is) {x0 : Nat} {x1 : Int32} {x2 : Int32}
    (h : (C x0).1 = 3 ∧
      F_X2_isLeaf [aR (some x0), aI x1] C I J R (fun o C2 I3 J4 R5 =>
      ∃ r6 : Int32, o = .inl (some (aI r6)) ∧
      ((r6 = 0 →
      (C2 x0).1 = 3 ∧
      F_X2_is [aR (some x0), aI (1 : Int32)] C2 I3 J4 R5 (fun o C9 I10 J11 R12 =>
      ∃ r13 : Int32, o = .inl (some (aI r13)) ∧
      (r13 = 0 ∨ r13 = 1) ∧ gK Γ (.inl (some (aI r13))) C9 I10 J11 R12)) ∧
      (¬ r6 = 0 →
      ((x2 < (-1 : Int32) →
      (C2 x0).1 = 3 ∧
      F_X2_is [aR (some x0), aI (1 : Int32)] C2 I3 J4 R5 (fun o C17 I18 J19 R20 =>
      ∃ r21 : Int32, o = .inl (some (aI r21)) ∧
      (r21 = 0 ∨ r21 = 1) ∧ gK Γ (.inl (some (aI r21))) C17 I18 J19 R20)) ∧
      (¬ x2 < (-1 : Int32) →
      ((x2 < (121 : Int32) →
      (C2 x0).1 = 3 ∧
      ∃ q25 : Nat, R5 x0 16 = some q25 ∧
      (C2 q25).1 = 20 ∧
      vp_in x1 (C2 q25).2 ∧
      ∀ I28 : MI, I28 = va_up I3 q25 (va_up (I3 q25) x1.toNatClampNeg x2) →
      F_X2_is [aR (some x0), aI (0 : Int32)] C2 I28 J4 R5 (fun o C29 I30 J31 R32 =>
      ∃ r33 : Int32, o = .inl (some (aI r33)) ∧
      (r33 = 0 ∨ r33 = 1) ∧ gK Γ (.inl (some (aI r33))) C29 I30 J31 R32)) ∧
      (¬ x2 < (121 : Int32) →
      (C2 x0).1 = 3 ∧
      F_X2_is [aR (some x0), aI (1 : Int32)] C2 I3 J4 R5 (fun o C36 I37 J38 R39 =>
      ∃ r40 : Int32, o = .inl (some (aI r40)) ∧
      (r40 = 0 ∨ r40 = 1) ∧ gK Γ (.inl (some (aI r40))) C36 I37 J38 R39))))))))) :
    AW Γ 0 0 C I J R 0 [(0, aR (some x0)), (1, aI x1), (2, aI x2)] [] := by
  have G0 := G.1
  refine aw_aload_n G0 0 rfl dX2_part_0 ?_
  refine aw_iload_n G0 1 rfl dX2_part_1 ?_
  obtain ⟨k1, h⟩ := h
  refine aw_callV (k1 := 0) (n1 := 0) (k2 := 0) (n2 := 0) (st := []) G0 S_X2_isLeaf gi_X2_270 (Or.inl (by rw [k1]; decide)) (by rw [k1]; rfl) md_X2_isLeaf (Nat.le_of_ble_eq_true rfl) (by decide) (by rw [G.2.1]; decide) (by rw [G.2.1]; decide) [aI x1] rfl rfl dX2_part_2 h (fun o C2 I3 J4 R5 h => ?_)
  obtain ⟨r6, rfl, h⟩ := h
  show AW Γ 0 0 C2 I3 J4 R5 (2 + 3) [(0, aR (some x0)), (1, aI x1), (2, aI x2)] [aI r6]
  refine aw_if_eq G0 19 dX2_part_5 (by decide) (fun c7 => ?_) (fun c7 => ?_)
  · have h := h.1 c7
    refine aw_aload_n G0 0 rfl dX2_part_19 ?_
    refine aw_iconst (v := (1 : Int32)) G0 dX2_part_20 (by decide) ?_
    obtain ⟨k8, h⟩ := h
    refine aw_callV (k1 := 0) (n1 := 0) (k2 := 0) (n2 := 0) (st := []) G0 S_X2_is gi_X2_123 (Or.inl (by rw [k8]; decide)) (by rw [k8]; rfl) md_X2_is (Nat.le_of_ble_eq_true rfl) (by decide) (by rw [G.2.1]; decide) (by rw [G.2.1]; decide) [aI (1 : Int32)] rfl rfl dX2_part_21 h (fun o C9 I10 J11 R12 h => ?_)
    obtain ⟨r13, rfl, h⟩ := h
    show AW Γ 0 0 C9 I10 J11 R12 (21 + 3) [(0, aR (some x0)), (1, aI x1), (2, aI x2)] [aI r13]
    obtain ⟨k14, h⟩ := h
    exact aw_ireturn G0 (Or.inr ⟨rfl, k14⟩) (by rw [G.2.2]; decide) (by rw [G.2.1]; decide) dX2_part_24 h
  · have h := h.2 c7
    refine aw_iload_n G0 2 rfl dX2_part_8 ?_
    refine aw_iconst (v := (-1 : Int32)) G0 dX2_part_9 (by decide) ?_
    refine aw_icmp_lt G0 19 dX2_part_10 (by decide) (fun c15 => ?_) (fun c15 => ?_)
    · have h := h.1 c15
      refine aw_aload_n G0 0 rfl dX2_part_19 ?_
      refine aw_iconst (v := (1 : Int32)) G0 dX2_part_20 (by decide) ?_
      obtain ⟨k16, h⟩ := h
      refine aw_callV (k1 := 0) (n1 := 0) (k2 := 0) (n2 := 0) (st := []) G0 S_X2_is gi_X2_123 (Or.inl (by rw [k16]; decide)) (by rw [k16]; rfl) md_X2_is (Nat.le_of_ble_eq_true rfl) (by decide) (by rw [G.2.1]; decide) (by rw [G.2.1]; decide) [aI (1 : Int32)] rfl rfl dX2_part_21 h (fun o C17 I18 J19 R20 h => ?_)
      obtain ⟨r21, rfl, h⟩ := h
      show AW Γ 0 0 C17 I18 J19 R20 (21 + 3) [(0, aR (some x0)), (1, aI x1), (2, aI x2)] [aI r21]
      obtain ⟨k22, h⟩ := h
      exact aw_ireturn G0 (Or.inr ⟨rfl, k22⟩) (by rw [G.2.2]; decide) (by rw [G.2.1]; decide) dX2_part_24 h
    · have h := h.2 c15
      refine aw_iload_n G0 2 rfl dX2_part_13 ?_
      refine aw_bipush (v := (121 : Int32)) G0 dX2_part_14 (by decide) ?_
      refine aw_icmp_lt G0 25 dX2_part_16 (by decide) (fun c23 => ?_) (fun c23 => ?_)
      · have h := h.1 c23
        refine aw_aload_n G0 0 rfl dX2_part_25 ?_
        obtain ⟨k24, h⟩ := h
        refine aw_getR (f := 16) G0 (by rw [k24]; exact fb_X2_51) dX2_part_26 ?_
        refine aw_iload_n G0 1 rfl dX2_part_29 ?_
        refine aw_iload_n G0 2 rfl dX2_part_30 ?_
        obtain ⟨q25, e25, h⟩ := h
        refine aw_dr2 e25 ?_
        obtain ⟨k26, h⟩ := h
        obtain ⟨k27, h⟩ := h
        refine aw_iast G0 k26 k27 dX2_part_31 ?_
        generalize gI28 : va_up I3 q25 (va_up (I3 q25) x1.toNatClampNeg x2) = I28
        have h := h I28 gI28.symm
        refine aw_aload_n G0 0 rfl dX2_part_32 ?_
        refine aw_iconst (v := (0 : Int32)) G0 dX2_part_33 (by decide) ?_
        refine aw_callV (k1 := 0) (n1 := 0) (k2 := 0) (n2 := 0) (st := []) G0 S_X2_is gi_X2_123 (Or.inl (by rw [k24]; decide)) (by rw [k24]; rfl) md_X2_is (Nat.le_of_ble_eq_true rfl) (by decide) (by rw [G.2.1]; decide) (by rw [G.2.1]; decide) [aI (0 : Int32)] rfl rfl dX2_part_34 h (fun o C29 I30 J31 R32 h => ?_)
        obtain ⟨r33, rfl, h⟩ := h
        show AW Γ 0 0 C29 I30 J31 R32 (34 + 3) [(0, aR (some x0)), (1, aI x1), (2, aI x2)] [aI r33]
        obtain ⟨k34, h⟩ := h
        exact aw_ireturn G0 (Or.inr ⟨rfl, k34⟩) (by rw [G.2.2]; decide) (by rw [G.2.1]; decide) dX2_part_37 h
      · have h := h.2 c23
        refine aw_aload_n G0 0 rfl dX2_part_19 ?_
        refine aw_iconst (v := (1 : Int32)) G0 dX2_part_20 (by decide) ?_
        obtain ⟨k35, h⟩ := h
        refine aw_callV (k1 := 0) (n1 := 0) (k2 := 0) (n2 := 0) (st := []) G0 S_X2_is gi_X2_123 (Or.inl (by rw [k35]; decide)) (by rw [k35]; rfl) md_X2_is (Nat.le_of_ble_eq_true rfl) (by decide) (by rw [G.2.1]; decide) (by rw [G.2.1]; decide) [aI (1 : Int32)] rfl rfl dX2_part_21 h (fun o C36 I37 J38 R39 h => ?_)
        obtain ⟨r40, rfl, h⟩ := h
        show AW Γ 0 0 C36 I37 J38 R39 (21 + 3) [(0, aR (some x0)), (1, aI x1), (2, aI x2)] [aI r40]
        obtain ⟨k41, h⟩ := h
        exact aw_ireturn G0 (Or.inr ⟨rfl, k41⟩) (by rw [G.2.2]; decide) (by rw [G.2.1]; decide) dX2_part_24 h
theorem bX2_trace_0 (G : Gb Γ yX2_trace cX2_trace 11 (some .int) [] rmX2_trace bdX2_trace) {F_X2_isThing : SPF} (S_X2_isThing : SpX2_isThing (gL Γ) F_X2_isThing) {F_X2_refuse : SPF} (S_X2_refuse : SpX2_refuse (gL Γ) F_X2_refuse) {F_X2_isTray : SPF} (S_X2_isTray : SpX2_isTray (gL Γ) F_X2_isTray) {F_X2_leaves : SPF} (S_X2_leaves : SpX2_leaves (gL Γ) F_X2_leaves)
    {Q65 : Nat → Int32 → Int32 → Int32 → Int64 → Int32 → MC → MI → MJ → MR → Prop} (w65 : ∀ (x0 : Nat) (x1 : Int32) (x2 : Int32) (x3 : Int32) (x4 : Int64) (x6 : Int32) (C : MC) (I : MI) (J : MJ) (R : MR), Q65 x0 x1 x2 x3 x4 x6 C I J R → AW Γ 0 0 C I J R 65 [(0, aR (some x0)), (1, aI x1), (2, aI x2), (3, aI x3), (4, aJ x4), (6, aI x6)] []) {x0 : Nat} {x1 : Int32} {x2 : Int32}
    (h : (C x0).1 = 3 ∧
      F_X2_isThing [aR (some x0), aI x1] C I J R (fun o C2 I3 J4 R5 =>
      ∃ r6 : Int32, o = .inl (some (aI r6)) ∧
      ((r6 = 0 →
      (C2 x0).1 = 3 ∧
      F_X2_refuse [aR (some x0), aI (1 : Int32)] C2 I3 J4 R5 (fun o C9 I10 J11 R12 =>
      ∃ r13 : Int32, o = .inl (some (aI r13)) ∧
      gK Γ (.inl (some (aI r13))) C9 I10 J11 R12)) ∧
      (¬ r6 = 0 →
      F_X2_isTray [aI x2] C2 I3 J4 R5 (fun o C14 I15 J16 R17 =>
      ∃ r18 : Int32, o = .inl (some (aI r18)) ∧
      ((¬ r18 = 0 →
      (C14 x0).1 = 3 ∧
      ∃ q21 : Nat, R17 x0 4 = some q21 ∧
      (C14 q21).1 = 20 ∧
      vp_in x2 (C14 q21).2 ∧
      ((¬ (I15 q21 x2.toNatClampNeg) = (-1 : Int32) →
      F_X2_leaves [aR (some x0), aI x1] C14 I15 J16 R17 (fun o C25 I26 J27 R28 =>
      ∃ r29 : Int32, o = .inl (some (aI r29)) ∧
      (C25 x0).1 = 3 ∧
      ∃ q31 : Nat, R28 x0 4 = some q31 ∧
      (C25 q31).1 = 20 ∧
      vp_in x2 (C25 q31).2 ∧
      ((r29 ≤ (I26 q31 x2.toNatClampNeg) →
      Q65 x0 x1 x2 r29 (0 : Int64) (0 : Int32) C25 I26 J27 R28) ∧
      (¬ r29 ≤ (I26 q31 x2.toNatClampNeg) →
      F_X2_refuse [aR (some x0), aI (3 : Int32)] C25 I26 J27 R28 (fun o C35 I36 J37 R38 =>
      ∃ r39 : Int32, o = .inl (some (aI r39)) ∧
      gK Γ (.inl (some (aI r39))) C35 I36 J37 R38))))) ∧
      ((I15 q21 x2.toNatClampNeg) = (-1 : Int32) →
      F_X2_refuse [aR (some x0), aI (2 : Int32)] C14 I15 J16 R17 (fun o C40 I41 J42 R43 =>
      ∃ r44 : Int32, o = .inl (some (aI r44)) ∧
      gK Γ (.inl (some (aI r44))) C40 I41 J42 R43)))) ∧
      (r18 = 0 →
      (C14 x0).1 = 3 ∧
      F_X2_refuse [aR (some x0), aI (1 : Int32)] C14 I15 J16 R17 (fun o C46 I47 J48 R49 =>
      ∃ r50 : Int32, o = .inl (some (aI r50)) ∧
      gK Γ (.inl (some (aI r50))) C46 I47 J48 R49)))))))) :
    AW Γ 0 0 C I J R 0 [(0, aR (some x0)), (1, aI x1), (2, aI x2)] [] := by
  have G0 := G.1
  refine aw_aload_n G0 0 rfl dX2_trace_0 ?_
  refine aw_iload_n G0 1 rfl dX2_trace_1 ?_
  obtain ⟨k1, h⟩ := h
  refine aw_callV (k1 := 0) (n1 := 0) (k2 := 0) (n2 := 0) (st := []) G0 S_X2_isThing gi_X2_139 (Or.inl (by rw [k1]; decide)) (by rw [k1]; rfl) md_X2_isThing (Nat.le_of_ble_eq_true rfl) (by decide) (by rw [G.2.1]; decide) (by rw [G.2.1]; decide) [aI x1] rfl rfl dX2_trace_2 h (fun o C2 I3 J4 R5 h => ?_)
  obtain ⟨r6, rfl, h⟩ := h
  show AW Γ 0 0 C2 I3 J4 R5 (2 + 3) [(0, aR (some x0)), (1, aI x1), (2, aI x2)] [aI r6]
  refine aw_if_eq G0 15 dX2_trace_5 (by decide) (fun c7 => ?_) (fun c7 => ?_)
  · have h := h.1 c7
    refine aw_aload_n G0 0 rfl dX2_trace_15 ?_
    refine aw_iconst (v := (1 : Int32)) G0 dX2_trace_16 (by decide) ?_
    obtain ⟨k8, h⟩ := h
    refine aw_callV (k1 := 0) (n1 := 0) (k2 := 0) (n2 := 0) (st := []) G0 S_X2_refuse gi_X2_147 (Or.inl (by rw [k8]; decide)) (by rw [k8]; rfl) md_X2_refuse (Nat.le_of_ble_eq_true rfl) (by decide) (by rw [G.2.1]; decide) (by rw [G.2.1]; decide) [aI (1 : Int32)] rfl rfl dX2_trace_17 h (fun o C9 I10 J11 R12 h => ?_)
    obtain ⟨r13, rfl, h⟩ := h
    show AW Γ 0 0 C9 I10 J11 R12 (17 + 3) [(0, aR (some x0)), (1, aI x1), (2, aI x2)] [aI r13]
    exact aw_ireturn G0 (Or.inl rfl) (by rw [G.2.2]; decide) (by rw [G.2.1]; decide) dX2_trace_20 h
  · have h := h.2 c7
    refine aw_iload_n G0 2 rfl dX2_trace_8 ?_
    refine aw_callS (k1 := 0) (n1 := 0) (k2 := 0) (n2 := 0) (st := []) G0 S_X2_isTray gi_X2_119 md_X2_isTray (Nat.le_of_ble_eq_true rfl) (by decide) (by rw [G.2.1]; decide) (by rw [G.2.1]; decide) [aI x2] rfl rfl dX2_trace_9 h (fun o C14 I15 J16 R17 h => ?_)
    obtain ⟨r18, rfl, h⟩ := h
    show AW Γ 0 0 C14 I15 J16 R17 (9 + 3) [(0, aR (some x0)), (1, aI x1), (2, aI x2)] [aI r18]
    refine aw_if_ne G0 21 dX2_trace_12 (by decide) (fun c19 => ?_) (fun c19 => ?_)
    · have h := h.1 c19
      refine aw_aload_n G0 0 rfl dX2_trace_21 ?_
      obtain ⟨k20, h⟩ := h
      refine aw_getR (f := 4) G0 (by rw [k20]; exact fb_X2_17) dX2_trace_22 ?_
      refine aw_iload_n G0 2 rfl dX2_trace_25 ?_
      obtain ⟨q21, e21, h⟩ := h
      refine aw_dr1 e21 ?_
      obtain ⟨k22, h⟩ := h
      obtain ⟨k23, h⟩ := h
      refine aw_iald G0 (Or.inl k22) k23 dX2_trace_26 ?_
      refine aw_iconst (v := (-1 : Int32)) G0 dX2_trace_27 (by decide) ?_
      refine aw_icmp_ne G0 37 dX2_trace_28 (by decide) (fun c24 => ?_) (fun c24 => ?_)
      · have h := h.1 c24
        refine aw_aload_n G0 0 rfl dX2_trace_37 ?_
        refine aw_iload_n G0 1 rfl dX2_trace_38 ?_
        refine aw_callV (k1 := 0) (n1 := 0) (k2 := 0) (n2 := 0) (st := []) G0 S_X2_leaves gi_X2_233 (Or.inl (by rw [k20]; decide)) (by rw [k20]; rfl) md_X2_leaves (Nat.le_of_ble_eq_true rfl) (by decide) (by rw [G.2.1]; decide) (by rw [G.2.1]; decide) [aI x1] rfl rfl dX2_trace_39 h (fun o C25 I26 J27 R28 h => ?_)
        obtain ⟨r29, rfl, h⟩ := h
        show AW Γ 0 0 C25 I26 J27 R28 (39 + 3) [(0, aR (some x0)), (1, aI x1), (2, aI x2)] [aI r29]
        refine aw_istore_n (lv' := [(3, aI r29), (0, aR (some x0)), (1, aI x1), (2, aI x2)]) G0 (by decide) rfl dX2_trace_42 ?_
        refine aw_aload_n G0 1 rfl dX2_trace_43 ?_
        obtain ⟨k30, h⟩ := h
        refine aw_getR (f := 4) G0 (by rw [k30]; exact fb_X2_17) dX2_trace_44 ?_
        refine aw_iload_n G0 3 rfl dX2_trace_47 ?_
        obtain ⟨q31, e31, h⟩ := h
        refine aw_dr1 e31 ?_
        obtain ⟨k32, h⟩ := h
        obtain ⟨k33, h⟩ := h
        refine aw_iald G0 (Or.inl k32) k33 dX2_trace_48 ?_
        refine aw_iload_n G0 0 rfl dX2_trace_49 ?_
        refine aw_icmp_ge G0 59 dX2_trace_50 (by decide) (fun c34 => ?_) (fun c34 => ?_)
        · have h := h.1 c34
          refine aw_lconst (v := (0 : Int64)) G0 dX2_trace_59 (by decide) ?_
          refine aw_lstore (lv' := [(4, aJ (0 : Int64)), (3, aI r29), (0, aR (some x0)), (1, aI x1), (2, aI x2)]) G0 (by decide) rfl dX2_trace_60 ?_
          refine aw_iconst (v := (0 : Int32)) G0 dX2_trace_62 (by decide) ?_
          refine aw_istore (lv' := [(6, aI (0 : Int32)), (4, aJ (0 : Int64)), (3, aI r29), (0, aR (some x0)), (1, aI x1), (2, aI x2)]) G0 (by decide) rfl dX2_trace_63 ?_
          exact (aw_lv [3, 4, 5, 2, 1, 0] rfl (w65 x0 x1 x2 r29 (0 : Int64) (0 : Int32) C25 I26 J27 R28 h))
        · have h := h.2 c34
          refine aw_aload_n G0 1 rfl dX2_trace_53 ?_
          refine aw_iconst (v := (3 : Int32)) G0 dX2_trace_54 (by decide) ?_
          refine aw_callV (k1 := 0) (n1 := 0) (k2 := 0) (n2 := 0) (st := []) G0 S_X2_refuse gi_X2_147 (Or.inl (by rw [k30]; decide)) (by rw [k30]; rfl) md_X2_refuse (Nat.le_of_ble_eq_true rfl) (by decide) (by rw [G.2.1]; decide) (by rw [G.2.1]; decide) [aI (3 : Int32)] rfl rfl dX2_trace_55 h (fun o C35 I36 J37 R38 h => ?_)
          obtain ⟨r39, rfl, h⟩ := h
          show AW Γ 0 0 C35 I36 J37 R38 (55 + 3) [(3, aI r29), (0, aR (some x0)), (1, aI x1), (2, aI x2)] [aI r39]
          exact aw_ireturn G0 (Or.inl rfl) (by rw [G.2.2]; decide) (by rw [G.2.1]; decide) dX2_trace_58 h
      · have h := h.2 c24
        refine aw_aload_n G0 0 rfl dX2_trace_31 ?_
        refine aw_iconst (v := (2 : Int32)) G0 dX2_trace_32 (by decide) ?_
        refine aw_callV (k1 := 0) (n1 := 0) (k2 := 0) (n2 := 0) (st := []) G0 S_X2_refuse gi_X2_147 (Or.inl (by rw [k20]; decide)) (by rw [k20]; rfl) md_X2_refuse (Nat.le_of_ble_eq_true rfl) (by decide) (by rw [G.2.1]; decide) (by rw [G.2.1]; decide) [aI (2 : Int32)] rfl rfl dX2_trace_33 h (fun o C40 I41 J42 R43 h => ?_)
        obtain ⟨r44, rfl, h⟩ := h
        show AW Γ 0 0 C40 I41 J42 R43 (33 + 3) [(0, aR (some x0)), (1, aI x1), (2, aI x2)] [aI r44]
        exact aw_ireturn G0 (Or.inl rfl) (by rw [G.2.2]; decide) (by rw [G.2.1]; decide) dX2_trace_36 h
    · have h := h.2 c19
      refine aw_aload_n G0 0 rfl dX2_trace_15 ?_
      refine aw_iconst (v := (1 : Int32)) G0 dX2_trace_16 (by decide) ?_
      obtain ⟨k45, h⟩ := h
      refine aw_callV (k1 := 0) (n1 := 0) (k2 := 0) (n2 := 0) (st := []) G0 S_X2_refuse gi_X2_147 (Or.inl (by rw [k45]; decide)) (by rw [k45]; rfl) md_X2_refuse (Nat.le_of_ble_eq_true rfl) (by decide) (by rw [G.2.1]; decide) (by rw [G.2.1]; decide) [aI (1 : Int32)] rfl rfl dX2_trace_17 h (fun o C46 I47 J48 R49 h => ?_)
      obtain ⟨r50, rfl, h⟩ := h
      show AW Γ 0 0 C46 I47 J48 R49 (17 + 3) [(0, aR (some x0)), (1, aI x1), (2, aI x2)] [aI r50]
      exact aw_ireturn G0 (Or.inl rfl) (by rw [G.2.2]; decide) (by rw [G.2.1]; decide) dX2_trace_20 h
theorem bX2_trace_65 (G : Gb Γ yX2_trace cX2_trace 11 (some .int) [] rmX2_trace bdX2_trace) {F_X2_refuse : SPF} (S_X2_refuse : SpX2_refuse (gL Γ) F_X2_refuse)
    {Q65 : Nat → Int32 → Int32 → Int32 → Int64 → Int32 → MC → MI → MJ → MR → Prop} (w65 : ∀ (x0 : Nat) (x1 : Int32) (x2 : Int32) (x3 : Int32) (x4 : Int64) (x6 : Int32) (C : MC) (I : MI) (J : MJ) (R : MR), Q65 x0 x1 x2 x3 x4 x6 C I J R → AW Γ 0 0 C I J R 65 [(0, aR (some x0)), (1, aI x1), (2, aI x2), (3, aI x3), (4, aJ x4), (6, aI x6)] [])
    {Q126 : Nat → Int32 → Int32 → Int64 → Int64 → Int32 → MC → MI → MJ → MR → Prop} (w126 : ∀ (x0 : Nat) (x1 : Int32) (x2 : Int32) (x4 : Int64) (x6 : Int64) (x8 : Int32) (C : MC) (I : MI) (J : MJ) (R : MR), Q126 x0 x1 x2 x4 x6 x8 C I J R → AW Γ 0 0 C I J R 126 [(0, aR (some x0)), (1, aI x1), (2, aI x2), (4, aJ x4), (6, aJ x6), (8, aI x8)] []) {x0 : Nat} {x1 : Int32} {x2 : Int32} {x3 : Int32} {x4 : Int64} {x6 : Int32}
    (h : ((x3 ≤ x6 →
      Q126 x0 x1 x2 x4 (0 : Int64) (0 : Int32) C I J R) ∧
      (¬ x3 ≤ x6 →
      (C x0).1 = 3 ∧
      ∃ q3 : Nat, R x0 5 = some q3 ∧
      (C q3).1 = 21 ∧
      vp_in (((60 : Int32) * x2) + x6) (C q3).2 ∧
      (((J q3 (((60 : Int32) * x2) + x6).toNatClampNeg) < (0 : Int64) →
      F_X2_refuse [aR (some x0), aI (1 : Int32)] C I J R (fun o C7 I8 J9 R10 =>
      ∃ r11 : Int32, o = .inl (some (aI r11)) ∧
      gK Γ (.inl (some (aI r11))) C7 I8 J9 R10)) ∧
      (¬ (J q3 (((60 : Int32) * x2) + x6).toNatClampNeg) < (0 : Int64) →
      (((J q3 (((60 : Int32) * x2) + x6).toNatClampNeg) ≤ (1000 : Int64) →
      Q65 x0 x1 x2 x3 (x4 + (J q3 (((60 : Int32) * x2) + x6).toNatClampNeg)) (x6 + 1) C I J R) ∧
      (¬ (J q3 (((60 : Int32) * x2) + x6).toNatClampNeg) ≤ (1000 : Int64) →
      F_X2_refuse [aR (some x0), aI (1 : Int32)] C I J R (fun o C13 I14 J15 R16 =>
      ∃ r17 : Int32, o = .inl (some (aI r17)) ∧
      gK Γ (.inl (some (aI r17))) C13 I14 J15 R16)))))))) :
    AW Γ 0 0 C I J R 65 [(0, aR (some x0)), (1, aI x1), (2, aI x2), (3, aI x3), (4, aJ x4), (6, aI x6)] [] := by
  have G0 := G.1
  refine aw_iload G0 5 rfl dX2_trace_65 ?_
  refine aw_iload_n G0 3 rfl dX2_trace_67 ?_
  refine aw_icmp_ge G0 120 dX2_trace_68 (by decide) (fun c1 => ?_) (fun c1 => ?_)
  · have h := h.1 c1
    refine aw_lconst (v := (0 : Int64)) G0 dX2_trace_120 (by decide) ?_
    refine aw_lstore (lv' := [(6, aJ (0 : Int64)), (0, aR (some x0)), (1, aI x1), (2, aI x2), (3, aI x3), (4, aJ x4)]) G0 (by decide) rfl dX2_trace_121 ?_
    refine aw_iconst (v := (0 : Int32)) G0 dX2_trace_123 (by decide) ?_
    refine aw_istore (lv' := [(8, aI (0 : Int32)), (6, aJ (0 : Int64)), (0, aR (some x0)), (1, aI x1), (2, aI x2), (3, aI x3), (4, aJ x4)]) G0 (by decide) rfl dX2_trace_124 ?_
    exact (aw_lv [2, 3, 4, 6, 1, 0] rfl (w126 x0 x1 x2 x4 (0 : Int64) (0 : Int32) C I J R h))
  · have h := h.2 c1
    refine aw_aload_n G0 0 rfl dX2_trace_71 ?_
    obtain ⟨k2, h⟩ := h
    refine aw_getR (f := 5) G0 (by rw [k2]; exact fb_X2_20) dX2_trace_72 ?_
    refine aw_bipush (v := (60 : Int32)) G0 dX2_trace_75 (by decide) ?_
    refine aw_iload_n G0 2 rfl dX2_trace_77 ?_
    refine aw_imul G0 dX2_trace_78 ?_
    refine aw_iload G0 5 rfl dX2_trace_79 ?_
    refine aw_iadd G0 dX2_trace_81 ?_
    obtain ⟨q3, e3, h⟩ := h
    refine aw_dr1 e3 ?_
    obtain ⟨k4, h⟩ := h
    obtain ⟨k5, h⟩ := h
    refine aw_lald G0 k4 k5 dX2_trace_82 ?_
    refine aw_lstore (lv' := [(7, aJ (J q3 (((60 : Int32) * x2) + x6).toNatClampNeg)), (0, aR (some x0)), (1, aI x1), (2, aI x2), (3, aI x3), (4, aJ x4), (6, aI x6)]) G0 (by decide) rfl dX2_trace_83 ?_
    refine aw_lload G0 0 rfl dX2_trace_85 ?_
    refine aw_lconst (v := (0 : Int64)) G0 dX2_trace_87 (by decide) ?_
    refine aw_lif_lt G0 101 dX2_trace_88 dX2_trace_89 (by decide) (fun c6 => ?_) (fun c6 => ?_)
    · have h := h.1 c6
      refine aw_aload_n G0 1 rfl dX2_trace_101 ?_
      refine aw_iconst (v := (1 : Int32)) G0 dX2_trace_102 (by decide) ?_
      refine aw_callV (k1 := 0) (n1 := 0) (k2 := 0) (n2 := 0) (st := []) G0 S_X2_refuse gi_X2_147 (Or.inl (by rw [k2]; decide)) (by rw [k2]; rfl) md_X2_refuse (Nat.le_of_ble_eq_true rfl) (by decide) (by rw [G.2.1]; decide) (by rw [G.2.1]; decide) [aI (1 : Int32)] rfl rfl dX2_trace_103 h (fun o C7 I8 J9 R10 h => ?_)
      obtain ⟨r11, rfl, h⟩ := h
      show AW Γ 0 0 C7 I8 J9 R10 (103 + 3) [(7, aJ (J q3 (((60 : Int32) * x2) + x6).toNatClampNeg)), (0, aR (some x0)), (1, aI x1), (2, aI x2), (3, aI x3), (4, aJ x4), (6, aI x6)] [aI r11]
      exact aw_ireturn G0 (Or.inl rfl) (by rw [G.2.2]; decide) (by rw [G.2.1]; decide) dX2_trace_106 h
    · have h := h.2 c6
      refine aw_lload G0 0 rfl dX2_trace_92 ?_
      refine aw_ldc2 (v := (1000 : Int64)) G0 q1060 dX2_trace_94 ?_
      refine aw_lif_le G0 107 dX2_trace_97 dX2_trace_98 (by decide) (fun c12 => ?_) (fun c12 => ?_)
      · have h := h.1 c12
        refine aw_lload G0 5 rfl dX2_trace_107 ?_
        refine aw_lload G0 0 rfl dX2_trace_109 ?_
        refine aw_ladd G0 dX2_trace_111 ?_
        refine aw_lstore (lv' := [(4, aJ (x4 + (J q3 (((60 : Int32) * x2) + x6).toNatClampNeg))), (7, aJ (J q3 (((60 : Int32) * x2) + x6).toNatClampNeg)), (0, aR (some x0)), (1, aI x1), (2, aI x2), (3, aI x3), (6, aI x6)]) G0 (by decide) rfl dX2_trace_112 ?_
        refine aw_iinc (v := x6 + 1) (lv' := [(6, aI (x6 + 1)), (4, aJ (x4 + (J q3 (((60 : Int32) * x2) + x6).toNatClampNeg))), (7, aJ (J q3 (((60 : Int32) * x2) + x6).toNatClampNeg)), (0, aR (some x0)), (1, aI x1), (2, aI x2), (3, aI x3)]) G0 6 rfl rfl (by decide) rfl dX2_trace_114 ?_
        refine aw_goto G0 65 dX2_trace_117 (by decide) ?_
        exact (aw_lv [3, 4, 5, 6, 1, 0] rfl (w65 x0 x1 x2 x3 (x4 + (J q3 (((60 : Int32) * x2) + x6).toNatClampNeg)) (x6 + 1) C I J R h))
      · have h := h.2 c12
        refine aw_aload_n G0 1 rfl dX2_trace_101 ?_
        refine aw_iconst (v := (1 : Int32)) G0 dX2_trace_102 (by decide) ?_
        refine aw_callV (k1 := 0) (n1 := 0) (k2 := 0) (n2 := 0) (st := []) G0 S_X2_refuse gi_X2_147 (Or.inl (by rw [k2]; decide)) (by rw [k2]; rfl) md_X2_refuse (Nat.le_of_ble_eq_true rfl) (by decide) (by rw [G.2.1]; decide) (by rw [G.2.1]; decide) [aI (1 : Int32)] rfl rfl dX2_trace_103 h (fun o C13 I14 J15 R16 h => ?_)
        obtain ⟨r17, rfl, h⟩ := h
        show AW Γ 0 0 C13 I14 J15 R16 (103 + 3) [(7, aJ (J q3 (((60 : Int32) * x2) + x6).toNatClampNeg)), (0, aR (some x0)), (1, aI x1), (2, aI x2), (3, aI x3), (4, aJ x4), (6, aI x6)] [aI r17]
        exact aw_ireturn G0 (Or.inl rfl) (by rw [G.2.2]; decide) (by rw [G.2.1]; decide) dX2_trace_106 h
theorem bX2_trace_126 (G : Gb Γ yX2_trace cX2_trace 11 (some .int) [] rmX2_trace bdX2_trace) {F_X2_has : SPF} (S_X2_has : SpX2_has (gL Γ) F_X2_has)
    {Q179 : Nat → Int32 → Int32 → Int64 → Int32 → Int64 → MC → MI → MJ → MR → Prop} (w179 : ∀ (x0 : Nat) (x1 : Int32) (x2 : Int32) (x4 : Int64) (x8 : Int32) (s0 : Int64) (C : MC) (I : MI) (J : MJ) (R : MR), Q179 x0 x1 x2 x4 x8 s0 C I J R → AW Γ 0 0 C I J R 179 [(0, aR (some x0)), (1, aI x1), (2, aI x2), (4, aJ x4), (8, aI x8)] [aJ s0])
    {Q180 : Nat → Int32 → Int32 → Int64 → Int32 → Int64 → Int64 → MC → MI → MJ → MR → Prop} (w180 : ∀ (x0 : Nat) (x1 : Int32) (x2 : Int32) (x4 : Int64) (x8 : Int32) (s0 : Int64) (s1 : Int64) (C : MC) (I : MI) (J : MJ) (R : MR), Q180 x0 x1 x2 x4 x8 s0 s1 C I J R → AW Γ 0 0 C I J R 180 [(0, aR (some x0)), (1, aI x1), (2, aI x2), (4, aJ x4), (8, aI x8)] [aJ s1, aJ s0])
    {Q202 : Nat → Int32 → Int32 → Int32 → MC → MI → MJ → MR → Prop} (w202 : ∀ (x0 : Nat) (x1 : Int32) (x2 : Int32) (s0 : Int32) (C : MC) (I : MI) (J : MJ) (R : MR), Q202 x0 x1 x2 s0 C I J R → AW Γ 0 0 C I J R 202 [(0, aR (some x0)), (1, aI x1), (2, aI x2)] [aI s0]) {x0 : Nat} {x1 : Int32} {x2 : Int32} {x4 : Int64} {x6 : Int64} {x8 : Int32}
    (h : (C x0).1 = 3 ∧
      (((I x0 6) ≤ x8 →
      ((x4 ≤ x6 →
      Q202 x0 x1 x2 (0 : Int32) C I J R) ∧
      (¬ x4 ≤ x6 →
      Q202 x0 x1 x2 (1 : Int32) C I J R))) ∧
      (¬ (I x0 6) ≤ x8 →
      ∃ q4 : Nat, R x0 7 = some q4 ∧
      (C q4).1 = 20 ∧
      vp_in x8 (C q4).2 ∧
      ((¬ (I q4 x8.toNatClampNeg) = 0 →
      Q179 x0 x1 x2 x4 x8 x6 C I J R) ∧
      ((I q4 x8.toNatClampNeg) = 0 →
      F_X2_has [aR (some x0), aI x1, aI x8] C I J R (fun o C8 I9 J10 R11 =>
      ∃ r12 : Int32, o = .inl (some (aI r12)) ∧
      ((r12 = 0 →
      Q179 x0 x1 x2 x4 x8 x6 C8 I9 J10 R11) ∧
      (¬ r12 = 0 →
      (C8 x0).1 = 3 ∧
      ∃ q15 : Nat, R11 x0 16 = some q15 ∧
      (C8 q15).1 = 20 ∧
      vp_in x8 (C8 q15).2 ∧
      (((I9 q15 x8.toNatClampNeg) = (-1 : Int32) →
      Q179 x0 x1 x2 x4 x8 x6 C8 I9 J10 R11) ∧
      (¬ (I9 q15 x8.toNatClampNeg) = (-1 : Int32) →
      Q180 x0 x1 x2 x4 x8 x6 ((I9 q15 x8.toNatClampNeg).toInt64) C8 I9 J10 R11)))))))))) :
    AW Γ 0 0 C I J R 126 [(0, aR (some x0)), (1, aI x1), (2, aI x2), (4, aJ x4), (6, aJ x6), (8, aI x8)] [] := by
  have G0 := G.1
  refine aw_iload G0 5 rfl dX2_trace_126 ?_
  refine aw_aload_n G0 0 rfl dX2_trace_128 ?_
  obtain ⟨k1, h⟩ := h
  refine aw_getI (f := 6) G0 (by rw [k1]; exact fb_X2_136) dX2_trace_129 ?_
  refine aw_icmp_ge G0 189 dX2_trace_132 (by decide) (fun c2 => ?_) (fun c2 => ?_)
  · have h := h.1 c2
    refine aw_lload G0 3 rfl dX2_trace_189 ?_
    refine aw_lload G0 4 rfl dX2_trace_191 ?_
    refine aw_lif_le G0 201 dX2_trace_193 dX2_trace_194 (by decide) (fun c3 => ?_) (fun c3 => ?_)
    · have h := h.1 c3
      refine aw_iconst (v := (0 : Int32)) G0 dX2_trace_201 (by decide) ?_
      exact (aw_lv [0, 1, 2] rfl (w202 x0 x1 x2 (0 : Int32) C I J R h))
    · have h := h.2 c3
      refine aw_iconst (v := (1 : Int32)) G0 dX2_trace_197 (by decide) ?_
      refine aw_goto G0 202 dX2_trace_198 (by decide) ?_
      exact (aw_lv [0, 1, 2] rfl (w202 x0 x1 x2 (1 : Int32) C I J R h))
  · have h := h.2 c2
    refine aw_lload G0 4 rfl dX2_trace_135 ?_
    refine aw_aload_n G0 0 rfl dX2_trace_137 ?_
    refine aw_getR (f := 7) G0 (by rw [k1]; exact fb_X2_24) dX2_trace_138 ?_
    refine aw_iload G0 5 rfl dX2_trace_141 ?_
    obtain ⟨q4, e4, h⟩ := h
    refine aw_dr1 e4 ?_
    obtain ⟨k5, h⟩ := h
    obtain ⟨k6, h⟩ := h
    refine aw_iald G0 (Or.inl k5) k6 dX2_trace_143 ?_
    refine aw_if_ne G0 179 dX2_trace_144 (by decide) (fun c7 => ?_) (fun c7 => ?_)
    · have h := h.1 c7
      exact (aw_lv [0, 1, 2, 3, 5] rfl (w179 x0 x1 x2 x4 x8 x6 C I J R h))
    · have h := h.2 c7
      refine aw_aload_n G0 0 rfl dX2_trace_147 ?_
      refine aw_iload_n G0 1 rfl dX2_trace_148 ?_
      refine aw_iload G0 5 rfl dX2_trace_149 ?_
      refine aw_callV (k1 := 0) (n1 := 0) (k2 := 0) (n2 := 0) (st := [aJ x6]) G0 S_X2_has gi_X2_226 (Or.inl (by rw [k1]; decide)) (by rw [k1]; rfl) md_X2_has (Nat.le_of_ble_eq_true rfl) (by decide) (by rw [G.2.1]; decide) (by rw [G.2.1]; decide) [aI x1, aI x8] rfl rfl dX2_trace_151 h (fun o C8 I9 J10 R11 h => ?_)
      obtain ⟨r12, rfl, h⟩ := h
      show AW Γ 0 0 C8 I9 J10 R11 (151 + 3) [(0, aR (some x0)), (1, aI x1), (2, aI x2), (4, aJ x4), (6, aJ x6), (8, aI x8)] [aI r12, aJ x6]
      refine aw_if_eq G0 179 dX2_trace_154 (by decide) (fun c13 => ?_) (fun c13 => ?_)
      · have h := h.1 c13
        exact (aw_lv [0, 1, 2, 3, 5] rfl (w179 x0 x1 x2 x4 x8 x6 C8 I9 J10 R11 h))
      · have h := h.2 c13
        refine aw_aload_n G0 0 rfl dX2_trace_157 ?_
        obtain ⟨k14, h⟩ := h
        refine aw_getR (f := 16) G0 (by rw [k14]; exact fb_X2_51) dX2_trace_158 ?_
        refine aw_iload G0 5 rfl dX2_trace_161 ?_
        obtain ⟨q15, e15, h⟩ := h
        refine aw_dr1 e15 ?_
        obtain ⟨k16, h⟩ := h
        obtain ⟨k17, h⟩ := h
        refine aw_iald G0 (Or.inl k16) k17 dX2_trace_163 ?_
        refine aw_iconst (v := (-1 : Int32)) G0 dX2_trace_164 (by decide) ?_
        refine aw_icmp_eq G0 179 dX2_trace_165 (by decide) (fun c18 => ?_) (fun c18 => ?_)
        · have h := h.1 c18
          exact (aw_lv [0, 1, 2, 3, 5] rfl (w179 x0 x1 x2 x4 x8 x6 C8 I9 J10 R11 h))
        · have h := h.2 c18
          refine aw_aload_n G0 0 rfl dX2_trace_168 ?_
          refine aw_getR (f := 16) G0 (by rw [k14]; exact fb_X2_51) dX2_trace_169 ?_
          refine aw_iload G0 5 rfl dX2_trace_172 ?_
          refine aw_dr1 e15 ?_
          refine aw_iald G0 (Or.inl k16) k17 dX2_trace_174 ?_
          refine aw_i2l G0 dX2_trace_175 ?_
          refine aw_goto G0 180 dX2_trace_176 (by decide) ?_
          exact (aw_lv [0, 1, 2, 3, 5] rfl (w180 x0 x1 x2 x4 x8 x6 ((I9 q15 x8.toNatClampNeg).toInt64) C8 I9 J10 R11 h))
theorem bX2_trace_179 (G : Gb Γ yX2_trace cX2_trace 11 (some .int) [] rmX2_trace bdX2_trace)
    {Q180 : Nat → Int32 → Int32 → Int64 → Int32 → Int64 → Int64 → MC → MI → MJ → MR → Prop} (w180 : ∀ (x0 : Nat) (x1 : Int32) (x2 : Int32) (x4 : Int64) (x8 : Int32) (s0 : Int64) (s1 : Int64) (C : MC) (I : MI) (J : MJ) (R : MR), Q180 x0 x1 x2 x4 x8 s0 s1 C I J R → AW Γ 0 0 C I J R 180 [(0, aR (some x0)), (1, aI x1), (2, aI x2), (4, aJ x4), (8, aI x8)] [aJ s1, aJ s0]) {x0 : Nat} {x1 : Int32} {x2 : Int32} {x4 : Int64} {x8 : Int32} {s0 : Int64}
    (h : Q180 x0 x1 x2 x4 x8 s0 (0 : Int64) C I J R) :
    AW Γ 0 0 C I J R 179 [(0, aR (some x0)), (1, aI x1), (2, aI x2), (4, aJ x4), (8, aI x8)] [aJ s0] := by
  have G0 := G.1
  refine aw_lconst (v := (0 : Int64)) G0 dX2_trace_179 (by decide) ?_
  exact (w180 x0 x1 x2 x4 x8 s0 (0 : Int64) C I J R h)
theorem bX2_trace_180 (G : Gb Γ yX2_trace cX2_trace 11 (some .int) [] rmX2_trace bdX2_trace)
    {Q126 : Nat → Int32 → Int32 → Int64 → Int64 → Int32 → MC → MI → MJ → MR → Prop} (w126 : ∀ (x0 : Nat) (x1 : Int32) (x2 : Int32) (x4 : Int64) (x6 : Int64) (x8 : Int32) (C : MC) (I : MI) (J : MJ) (R : MR), Q126 x0 x1 x2 x4 x6 x8 C I J R → AW Γ 0 0 C I J R 126 [(0, aR (some x0)), (1, aI x1), (2, aI x2), (4, aJ x4), (6, aJ x6), (8, aI x8)] []) {x0 : Nat} {x1 : Int32} {x2 : Int32} {x4 : Int64} {x8 : Int32} {s0 : Int64} {s1 : Int64}
    (h : Q126 x0 x1 x2 x4 (s0 + s1) (x8 + 1) C I J R) :
    AW Γ 0 0 C I J R 180 [(0, aR (some x0)), (1, aI x1), (2, aI x2), (4, aJ x4), (8, aI x8)] [aJ s1, aJ s0] := by
  have G0 := G.1
  refine aw_ladd G0 dX2_trace_180 ?_
  refine aw_lstore (lv' := [(6, aJ (s0 + s1)), (0, aR (some x0)), (1, aI x1), (2, aI x2), (4, aJ x4), (8, aI x8)]) G0 (by decide) rfl dX2_trace_181 ?_
  refine aw_iinc (v := x8 + 1) (lv' := [(8, aI (x8 + 1)), (6, aJ (s0 + s1)), (0, aR (some x0)), (1, aI x1), (2, aI x2), (4, aJ x4)]) G0 5 rfl rfl (by decide) rfl dX2_trace_183 ?_
  refine aw_goto G0 126 dX2_trace_186 (by decide) ?_
  exact (aw_lv [2, 3, 4, 5, 1, 0] rfl (w126 x0 x1 x2 x4 (s0 + s1) (x8 + 1) C I J R h))
theorem bX2_trace_202 (G : Gb Γ yX2_trace cX2_trace 11 (some .int) [] rmX2_trace bdX2_trace)
    {Q231 : Nat → Int32 → Int32 → Int32 → Option Nat → Int32 → Int32 → Int32 → MC → MI → MJ → MR → Prop} (w231 : ∀ (x0 : Nat) (x1 : Int32) (x2 : Int32) (x8 : Int32) (s0 : Option Nat) (s1 : Int32) (s2 : Int32) (s3 : Int32) (C : MC) (I : MI) (J : MJ) (R : MR), Q231 x0 x1 x2 x8 s0 s1 s2 s3 C I J R → AW Γ 0 0 C I J R 231 [(0, aR (some x0)), (1, aI x1), (2, aI x2), (8, aI x8)] [aI s3, aI s2, aI s1, aR s0]) {x0 : Nat} {x1 : Int32} {x2 : Int32} {s0 : Int32}
    (h : (C x0).1 = 3 ∧
      ∃ q2 : Nat, R x0 18 = some q2 ∧
      (C q2).1 = 20 ∧
      vp_in x1 (C q2).2 ∧
      ∀ I5 : MI, I5 = va_up I q2 (va_up (I q2) x1.toNatClampNeg ((I q2 x1.toNatClampNeg) + (1 : Int32))) →
      ∃ q6 : Nat, R x0 19 = some q6 ∧
      (C q6).1 = 20 ∧
      vp_in x1 (C q6).2 ∧
      ((s0 = 0 →
      Q231 x0 x1 x2 s0 (R x0 19) x1 (I5 q6 x1.toNatClampNeg) (0 : Int32) C I5 J R) ∧
      (¬ s0 = 0 →
      Q231 x0 x1 x2 s0 (R x0 19) x1 (I5 q6 x1.toNatClampNeg) (1 : Int32) C I5 J R))) :
    AW Γ 0 0 C I J R 202 [(0, aR (some x0)), (1, aI x1), (2, aI x2)] [aI s0] := by
  have G0 := G.1
  refine aw_istore (lv' := [(8, aI s0), (0, aR (some x0)), (1, aI x1), (2, aI x2)]) G0 (by decide) rfl dX2_trace_202 ?_
  refine aw_aload_n G0 1 rfl dX2_trace_204 ?_
  obtain ⟨k1, h⟩ := h
  refine aw_getR (f := 18) G0 (by rw [k1]; exact fb_X2_57) dX2_trace_205 ?_
  refine aw_iload_n G0 2 rfl dX2_trace_208 ?_
  refine aw_dup2IR G0 dX2_trace_209 ?_
  obtain ⟨q2, e2, h⟩ := h
  refine aw_dr1 e2 ?_
  obtain ⟨k3, h⟩ := h
  obtain ⟨k4, h⟩ := h
  refine aw_iald G0 (Or.inl k3) k4 dX2_trace_210 ?_
  refine aw_iconst (v := (1 : Int32)) G0 dX2_trace_211 (by decide) ?_
  refine aw_iadd G0 dX2_trace_212 ?_
  refine aw_dr2 e2 ?_
  refine aw_iast G0 k3 k4 dX2_trace_213 ?_
  generalize gI5 : va_up I q2 (va_up (I q2) x1.toNatClampNeg ((I q2 x1.toNatClampNeg) + (1 : Int32))) = I5
  have h := h I5 gI5.symm
  refine aw_aload_n G0 1 rfl dX2_trace_214 ?_
  refine aw_getR (f := 19) G0 (by rw [k1]; exact fb_X2_60) dX2_trace_215 ?_
  refine aw_iload_n G0 2 rfl dX2_trace_218 ?_
  refine aw_dup2IR G0 dX2_trace_219 ?_
  obtain ⟨q6, e6, h⟩ := h
  refine aw_dr1 e6 ?_
  obtain ⟨k7, h⟩ := h
  obtain ⟨k8, h⟩ := h
  refine aw_iald G0 (Or.inl k7) k8 dX2_trace_220 ?_
  refine aw_iload G0 0 rfl dX2_trace_221 ?_
  refine aw_if_eq G0 230 dX2_trace_223 (by decide) (fun c9 => ?_) (fun c9 => ?_)
  · have h := h.1 c9
    refine aw_iconst (v := (0 : Int32)) G0 dX2_trace_230 (by decide) ?_
    exact (aw_lv [1, 2, 3, 0] rfl (w231 x0 x1 x2 s0 (R x0 19) x1 (I5 q6 x1.toNatClampNeg) (0 : Int32) C I5 J R h))
  · have h := h.2 c9
    refine aw_iconst (v := (1 : Int32)) G0 dX2_trace_226 (by decide) ?_
    refine aw_goto G0 231 dX2_trace_227 (by decide) ?_
    exact (aw_lv [1, 2, 3, 0] rfl (w231 x0 x1 x2 s0 (R x0 19) x1 (I5 q6 x1.toNatClampNeg) (1 : Int32) C I5 J R h))
theorem bX2_trace_231 (G : Gb Γ yX2_trace cX2_trace 11 (some .int) [] rmX2_trace bdX2_trace)
    {Q239 : Nat → Int32 → Int32 → Int32 → Int32 → Int32 → MC → MI → MJ → MR → Prop} (w239 : ∀ (x0 : Nat) (x1 : Int32) (x2 : Int32) (x8 : Int32) (x9 : Int32) (x10 : Int32) (C : MC) (I : MI) (J : MJ) (R : MR), Q239 x0 x1 x2 x8 x9 x10 C I J R → AW Γ 0 0 C I J R 239 [(0, aR (some x0)), (1, aI x1), (2, aI x2), (8, aI x8), (9, aI x9), (10, aI x10)] []) {x0 : Nat} {x1 : Int32} {x2 : Int32} {x8 : Int32} {s0 : Option Nat} {s1 : Int32} {s2 : Int32} {s3 : Int32}
    (h : ∃ q1 : Nat, s0 = some q1 ∧
      (C q1).1 = 20 ∧
      vp_in s1 (C q1).2 ∧
      ∀ I4 : MI, I4 = va_up I q1 (va_up (I q1) s1.toNatClampNeg (s2 + s3)) →
      Q239 x0 x1 x2 x8 (0 : Int32) (0 : Int32) C I4 J R) :
    AW Γ 0 0 C I J R 231 [(0, aR (some x0)), (1, aI x1), (2, aI x2), (8, aI x8)] [aI s3, aI s2, aI s1, aR s0] := by
  have G0 := G.1
  refine aw_iadd G0 dX2_trace_231 ?_
  obtain ⟨q1, e1, h⟩ := h
  refine aw_dr2 e1 ?_
  obtain ⟨k2, h⟩ := h
  obtain ⟨k3, h⟩ := h
  refine aw_iast G0 k2 k3 dX2_trace_232 ?_
  generalize gI4 : va_up I q1 (va_up (I q1) s1.toNatClampNeg (s2 + s3)) = I4
  have h := h I4 gI4.symm
  refine aw_iconst (v := (0 : Int32)) G0 dX2_trace_233 (by decide) ?_
  refine aw_istore (lv' := [(9, aI (0 : Int32)), (0, aR (some x0)), (1, aI x1), (2, aI x2), (8, aI x8)]) G0 (by decide) rfl dX2_trace_234 ?_
  refine aw_iconst (v := (0 : Int32)) G0 dX2_trace_236 (by decide) ?_
  refine aw_istore (lv' := [(10, aI (0 : Int32)), (9, aI (0 : Int32)), (0, aR (some x0)), (1, aI x1), (2, aI x2), (8, aI x8)]) G0 (by decide) rfl dX2_trace_237 ?_
  exact (aw_lv [2, 3, 4, 5, 1, 0] rfl (w239 x0 x1 x2 x8 (0 : Int32) (0 : Int32) C I4 J R h))
theorem bX2_trace_239 (G : Gb Γ yX2_trace cX2_trace 11 (some .int) [] rmX2_trace bdX2_trace) {F_X2_has : SPF} (S_X2_has : SpX2_has (gL Γ) F_X2_has)
    {Q315 : Nat → Int32 → Int32 → Int32 → Int32 → Int32 → MC → MI → MJ → MR → Prop} (w315 : ∀ (x0 : Nat) (x1 : Int32) (x2 : Int32) (x8 : Int32) (x9 : Int32) (x10 : Int32) (C : MC) (I : MI) (J : MJ) (R : MR), Q315 x0 x1 x2 x8 x9 x10 C I J R → AW Γ 0 0 C I J R 315 [(0, aR (some x0)), (1, aI x1), (2, aI x2), (8, aI x8), (9, aI x9), (10, aI x10)] [])
    {Q318 : Nat → Int32 → Int32 → Int32 → Int32 → Int32 → MC → MI → MJ → MR → Prop} (w318 : ∀ (x0 : Nat) (x1 : Int32) (x2 : Int32) (x8 : Int32) (x9 : Int32) (x10 : Int32) (C : MC) (I : MI) (J : MJ) (R : MR), Q318 x0 x1 x2 x8 x9 x10 C I J R → AW Γ 0 0 C I J R 318 [(0, aR (some x0)), (1, aI x1), (2, aI x2), (8, aI x8), (9, aI x9), (10, aI x10)] []) {x0 : Nat} {x1 : Int32} {x2 : Int32} {x8 : Int32} {x9 : Int32} {x10 : Int32}
    (h : (C x0).1 = 3 ∧
      (((I x0 6) ≤ x10 →
      ∀ I3 : MI, I3 = va_up I x0 (va_up (I x0) 0 (0 : Int32)) →
      ((x8 = 0 →
      gK Γ (.inl (some (aI (0 : Int32)))) C I3 J R) ∧
      (¬ x8 = 0 →
      gK Γ (.inl (some (aI (1 : Int32)))) C I3 J R))) ∧
      (¬ (I x0 6) ≤ x10 →
      ∃ q5 : Nat, R x0 7 = some q5 ∧
      (C q5).1 = 20 ∧
      vp_in x10 (C q5).2 ∧
      ((¬ (I q5 x10.toNatClampNeg) = 0 →
      Q318 x0 x1 x2 x8 x9 x10 C I J R) ∧
      ((I q5 x10.toNatClampNeg) = 0 →
      F_X2_has [aR (some x0), aI x1, aI x10] C I J R (fun o C9 I10 J11 R12 =>
      ∃ r13 : Int32, o = .inl (some (aI r13)) ∧
      ((¬ r13 = 0 →
      ((x8 = 0 →
      Q315 x0 x1 x2 x8 x9 x10 C9 I10 J11 R12) ∧
      (¬ x8 = 0 →
      (C9 x0).1 = 3 ∧
      ∃ q17 : Nat, R12 x0 5 = some q17 ∧
      (C9 q17).1 = 21 ∧
      vp_in (((60 : Int32) * x2) + x9) (C9 q17).2 ∧
      ∃ q20 : Nat, R12 x0 16 = some q20 ∧
      (C9 q20).1 = 20 ∧
      vp_in x10 (C9 q20).2 ∧
      (((J11 q17 (((60 : Int32) * x2) + x9).toNatClampNeg) ≤ ((if (0 : Int32) < (I10 q20 x10.toNatClampNeg) then (I10 q20 x10.toNatClampNeg) else (0 : Int32)).toInt64) →
      Q315 x0 x1 x2 x8 x9 x10 C9 I10 J11 R12) ∧
      (¬ (J11 q17 (((60 : Int32) * x2) + x9).toNatClampNeg) ≤ ((if (0 : Int32) < (I10 q20 x10.toNatClampNeg) then (I10 q20 x10.toNatClampNeg) else (0 : Int32)).toInt64) →
      ∃ q24 : Nat, R12 x0 20 = some q24 ∧
      (C9 q24).1 = 20 ∧
      vp_in x10 (C9 q24).2 ∧
      ∀ I27 : MI, I27 = va_up I10 q24 (va_up (I10 q24) x10.toNatClampNeg ((I10 q24 x10.toNatClampNeg) + (1 : Int32))) →
      Q315 x0 x1 x2 x8 x9 x10 C9 I27 J11 R12))))) ∧
      (r13 = 0 →
      Q318 x0 x1 x2 x8 x9 x10 C9 I10 J11 R12)))))))) :
    AW Γ 0 0 C I J R 239 [(0, aR (some x0)), (1, aI x1), (2, aI x2), (8, aI x8), (9, aI x9), (10, aI x10)] [] := by
  have G0 := G.1
  refine aw_iload G0 5 rfl dX2_trace_239 ?_
  refine aw_aload_n G0 0 rfl dX2_trace_241 ?_
  obtain ⟨k1, h⟩ := h
  refine aw_getI (f := 6) G0 (by rw [k1]; exact fb_X2_136) dX2_trace_242 ?_
  refine aw_icmp_ge G0 324 dX2_trace_245 (by decide) (fun c2 => ?_) (fun c2 => ?_)
  · have h := h.1 c2
    refine aw_aload_n G0 0 rfl dX2_trace_324 ?_
    refine aw_iconst (v := (0 : Int32)) G0 dX2_trace_325 (by decide) ?_
    refine aw_putI (f := 0) G0 (by rw [k1]; exact fp_X2_112 _) dX2_trace_326 ?_
    generalize gI3 : va_up I x0 (va_up (I x0) 0 (0 : Int32)) = I3
    have h := h I3 gI3.symm
    refine aw_iload G0 3 rfl dX2_trace_329 ?_
    refine aw_if_eq G0 338 dX2_trace_331 (by decide) (fun c4 => ?_) (fun c4 => ?_)
    · have h := h.1 c4
      refine aw_iconst (v := (0 : Int32)) G0 dX2_trace_338 (by decide) ?_
      exact aw_ireturn G0 (Or.inl rfl) (by rw [G.2.2]; decide) (by rw [G.2.1]; decide) dX2_trace_339 h
    · have h := h.2 c4
      refine aw_iconst (v := (1 : Int32)) G0 dX2_trace_334 (by decide) ?_
      refine aw_goto G0 339 dX2_trace_335 (by decide) ?_
      exact aw_ireturn G0 (Or.inl rfl) (by rw [G.2.2]; decide) (by rw [G.2.1]; decide) dX2_trace_339 h
  · have h := h.2 c2
    refine aw_aload_n G0 0 rfl dX2_trace_248 ?_
    refine aw_getR (f := 7) G0 (by rw [k1]; exact fb_X2_24) dX2_trace_249 ?_
    refine aw_iload G0 5 rfl dX2_trace_252 ?_
    obtain ⟨q5, e5, h⟩ := h
    refine aw_dr1 e5 ?_
    obtain ⟨k6, h⟩ := h
    obtain ⟨k7, h⟩ := h
    refine aw_iald G0 (Or.inl k6) k7 dX2_trace_254 ?_
    refine aw_if_ne G0 318 dX2_trace_255 (by decide) (fun c8 => ?_) (fun c8 => ?_)
    · have h := h.1 c8
      exact (w318 x0 x1 x2 x8 x9 x10 C I J R h)
    · have h := h.2 c8
      refine aw_aload_n G0 0 rfl dX2_trace_258 ?_
      refine aw_iload_n G0 1 rfl dX2_trace_259 ?_
      refine aw_iload G0 5 rfl dX2_trace_260 ?_
      refine aw_callV (k1 := 0) (n1 := 0) (k2 := 0) (n2 := 0) (st := []) G0 S_X2_has gi_X2_226 (Or.inl (by rw [k1]; decide)) (by rw [k1]; rfl) md_X2_has (Nat.le_of_ble_eq_true rfl) (by decide) (by rw [G.2.1]; decide) (by rw [G.2.1]; decide) [aI x1, aI x10] rfl rfl dX2_trace_262 h (fun o C9 I10 J11 R12 h => ?_)
      obtain ⟨r13, rfl, h⟩ := h
      show AW Γ 0 0 C9 I10 J11 R12 (262 + 3) [(0, aR (some x0)), (1, aI x1), (2, aI x2), (8, aI x8), (9, aI x9), (10, aI x10)] [aI r13]
      refine aw_if_ne G0 271 dX2_trace_265 (by decide) (fun c14 => ?_) (fun c14 => ?_)
      · have h := h.1 c14
        refine aw_iload G0 3 rfl dX2_trace_271 ?_
        refine aw_if_eq G0 315 dX2_trace_273 (by decide) (fun c15 => ?_) (fun c15 => ?_)
        · have h := h.1 c15
          exact (w315 x0 x1 x2 x8 x9 x10 C9 I10 J11 R12 h)
        · have h := h.2 c15
          refine aw_aload_n G0 0 rfl dX2_trace_276 ?_
          obtain ⟨k16, h⟩ := h
          refine aw_getR (f := 5) G0 (by rw [k16]; exact fb_X2_20) dX2_trace_277 ?_
          refine aw_bipush (v := (60 : Int32)) G0 dX2_trace_280 (by decide) ?_
          refine aw_iload_n G0 2 rfl dX2_trace_282 ?_
          refine aw_imul G0 dX2_trace_283 ?_
          refine aw_iload G0 4 rfl dX2_trace_284 ?_
          refine aw_iadd G0 dX2_trace_286 ?_
          obtain ⟨q17, e17, h⟩ := h
          refine aw_dr1 e17 ?_
          obtain ⟨k18, h⟩ := h
          obtain ⟨k19, h⟩ := h
          refine aw_lald G0 k18 k19 dX2_trace_287 ?_
          refine aw_iconst (v := (0 : Int32)) G0 dX2_trace_288 (by decide) ?_
          refine aw_aload_n G0 0 rfl dX2_trace_289 ?_
          refine aw_getR (f := 16) G0 (by rw [k16]; exact fb_X2_51) dX2_trace_290 ?_
          refine aw_iload G0 5 rfl dX2_trace_293 ?_
          obtain ⟨q20, e20, h⟩ := h
          refine aw_dr1 e20 ?_
          obtain ⟨k21, h⟩ := h
          obtain ⟨k22, h⟩ := h
          refine aw_iald G0 (Or.inl k21) k22 dX2_trace_295 ?_
          refine aw_mmax G0 q1158 (by rw [G.2.1]; decide) (by rw [G.2.1]; exact Nat.le_of_ble_eq_true rfl) (by rw [G.2.1]; decide) dX2_trace_296 ?_
          refine aw_i2l G0 dX2_trace_299 ?_
          refine aw_lif_le G0 315 dX2_trace_300 dX2_trace_301 (by decide) (fun c23 => ?_) (fun c23 => ?_)
          · have h := h.1 c23
            exact (w315 x0 x1 x2 x8 x9 x10 C9 I10 J11 R12 h)
          · have h := h.2 c23
            refine aw_aload_n G0 0 rfl dX2_trace_304 ?_
            refine aw_getR (f := 20) G0 (by rw [k16]; exact fb_X2_63) dX2_trace_305 ?_
            refine aw_iload G0 5 rfl dX2_trace_308 ?_
            refine aw_dup2IR G0 dX2_trace_310 ?_
            obtain ⟨q24, e24, h⟩ := h
            refine aw_dr1 e24 ?_
            obtain ⟨k25, h⟩ := h
            obtain ⟨k26, h⟩ := h
            refine aw_iald G0 (Or.inl k25) k26 dX2_trace_311 ?_
            refine aw_iconst (v := (1 : Int32)) G0 dX2_trace_312 (by decide) ?_
            refine aw_iadd G0 dX2_trace_313 ?_
            refine aw_dr2 e24 ?_
            refine aw_iast G0 k25 k26 dX2_trace_314 ?_
            generalize gI27 : va_up I10 q24 (va_up (I10 q24) x10.toNatClampNeg ((I10 q24 x10.toNatClampNeg) + (1 : Int32))) = I27
            have h := h I27 gI27.symm
            exact (w315 x0 x1 x2 x8 x9 x10 C9 I27 J11 R12 h)
      · have h := h.2 c14
        refine aw_goto G0 318 dX2_trace_268 (by decide) ?_
        exact (w318 x0 x1 x2 x8 x9 x10 C9 I10 J11 R12 h)
theorem bX2_trace_315 (G : Gb Γ yX2_trace cX2_trace 11 (some .int) [] rmX2_trace bdX2_trace)
    {Q318 : Nat → Int32 → Int32 → Int32 → Int32 → Int32 → MC → MI → MJ → MR → Prop} (w318 : ∀ (x0 : Nat) (x1 : Int32) (x2 : Int32) (x8 : Int32) (x9 : Int32) (x10 : Int32) (C : MC) (I : MI) (J : MJ) (R : MR), Q318 x0 x1 x2 x8 x9 x10 C I J R → AW Γ 0 0 C I J R 318 [(0, aR (some x0)), (1, aI x1), (2, aI x2), (8, aI x8), (9, aI x9), (10, aI x10)] []) {x0 : Nat} {x1 : Int32} {x2 : Int32} {x8 : Int32} {x9 : Int32} {x10 : Int32}
    (h : Q318 x0 x1 x2 x8 (x9 + 1) x10 C I J R) :
    AW Γ 0 0 C I J R 315 [(0, aR (some x0)), (1, aI x1), (2, aI x2), (8, aI x8), (9, aI x9), (10, aI x10)] [] := by
  have G0 := G.1
  refine aw_iinc (v := x9 + 1) (lv' := [(9, aI (x9 + 1)), (0, aR (some x0)), (1, aI x1), (2, aI x2), (8, aI x8), (10, aI x10)]) G0 4 rfl rfl (by decide) rfl dX2_trace_315 ?_
  exact (aw_lv [1, 2, 3, 4, 0, 5] rfl (w318 x0 x1 x2 x8 (x9 + 1) x10 C I J R h))
theorem bX2_trace_318 (G : Gb Γ yX2_trace cX2_trace 11 (some .int) [] rmX2_trace bdX2_trace)
    {Q239 : Nat → Int32 → Int32 → Int32 → Int32 → Int32 → MC → MI → MJ → MR → Prop} (w239 : ∀ (x0 : Nat) (x1 : Int32) (x2 : Int32) (x8 : Int32) (x9 : Int32) (x10 : Int32) (C : MC) (I : MI) (J : MJ) (R : MR), Q239 x0 x1 x2 x8 x9 x10 C I J R → AW Γ 0 0 C I J R 239 [(0, aR (some x0)), (1, aI x1), (2, aI x2), (8, aI x8), (9, aI x9), (10, aI x10)] []) {x0 : Nat} {x1 : Int32} {x2 : Int32} {x8 : Int32} {x9 : Int32} {x10 : Int32}
    (h : Q239 x0 x1 x2 x8 x9 (x10 + 1) C I J R) :
    AW Γ 0 0 C I J R 318 [(0, aR (some x0)), (1, aI x1), (2, aI x2), (8, aI x8), (9, aI x9), (10, aI x10)] [] := by
  have G0 := G.1
  refine aw_iinc (v := x10 + 1) (lv' := [(10, aI (x10 + 1)), (0, aR (some x0)), (1, aI x1), (2, aI x2), (8, aI x8), (9, aI x9)]) G0 5 rfl rfl (by decide) rfl dX2_trace_318 ?_
  refine aw_goto G0 239 dX2_trace_321 (by decide) ?_
  exact (aw_lv [1, 2, 3, 4, 5, 0] rfl (w239 x0 x1 x2 x8 x9 (x10 + 1) C I J R h))
theorem bX2_traces_0 (G : Gb Γ yX2_traces cX2_traces 3 (some .int) [] rmX2_traces bdX2_traces) {F_X2_isThing : SPF} (S_X2_isThing : SpX2_isThing (gL Γ) F_X2_isThing) {F_X2_refuse : SPF} (S_X2_refuse : SpX2_refuse (gL Γ) F_X2_refuse) {x0 : Nat} {x1 : Int32} {x2 : Int32}
    (h : (C x0).1 = 3 ∧
      F_X2_isThing [aR (some x0), aI x1] C I J R (fun o C2 I3 J4 R5 =>
      ∃ r6 : Int32, o = .inl (some (aI r6)) ∧
      ((r6 = 0 →
      (C2 x0).1 = 3 ∧
      F_X2_refuse [aR (some x0), aI (1 : Int32)] C2 I3 J4 R5 (fun o C9 I10 J11 R12 =>
      ∃ r13 : Int32, o = .inl (some (aI r13)) ∧
      gK Γ (.inl (some (aI r13))) C9 I10 J11 R12)) ∧
      (¬ r6 = 0 →
      ((x2 < 0 →
      (C2 x0).1 = 3 ∧
      F_X2_refuse [aR (some x0), aI (1 : Int32)] C2 I3 J4 R5 (fun o C16 I17 J18 R19 =>
      ∃ r20 : Int32, o = .inl (some (aI r20)) ∧
      gK Γ (.inl (some (aI r20))) C16 I17 J18 R19)) ∧
      (¬ x2 < 0 →
      ((x2 ≤ (1 : Int32) →
      (C2 x0).1 = 3 ∧
      ∀ I23 : MI, I23 = va_up I3 x0 (va_up (I3 x0) 0 (0 : Int32)) →
      ((¬ x2 = 0 →
      ∃ q25 : Nat, R5 x0 19 = some q25 ∧
      (C2 q25).1 = 20 ∧
      vp_in x1 (C2 q25).2 ∧
      gK Γ (.inl (some (aI (I23 q25 x1.toNatClampNeg)))) C2 I23 J4 R5) ∧
      (x2 = 0 →
      ∃ q28 : Nat, R5 x0 18 = some q28 ∧
      (C2 q28).1 = 20 ∧
      vp_in x1 (C2 q28).2 ∧
      gK Γ (.inl (some (aI (I23 q28 x1.toNatClampNeg)))) C2 I23 J4 R5))) ∧
      (¬ x2 ≤ (1 : Int32) →
      (C2 x0).1 = 3 ∧
      F_X2_refuse [aR (some x0), aI (1 : Int32)] C2 I3 J4 R5 (fun o C32 I33 J34 R35 =>
      ∃ r36 : Int32, o = .inl (some (aI r36)) ∧
      gK Γ (.inl (some (aI r36))) C32 I33 J34 R35))))))))) :
    AW Γ 0 0 C I J R 0 [(0, aR (some x0)), (1, aI x1), (2, aI x2)] [] := by
  have G0 := G.1
  refine aw_aload_n G0 0 rfl dX2_traces_0 ?_
  refine aw_iload_n G0 1 rfl dX2_traces_1 ?_
  obtain ⟨k1, h⟩ := h
  refine aw_callV (k1 := 0) (n1 := 0) (k2 := 0) (n2 := 0) (st := []) G0 S_X2_isThing gi_X2_139 (Or.inl (by rw [k1]; decide)) (by rw [k1]; rfl) md_X2_isThing (Nat.le_of_ble_eq_true rfl) (by decide) (by rw [G.2.1]; decide) (by rw [G.2.1]; decide) [aI x1] rfl rfl dX2_traces_2 h (fun o C2 I3 J4 R5 h => ?_)
  obtain ⟨r6, rfl, h⟩ := h
  show AW Γ 0 0 C2 I3 J4 R5 (2 + 3) [(0, aR (some x0)), (1, aI x1), (2, aI x2)] [aI r6]
  refine aw_if_eq G0 17 dX2_traces_5 (by decide) (fun c7 => ?_) (fun c7 => ?_)
  · have h := h.1 c7
    refine aw_aload_n G0 0 rfl dX2_traces_17 ?_
    refine aw_iconst (v := (1 : Int32)) G0 dX2_traces_18 (by decide) ?_
    obtain ⟨k8, h⟩ := h
    refine aw_callV (k1 := 0) (n1 := 0) (k2 := 0) (n2 := 0) (st := []) G0 S_X2_refuse gi_X2_147 (Or.inl (by rw [k8]; decide)) (by rw [k8]; rfl) md_X2_refuse (Nat.le_of_ble_eq_true rfl) (by decide) (by rw [G.2.1]; decide) (by rw [G.2.1]; decide) [aI (1 : Int32)] rfl rfl dX2_traces_19 h (fun o C9 I10 J11 R12 h => ?_)
    obtain ⟨r13, rfl, h⟩ := h
    show AW Γ 0 0 C9 I10 J11 R12 (19 + 3) [(0, aR (some x0)), (1, aI x1), (2, aI x2)] [aI r13]
    exact aw_ireturn G0 (Or.inl rfl) (by rw [G.2.2]; decide) (by rw [G.2.1]; decide) dX2_traces_22 h
  · have h := h.2 c7
    refine aw_iload_n G0 2 rfl dX2_traces_8 ?_
    refine aw_if_lt G0 17 dX2_traces_9 (by decide) (fun c14 => ?_) (fun c14 => ?_)
    · have h := h.1 c14
      refine aw_aload_n G0 0 rfl dX2_traces_17 ?_
      refine aw_iconst (v := (1 : Int32)) G0 dX2_traces_18 (by decide) ?_
      obtain ⟨k15, h⟩ := h
      refine aw_callV (k1 := 0) (n1 := 0) (k2 := 0) (n2 := 0) (st := []) G0 S_X2_refuse gi_X2_147 (Or.inl (by rw [k15]; decide)) (by rw [k15]; rfl) md_X2_refuse (Nat.le_of_ble_eq_true rfl) (by decide) (by rw [G.2.1]; decide) (by rw [G.2.1]; decide) [aI (1 : Int32)] rfl rfl dX2_traces_19 h (fun o C16 I17 J18 R19 h => ?_)
      obtain ⟨r20, rfl, h⟩ := h
      show AW Γ 0 0 C16 I17 J18 R19 (19 + 3) [(0, aR (some x0)), (1, aI x1), (2, aI x2)] [aI r20]
      exact aw_ireturn G0 (Or.inl rfl) (by rw [G.2.2]; decide) (by rw [G.2.1]; decide) dX2_traces_22 h
    · have h := h.2 c14
      refine aw_iload_n G0 2 rfl dX2_traces_12 ?_
      refine aw_iconst (v := (1 : Int32)) G0 dX2_traces_13 (by decide) ?_
      refine aw_icmp_le G0 23 dX2_traces_14 (by decide) (fun c21 => ?_) (fun c21 => ?_)
      · have h := h.1 c21
        refine aw_aload_n G0 0 rfl dX2_traces_23 ?_
        refine aw_iconst (v := (0 : Int32)) G0 dX2_traces_24 (by decide) ?_
        obtain ⟨k22, h⟩ := h
        refine aw_putI (f := 0) G0 (by rw [k22]; exact fp_X2_112 _) dX2_traces_25 ?_
        generalize gI23 : va_up I3 x0 (va_up (I3 x0) 0 (0 : Int32)) = I23
        have h := h I23 gI23.symm
        refine aw_iload_n G0 2 rfl dX2_traces_28 ?_
        refine aw_if_ne G0 41 dX2_traces_29 (by decide) (fun c24 => ?_) (fun c24 => ?_)
        · have h := h.1 c24
          refine aw_aload_n G0 0 rfl dX2_traces_41 ?_
          refine aw_getR (f := 19) G0 (by rw [k22]; exact fb_X2_60) dX2_traces_42 ?_
          refine aw_iload_n G0 1 rfl dX2_traces_45 ?_
          obtain ⟨q25, e25, h⟩ := h
          refine aw_dr1 e25 ?_
          obtain ⟨k26, h⟩ := h
          obtain ⟨k27, h⟩ := h
          refine aw_iald G0 (Or.inl k26) k27 dX2_traces_46 ?_
          exact aw_ireturn G0 (Or.inl rfl) (by rw [G.2.2]; decide) (by rw [G.2.1]; decide) dX2_traces_47 h
        · have h := h.2 c24
          refine aw_aload_n G0 0 rfl dX2_traces_32 ?_
          refine aw_getR (f := 18) G0 (by rw [k22]; exact fb_X2_57) dX2_traces_33 ?_
          refine aw_iload_n G0 1 rfl dX2_traces_36 ?_
          obtain ⟨q28, e28, h⟩ := h
          refine aw_dr1 e28 ?_
          obtain ⟨k29, h⟩ := h
          obtain ⟨k30, h⟩ := h
          refine aw_iald G0 (Or.inl k29) k30 dX2_traces_37 ?_
          refine aw_goto G0 47 dX2_traces_38 (by decide) ?_
          exact aw_ireturn G0 (Or.inl rfl) (by rw [G.2.2]; decide) (by rw [G.2.1]; decide) dX2_traces_47 h
      · have h := h.2 c21
        refine aw_aload_n G0 0 rfl dX2_traces_17 ?_
        refine aw_iconst (v := (1 : Int32)) G0 dX2_traces_18 (by decide) ?_
        obtain ⟨k31, h⟩ := h
        refine aw_callV (k1 := 0) (n1 := 0) (k2 := 0) (n2 := 0) (st := []) G0 S_X2_refuse gi_X2_147 (Or.inl (by rw [k31]; decide)) (by rw [k31]; rfl) md_X2_refuse (Nat.le_of_ble_eq_true rfl) (by decide) (by rw [G.2.1]; decide) (by rw [G.2.1]; decide) [aI (1 : Int32)] rfl rfl dX2_traces_19 h (fun o C32 I33 J34 R35 h => ?_)
        obtain ⟨r36, rfl, h⟩ := h
        show AW Γ 0 0 C32 I33 J34 R35 (19 + 3) [(0, aR (some x0)), (1, aI x1), (2, aI x2)] [aI r36]
        exact aw_ireturn G0 (Or.inl rfl) (by rw [G.2.2]; decide) (by rw [G.2.1]; decide) dX2_traces_22 h
theorem bX2_over_0 (G : Gb Γ yX2_over cX2_over 2 (some .int) [] rmX2_over bdX2_over) {F_X2_isLeaf : SPF} (S_X2_isLeaf : SpX2_isLeaf (gL Γ) F_X2_isLeaf) {F_X2_refuse : SPF} (S_X2_refuse : SpX2_refuse (gL Γ) F_X2_refuse) {x0 : Nat} {x1 : Int32}
    (h : (C x0).1 = 3 ∧
      F_X2_isLeaf [aR (some x0), aI x1] C I J R (fun o C2 I3 J4 R5 =>
      ∃ r6 : Int32, o = .inl (some (aI r6)) ∧
      ((¬ r6 = 0 →
      (C2 x0).1 = 3 ∧
      ∀ I9 : MI, I9 = va_up I3 x0 (va_up (I3 x0) 0 (0 : Int32)) →
      ∃ q10 : Nat, R5 x0 20 = some q10 ∧
      (C2 q10).1 = 20 ∧
      vp_in x1 (C2 q10).2 ∧
      gK Γ (.inl (some (aI (I9 q10 x1.toNatClampNeg)))) C2 I9 J4 R5) ∧
      (r6 = 0 →
      (C2 x0).1 = 3 ∧
      F_X2_refuse [aR (some x0), aI (1 : Int32)] C2 I3 J4 R5 (fun o C14 I15 J16 R17 =>
      ∃ r18 : Int32, o = .inl (some (aI r18)) ∧
      gK Γ (.inl (some (aI r18))) C14 I15 J16 R17))))) :
    AW Γ 0 0 C I J R 0 [(0, aR (some x0)), (1, aI x1)] [] := by
  have G0 := G.1
  refine aw_aload_n G0 0 rfl dX2_over_0 ?_
  refine aw_iload_n G0 1 rfl dX2_over_1 ?_
  obtain ⟨k1, h⟩ := h
  refine aw_callV (k1 := 0) (n1 := 0) (k2 := 0) (n2 := 0) (st := []) G0 S_X2_isLeaf gi_X2_270 (Or.inl (by rw [k1]; decide)) (by rw [k1]; rfl) md_X2_isLeaf (Nat.le_of_ble_eq_true rfl) (by decide) (by rw [G.2.1]; decide) (by rw [G.2.1]; decide) [aI x1] rfl rfl dX2_over_2 h (fun o C2 I3 J4 R5 h => ?_)
  obtain ⟨r6, rfl, h⟩ := h
  show AW Γ 0 0 C2 I3 J4 R5 (2 + 3) [(0, aR (some x0)), (1, aI x1)] [aI r6]
  refine aw_if_ne G0 14 dX2_over_5 (by decide) (fun c7 => ?_) (fun c7 => ?_)
  · have h := h.1 c7
    refine aw_aload_n G0 0 rfl dX2_over_14 ?_
    refine aw_iconst (v := (0 : Int32)) G0 dX2_over_15 (by decide) ?_
    obtain ⟨k8, h⟩ := h
    refine aw_putI (f := 0) G0 (by rw [k8]; exact fp_X2_112 _) dX2_over_16 ?_
    generalize gI9 : va_up I3 x0 (va_up (I3 x0) 0 (0 : Int32)) = I9
    have h := h I9 gI9.symm
    refine aw_aload_n G0 0 rfl dX2_over_19 ?_
    refine aw_getR (f := 20) G0 (by rw [k8]; exact fb_X2_63) dX2_over_20 ?_
    refine aw_iload_n G0 1 rfl dX2_over_23 ?_
    obtain ⟨q10, e10, h⟩ := h
    refine aw_dr1 e10 ?_
    obtain ⟨k11, h⟩ := h
    obtain ⟨k12, h⟩ := h
    refine aw_iald G0 (Or.inl k11) k12 dX2_over_24 ?_
    exact aw_ireturn G0 (Or.inl rfl) (by rw [G.2.2]; decide) (by rw [G.2.1]; decide) dX2_over_25 h
  · have h := h.2 c7
    refine aw_aload_n G0 0 rfl dX2_over_8 ?_
    refine aw_iconst (v := (1 : Int32)) G0 dX2_over_9 (by decide) ?_
    obtain ⟨k13, h⟩ := h
    refine aw_callV (k1 := 0) (n1 := 0) (k2 := 0) (n2 := 0) (st := []) G0 S_X2_refuse gi_X2_147 (Or.inl (by rw [k13]; decide)) (by rw [k13]; rfl) md_X2_refuse (Nat.le_of_ble_eq_true rfl) (by decide) (by rw [G.2.1]; decide) (by rw [G.2.1]; decide) [aI (1 : Int32)] rfl rfl dX2_over_10 h (fun o C14 I15 J16 R17 h => ?_)
    obtain ⟨r18, rfl, h⟩ := h
    show AW Γ 0 0 C14 I15 J16 R17 (10 + 3) [(0, aR (some x0)), (1, aI x1)] [aI r18]
    exact aw_ireturn G0 (Or.inl rfl) (by rw [G.2.2]; decide) (by rw [G.2.1]; decide) dX2_over_13 h
end BL
set_option linter.unusedVariables false
def PX2_weight_19 (F_X2_wrongTable : SPF) (F_X2_at : SPF) (F_X2_refuse : SPF) (K : AK) (x0 : Nat) (x1 : Int32) (x2 : Int32) (x3 : Int32) (s0 : Int32) (C : MC) (I : MI) (J : MJ) (R : MR) : Prop :=
      ((s0 ≤ 0 →
      (C x0).1 = 3 ∧
      ∀ I3 : MI, I3 = va_up I x0 (va_up (I x0) 0 (0 : Int32)) →
      ((x3 = 0 →
      F_X2_at [aI x1, aI x2] C I3 J R (fun o C5 I6 J7 R8 =>
      ∃ r9 : Int32, o = .inl (some (aI r9)) ∧
      ∃ q10 : Nat, R x0 23 = some q10 ∧
      (C5 q10).1 = 21 ∧
      vp_in r9 (C5 q10).2 ∧
      K (.inl (some (aJ (J7 q10 r9.toNatClampNeg)))) C5 I6 J7 R8)) ∧
      (¬ x3 = 0 →
      F_X2_at [aI x1, aI x2] C I3 J R (fun o C13 I14 J15 R16 =>
      ∃ r17 : Int32, o = .inl (some (aI r17)) ∧
      ∃ q18 : Nat, R x0 22 = some q18 ∧
      (C13 q18).1 = 21 ∧
      vp_in r17 (C13 q18).2 ∧
      K (.inl (some (aJ (J15 q18 r17.toNatClampNeg)))) C13 I14 J15 R16)))) ∧
      (¬ s0 ≤ 0 →
      (C x0).1 = 3 ∧
      F_X2_refuse [aR (some x0), aI s0] C I J R (fun o C22 I23 J24 R25 =>
      ∃ r26 : Int32, o = .inl (some (aI r26)) ∧
      K (.inl (some (aJ r26.toInt64))) C22 I23 J24 R25)))
def PX2_weight_10 (F_X2_wrongTable : SPF) (F_X2_at : SPF) (F_X2_refuse : SPF) (K : AK) (x0 : Nat) (x1 : Int32) (x2 : Int32) (x3 : Int32) (C : MC) (I : MI) (J : MJ) (R : MR) : Prop :=
      PX2_weight_19 F_X2_wrongTable F_X2_at F_X2_refuse K x0 x1 x2 x3 (1 : Int32) C I J R
def PX2_weight_0 (F_X2_wrongTable : SPF) (F_X2_at : SPF) (F_X2_refuse : SPF) (K : AK) (x0 : Nat) (x1 : Int32) (x2 : Int32) (x3 : Int32) (C : MC) (I : MI) (J : MJ) (R : MR) : Prop :=
      ((x2 < 0 →
      PX2_weight_10 F_X2_wrongTable F_X2_at F_X2_refuse K x0 x1 x2 x3 C I J R) ∧
      (¬ x2 < 0 →
      ((x2 < (121 : Int32) →
      (C x0).1 = 3 ∧
      F_X2_wrongTable [aR (some x0), aI x1] C I J R (fun o C4 I5 J6 R7 =>
      ∃ r8 : Int32, o = .inl (some (aI r8)) ∧
      PX2_weight_19 F_X2_wrongTable F_X2_at F_X2_refuse K x0 x1 x2 x3 r8 C4 I5 J6 R7)) ∧
      (¬ x2 < (121 : Int32) →
      PX2_weight_10 F_X2_wrongTable F_X2_at F_X2_refuse K x0 x1 x2 x3 C I J R))))
theorem wX2_weight {l : Launch}  {F_X2_wrongTable : SPF} (S_X2_wrongTable : SpX2_wrongTable l F_X2_wrongTable) {F_X2_at : SPF} (S_X2_at : SpX2_at l F_X2_at) {F_X2_refuse : SPF} (S_X2_refuse : SpX2_refuse l F_X2_refuse) {F : SPF}
    (h0 : ∀ (As : List AV) (C : MC) (I : MI) (J : MJ) (R : MR) (K : AK), F As C I J R K → ∃ (x0 : Nat) (x1 : Int32) (x2 : Int32) (x3 : Int32), As = [aR (some x0), aI x1, aI x2, aI x3] ∧ PX2_weight_0 F_X2_wrongTable F_X2_at F_X2_refuse K x0 x1 x2 x3 C I J R) : SpX2_weight l F := by
  refine Spec.of (by rfl) ?_
  intro Γ C I J R As Gd gl gr _ _ gb hF
  subst gl
  have G : Gb Γ yX2_weight cX2_weight 5 (some .long) [] rmX2_weight bdX2_weight := ⟨Gd, gr, gb⟩
  have w19 : ∀ (x0 : Nat) (x1 : Int32) (x2 : Int32) (x3 : Int32) (s0 : Int32) (C : MC) (I : MI) (J : MJ) (R : MR), PX2_weight_19 F_X2_wrongTable F_X2_at F_X2_refuse (gK Γ) x0 x1 x2 x3 s0 C I J R → AW Γ 0 0 C I J R 19 [(0, aR (some x0)), (1, aI x1), (2, aI x2), (3, aI x3)] [aI s0] := fun x0 x1 x2 x3 s0 C I J R h => bX2_weight_19 G S_X2_at S_X2_refuse h
  have w10 : ∀ (x0 : Nat) (x1 : Int32) (x2 : Int32) (x3 : Int32) (C : MC) (I : MI) (J : MJ) (R : MR), PX2_weight_10 F_X2_wrongTable F_X2_at F_X2_refuse (gK Γ) x0 x1 x2 x3 C I J R → AW Γ 0 0 C I J R 10 [(0, aR (some x0)), (1, aI x1), (2, aI x2), (3, aI x3)] [] := fun x0 x1 x2 x3 C I J R h => bX2_weight_10 G w19 h
  obtain ⟨x0, x1, x2, x3, rfl, h⟩ := h0 As C I J R (gK Γ) hF
  exact ⟨Nat.le_of_ble_eq_true rfl, bX2_weight_0 G S_X2_wrongTable w10 w19 h⟩
def PX2_whole_0 (F_X2_wrongTable : SPF) (F_X2_refuse : SPF) (K : AK) (x0 : Nat) (x1 : Int32) (C : MC) (I : MI) (J : MJ) (R : MR) : Prop :=
      (C x0).1 = 3 ∧
      F_X2_wrongTable [aR (some x0), aI x1] C I J R (fun o C2 I3 J4 R5 =>
      ∃ r6 : Int32, o = .inl (some (aI r6)) ∧
      ((r6 ≤ 0 →
      (C2 x0).1 = 3 ∧
      ∀ I9 : MI, I9 = va_up I3 x0 (va_up (I3 x0) 0 (0 : Int32)) →
      ∃ q10 : Nat, R5 x0 24 = some q10 ∧
      (C2 q10).1 = 21 ∧
      vp_in x1 (C2 q10).2 ∧
      K (.inl (some (aJ (J4 q10 x1.toNatClampNeg)))) C2 I9 J4 R5) ∧
      (¬ r6 ≤ 0 →
      (C2 x0).1 = 3 ∧
      F_X2_refuse [aR (some x0), aI r6] C2 I3 J4 R5 (fun o C14 I15 J16 R17 =>
      ∃ r18 : Int32, o = .inl (some (aI r18)) ∧
      K (.inl (some (aJ r18.toInt64))) C14 I15 J16 R17))))
theorem wX2_whole {l : Launch}  {F_X2_wrongTable : SPF} (S_X2_wrongTable : SpX2_wrongTable l F_X2_wrongTable) {F_X2_refuse : SPF} (S_X2_refuse : SpX2_refuse l F_X2_refuse) {F : SPF}
    (h0 : ∀ (As : List AV) (C : MC) (I : MI) (J : MJ) (R : MR) (K : AK), F As C I J R K → ∃ (x0 : Nat) (x1 : Int32), As = [aR (some x0), aI x1] ∧ PX2_whole_0 F_X2_wrongTable F_X2_refuse K x0 x1 C I J R) : SpX2_whole l F := by
  refine Spec.of (by rfl) ?_
  intro Γ C I J R As Gd gl gr _ _ gb hF
  subst gl
  have G : Gb Γ yX2_whole cX2_whole 3 (some .long) [] rmX2_whole bdX2_whole := ⟨Gd, gr, gb⟩
  obtain ⟨x0, x1, rfl, h⟩ := h0 As C I J R (gK Γ) hF
  exact ⟨Nat.le_of_ble_eq_true rfl, bX2_whole_0 G S_X2_wrongTable S_X2_refuse h⟩
def PX2_by_19 (F_X2_wrongTable : SPF) (F_X2_by0 : SPF) (F_X2_tells : SPF) (F_X2_refuse : SPF) (K : AK) (x0 : Nat) (x1 : Int32) (x2 : Int32) (s0 : Int32) (C : MC) (I : MI) (J : MJ) (R : MR) : Prop :=
      ((s0 ≤ 0 →
      (C x0).1 = 3 ∧
      F_X2_by0 [aR (some x0), aI x1, aI x2] C I J R (fun o C3 I4 J5 R6 =>
      ∃ r7 : Int64, o = .inl (some (aJ r7)) ∧
      (C3 x0).1 = 3 ∧
      ∃ q9 : Nat, R6 x0 24 = some q9 ∧
      (C3 q9).1 = 21 ∧
      vp_in x1 (C3 q9).2 ∧
      F_X2_tells [aR (some x0), aJ r7, aJ (J5 q9 x1.toNatClampNeg)] C3 I4 J5 R6 (fun o C12 I13 J14 R15 =>
      ∃ r16 : Int32, o = .inl (some (aI r16)) ∧
      K (.inl (some (aI r16))) C12 I13 J14 R15))) ∧
      (¬ s0 ≤ 0 →
      (C x0).1 = 3 ∧
      F_X2_refuse [aR (some x0), aI s0] C I J R (fun o C18 I19 J20 R21 =>
      ∃ r22 : Int32, o = .inl (some (aI r22)) ∧
      K (.inl (some (aI r22))) C18 I19 J20 R21)))
def PX2_by_10 (F_X2_wrongTable : SPF) (F_X2_by0 : SPF) (F_X2_tells : SPF) (F_X2_refuse : SPF) (K : AK) (x0 : Nat) (x1 : Int32) (x2 : Int32) (C : MC) (I : MI) (J : MJ) (R : MR) : Prop :=
      PX2_by_19 F_X2_wrongTable F_X2_by0 F_X2_tells F_X2_refuse K x0 x1 x2 (1 : Int32) C I J R
def PX2_by_0 (F_X2_wrongTable : SPF) (F_X2_by0 : SPF) (F_X2_tells : SPF) (F_X2_refuse : SPF) (K : AK) (x0 : Nat) (x1 : Int32) (x2 : Int32) (C : MC) (I : MI) (J : MJ) (R : MR) : Prop :=
      ((x2 < 0 →
      PX2_by_10 F_X2_wrongTable F_X2_by0 F_X2_tells F_X2_refuse K x0 x1 x2 C I J R) ∧
      (¬ x2 < 0 →
      ((x2 < (121 : Int32) →
      (C x0).1 = 3 ∧
      F_X2_wrongTable [aR (some x0), aI x1] C I J R (fun o C4 I5 J6 R7 =>
      ∃ r8 : Int32, o = .inl (some (aI r8)) ∧
      PX2_by_19 F_X2_wrongTable F_X2_by0 F_X2_tells F_X2_refuse K x0 x1 x2 r8 C4 I5 J6 R7)) ∧
      (¬ x2 < (121 : Int32) →
      PX2_by_10 F_X2_wrongTable F_X2_by0 F_X2_tells F_X2_refuse K x0 x1 x2 C I J R))))
theorem wX2_by {l : Launch}  {F_X2_wrongTable : SPF} (S_X2_wrongTable : SpX2_wrongTable l F_X2_wrongTable) {F_X2_by0 : SPF} (S_X2_by0 : SpX2_by0 l F_X2_by0) {F_X2_tells : SPF} (S_X2_tells : SpX2_tells l F_X2_tells) {F_X2_refuse : SPF} (S_X2_refuse : SpX2_refuse l F_X2_refuse) {F : SPF}
    (h0 : ∀ (As : List AV) (C : MC) (I : MI) (J : MJ) (R : MR) (K : AK), F As C I J R K → ∃ (x0 : Nat) (x1 : Int32) (x2 : Int32), As = [aR (some x0), aI x1, aI x2] ∧ PX2_by_0 F_X2_wrongTable F_X2_by0 F_X2_tells F_X2_refuse K x0 x1 x2 C I J R) : SpX2_by l F := by
  refine Spec.of (by rfl) ?_
  intro Γ C I J R As Gd gl gr _ _ gb hF
  subst gl
  have G : Gb Γ yX2_by cX2_by 4 (some .int) [] rmX2_by bdX2_by := ⟨Gd, gr, gb⟩
  have w19 : ∀ (x0 : Nat) (x1 : Int32) (x2 : Int32) (s0 : Int32) (C : MC) (I : MI) (J : MJ) (R : MR), PX2_by_19 F_X2_wrongTable F_X2_by0 F_X2_tells F_X2_refuse (gK Γ) x0 x1 x2 s0 C I J R → AW Γ 0 0 C I J R 19 [(0, aR (some x0)), (1, aI x1), (2, aI x2)] [aI s0] := fun x0 x1 x2 s0 C I J R h => bX2_by_19 G S_X2_by0 S_X2_tells S_X2_refuse h
  have w10 : ∀ (x0 : Nat) (x1 : Int32) (x2 : Int32) (C : MC) (I : MI) (J : MJ) (R : MR), PX2_by_10 F_X2_wrongTable F_X2_by0 F_X2_tells F_X2_refuse (gK Γ) x0 x1 x2 C I J R → AW Γ 0 0 C I J R 10 [(0, aR (some x0)), (1, aI x1), (2, aI x2)] [] := fun x0 x1 x2 C I J R h => bX2_by_10 G w19 h
  obtain ⟨x0, x1, x2, rfl, h⟩ := h0 As C I J R (gK Γ) hF
  exact ⟨Nat.le_of_ble_eq_true rfl, bX2_by_0 G S_X2_wrongTable w10 w19 h⟩
def PX2_by0_5 (F_X2_at : SPF) (Q5 : Nat → Int32 → Int32 → Int64 → Int32 → MC → MI → MJ → MR → Prop) (K : AK) (x0 : Nat) (x1 : Int32) (x2 : Int32) (x3 : Int64) (x5 : Int32) (C : MC) (I : MI) (J : MJ) (R : MR) : Prop :=
      ((x2 < x5 →
      K (.inl (some (aJ x3))) C I J R) ∧
      (¬ x2 < x5 →
      (C x0).1 = 3 ∧
      F_X2_at [aI x1, aI x5] C I J R (fun o C3 I4 J5 R6 =>
      ∃ r7 : Int32, o = .inl (some (aI r7)) ∧
      ∃ q8 : Nat, R x0 22 = some q8 ∧
      (C3 q8).1 = 21 ∧
      vp_in r7 (C3 q8).2 ∧
      Q5 x0 x1 x2 (x3 + (J5 q8 r7.toNatClampNeg)) (x5 + 1) C3 I4 J5 R6)))
def PX2_by0_0 (F_X2_at : SPF) (Q5 : Nat → Int32 → Int32 → Int64 → Int32 → MC → MI → MJ → MR → Prop) (K : AK) (x0 : Nat) (x1 : Int32) (x2 : Int32) (C : MC) (I : MI) (J : MJ) (R : MR) : Prop :=
      Q5 x0 x1 x2 (0 : Int64) (0 : Int32) C I J R
theorem wX2_by0 {l : Launch}  {F_X2_at : SPF} (S_X2_at : SpX2_at l F_X2_at)
    (Q5 : Nat → AK → Nat → Int32 → Int32 → Int64 → Int32 → MC → MI → MJ → MR → Prop) {F : SPF}
    (h0 : ∀ (As : List AV) (C : MC) (I : MI) (J : MJ) (R : MR) (K : AK), F As C I J R K → ∃ (x0 : Nat) (x1 : Int32) (x2 : Int32), As = [aR (some x0), aI x1, aI x2] ∧ PX2_by0_0 F_X2_at (fun (x0 : Nat) (x1 : Int32) (x2 : Int32) (x3 : Int64) (x5 : Int32) (C : MC) (I : MI) (J : MJ) (R : MR) => ∃ n, Q5 n K x0 x1 x2 x3 x5 C I J R) K x0 x1 x2 C I J R)
    (h5 : ∀ (n : Nat) (K : AK) (x0 : Nat) (x1 : Int32) (x2 : Int32) (x3 : Int64) (x5 : Int32) (C : MC) (I : MI) (J : MJ) (R : MR), Q5 n K x0 x1 x2 x3 x5 C I J R → PX2_by0_5 F_X2_at (fun (x0 : Nat) (x1 : Int32) (x2 : Int32) (x3 : Int64) (x5 : Int32) (C : MC) (I : MI) (J : MJ) (R : MR) => ∃ m, m < n ∧ Q5 m K x0 x1 x2 x3 x5 C I J R) K x0 x1 x2 x3 x5 C I J R) : SpX2_by0 l F := by
  refine Spec.of (by rfl) ?_
  intro Γ C I J R As Gd gl gr _ _ gb hF
  subst gl
  have G : Gb Γ yX2_by0 cX2_by0 6 (some .long) [] rmX2_by0 bdX2_by0 := ⟨Gd, gr, gb⟩
  have key : ∀ n : Nat, (∀ (x0 : Nat) (x1 : Int32) (x2 : Int32) (x3 : Int64) (x5 : Int32) (C : MC) (I : MI) (J : MJ) (R : MR), Q5 n (gK Γ) x0 x1 x2 x3 x5 C I J R → AW Γ 0 0 C I J R 5 [(0, aR (some x0)), (1, aI x1), (2, aI x2), (3, aJ x3), (5, aI x5)] []) := by
    intro n
    induction n using Nat.strongRecOn with
    | ind n ih =>
    have w5 : ∀ (x0 : Nat) (x1 : Int32) (x2 : Int32) (x3 : Int64) (x5 : Int32) (C : MC) (I : MI) (J : MJ) (R : MR), (∃ m, m < n ∧ Q5 m (gK Γ) x0 x1 x2 x3 x5 C I J R) → AW Γ 0 0 C I J R 5 [(0, aR (some x0)), (1, aI x1), (2, aI x2), (3, aJ x3), (5, aI x5)] [] := fun x0 x1 x2 x3 x5 C I J R ⟨m, hm, hq⟩ => (ih m hm) x0 x1 x2 x3 x5 C I J R hq
    exact fun x0 x1 x2 x3 x5 C I J R h => bX2_by0_5 G S_X2_at w5 (h5 n (gK Γ) x0 x1 x2 x3 x5 C I J R h)
  have w5 : ∀ (x0 : Nat) (x1 : Int32) (x2 : Int32) (x3 : Int64) (x5 : Int32) (C : MC) (I : MI) (J : MJ) (R : MR), (∃ n, Q5 n (gK Γ) x0 x1 x2 x3 x5 C I J R) → AW Γ 0 0 C I J R 5 [(0, aR (some x0)), (1, aI x1), (2, aI x2), (3, aJ x3), (5, aI x5)] [] := fun x0 x1 x2 x3 x5 C I J R ⟨m, hq⟩ => (key m) x0 x1 x2 x3 x5 C I J R hq
  obtain ⟨x0, x1, x2, rfl, h⟩ := h0 As C I J R (gK Γ) hF
  exact ⟨Nat.le_of_ble_eq_true rfl, bX2_by0_0 G w5 h⟩
def PX2_tells_0 (F_X2_common : SPF) (K : AK) (x0 : Nat) (x1 : Int64) (x3 : Int64) (C : MC) (I : MI) (J : MJ) (R : MR) : Prop :=
      F_X2_common [aJ x1, aJ x3] C I J R (fun o C1 I2 J3 R4 =>
      ∃ r5 : Int64, o = .inl (some (aJ r5)) ∧
      ¬ r5 = 0 ∧
      (C1 x0).1 = 3 ∧
      ∀ J8 : MJ, J8 = va_up J3 x0 (va_up (J3 x0) 1 (x1 / r5)) →
      ∀ J9 : MJ, J9 = va_up J8 x0 (va_up (J8 x0) 2 (x3 / r5)) →
      ∀ I10 : MI, I10 = va_up I2 x0 (va_up (I2 x0) 0 (0 : Int32)) →
      ((x1 ≤ (0 : Int64) →
      K (.inl (some (aI (0 : Int32)))) C1 I10 J9 R4) ∧
      (¬ x1 ≤ (0 : Int64) →
      K (.inl (some (aI (1 : Int32)))) C1 I10 J9 R4)))
theorem wX2_tells {l : Launch}  {F_X2_common : SPF} (S_X2_common : SpX2_common l F_X2_common) {F : SPF}
    (h0 : ∀ (As : List AV) (C : MC) (I : MI) (J : MJ) (R : MR) (K : AK), F As C I J R K → ∃ (x0 : Nat) (x1 : Int64) (x3 : Int64), As = [aR (some x0), aJ x1, aJ x3] ∧ PX2_tells_0 F_X2_common K x0 x1 x3 C I J R) : SpX2_tells l F := by
  refine Spec.of (by rfl) ?_
  intro Γ C I J R As Gd gl gr _ _ gb hF
  subst gl
  have G : Gb Γ yX2_tells cX2_tells 7 (some .int) [] rmX2_tells bdX2_tells := ⟨Gd, gr, gb⟩
  obtain ⟨x0, x1, x3, rfl, h⟩ := h0 As C I J R (gK Γ) hF
  exact ⟨Nat.le_of_ble_eq_true rfl, bX2_tells_0 G S_X2_common h⟩
def PX2_fails_0 (F_X2_wrongTable : SPF) (F_X2_by0 : SPF) (F_X2_tells : SPF) (F_X2_refuse : SPF) (K : AK) (x0 : Nat) (x1 : Int32) (C : MC) (I : MI) (J : MJ) (R : MR) : Prop :=
      (C x0).1 = 3 ∧
      F_X2_wrongTable [aR (some x0), aI x1] C I J R (fun o C2 I3 J4 R5 =>
      ∃ r6 : Int32, o = .inl (some (aI r6)) ∧
      ((r6 ≤ 0 →
      (C2 x0).1 = 3 ∧
      ∃ q9 : Nat, R5 x0 24 = some q9 ∧
      (C2 q9).1 = 21 ∧
      vp_in x1 (C2 q9).2 ∧
      F_X2_by0 [aR (some x0), aI x1, aI (120 : Int32)] C2 I3 J4 R5 (fun o C12 I13 J14 R15 =>
      ∃ r16 : Int64, o = .inl (some (aJ r16)) ∧
      (C12 x0).1 = 3 ∧
      ∃ q18 : Nat, R15 x0 24 = some q18 ∧
      (C12 q18).1 = 21 ∧
      vp_in x1 (C12 q18).2 ∧
      F_X2_tells [aR (some x0), aJ ((J4 q9 x1.toNatClampNeg) - r16), aJ (J14 q18 x1.toNatClampNeg)] C12 I13 J14 R15 (fun o C21 I22 J23 R24 =>
      ∃ r25 : Int32, o = .inl (some (aI r25)) ∧
      K (.inl (some (aI r25))) C21 I22 J23 R24))) ∧
      (¬ r6 ≤ 0 →
      (C2 x0).1 = 3 ∧
      F_X2_refuse [aR (some x0), aI r6] C2 I3 J4 R5 (fun o C27 I28 J29 R30 =>
      ∃ r31 : Int32, o = .inl (some (aI r31)) ∧
      K (.inl (some (aI r31))) C27 I28 J29 R30))))
theorem wX2_fails {l : Launch}  {F_X2_wrongTable : SPF} (S_X2_wrongTable : SpX2_wrongTable l F_X2_wrongTable) {F_X2_by0 : SPF} (S_X2_by0 : SpX2_by0 l F_X2_by0) {F_X2_tells : SPF} (S_X2_tells : SpX2_tells l F_X2_tells) {F_X2_refuse : SPF} (S_X2_refuse : SpX2_refuse l F_X2_refuse) {F : SPF}
    (h0 : ∀ (As : List AV) (C : MC) (I : MI) (J : MJ) (R : MR) (K : AK), F As C I J R K → ∃ (x0 : Nat) (x1 : Int32), As = [aR (some x0), aI x1] ∧ PX2_fails_0 F_X2_wrongTable F_X2_by0 F_X2_tells F_X2_refuse K x0 x1 C I J R) : SpX2_fails l F := by
  refine Spec.of (by rfl) ?_
  intro Γ C I J R As Gd gl gr _ _ gb hF
  subst gl
  have G : Gb Γ yX2_fails cX2_fails 3 (some .int) [] rmX2_fails bdX2_fails := ⟨Gd, gr, gb⟩
  obtain ⟨x0, x1, rfl, h⟩ := h0 As C I J R (gK Γ) hF
  exact ⟨Nat.le_of_ble_eq_true rfl, bX2_fails_0 G S_X2_wrongTable S_X2_by0 S_X2_tells S_X2_refuse h⟩
def PX2_promise_39 (F_X2_isShare : SPF) (F_X2_wrongTable : SPF) (F_X2_refuse : SPF) (F_X2_by0 : SPF) (F_X2_isEnough : SPF) (Q39 : Nat → Int32 → Int32 → Int32 → Int32 → MC → MI → MJ → MR → Prop) (K : AK) (x0 : Nat) (x1 : Int32) (x2 : Int32) (x3 : Int32) (x5 : Int32) (C : MC) (I : MI) (J : MJ) (R : MR) : Prop :=
      (((121 : Int32) ≤ x5 →
      (C x0).1 = 3 ∧
      F_X2_refuse [aR (some x0), aI (6 : Int32)] C I J R (fun o C3 I4 J5 R6 =>
      ∃ r7 : Int32, o = .inl (some (aI r7)) ∧
      K (.inl (some (aI r7))) C3 I4 J5 R6)) ∧
      (¬ (121 : Int32) ≤ x5 →
      (C x0).1 = 3 ∧
      F_X2_by0 [aR (some x0), aI x1, aI x5] C I J R (fun o C9 I10 J11 R12 =>
      ∃ r13 : Int64, o = .inl (some (aJ r13)) ∧
      (C9 x0).1 = 3 ∧
      ∃ q15 : Nat, R12 x0 24 = some q15 ∧
      (C9 q15).1 = 21 ∧
      vp_in x1 (C9 q15).2 ∧
      F_X2_isEnough [aJ r13, aJ (J11 q15 x1.toNatClampNeg), aJ x2.toInt64, aJ x3.toInt64] C9 I10 J11 R12 (fun o C18 I19 J20 R21 =>
      ∃ r22 : Int32, o = .inl (some (aI r22)) ∧
      ((r22 = 0 →
      Q39 x0 x1 x2 x3 (x5 + 1) C18 I19 J20 R21) ∧
      (¬ r22 = 0 →
      K (.inl (some (aI x5))) C18 I19 J20 R21))))))
def PX2_promise_17 (F_X2_isShare : SPF) (F_X2_wrongTable : SPF) (F_X2_refuse : SPF) (F_X2_by0 : SPF) (F_X2_isEnough : SPF) (Q39 : Nat → Int32 → Int32 → Int32 → Int32 → MC → MI → MJ → MR → Prop) (K : AK) (x0 : Nat) (x1 : Int32) (x2 : Int32) (x3 : Int32) (s0 : Int32) (C : MC) (I : MI) (J : MJ) (R : MR) : Prop :=
      ((s0 ≤ 0 →
      (C x0).1 = 3 ∧
      ∀ I3 : MI, I3 = va_up I x0 (va_up (I x0) 0 (0 : Int32)) →
      Q39 x0 x1 x2 x3 (0 : Int32) C I3 J R) ∧
      (¬ s0 ≤ 0 →
      (C x0).1 = 3 ∧
      F_X2_refuse [aR (some x0), aI s0] C I J R (fun o C5 I6 J7 R8 =>
      ∃ r9 : Int32, o = .inl (some (aI r9)) ∧
      K (.inl (some (aI r9))) C5 I6 J7 R8)))
def PX2_promise_0 (F_X2_isShare : SPF) (F_X2_wrongTable : SPF) (F_X2_refuse : SPF) (F_X2_by0 : SPF) (F_X2_isEnough : SPF) (Q39 : Nat → Int32 → Int32 → Int32 → Int32 → MC → MI → MJ → MR → Prop) (K : AK) (x0 : Nat) (x1 : Int32) (x2 : Int32) (x3 : Int32) (C : MC) (I : MI) (J : MJ) (R : MR) : Prop :=
      F_X2_isShare [aI x2, aI x3] C I J R (fun o C1 I2 J3 R4 =>
      ∃ r5 : Int32, o = .inl (some (aI r5)) ∧
      ((¬ r5 = 0 →
      (C1 x0).1 = 3 ∧
      F_X2_wrongTable [aR (some x0), aI x1] C1 I2 J3 R4 (fun o C8 I9 J10 R11 =>
      ∃ r12 : Int32, o = .inl (some (aI r12)) ∧
      PX2_promise_17 F_X2_isShare F_X2_wrongTable F_X2_refuse F_X2_by0 F_X2_isEnough Q39 K x0 x1 x2 x3 r12 C8 I9 J10 R11)) ∧
      (r5 = 0 →
      PX2_promise_17 F_X2_isShare F_X2_wrongTable F_X2_refuse F_X2_by0 F_X2_isEnough Q39 K x0 x1 x2 x3 (1 : Int32) C1 I2 J3 R4)))
theorem wX2_promise {l : Launch}  {F_X2_isShare : SPF} (S_X2_isShare : SpX2_isShare l F_X2_isShare) {F_X2_wrongTable : SPF} (S_X2_wrongTable : SpX2_wrongTable l F_X2_wrongTable) {F_X2_refuse : SPF} (S_X2_refuse : SpX2_refuse l F_X2_refuse) {F_X2_by0 : SPF} (S_X2_by0 : SpX2_by0 l F_X2_by0) {F_X2_isEnough : SPF} (S_X2_isEnough : SpX2_isEnough l F_X2_isEnough)
    (Q39 : Nat → AK → Nat → Int32 → Int32 → Int32 → Int32 → MC → MI → MJ → MR → Prop) {F : SPF}
    (h0 : ∀ (As : List AV) (C : MC) (I : MI) (J : MJ) (R : MR) (K : AK), F As C I J R K → ∃ (x0 : Nat) (x1 : Int32) (x2 : Int32) (x3 : Int32), As = [aR (some x0), aI x1, aI x2, aI x3] ∧ PX2_promise_0 F_X2_isShare F_X2_wrongTable F_X2_refuse F_X2_by0 F_X2_isEnough (fun (x0 : Nat) (x1 : Int32) (x2 : Int32) (x3 : Int32) (x5 : Int32) (C : MC) (I : MI) (J : MJ) (R : MR) => ∃ n, Q39 n K x0 x1 x2 x3 x5 C I J R) K x0 x1 x2 x3 C I J R)
    (h39 : ∀ (n : Nat) (K : AK) (x0 : Nat) (x1 : Int32) (x2 : Int32) (x3 : Int32) (x5 : Int32) (C : MC) (I : MI) (J : MJ) (R : MR), Q39 n K x0 x1 x2 x3 x5 C I J R → PX2_promise_39 F_X2_isShare F_X2_wrongTable F_X2_refuse F_X2_by0 F_X2_isEnough (fun (x0 : Nat) (x1 : Int32) (x2 : Int32) (x3 : Int32) (x5 : Int32) (C : MC) (I : MI) (J : MJ) (R : MR) => ∃ m, m < n ∧ Q39 m K x0 x1 x2 x3 x5 C I J R) K x0 x1 x2 x3 x5 C I J R) : SpX2_promise l F := by
  refine Spec.of (by rfl) ?_
  intro Γ C I J R As Gd gl gr _ _ gb hF
  subst gl
  have G : Gb Γ yX2_promise cX2_promise 6 (some .int) [] rmX2_promise bdX2_promise := ⟨Gd, gr, gb⟩
  have key : ∀ n : Nat, (∀ (x0 : Nat) (x1 : Int32) (x2 : Int32) (x3 : Int32) (x5 : Int32) (C : MC) (I : MI) (J : MJ) (R : MR), Q39 n (gK Γ) x0 x1 x2 x3 x5 C I J R → AW Γ 0 0 C I J R 39 [(0, aR (some x0)), (1, aI x1), (2, aI x2), (3, aI x3), (5, aI x5)] []) := by
    intro n
    induction n using Nat.strongRecOn with
    | ind n ih =>
    have w39 : ∀ (x0 : Nat) (x1 : Int32) (x2 : Int32) (x3 : Int32) (x5 : Int32) (C : MC) (I : MI) (J : MJ) (R : MR), (∃ m, m < n ∧ Q39 m (gK Γ) x0 x1 x2 x3 x5 C I J R) → AW Γ 0 0 C I J R 39 [(0, aR (some x0)), (1, aI x1), (2, aI x2), (3, aI x3), (5, aI x5)] [] := fun x0 x1 x2 x3 x5 C I J R ⟨m, hm, hq⟩ => (ih m hm) x0 x1 x2 x3 x5 C I J R hq
    have w17 : ∀ (x0 : Nat) (x1 : Int32) (x2 : Int32) (x3 : Int32) (s0 : Int32) (C : MC) (I : MI) (J : MJ) (R : MR), PX2_promise_17 F_X2_isShare F_X2_wrongTable F_X2_refuse F_X2_by0 F_X2_isEnough (fun (x0 : Nat) (x1 : Int32) (x2 : Int32) (x3 : Int32) (x5 : Int32) (C : MC) (I : MI) (J : MJ) (R : MR) => ∃ m, m < n ∧ Q39 m (gK Γ) x0 x1 x2 x3 x5 C I J R) (gK Γ) x0 x1 x2 x3 s0 C I J R → AW Γ 0 0 C I J R 17 [(0, aR (some x0)), (1, aI x1), (2, aI x2), (3, aI x3)] [aI s0] := fun x0 x1 x2 x3 s0 C I J R h => bX2_promise_17 G S_X2_refuse w39 h
    exact fun x0 x1 x2 x3 x5 C I J R h => bX2_promise_39 G S_X2_refuse S_X2_by0 S_X2_isEnough w39 (h39 n (gK Γ) x0 x1 x2 x3 x5 C I J R h)
  have w39 : ∀ (x0 : Nat) (x1 : Int32) (x2 : Int32) (x3 : Int32) (x5 : Int32) (C : MC) (I : MI) (J : MJ) (R : MR), (∃ n, Q39 n (gK Γ) x0 x1 x2 x3 x5 C I J R) → AW Γ 0 0 C I J R 39 [(0, aR (some x0)), (1, aI x1), (2, aI x2), (3, aI x3), (5, aI x5)] [] := fun x0 x1 x2 x3 x5 C I J R ⟨m, hq⟩ => (key m) x0 x1 x2 x3 x5 C I J R hq
  have w17 : ∀ (x0 : Nat) (x1 : Int32) (x2 : Int32) (x3 : Int32) (s0 : Int32) (C : MC) (I : MI) (J : MJ) (R : MR), PX2_promise_17 F_X2_isShare F_X2_wrongTable F_X2_refuse F_X2_by0 F_X2_isEnough (fun (x0 : Nat) (x1 : Int32) (x2 : Int32) (x3 : Int32) (x5 : Int32) (C : MC) (I : MI) (J : MJ) (R : MR) => ∃ n, Q39 n (gK Γ) x0 x1 x2 x3 x5 C I J R) (gK Γ) x0 x1 x2 x3 s0 C I J R → AW Γ 0 0 C I J R 17 [(0, aR (some x0)), (1, aI x1), (2, aI x2), (3, aI x3)] [aI s0] := fun x0 x1 x2 x3 s0 C I J R h => bX2_promise_17 G S_X2_refuse w39 h
  obtain ⟨x0, x1, x2, x3, rfl, h⟩ := h0 As C I J R (gK Γ) hF
  exact ⟨Nat.le_of_ble_eq_true rfl, bX2_promise_0 G S_X2_isShare S_X2_wrongTable w17 h⟩
def PX2_isShare_0 (K : AK) (x0 : Int32) (x1 : Int32) (C : MC) (I : MI) (J : MJ) (R : MR) : Prop :=
      ((x1 < (1 : Int32) →
      K (.inl (some (aI (0 : Int32)))) C I J R) ∧
      (¬ x1 < (1 : Int32) →
      (((1000000 : Int32) < x1 →
      K (.inl (some (aI (0 : Int32)))) C I J R) ∧
      (¬ (1000000 : Int32) < x1 →
      ((x0 < 0 →
      K (.inl (some (aI (0 : Int32)))) C I J R) ∧
      (¬ x0 < 0 →
      ((x1 < x0 →
      K (.inl (some (aI (0 : Int32)))) C I J R) ∧
      (¬ x1 < x0 →
      K (.inl (some (aI (1 : Int32)))) C I J R))))))))
theorem wX2_isShare {l : Launch}  {F : SPF}
    (h0 : ∀ (As : List AV) (C : MC) (I : MI) (J : MJ) (R : MR) (K : AK), F As C I J R K → ∃ (x0 : Int32) (x1 : Int32), As = [aI x0, aI x1] ∧ PX2_isShare_0 K x0 x1 C I J R) : SpX2_isShare l F := by
  refine Spec.of (by rfl) ?_
  intro Γ C I J R As Gd gl gr _ _ gb hF
  subst gl
  have G : Gb Γ yX2_isShare cX2_isShare 2 (some .boolean) [] rmX2_isShare bdX2_isShare := ⟨Gd, gr, gb⟩
  obtain ⟨x0, x1, rfl, h⟩ := h0 As C I J R (gK Γ) hF
  exact ⟨Nat.le_of_ble_eq_true rfl, bX2_isShare_0 G h⟩
def PX2_isEnough_167 (Q20 : Int64 → Int64 → Int64 → Int64 → Int32 → Int32 → MC → MI → MJ → MR → Prop) (K : AK) (x8 : Int64) (x10 : Int64) (x12 : Int64) (x14 : Int64) (x17 : Int32) (s0 : Int32) (C : MC) (I : MI) (J : MJ) (R : MR) : Prop :=
      Q20 x8 x10 x12 x14 s0 (x17 + 1) C I J R
def PX2_isEnough_130 (Q20 : Int64 → Int64 → Int64 → Int64 → Int32 → Int32 → MC → MI → MJ → MR → Prop) (K : AK) (x16 : Int32) (s0 : Int32) (C : MC) (I : MI) (J : MJ) (R : MR) : Prop :=
      ((s0 = x16 →
      K (.inl (some (aI (0 : Int32)))) C I J R) ∧
      (¬ s0 = x16 →
      K (.inl (some (aI (1 : Int32)))) C I J R))
def PX2_isEnough_118 (Q20 : Int64 → Int64 → Int64 → Int64 → Int32 → Int32 → MC → MI → MJ → MR → Prop) (K : AK) (x16 : Int32) (x22 : Int64) (C : MC) (I : MI) (J : MJ) (R : MR) : Prop :=
      ((x22 ≤ (0 : Int64) →
      PX2_isEnough_130 Q20 K x16 (0 : Int32) C I J R) ∧
      (¬ x22 ≤ (0 : Int64) →
      PX2_isEnough_130 Q20 K x16 (1 : Int32) C I J R))
def PX2_isEnough_104 (Q20 : Int64 → Int64 → Int64 → Int64 → Int32 → Int32 → MC → MI → MJ → MR → Prop) (K : AK) (x10 : Int64) (x14 : Int64) (x16 : Int32) (x17 : Int32) (x22 : Int64) (x24 : Int64) (C : MC) (I : MI) (J : MJ) (R : MR) : Prop :=
      ((x22 = (0 : Int64) →
      PX2_isEnough_118 Q20 K x16 x22 C I J R) ∧
      (¬ x22 = (0 : Int64) →
      ((¬ x24 = (0 : Int64) →
      ((¬ x16 = 0 →
      PX2_isEnough_167 Q20 K x10 x22 x14 x24 x17 (0 : Int32) C I J R) ∧
      (x16 = 0 →
      PX2_isEnough_167 Q20 K x10 x22 x14 x24 x17 (1 : Int32) C I J R))) ∧
      (x24 = (0 : Int64) →
      PX2_isEnough_118 Q20 K x16 x22 C I J R))))
def PX2_isEnough_63 (Q20 : Int64 → Int64 → Int64 → Int64 → Int32 → Int32 → MC → MI → MJ → MR → Prop) (K : AK) (x16 : Int32) (s0 : Int32) (C : MC) (I : MI) (J : MJ) (R : MR) : Prop :=
      ((s0 = x16 →
      K (.inl (some (aI (0 : Int32)))) C I J R) ∧
      (¬ s0 = x16 →
      K (.inl (some (aI (1 : Int32)))) C I J R))
def PX2_isEnough_20 (Q20 : Int64 → Int64 → Int64 → Int64 → Int32 → Int32 → MC → MI → MJ → MR → Prop) (K : AK) (x8 : Int64) (x10 : Int64) (x12 : Int64) (x14 : Int64) (x16 : Int32) (x17 : Int32) (C : MC) (I : MI) (J : MJ) (R : MR) : Prop :=
      (((200 : Int32) ≤ x17 →
      K (.inl (some (aI (1 : Int32)))) C I J R) ∧
      (¬ (200 : Int32) ≤ x17 →
      ¬ x10 = 0 ∧
      ¬ x14 = 0 ∧
      (((x8 / x10) = (x12 / x14) →
      ((¬ (x8 - x8 / x10 * x10) = (0 : Int64) →
      PX2_isEnough_104 Q20 K x10 x14 x16 x17 (x8 - x8 / x10 * x10) (x12 - x12 / x14 * x14) C I J R) ∧
      ((x8 - x8 / x10 * x10) = (0 : Int64) →
      ((¬ (x12 - x12 / x14 * x14) = (0 : Int64) →
      PX2_isEnough_104 Q20 K x10 x14 x16 x17 (x8 - x8 / x10 * x10) (x12 - x12 / x14 * x14) C I J R) ∧
      ((x12 - x12 / x14 * x14) = (0 : Int64) →
      K (.inl (some (aI (1 : Int32)))) C I J R))))) ∧
      (¬ (x8 / x10) = (x12 / x14) →
      (((x8 / x10) ≤ (x12 / x14) →
      PX2_isEnough_63 Q20 K x16 (0 : Int32) C I J R) ∧
      (¬ (x8 / x10) ≤ (x12 / x14) →
      PX2_isEnough_63 Q20 K x16 (1 : Int32) C I J R))))))
def PX2_isEnough_0 (Q20 : Int64 → Int64 → Int64 → Int64 → Int32 → Int32 → MC → MI → MJ → MR → Prop) (K : AK) (x0 : Int64) (x2 : Int64) (x4 : Int64) (x6 : Int64) (C : MC) (I : MI) (J : MJ) (R : MR) : Prop :=
      Q20 x0 x2 x4 x6 (0 : Int32) (0 : Int32) C I J R
theorem wX2_isEnough {l : Launch} 
    (Q20 : Nat → AK → Int64 → Int64 → Int64 → Int64 → Int32 → Int32 → MC → MI → MJ → MR → Prop) {F : SPF}
    (h0 : ∀ (As : List AV) (C : MC) (I : MI) (J : MJ) (R : MR) (K : AK), F As C I J R K → ∃ (x0 : Int64) (x2 : Int64) (x4 : Int64) (x6 : Int64), As = [aJ x0, aJ x2, aJ x4, aJ x6] ∧ PX2_isEnough_0 (fun (x8 : Int64) (x10 : Int64) (x12 : Int64) (x14 : Int64) (x16 : Int32) (x17 : Int32) (C : MC) (I : MI) (J : MJ) (R : MR) => ∃ n, Q20 n K x8 x10 x12 x14 x16 x17 C I J R) K x0 x2 x4 x6 C I J R)
    (h20 : ∀ (n : Nat) (K : AK) (x8 : Int64) (x10 : Int64) (x12 : Int64) (x14 : Int64) (x16 : Int32) (x17 : Int32) (C : MC) (I : MI) (J : MJ) (R : MR), Q20 n K x8 x10 x12 x14 x16 x17 C I J R → PX2_isEnough_20 (fun (x8 : Int64) (x10 : Int64) (x12 : Int64) (x14 : Int64) (x16 : Int32) (x17 : Int32) (C : MC) (I : MI) (J : MJ) (R : MR) => ∃ m, m < n ∧ Q20 m K x8 x10 x12 x14 x16 x17 C I J R) K x8 x10 x12 x14 x16 x17 C I J R) : SpX2_isEnough l F := by
  refine Spec.of (by rfl) ?_
  intro Γ C I J R As Gd gl gr _ _ gb hF
  subst gl
  have G : Gb Γ yX2_isEnough cX2_isEnough 26 (some .boolean) [] rmX2_isEnough bdX2_isEnough := ⟨Gd, gr, gb⟩
  have key : ∀ n : Nat, (∀ (x8 : Int64) (x10 : Int64) (x12 : Int64) (x14 : Int64) (x16 : Int32) (x17 : Int32) (C : MC) (I : MI) (J : MJ) (R : MR), Q20 n (gK Γ) x8 x10 x12 x14 x16 x17 C I J R → AW Γ 0 0 C I J R 20 [(8, aJ x8), (10, aJ x10), (12, aJ x12), (14, aJ x14), (16, aI x16), (17, aI x17)] []) := by
    intro n
    induction n using Nat.strongRecOn with
    | ind n ih =>
    have w20 : ∀ (x8 : Int64) (x10 : Int64) (x12 : Int64) (x14 : Int64) (x16 : Int32) (x17 : Int32) (C : MC) (I : MI) (J : MJ) (R : MR), (∃ m, m < n ∧ Q20 m (gK Γ) x8 x10 x12 x14 x16 x17 C I J R) → AW Γ 0 0 C I J R 20 [(8, aJ x8), (10, aJ x10), (12, aJ x12), (14, aJ x14), (16, aI x16), (17, aI x17)] [] := fun x8 x10 x12 x14 x16 x17 C I J R ⟨m, hm, hq⟩ => (ih m hm) x8 x10 x12 x14 x16 x17 C I J R hq
    have w167 : ∀ (x8 : Int64) (x10 : Int64) (x12 : Int64) (x14 : Int64) (x17 : Int32) (s0 : Int32) (C : MC) (I : MI) (J : MJ) (R : MR), PX2_isEnough_167 (fun (x8 : Int64) (x10 : Int64) (x12 : Int64) (x14 : Int64) (x16 : Int32) (x17 : Int32) (C : MC) (I : MI) (J : MJ) (R : MR) => ∃ m, m < n ∧ Q20 m (gK Γ) x8 x10 x12 x14 x16 x17 C I J R) (gK Γ) x8 x10 x12 x14 x17 s0 C I J R → AW Γ 0 0 C I J R 167 [(8, aJ x8), (10, aJ x10), (12, aJ x12), (14, aJ x14), (17, aI x17)] [aI s0] := fun x8 x10 x12 x14 x17 s0 C I J R h => bX2_isEnough_167 G w20 h
    have w130 : ∀ (x16 : Int32) (s0 : Int32) (C : MC) (I : MI) (J : MJ) (R : MR), PX2_isEnough_130 (fun (x8 : Int64) (x10 : Int64) (x12 : Int64) (x14 : Int64) (x16 : Int32) (x17 : Int32) (C : MC) (I : MI) (J : MJ) (R : MR) => ∃ m, m < n ∧ Q20 m (gK Γ) x8 x10 x12 x14 x16 x17 C I J R) (gK Γ) x16 s0 C I J R → AW Γ 0 0 C I J R 130 [(16, aI x16)] [aI s0] := fun x16 s0 C I J R h => bX2_isEnough_130 G h
    have w118 : ∀ (x16 : Int32) (x22 : Int64) (C : MC) (I : MI) (J : MJ) (R : MR), PX2_isEnough_118 (fun (x8 : Int64) (x10 : Int64) (x12 : Int64) (x14 : Int64) (x16 : Int32) (x17 : Int32) (C : MC) (I : MI) (J : MJ) (R : MR) => ∃ m, m < n ∧ Q20 m (gK Γ) x8 x10 x12 x14 x16 x17 C I J R) (gK Γ) x16 x22 C I J R → AW Γ 0 0 C I J R 118 [(16, aI x16), (22, aJ x22)] [] := fun x16 x22 C I J R h => bX2_isEnough_118 G w130 h
    have w104 : ∀ (x10 : Int64) (x14 : Int64) (x16 : Int32) (x17 : Int32) (x22 : Int64) (x24 : Int64) (C : MC) (I : MI) (J : MJ) (R : MR), PX2_isEnough_104 (fun (x8 : Int64) (x10 : Int64) (x12 : Int64) (x14 : Int64) (x16 : Int32) (x17 : Int32) (C : MC) (I : MI) (J : MJ) (R : MR) => ∃ m, m < n ∧ Q20 m (gK Γ) x8 x10 x12 x14 x16 x17 C I J R) (gK Γ) x10 x14 x16 x17 x22 x24 C I J R → AW Γ 0 0 C I J R 104 [(10, aJ x10), (14, aJ x14), (16, aI x16), (17, aI x17), (22, aJ x22), (24, aJ x24)] [] := fun x10 x14 x16 x17 x22 x24 C I J R h => bX2_isEnough_104 G w118 w167 h
    have w63 : ∀ (x16 : Int32) (s0 : Int32) (C : MC) (I : MI) (J : MJ) (R : MR), PX2_isEnough_63 (fun (x8 : Int64) (x10 : Int64) (x12 : Int64) (x14 : Int64) (x16 : Int32) (x17 : Int32) (C : MC) (I : MI) (J : MJ) (R : MR) => ∃ m, m < n ∧ Q20 m (gK Γ) x8 x10 x12 x14 x16 x17 C I J R) (gK Γ) x16 s0 C I J R → AW Γ 0 0 C I J R 63 [(16, aI x16)] [aI s0] := fun x16 s0 C I J R h => bX2_isEnough_63 G h
    exact fun x8 x10 x12 x14 x16 x17 C I J R h => bX2_isEnough_20 G w63 w104 (h20 n (gK Γ) x8 x10 x12 x14 x16 x17 C I J R h)
  have w20 : ∀ (x8 : Int64) (x10 : Int64) (x12 : Int64) (x14 : Int64) (x16 : Int32) (x17 : Int32) (C : MC) (I : MI) (J : MJ) (R : MR), (∃ n, Q20 n (gK Γ) x8 x10 x12 x14 x16 x17 C I J R) → AW Γ 0 0 C I J R 20 [(8, aJ x8), (10, aJ x10), (12, aJ x12), (14, aJ x14), (16, aI x16), (17, aI x17)] [] := fun x8 x10 x12 x14 x16 x17 C I J R ⟨m, hq⟩ => (key m) x8 x10 x12 x14 x16 x17 C I J R hq
  have w167 : ∀ (x8 : Int64) (x10 : Int64) (x12 : Int64) (x14 : Int64) (x17 : Int32) (s0 : Int32) (C : MC) (I : MI) (J : MJ) (R : MR), PX2_isEnough_167 (fun (x8 : Int64) (x10 : Int64) (x12 : Int64) (x14 : Int64) (x16 : Int32) (x17 : Int32) (C : MC) (I : MI) (J : MJ) (R : MR) => ∃ n, Q20 n (gK Γ) x8 x10 x12 x14 x16 x17 C I J R) (gK Γ) x8 x10 x12 x14 x17 s0 C I J R → AW Γ 0 0 C I J R 167 [(8, aJ x8), (10, aJ x10), (12, aJ x12), (14, aJ x14), (17, aI x17)] [aI s0] := fun x8 x10 x12 x14 x17 s0 C I J R h => bX2_isEnough_167 G w20 h
  have w130 : ∀ (x16 : Int32) (s0 : Int32) (C : MC) (I : MI) (J : MJ) (R : MR), PX2_isEnough_130 (fun (x8 : Int64) (x10 : Int64) (x12 : Int64) (x14 : Int64) (x16 : Int32) (x17 : Int32) (C : MC) (I : MI) (J : MJ) (R : MR) => ∃ n, Q20 n (gK Γ) x8 x10 x12 x14 x16 x17 C I J R) (gK Γ) x16 s0 C I J R → AW Γ 0 0 C I J R 130 [(16, aI x16)] [aI s0] := fun x16 s0 C I J R h => bX2_isEnough_130 G h
  have w118 : ∀ (x16 : Int32) (x22 : Int64) (C : MC) (I : MI) (J : MJ) (R : MR), PX2_isEnough_118 (fun (x8 : Int64) (x10 : Int64) (x12 : Int64) (x14 : Int64) (x16 : Int32) (x17 : Int32) (C : MC) (I : MI) (J : MJ) (R : MR) => ∃ n, Q20 n (gK Γ) x8 x10 x12 x14 x16 x17 C I J R) (gK Γ) x16 x22 C I J R → AW Γ 0 0 C I J R 118 [(16, aI x16), (22, aJ x22)] [] := fun x16 x22 C I J R h => bX2_isEnough_118 G w130 h
  have w104 : ∀ (x10 : Int64) (x14 : Int64) (x16 : Int32) (x17 : Int32) (x22 : Int64) (x24 : Int64) (C : MC) (I : MI) (J : MJ) (R : MR), PX2_isEnough_104 (fun (x8 : Int64) (x10 : Int64) (x12 : Int64) (x14 : Int64) (x16 : Int32) (x17 : Int32) (C : MC) (I : MI) (J : MJ) (R : MR) => ∃ n, Q20 n (gK Γ) x8 x10 x12 x14 x16 x17 C I J R) (gK Γ) x10 x14 x16 x17 x22 x24 C I J R → AW Γ 0 0 C I J R 104 [(10, aJ x10), (14, aJ x14), (16, aI x16), (17, aI x17), (22, aJ x22), (24, aJ x24)] [] := fun x10 x14 x16 x17 x22 x24 C I J R h => bX2_isEnough_104 G w118 w167 h
  have w63 : ∀ (x16 : Int32) (s0 : Int32) (C : MC) (I : MI) (J : MJ) (R : MR), PX2_isEnough_63 (fun (x8 : Int64) (x10 : Int64) (x12 : Int64) (x14 : Int64) (x16 : Int32) (x17 : Int32) (C : MC) (I : MI) (J : MJ) (R : MR) => ∃ n, Q20 n (gK Γ) x8 x10 x12 x14 x16 x17 C I J R) (gK Γ) x16 s0 C I J R → AW Γ 0 0 C I J R 63 [(16, aI x16)] [aI s0] := fun x16 s0 C I J R h => bX2_isEnough_63 G h
  obtain ⟨x0, x2, x4, x6, rfl, h⟩ := h0 As C I J R (gK Γ) hF
  exact ⟨Nat.le_of_ble_eq_true rfl, bX2_isEnough_0 G w20 h⟩
def PX2_bound_35 (F_X2_wrongTable : SPF) (F_X2_bounds : SPF) (F_X2_at : SPF) (F_X2_tells : SPF) (F_X2_refuse : SPF) (K : AK) (x0 : Nat) (x1 : Int32) (x2 : Int32) (x3 : Int32) (C : MC) (I : MI) (J : MJ) (R : MR) : Prop :=
      ((x3 ≤ 0 →
      (C x0).1 = 3 ∧
      F_X2_at [aI x1, aI x2] C I J R (fun o C3 I4 J5 R6 =>
      ∃ r7 : Int32, o = .inl (some (aI r7)) ∧
      ∃ q8 : Nat, R x0 32 = some q8 ∧
      (C3 q8).1 = 21 ∧
      vp_in r7 (C3 q8).2 ∧
      (C3 x0).1 = 3 ∧
      ∃ q12 : Nat, R6 x0 33 = some q12 ∧
      (C3 q12).1 = 21 ∧
      vp_in x1 (C3 q12).2 ∧
      F_X2_tells [aR (some x0), aJ (J5 q8 r7.toNatClampNeg), aJ (J5 q12 x1.toNatClampNeg)] C3 I4 J5 R6 (fun o C15 I16 J17 R18 =>
      ∃ r19 : Int32, o = .inl (some (aI r19)) ∧
      K (.inl (some (aI r19))) C15 I16 J17 R18))) ∧
      (¬ x3 ≤ 0 →
      (C x0).1 = 3 ∧
      F_X2_refuse [aR (some x0), aI x3] C I J R (fun o C21 I22 J23 R24 =>
      ∃ r25 : Int32, o = .inl (some (aI r25)) ∧
      K (.inl (some (aI r25))) C21 I22 J23 R24)))
def PX2_bound_19 (F_X2_wrongTable : SPF) (F_X2_bounds : SPF) (F_X2_at : SPF) (F_X2_tells : SPF) (F_X2_refuse : SPF) (K : AK) (x0 : Nat) (x1 : Int32) (x2 : Int32) (s0 : Int32) (C : MC) (I : MI) (J : MJ) (R : MR) : Prop :=
      ((¬ s0 = 0 →
      PX2_bound_35 F_X2_wrongTable F_X2_bounds F_X2_at F_X2_tells F_X2_refuse K x0 x1 x2 s0 C I J R) ∧
      (s0 = 0 →
      (C x0).1 = 3 ∧
      F_X2_bounds [aR (some x0), aI x1] C I J R (fun o C3 I4 J5 R6 =>
      ∃ r7 : Int32, o = .inl (some (aI r7)) ∧
      ((¬ r7 = 0 →
      PX2_bound_35 F_X2_wrongTable F_X2_bounds F_X2_at F_X2_tells F_X2_refuse K x0 x1 x2 s0 C3 I4 J5 R6) ∧
      (r7 = 0 →
      PX2_bound_35 F_X2_wrongTable F_X2_bounds F_X2_at F_X2_tells F_X2_refuse K x0 x1 x2 (9 : Int32) C3 I4 J5 R6)))))
def PX2_bound_10 (F_X2_wrongTable : SPF) (F_X2_bounds : SPF) (F_X2_at : SPF) (F_X2_tells : SPF) (F_X2_refuse : SPF) (K : AK) (x0 : Nat) (x1 : Int32) (x2 : Int32) (C : MC) (I : MI) (J : MJ) (R : MR) : Prop :=
      PX2_bound_19 F_X2_wrongTable F_X2_bounds F_X2_at F_X2_tells F_X2_refuse K x0 x1 x2 (1 : Int32) C I J R
def PX2_bound_0 (F_X2_wrongTable : SPF) (F_X2_bounds : SPF) (F_X2_at : SPF) (F_X2_tells : SPF) (F_X2_refuse : SPF) (K : AK) (x0 : Nat) (x1 : Int32) (x2 : Int32) (C : MC) (I : MI) (J : MJ) (R : MR) : Prop :=
      ((x2 < 0 →
      PX2_bound_10 F_X2_wrongTable F_X2_bounds F_X2_at F_X2_tells F_X2_refuse K x0 x1 x2 C I J R) ∧
      (¬ x2 < 0 →
      ((x2 < (121 : Int32) →
      (C x0).1 = 3 ∧
      F_X2_wrongTable [aR (some x0), aI x1] C I J R (fun o C4 I5 J6 R7 =>
      ∃ r8 : Int32, o = .inl (some (aI r8)) ∧
      PX2_bound_19 F_X2_wrongTable F_X2_bounds F_X2_at F_X2_tells F_X2_refuse K x0 x1 x2 r8 C4 I5 J6 R7)) ∧
      (¬ x2 < (121 : Int32) →
      PX2_bound_10 F_X2_wrongTable F_X2_bounds F_X2_at F_X2_tells F_X2_refuse K x0 x1 x2 C I J R))))
theorem wX2_bound {l : Launch}  {F_X2_wrongTable : SPF} (S_X2_wrongTable : SpX2_wrongTable l F_X2_wrongTable) {F_X2_bounds : SPF} (S_X2_bounds : SpX2_bounds l F_X2_bounds) {F_X2_at : SPF} (S_X2_at : SpX2_at l F_X2_at) {F_X2_tells : SPF} (S_X2_tells : SpX2_tells l F_X2_tells) {F_X2_refuse : SPF} (S_X2_refuse : SpX2_refuse l F_X2_refuse) {F : SPF}
    (h0 : ∀ (As : List AV) (C : MC) (I : MI) (J : MJ) (R : MR) (K : AK), F As C I J R K → ∃ (x0 : Nat) (x1 : Int32) (x2 : Int32), As = [aR (some x0), aI x1, aI x2] ∧ PX2_bound_0 F_X2_wrongTable F_X2_bounds F_X2_at F_X2_tells F_X2_refuse K x0 x1 x2 C I J R) : SpX2_bound l F := by
  refine Spec.of (by rfl) ?_
  intro Γ C I J R As Gd gl gr _ _ gb hF
  subst gl
  have G : Gb Γ yX2_bound cX2_bound 4 (some .int) [] rmX2_bound bdX2_bound := ⟨Gd, gr, gb⟩
  have w35 : ∀ (x0 : Nat) (x1 : Int32) (x2 : Int32) (x3 : Int32) (C : MC) (I : MI) (J : MJ) (R : MR), PX2_bound_35 F_X2_wrongTable F_X2_bounds F_X2_at F_X2_tells F_X2_refuse (gK Γ) x0 x1 x2 x3 C I J R → AW Γ 0 0 C I J R 35 [(0, aR (some x0)), (1, aI x1), (2, aI x2), (3, aI x3)] [] := fun x0 x1 x2 x3 C I J R h => bX2_bound_35 G S_X2_at S_X2_tells S_X2_refuse h
  have w19 : ∀ (x0 : Nat) (x1 : Int32) (x2 : Int32) (s0 : Int32) (C : MC) (I : MI) (J : MJ) (R : MR), PX2_bound_19 F_X2_wrongTable F_X2_bounds F_X2_at F_X2_tells F_X2_refuse (gK Γ) x0 x1 x2 s0 C I J R → AW Γ 0 0 C I J R 19 [(0, aR (some x0)), (1, aI x1), (2, aI x2)] [aI s0] := fun x0 x1 x2 s0 C I J R h => bX2_bound_19 G S_X2_bounds w35 h
  have w10 : ∀ (x0 : Nat) (x1 : Int32) (x2 : Int32) (C : MC) (I : MI) (J : MJ) (R : MR), PX2_bound_10 F_X2_wrongTable F_X2_bounds F_X2_at F_X2_tells F_X2_refuse (gK Γ) x0 x1 x2 C I J R → AW Γ 0 0 C I J R 10 [(0, aR (some x0)), (1, aI x1), (2, aI x2)] [] := fun x0 x1 x2 C I J R h => bX2_bound_10 G w19 h
  obtain ⟨x0, x1, x2, rfl, h⟩ := h0 As C I J R (gK Γ) hF
  exact ⟨Nat.le_of_ble_eq_true rfl, bX2_bound_0 G S_X2_wrongTable w10 w19 h⟩
def PX2_bounds_375 (F_X2_told0 : SPF) (F_X2_boundRow : SPF) (F_X2_at : SPF) (F_X2_by0 : SPF) (F_X2_boundFan : SPF) (Q2 : Nat → Int32 → Int32 → MC → MI → MJ → MR → Prop) (Q94 : Nat → Int32 → Int32 → MC → MI → MJ → MR → Prop) (Q145 : Nat → Int32 → Int32 → Int64 → Int32 → MC → MI → MJ → MR → Prop) (Q322 : Nat → Int32 → Int32 → Int64 → Int32 → MC → MI → MJ → MR → Prop) (K : AK) (x0 : Nat) (x1 : Int32) (x2 : Int32) (C : MC) (I : MI) (J : MJ) (R : MR) : Prop :=
      Q94 x0 x1 (x2 + 1) C I J R
def PX2_bounds_368 (F_X2_told0 : SPF) (F_X2_boundRow : SPF) (F_X2_at : SPF) (F_X2_by0 : SPF) (F_X2_boundFan : SPF) (Q2 : Nat → Int32 → Int32 → MC → MI → MJ → MR → Prop) (Q94 : Nat → Int32 → Int32 → MC → MI → MJ → MR → Prop) (Q145 : Nat → Int32 → Int32 → Int64 → Int32 → MC → MI → MJ → MR → Prop) (Q322 : Nat → Int32 → Int32 → Int64 → Int32 → MC → MI → MJ → MR → Prop) (K : AK) (x0 : Nat) (x1 : Int32) (x2 : Int32) (x3 : Int64) (x5 : Int32) (s0 : Option Nat) (s1 : Int32) (s2 : Int64) (C : MC) (I : MI) (J : MJ) (R : MR) : Prop :=
      ∃ q1 : Nat, s0 = some q1 ∧
      (C q1).1 = 21 ∧
      vp_in s1 (C q1).2 ∧
      ∀ J4 : MJ, J4 = va_up J q1 (va_up (J q1) s1.toNatClampNeg s2) →
      Q322 x0 x1 x2 x3 (x5 + 1) C I J4 R
def PX2_bounds_322 (F_X2_told0 : SPF) (F_X2_boundRow : SPF) (F_X2_at : SPF) (F_X2_by0 : SPF) (F_X2_boundFan : SPF) (Q2 : Nat → Int32 → Int32 → MC → MI → MJ → MR → Prop) (Q94 : Nat → Int32 → Int32 → MC → MI → MJ → MR → Prop) (Q145 : Nat → Int32 → Int32 → Int64 → Int32 → MC → MI → MJ → MR → Prop) (Q322 : Nat → Int32 → Int32 → Int64 → Int32 → MC → MI → MJ → MR → Prop) (K : AK) (x0 : Nat) (x1 : Int32) (x2 : Int32) (x3 : Int64) (x5 : Int32) (C : MC) (I : MI) (J : MJ) (R : MR) : Prop :=
      (((121 : Int32) ≤ x5 →
      PX2_bounds_375 F_X2_told0 F_X2_boundRow F_X2_at F_X2_by0 F_X2_boundFan Q2 Q94 Q145 Q322 K x0 x1 x2 C I J R) ∧
      (¬ (121 : Int32) ≤ x5 →
      (C x0).1 = 3 ∧
      F_X2_at [aI x2, aI x5] C I J R (fun o C3 I4 J5 R6 =>
      ∃ r7 : Int32, o = .inl (some (aI r7)) ∧
      (C3 x0).1 = 3 ∧
      ∃ q9 : Nat, R6 x0 7 = some q9 ∧
      (C3 q9).1 = 20 ∧
      vp_in x2 (C3 q9).2 ∧
      ((¬ (I4 q9 x2.toNatClampNeg) = (2 : Int32) →
      F_X2_by0 [aR (some x0), aI x2, aI x5] C3 I4 J5 R6 (fun o C13 I14 J15 R16 =>
      ∃ r17 : Int64, o = .inl (some (aJ r17)) ∧
      PX2_bounds_368 F_X2_told0 F_X2_boundRow F_X2_at F_X2_by0 F_X2_boundFan Q2 Q94 Q145 Q322 K x0 x1 x2 x3 x5 (R x0 32) r7 (x3 - r17) C13 I14 J15 R16)) ∧
      ((I4 q9 x2.toNatClampNeg) = (2 : Int32) →
      F_X2_boundFan [aR (some x0), aI x2, aI x5] C3 I4 J5 R6 (fun o C18 I19 J20 R21 =>
      ∃ r22 : Int64, o = .inl (some (aJ r22)) ∧
      PX2_bounds_368 F_X2_told0 F_X2_boundRow F_X2_at F_X2_by0 F_X2_boundFan Q2 Q94 Q145 Q322 K x0 x1 x2 x3 x5 (R x0 32) r7 r22 C18 I19 J20 R21))))))
def PX2_bounds_284 (F_X2_told0 : SPF) (F_X2_boundRow : SPF) (F_X2_at : SPF) (F_X2_by0 : SPF) (F_X2_boundFan : SPF) (Q2 : Nat → Int32 → Int32 → MC → MI → MJ → MR → Prop) (Q94 : Nat → Int32 → Int32 → MC → MI → MJ → MR → Prop) (Q145 : Nat → Int32 → Int32 → Int64 → Int32 → MC → MI → MJ → MR → Prop) (Q322 : Nat → Int32 → Int32 → Int64 → Int32 → MC → MI → MJ → MR → Prop) (K : AK) (x0 : Nat) (x1 : Int32) (x2 : Int32) (x3 : Int64) (C : MC) (I : MI) (J : MJ) (R : MR) : Prop :=
      ((x3 < (1152921504606846976 : Int64) →
      (C x0).1 = 3 ∧
      ∃ q3 : Nat, R x0 33 = some q3 ∧
      (C q3).1 = 21 ∧
      vp_in x2 (C q3).2 ∧
      ∀ J6 : MJ, J6 = va_up J q3 (va_up (J q3) x2.toNatClampNeg x3) →
      ∃ q7 : Nat, R x0 7 = some q7 ∧
      (C q7).1 = 20 ∧
      vp_in x2 (C q7).2 ∧
      ((¬ (I q7 x2.toNatClampNeg) = (1 : Int32) →
      Q322 x0 x1 x2 x3 (0 : Int32) C I J6 R) ∧
      ((I q7 x2.toNatClampNeg) = (1 : Int32) →
      F_X2_boundRow [aR (some x0), aI x2] C I J6 R (fun o C11 I12 J13 R14 =>
      o = .inl none ∧
      PX2_bounds_375 F_X2_told0 F_X2_boundRow F_X2_at F_X2_by0 F_X2_boundFan Q2 Q94 Q145 Q322 K x0 x1 x2 C11 I12 J13 R14)))) ∧
      (¬ x3 < (1152921504606846976 : Int64) →
      K (.inl (some (aI (0 : Int32)))) C I J R))
def PX2_bounds_238 (F_X2_told0 : SPF) (F_X2_boundRow : SPF) (F_X2_at : SPF) (F_X2_by0 : SPF) (F_X2_boundFan : SPF) (Q2 : Nat → Int32 → Int32 → MC → MI → MJ → MR → Prop) (Q94 : Nat → Int32 → Int32 → MC → MI → MJ → MR → Prop) (Q145 : Nat → Int32 → Int32 → Int64 → Int32 → MC → MI → MJ → MR → Prop) (Q322 : Nat → Int32 → Int32 → Int64 → Int32 → MC → MI → MJ → MR → Prop) (K : AK) (x0 : Nat) (x1 : Int32) (x2 : Int32) (x3 : Int64) (C : MC) (I : MI) (J : MJ) (R : MR) : Prop :=
      (C x0).1 = 3 ∧
      ∃ q2 : Nat, R x0 7 = some q2 ∧
      (C q2).1 = 20 ∧
      vp_in x2 (C q2).2 ∧
      ((¬ (I q2 x2.toNatClampNeg) = (2 : Int32) →
      PX2_bounds_284 F_X2_told0 F_X2_boundRow F_X2_at F_X2_by0 F_X2_boundFan Q2 Q94 Q145 Q322 K x0 x1 x2 x3 C I J R) ∧
      ((I q2 x2.toNatClampNeg) = (2 : Int32) →
      F_X2_told0 [aR (some x0), aI x2] C I J R (fun o C6 I7 J8 R9 =>
      ∃ r10 : Int32, o = .inl (some (aI r10)) ∧
      (C6 x0).1 = 3 ∧
      ∃ q12 : Nat, R9 x0 9 = some q12 ∧
      (C6 q12).1 = 20 ∧
      vp_in x2 (C6 q12).2 ∧
      ¬ (((r10 - (I7 q12 x2.toNatClampNeg)) + (1 : Int32)).toInt64) = 0 ∧
      ((x3 ≤ ((1152921504606846975 : Int64) / (((r10 - (I7 q12 x2.toNatClampNeg)) + (1 : Int32)).toInt64)) →
      PX2_bounds_284 F_X2_told0 F_X2_boundRow F_X2_at F_X2_by0 F_X2_boundFan Q2 Q94 Q145 Q322 K x0 x1 x2 (x3 * (((r10 - (I7 q12 x2.toNatClampNeg)) + (1 : Int32)).toInt64)) C6 I7 J8 R9) ∧
      (¬ x3 ≤ ((1152921504606846975 : Int64) / (((r10 - (I7 q12 x2.toNatClampNeg)) + (1 : Int32)).toInt64)) →
      K (.inl (some (aI (0 : Int32)))) C6 I7 J8 R9)))))
def PX2_bounds_171 (F_X2_told0 : SPF) (F_X2_boundRow : SPF) (F_X2_at : SPF) (F_X2_by0 : SPF) (F_X2_boundFan : SPF) (Q2 : Nat → Int32 → Int32 → MC → MI → MJ → MR → Prop) (Q94 : Nat → Int32 → Int32 → MC → MI → MJ → MR → Prop) (Q145 : Nat → Int32 → Int32 → Int64 → Int32 → MC → MI → MJ → MR → Prop) (Q322 : Nat → Int32 → Int32 → Int64 → Int32 → MC → MI → MJ → MR → Prop) (K : AK) (x0 : Nat) (x1 : Int32) (x2 : Int32) (x3 : Int64) (x5 : Int32) (C : MC) (I : MI) (J : MJ) (R : MR) : Prop :=
      (C x0).1 = 3 ∧
      ∃ q2 : Nat, R x0 8 = some q2 ∧
      (C q2).1 = 20 ∧
      vp_in (((4 : Int32) * x2) + x5) (C q2).2 ∧
      (((I q2 (((4 : Int32) * x2) + x5).toNatClampNeg) = (-1 : Int32) →
      PX2_bounds_238 F_X2_told0 F_X2_boundRow F_X2_at F_X2_by0 F_X2_boundFan Q2 Q94 Q145 Q322 K x0 x1 x2 x3 C I J R) ∧
      (¬ (I q2 (((4 : Int32) * x2) + x5).toNatClampNeg) = (-1 : Int32) →
      ∃ q6 : Nat, R x0 33 = some q6 ∧
      (C q6).1 = 21 ∧
      vp_in (I q2 (((4 : Int32) * x2) + x5).toNatClampNeg) (C q6).2 ∧
      ¬ (J q6 (I q2 (((4 : Int32) * x2) + x5).toNatClampNeg).toNatClampNeg) = 0 ∧
      ((x3 ≤ ((1152921504606846975 : Int64) / (J q6 (I q2 (((4 : Int32) * x2) + x5).toNatClampNeg).toNatClampNeg)) →
      Q145 x0 x1 x2 (x3 * (J q6 (I q2 (((4 : Int32) * x2) + x5).toNatClampNeg).toNatClampNeg)) (x5 + 1) C I J R) ∧
      (¬ x3 ≤ ((1152921504606846975 : Int64) / (J q6 (I q2 (((4 : Int32) * x2) + x5).toNatClampNeg).toNatClampNeg)) →
      K (.inl (some (aI (0 : Int32)))) C I J R))))
def PX2_bounds_145 (F_X2_told0 : SPF) (F_X2_boundRow : SPF) (F_X2_at : SPF) (F_X2_by0 : SPF) (F_X2_boundFan : SPF) (Q2 : Nat → Int32 → Int32 → MC → MI → MJ → MR → Prop) (Q94 : Nat → Int32 → Int32 → MC → MI → MJ → MR → Prop) (Q145 : Nat → Int32 → Int32 → Int64 → Int32 → MC → MI → MJ → MR → Prop) (Q322 : Nat → Int32 → Int32 → Int64 → Int32 → MC → MI → MJ → MR → Prop) (K : AK) (x0 : Nat) (x1 : Int32) (x2 : Int32) (x3 : Int64) (x5 : Int32) (C : MC) (I : MI) (J : MJ) (R : MR) : Prop :=
      (((4 : Int32) ≤ x5 →
      PX2_bounds_238 F_X2_told0 F_X2_boundRow F_X2_at F_X2_by0 F_X2_boundFan Q2 Q94 Q145 Q322 K x0 x1 x2 x3 C I J R) ∧
      (¬ (4 : Int32) ≤ x5 →
      (C x0).1 = 3 ∧
      ∃ q3 : Nat, R x0 7 = some q3 ∧
      (C q3).1 = 20 ∧
      vp_in x2 (C q3).2 ∧
      (((I q3 x2.toNatClampNeg) = (1 : Int32) →
      PX2_bounds_171 F_X2_told0 F_X2_boundRow F_X2_at F_X2_by0 F_X2_boundFan Q2 Q94 Q145 Q322 K x0 x1 x2 x3 x5 C I J R) ∧
      (¬ (I q3 x2.toNatClampNeg) = (1 : Int32) →
      ((¬ (I q3 x2.toNatClampNeg) = (2 : Int32) →
      PX2_bounds_238 F_X2_told0 F_X2_boundRow F_X2_at F_X2_by0 F_X2_boundFan Q2 Q94 Q145 Q322 K x0 x1 x2 x3 C I J R) ∧
      ((I q3 x2.toNatClampNeg) = (2 : Int32) →
      PX2_bounds_171 F_X2_told0 F_X2_boundRow F_X2_at F_X2_by0 F_X2_boundFan Q2 Q94 Q145 Q322 K x0 x1 x2 x3 x5 C I J R))))))
def PX2_bounds_141 (F_X2_told0 : SPF) (F_X2_boundRow : SPF) (F_X2_at : SPF) (F_X2_by0 : SPF) (F_X2_boundFan : SPF) (Q2 : Nat → Int32 → Int32 → MC → MI → MJ → MR → Prop) (Q94 : Nat → Int32 → Int32 → MC → MI → MJ → MR → Prop) (Q145 : Nat → Int32 → Int32 → Int64 → Int32 → MC → MI → MJ → MR → Prop) (Q322 : Nat → Int32 → Int32 → Int64 → Int32 → MC → MI → MJ → MR → Prop) (K : AK) (x0 : Nat) (x1 : Int32) (x2 : Int32) (s0 : Int64) (C : MC) (I : MI) (J : MJ) (R : MR) : Prop :=
      Q145 x0 x1 x2 s0 (0 : Int32) C I J R
def PX2_bounds_131 (F_X2_told0 : SPF) (F_X2_boundRow : SPF) (F_X2_at : SPF) (F_X2_by0 : SPF) (F_X2_boundFan : SPF) (Q2 : Nat → Int32 → Int32 → MC → MI → MJ → MR → Prop) (Q94 : Nat → Int32 → Int32 → MC → MI → MJ → MR → Prop) (Q145 : Nat → Int32 → Int32 → Int64 → Int32 → MC → MI → MJ → MR → Prop) (Q322 : Nat → Int32 → Int32 → Int64 → Int32 → MC → MI → MJ → MR → Prop) (K : AK) (x0 : Nat) (x1 : Int32) (x2 : Int32) (C : MC) (I : MI) (J : MJ) (R : MR) : Prop :=
      PX2_bounds_141 F_X2_told0 F_X2_boundRow F_X2_at F_X2_by0 F_X2_boundFan Q2 Q94 Q145 Q322 K x0 x1 x2 (1 : Int64) C I J R
def PX2_bounds_94 (F_X2_told0 : SPF) (F_X2_boundRow : SPF) (F_X2_at : SPF) (F_X2_by0 : SPF) (F_X2_boundFan : SPF) (Q2 : Nat → Int32 → Int32 → MC → MI → MJ → MR → Prop) (Q94 : Nat → Int32 → Int32 → MC → MI → MJ → MR → Prop) (Q145 : Nat → Int32 → Int32 → Int64 → Int32 → MC → MI → MJ → MR → Prop) (Q322 : Nat → Int32 → Int32 → Int64 → Int32 → MC → MI → MJ → MR → Prop) (K : AK) (x0 : Nat) (x1 : Int32) (x2 : Int32) (C : MC) (I : MI) (J : MJ) (R : MR) : Prop :=
      ((x1 < x2 →
      K (.inl (some (aI (1 : Int32)))) C I J R) ∧
      (¬ x1 < x2 →
      (C x0).1 = 3 ∧
      ∃ q3 : Nat, R x0 36 = some q3 ∧
      (C q3).1 = 24 ∧
      vp_in x2 (C q3).2 ∧
      ((¬ (I q3 x2.toNatClampNeg) = 0 →
      ∃ q7 : Nat, R x0 7 = some q7 ∧
      (C q7).1 = 20 ∧
      vp_in x2 (C q7).2 ∧
      (((I q7 x2.toNatClampNeg) = (1 : Int32) →
      PX2_bounds_131 F_X2_told0 F_X2_boundRow F_X2_at F_X2_by0 F_X2_boundFan Q2 Q94 Q145 Q322 K x0 x1 x2 C I J R) ∧
      (¬ (I q7 x2.toNatClampNeg) = (1 : Int32) →
      ((¬ (I q7 x2.toNatClampNeg) = (2 : Int32) →
      ∃ q12 : Nat, R x0 24 = some q12 ∧
      (C q12).1 = 21 ∧
      vp_in x2 (C q12).2 ∧
      PX2_bounds_141 F_X2_told0 F_X2_boundRow F_X2_at F_X2_by0 F_X2_boundFan Q2 Q94 Q145 Q322 K x0 x1 x2 (J q12 x2.toNatClampNeg) C I J R) ∧
      ((I q7 x2.toNatClampNeg) = (2 : Int32) →
      PX2_bounds_131 F_X2_told0 F_X2_boundRow F_X2_at F_X2_by0 F_X2_boundFan Q2 Q94 Q145 Q322 K x0 x1 x2 C I J R))))) ∧
      ((I q3 x2.toNatClampNeg) = 0 →
      PX2_bounds_375 F_X2_told0 F_X2_boundRow F_X2_at F_X2_by0 F_X2_boundFan Q2 Q94 Q145 Q322 K x0 x1 x2 C I J R))))
def PX2_bounds_85 (F_X2_told0 : SPF) (F_X2_boundRow : SPF) (F_X2_at : SPF) (F_X2_by0 : SPF) (F_X2_boundFan : SPF) (Q2 : Nat → Int32 → Int32 → MC → MI → MJ → MR → Prop) (Q94 : Nat → Int32 → Int32 → MC → MI → MJ → MR → Prop) (Q145 : Nat → Int32 → Int32 → Int64 → Int32 → MC → MI → MJ → MR → Prop) (Q322 : Nat → Int32 → Int32 → Int64 → Int32 → MC → MI → MJ → MR → Prop) (K : AK) (x0 : Nat) (x1 : Int32) (x2 : Int32) (s0 : Option Nat) (s1 : Int32) (s2 : Int32) (C : MC) (I : MI) (J : MJ) (R : MR) : Prop :=
      ∃ q1 : Nat, s0 = some q1 ∧
      (C q1).1 = 24 ∧
      vp_in s1 (C q1).2 ∧
      (s2 = 0 ∨ s2 = 1) ∧
      ∀ I5 : MI, I5 = va_up I q1 (va_up (I q1) s1.toNatClampNeg s2) →
      Q2 x0 x1 (x2 + (-1)) C I5 J R
def PX2_bounds_84 (F_X2_told0 : SPF) (F_X2_boundRow : SPF) (F_X2_at : SPF) (F_X2_by0 : SPF) (F_X2_boundFan : SPF) (Q2 : Nat → Int32 → Int32 → MC → MI → MJ → MR → Prop) (Q94 : Nat → Int32 → Int32 → MC → MI → MJ → MR → Prop) (Q145 : Nat → Int32 → Int32 → Int64 → Int32 → MC → MI → MJ → MR → Prop) (Q322 : Nat → Int32 → Int32 → Int64 → Int32 → MC → MI → MJ → MR → Prop) (K : AK) (x0 : Nat) (x1 : Int32) (x2 : Int32) (s0 : Option Nat) (s1 : Int32) (C : MC) (I : MI) (J : MJ) (R : MR) : Prop :=
      PX2_bounds_85 F_X2_told0 F_X2_boundRow F_X2_at F_X2_by0 F_X2_boundFan Q2 Q94 Q145 Q322 K x0 x1 x2 s0 s1 (0 : Int32) C I J R
def PX2_bounds_80 (F_X2_told0 : SPF) (F_X2_boundRow : SPF) (F_X2_at : SPF) (F_X2_by0 : SPF) (F_X2_boundFan : SPF) (Q2 : Nat → Int32 → Int32 → MC → MI → MJ → MR → Prop) (Q94 : Nat → Int32 → Int32 → MC → MI → MJ → MR → Prop) (Q145 : Nat → Int32 → Int32 → Int64 → Int32 → MC → MI → MJ → MR → Prop) (Q322 : Nat → Int32 → Int32 → Int64 → Int32 → MC → MI → MJ → MR → Prop) (K : AK) (x0 : Nat) (x1 : Int32) (x2 : Int32) (s0 : Option Nat) (s1 : Int32) (C : MC) (I : MI) (J : MJ) (R : MR) : Prop :=
      PX2_bounds_85 F_X2_told0 F_X2_boundRow F_X2_at F_X2_by0 F_X2_boundFan Q2 Q94 Q145 Q322 K x0 x1 x2 s0 s1 (1 : Int32) C I J R
def PX2_bounds_2 (F_X2_told0 : SPF) (F_X2_boundRow : SPF) (F_X2_at : SPF) (F_X2_by0 : SPF) (F_X2_boundFan : SPF) (Q2 : Nat → Int32 → Int32 → MC → MI → MJ → MR → Prop) (Q94 : Nat → Int32 → Int32 → MC → MI → MJ → MR → Prop) (Q145 : Nat → Int32 → Int32 → Int64 → Int32 → MC → MI → MJ → MR → Prop) (Q322 : Nat → Int32 → Int32 → Int64 → Int32 → MC → MI → MJ → MR → Prop) (K : AK) (x0 : Nat) (x1 : Int32) (x2 : Int32) (C : MC) (I : MI) (J : MJ) (R : MR) : Prop :=
      ((x2 < 0 →
      Q94 x0 x1 (0 : Int32) C I J R) ∧
      (¬ x2 < 0 →
      (C x0).1 = 3 ∧
      ((x2 = x1 →
      PX2_bounds_80 F_X2_told0 F_X2_boundRow F_X2_at F_X2_by0 F_X2_boundFan Q2 Q94 Q145 Q322 K x0 x1 x2 (R x0 36) x2 C I J R) ∧
      (¬ x2 = x1 →
      ∃ q4 : Nat, R x0 11 = some q4 ∧
      (C q4).1 = 20 ∧
      vp_in x2 (C q4).2 ∧
      (((I q4 x2.toNatClampNeg) = (-1 : Int32) →
      PX2_bounds_84 F_X2_told0 F_X2_boundRow F_X2_at F_X2_by0 F_X2_boundFan Q2 Q94 Q145 Q322 K x0 x1 x2 (R x0 36) x2 C I J R) ∧
      (¬ (I q4 x2.toNatClampNeg) = (-1 : Int32) →
      ((x1 < (I q4 x2.toNatClampNeg) →
      PX2_bounds_84 F_X2_told0 F_X2_boundRow F_X2_at F_X2_by0 F_X2_boundFan Q2 Q94 Q145 Q322 K x0 x1 x2 (R x0 36) x2 C I J R) ∧
      (¬ x1 < (I q4 x2.toNatClampNeg) →
      ∃ q9 : Nat, R x0 36 = some q9 ∧
      (C q9).1 = 24 ∧
      vp_in (I q4 x2.toNatClampNeg) (C q9).2 ∧
      (((I q9 (I q4 x2.toNatClampNeg).toNatClampNeg) = 0 →
      PX2_bounds_84 F_X2_told0 F_X2_boundRow F_X2_at F_X2_by0 F_X2_boundFan Q2 Q94 Q145 Q322 K x0 x1 x2 (R x0 36) x2 C I J R) ∧
      (¬ (I q9 (I q4 x2.toNatClampNeg).toNatClampNeg) = 0 →
      ∃ q13 : Nat, R x0 7 = some q13 ∧
      (C q13).1 = 20 ∧
      vp_in (I q4 x2.toNatClampNeg) (C q13).2 ∧
      (((I q13 (I q4 x2.toNatClampNeg).toNatClampNeg) = (1 : Int32) →
      PX2_bounds_80 F_X2_told0 F_X2_boundRow F_X2_at F_X2_by0 F_X2_boundFan Q2 Q94 Q145 Q322 K x0 x1 x2 (R x0 36) x2 C I J R) ∧
      (¬ (I q13 (I q4 x2.toNatClampNeg).toNatClampNeg) = (1 : Int32) →
      ((¬ (I q13 (I q4 x2.toNatClampNeg).toNatClampNeg) = (2 : Int32) →
      PX2_bounds_84 F_X2_told0 F_X2_boundRow F_X2_at F_X2_by0 F_X2_boundFan Q2 Q94 Q145 Q322 K x0 x1 x2 (R x0 36) x2 C I J R) ∧
      ((I q13 (I q4 x2.toNatClampNeg).toNatClampNeg) = (2 : Int32) →
      PX2_bounds_80 F_X2_told0 F_X2_boundRow F_X2_at F_X2_by0 F_X2_boundFan Q2 Q94 Q145 Q322 K x0 x1 x2 (R x0 36) x2 C I J R))))))))))))))
def PX2_bounds_0 (F_X2_told0 : SPF) (F_X2_boundRow : SPF) (F_X2_at : SPF) (F_X2_by0 : SPF) (F_X2_boundFan : SPF) (Q2 : Nat → Int32 → Int32 → MC → MI → MJ → MR → Prop) (Q94 : Nat → Int32 → Int32 → MC → MI → MJ → MR → Prop) (Q145 : Nat → Int32 → Int32 → Int64 → Int32 → MC → MI → MJ → MR → Prop) (Q322 : Nat → Int32 → Int32 → Int64 → Int32 → MC → MI → MJ → MR → Prop) (K : AK) (x0 : Nat) (x1 : Int32) (C : MC) (I : MI) (J : MJ) (R : MR) : Prop :=
      Q2 x0 x1 x1 C I J R
theorem wX2_bounds {l : Launch}  {F_X2_told0 : SPF} (S_X2_told0 : SpX2_told0 l F_X2_told0) {F_X2_boundRow : SPF} (S_X2_boundRow : SpX2_boundRow l F_X2_boundRow) {F_X2_at : SPF} (S_X2_at : SpX2_at l F_X2_at) {F_X2_by0 : SPF} (S_X2_by0 : SpX2_by0 l F_X2_by0) {F_X2_boundFan : SPF} (S_X2_boundFan : SpX2_boundFan l F_X2_boundFan)
    (Q2 : Nat → AK → Nat → Int32 → Int32 → MC → MI → MJ → MR → Prop)
    (Q94 : Nat → AK → Nat → Int32 → Int32 → MC → MI → MJ → MR → Prop)
    (Q145 : Nat → AK → Nat → Int32 → Int32 → Int64 → Int32 → MC → MI → MJ → MR → Prop)
    (Q322 : Nat → AK → Nat → Int32 → Int32 → Int64 → Int32 → MC → MI → MJ → MR → Prop) {F : SPF}
    (h0 : ∀ (As : List AV) (C : MC) (I : MI) (J : MJ) (R : MR) (K : AK), F As C I J R K → ∃ (x0 : Nat) (x1 : Int32), As = [aR (some x0), aI x1] ∧ PX2_bounds_0 F_X2_told0 F_X2_boundRow F_X2_at F_X2_by0 F_X2_boundFan (fun (x0 : Nat) (x1 : Int32) (x2 : Int32) (C : MC) (I : MI) (J : MJ) (R : MR) => ∃ n, Q2 n K x0 x1 x2 C I J R) (fun (x0 : Nat) (x1 : Int32) (x2 : Int32) (C : MC) (I : MI) (J : MJ) (R : MR) => ∃ n, Q94 n K x0 x1 x2 C I J R) (fun (x0 : Nat) (x1 : Int32) (x2 : Int32) (x3 : Int64) (x5 : Int32) (C : MC) (I : MI) (J : MJ) (R : MR) => ∃ n, Q145 n K x0 x1 x2 x3 x5 C I J R) (fun (x0 : Nat) (x1 : Int32) (x2 : Int32) (x3 : Int64) (x5 : Int32) (C : MC) (I : MI) (J : MJ) (R : MR) => ∃ n, Q322 n K x0 x1 x2 x3 x5 C I J R) K x0 x1 C I J R)
    (h2 : ∀ (n : Nat) (K : AK) (x0 : Nat) (x1 : Int32) (x2 : Int32) (C : MC) (I : MI) (J : MJ) (R : MR), Q2 n K x0 x1 x2 C I J R → PX2_bounds_2 F_X2_told0 F_X2_boundRow F_X2_at F_X2_by0 F_X2_boundFan (fun (x0 : Nat) (x1 : Int32) (x2 : Int32) (C : MC) (I : MI) (J : MJ) (R : MR) => ∃ m, m < n ∧ Q2 m K x0 x1 x2 C I J R) (fun (x0 : Nat) (x1 : Int32) (x2 : Int32) (C : MC) (I : MI) (J : MJ) (R : MR) => ∃ m, m < n ∧ Q94 m K x0 x1 x2 C I J R) (fun (x0 : Nat) (x1 : Int32) (x2 : Int32) (x3 : Int64) (x5 : Int32) (C : MC) (I : MI) (J : MJ) (R : MR) => ∃ m, m < n ∧ Q145 m K x0 x1 x2 x3 x5 C I J R) (fun (x0 : Nat) (x1 : Int32) (x2 : Int32) (x3 : Int64) (x5 : Int32) (C : MC) (I : MI) (J : MJ) (R : MR) => ∃ m, m < n ∧ Q322 m K x0 x1 x2 x3 x5 C I J R) K x0 x1 x2 C I J R)
    (h94 : ∀ (n : Nat) (K : AK) (x0 : Nat) (x1 : Int32) (x2 : Int32) (C : MC) (I : MI) (J : MJ) (R : MR), Q94 n K x0 x1 x2 C I J R → PX2_bounds_94 F_X2_told0 F_X2_boundRow F_X2_at F_X2_by0 F_X2_boundFan (fun (x0 : Nat) (x1 : Int32) (x2 : Int32) (C : MC) (I : MI) (J : MJ) (R : MR) => ∃ m, m < n ∧ Q2 m K x0 x1 x2 C I J R) (fun (x0 : Nat) (x1 : Int32) (x2 : Int32) (C : MC) (I : MI) (J : MJ) (R : MR) => ∃ m, m < n ∧ Q94 m K x0 x1 x2 C I J R) (fun (x0 : Nat) (x1 : Int32) (x2 : Int32) (x3 : Int64) (x5 : Int32) (C : MC) (I : MI) (J : MJ) (R : MR) => ∃ m, m < n ∧ Q145 m K x0 x1 x2 x3 x5 C I J R) (fun (x0 : Nat) (x1 : Int32) (x2 : Int32) (x3 : Int64) (x5 : Int32) (C : MC) (I : MI) (J : MJ) (R : MR) => ∃ m, m < n ∧ Q322 m K x0 x1 x2 x3 x5 C I J R) K x0 x1 x2 C I J R)
    (h145 : ∀ (n : Nat) (K : AK) (x0 : Nat) (x1 : Int32) (x2 : Int32) (x3 : Int64) (x5 : Int32) (C : MC) (I : MI) (J : MJ) (R : MR), Q145 n K x0 x1 x2 x3 x5 C I J R → PX2_bounds_145 F_X2_told0 F_X2_boundRow F_X2_at F_X2_by0 F_X2_boundFan (fun (x0 : Nat) (x1 : Int32) (x2 : Int32) (C : MC) (I : MI) (J : MJ) (R : MR) => ∃ m, m < n ∧ Q2 m K x0 x1 x2 C I J R) (fun (x0 : Nat) (x1 : Int32) (x2 : Int32) (C : MC) (I : MI) (J : MJ) (R : MR) => ∃ m, m < n ∧ Q94 m K x0 x1 x2 C I J R) (fun (x0 : Nat) (x1 : Int32) (x2 : Int32) (x3 : Int64) (x5 : Int32) (C : MC) (I : MI) (J : MJ) (R : MR) => ∃ m, m < n ∧ Q145 m K x0 x1 x2 x3 x5 C I J R) (fun (x0 : Nat) (x1 : Int32) (x2 : Int32) (x3 : Int64) (x5 : Int32) (C : MC) (I : MI) (J : MJ) (R : MR) => ∃ m, m < n ∧ Q322 m K x0 x1 x2 x3 x5 C I J R) K x0 x1 x2 x3 x5 C I J R)
    (h322 : ∀ (n : Nat) (K : AK) (x0 : Nat) (x1 : Int32) (x2 : Int32) (x3 : Int64) (x5 : Int32) (C : MC) (I : MI) (J : MJ) (R : MR), Q322 n K x0 x1 x2 x3 x5 C I J R → PX2_bounds_322 F_X2_told0 F_X2_boundRow F_X2_at F_X2_by0 F_X2_boundFan (fun (x0 : Nat) (x1 : Int32) (x2 : Int32) (C : MC) (I : MI) (J : MJ) (R : MR) => ∃ m, m < n ∧ Q2 m K x0 x1 x2 C I J R) (fun (x0 : Nat) (x1 : Int32) (x2 : Int32) (C : MC) (I : MI) (J : MJ) (R : MR) => ∃ m, m < n ∧ Q94 m K x0 x1 x2 C I J R) (fun (x0 : Nat) (x1 : Int32) (x2 : Int32) (x3 : Int64) (x5 : Int32) (C : MC) (I : MI) (J : MJ) (R : MR) => ∃ m, m < n ∧ Q145 m K x0 x1 x2 x3 x5 C I J R) (fun (x0 : Nat) (x1 : Int32) (x2 : Int32) (x3 : Int64) (x5 : Int32) (C : MC) (I : MI) (J : MJ) (R : MR) => ∃ m, m < n ∧ Q322 m K x0 x1 x2 x3 x5 C I J R) K x0 x1 x2 x3 x5 C I J R) : SpX2_bounds l F := by
  refine Spec.of (by rfl) ?_
  intro Γ C I J R As Gd gl gr _ _ gb hF
  subst gl
  have G : Gb Γ yX2_bounds cX2_bounds 6 (some .boolean) [] rmX2_bounds bdX2_bounds := ⟨Gd, gr, gb⟩
  have key : ∀ n : Nat, (∀ (x0 : Nat) (x1 : Int32) (x2 : Int32) (C : MC) (I : MI) (J : MJ) (R : MR), Q2 n (gK Γ) x0 x1 x2 C I J R → AW Γ 0 0 C I J R 2 [(0, aR (some x0)), (1, aI x1), (2, aI x2)] []) ∧ (∀ (x0 : Nat) (x1 : Int32) (x2 : Int32) (C : MC) (I : MI) (J : MJ) (R : MR), Q94 n (gK Γ) x0 x1 x2 C I J R → AW Γ 0 0 C I J R 94 [(0, aR (some x0)), (1, aI x1), (2, aI x2)] []) ∧ (∀ (x0 : Nat) (x1 : Int32) (x2 : Int32) (x3 : Int64) (x5 : Int32) (C : MC) (I : MI) (J : MJ) (R : MR), Q145 n (gK Γ) x0 x1 x2 x3 x5 C I J R → AW Γ 0 0 C I J R 145 [(0, aR (some x0)), (1, aI x1), (2, aI x2), (3, aJ x3), (5, aI x5)] []) ∧ (∀ (x0 : Nat) (x1 : Int32) (x2 : Int32) (x3 : Int64) (x5 : Int32) (C : MC) (I : MI) (J : MJ) (R : MR), Q322 n (gK Γ) x0 x1 x2 x3 x5 C I J R → AW Γ 0 0 C I J R 322 [(0, aR (some x0)), (1, aI x1), (2, aI x2), (3, aJ x3), (5, aI x5)] []) := by
    intro n
    induction n using Nat.strongRecOn with
    | ind n ih =>
    have w2 : ∀ (x0 : Nat) (x1 : Int32) (x2 : Int32) (C : MC) (I : MI) (J : MJ) (R : MR), (∃ m, m < n ∧ Q2 m (gK Γ) x0 x1 x2 C I J R) → AW Γ 0 0 C I J R 2 [(0, aR (some x0)), (1, aI x1), (2, aI x2)] [] := fun x0 x1 x2 C I J R ⟨m, hm, hq⟩ => (ih m hm).1 x0 x1 x2 C I J R hq
    have w94 : ∀ (x0 : Nat) (x1 : Int32) (x2 : Int32) (C : MC) (I : MI) (J : MJ) (R : MR), (∃ m, m < n ∧ Q94 m (gK Γ) x0 x1 x2 C I J R) → AW Γ 0 0 C I J R 94 [(0, aR (some x0)), (1, aI x1), (2, aI x2)] [] := fun x0 x1 x2 C I J R ⟨m, hm, hq⟩ => (ih m hm).2.1 x0 x1 x2 C I J R hq
    have w145 : ∀ (x0 : Nat) (x1 : Int32) (x2 : Int32) (x3 : Int64) (x5 : Int32) (C : MC) (I : MI) (J : MJ) (R : MR), (∃ m, m < n ∧ Q145 m (gK Γ) x0 x1 x2 x3 x5 C I J R) → AW Γ 0 0 C I J R 145 [(0, aR (some x0)), (1, aI x1), (2, aI x2), (3, aJ x3), (5, aI x5)] [] := fun x0 x1 x2 x3 x5 C I J R ⟨m, hm, hq⟩ => (ih m hm).2.2.1 x0 x1 x2 x3 x5 C I J R hq
    have w322 : ∀ (x0 : Nat) (x1 : Int32) (x2 : Int32) (x3 : Int64) (x5 : Int32) (C : MC) (I : MI) (J : MJ) (R : MR), (∃ m, m < n ∧ Q322 m (gK Γ) x0 x1 x2 x3 x5 C I J R) → AW Γ 0 0 C I J R 322 [(0, aR (some x0)), (1, aI x1), (2, aI x2), (3, aJ x3), (5, aI x5)] [] := fun x0 x1 x2 x3 x5 C I J R ⟨m, hm, hq⟩ => (ih m hm).2.2.2 x0 x1 x2 x3 x5 C I J R hq
    have w375 : ∀ (x0 : Nat) (x1 : Int32) (x2 : Int32) (C : MC) (I : MI) (J : MJ) (R : MR), PX2_bounds_375 F_X2_told0 F_X2_boundRow F_X2_at F_X2_by0 F_X2_boundFan (fun (x0 : Nat) (x1 : Int32) (x2 : Int32) (C : MC) (I : MI) (J : MJ) (R : MR) => ∃ m, m < n ∧ Q2 m (gK Γ) x0 x1 x2 C I J R) (fun (x0 : Nat) (x1 : Int32) (x2 : Int32) (C : MC) (I : MI) (J : MJ) (R : MR) => ∃ m, m < n ∧ Q94 m (gK Γ) x0 x1 x2 C I J R) (fun (x0 : Nat) (x1 : Int32) (x2 : Int32) (x3 : Int64) (x5 : Int32) (C : MC) (I : MI) (J : MJ) (R : MR) => ∃ m, m < n ∧ Q145 m (gK Γ) x0 x1 x2 x3 x5 C I J R) (fun (x0 : Nat) (x1 : Int32) (x2 : Int32) (x3 : Int64) (x5 : Int32) (C : MC) (I : MI) (J : MJ) (R : MR) => ∃ m, m < n ∧ Q322 m (gK Γ) x0 x1 x2 x3 x5 C I J R) (gK Γ) x0 x1 x2 C I J R → AW Γ 0 0 C I J R 375 [(0, aR (some x0)), (1, aI x1), (2, aI x2)] [] := fun x0 x1 x2 C I J R h => bX2_bounds_375 G w94 h
    have w368 : ∀ (x0 : Nat) (x1 : Int32) (x2 : Int32) (x3 : Int64) (x5 : Int32) (s0 : Option Nat) (s1 : Int32) (s2 : Int64) (C : MC) (I : MI) (J : MJ) (R : MR), PX2_bounds_368 F_X2_told0 F_X2_boundRow F_X2_at F_X2_by0 F_X2_boundFan (fun (x0 : Nat) (x1 : Int32) (x2 : Int32) (C : MC) (I : MI) (J : MJ) (R : MR) => ∃ m, m < n ∧ Q2 m (gK Γ) x0 x1 x2 C I J R) (fun (x0 : Nat) (x1 : Int32) (x2 : Int32) (C : MC) (I : MI) (J : MJ) (R : MR) => ∃ m, m < n ∧ Q94 m (gK Γ) x0 x1 x2 C I J R) (fun (x0 : Nat) (x1 : Int32) (x2 : Int32) (x3 : Int64) (x5 : Int32) (C : MC) (I : MI) (J : MJ) (R : MR) => ∃ m, m < n ∧ Q145 m (gK Γ) x0 x1 x2 x3 x5 C I J R) (fun (x0 : Nat) (x1 : Int32) (x2 : Int32) (x3 : Int64) (x5 : Int32) (C : MC) (I : MI) (J : MJ) (R : MR) => ∃ m, m < n ∧ Q322 m (gK Γ) x0 x1 x2 x3 x5 C I J R) (gK Γ) x0 x1 x2 x3 x5 s0 s1 s2 C I J R → AW Γ 0 0 C I J R 368 [(0, aR (some x0)), (1, aI x1), (2, aI x2), (3, aJ x3), (5, aI x5)] [aJ s2, aI s1, aR s0] := fun x0 x1 x2 x3 x5 s0 s1 s2 C I J R h => bX2_bounds_368 G w322 h
    have w284 : ∀ (x0 : Nat) (x1 : Int32) (x2 : Int32) (x3 : Int64) (C : MC) (I : MI) (J : MJ) (R : MR), PX2_bounds_284 F_X2_told0 F_X2_boundRow F_X2_at F_X2_by0 F_X2_boundFan (fun (x0 : Nat) (x1 : Int32) (x2 : Int32) (C : MC) (I : MI) (J : MJ) (R : MR) => ∃ m, m < n ∧ Q2 m (gK Γ) x0 x1 x2 C I J R) (fun (x0 : Nat) (x1 : Int32) (x2 : Int32) (C : MC) (I : MI) (J : MJ) (R : MR) => ∃ m, m < n ∧ Q94 m (gK Γ) x0 x1 x2 C I J R) (fun (x0 : Nat) (x1 : Int32) (x2 : Int32) (x3 : Int64) (x5 : Int32) (C : MC) (I : MI) (J : MJ) (R : MR) => ∃ m, m < n ∧ Q145 m (gK Γ) x0 x1 x2 x3 x5 C I J R) (fun (x0 : Nat) (x1 : Int32) (x2 : Int32) (x3 : Int64) (x5 : Int32) (C : MC) (I : MI) (J : MJ) (R : MR) => ∃ m, m < n ∧ Q322 m (gK Γ) x0 x1 x2 x3 x5 C I J R) (gK Γ) x0 x1 x2 x3 C I J R → AW Γ 0 0 C I J R 284 [(0, aR (some x0)), (1, aI x1), (2, aI x2), (3, aJ x3)] [] := fun x0 x1 x2 x3 C I J R h => bX2_bounds_284 G S_X2_boundRow w322 w375 h
    have w238 : ∀ (x0 : Nat) (x1 : Int32) (x2 : Int32) (x3 : Int64) (C : MC) (I : MI) (J : MJ) (R : MR), PX2_bounds_238 F_X2_told0 F_X2_boundRow F_X2_at F_X2_by0 F_X2_boundFan (fun (x0 : Nat) (x1 : Int32) (x2 : Int32) (C : MC) (I : MI) (J : MJ) (R : MR) => ∃ m, m < n ∧ Q2 m (gK Γ) x0 x1 x2 C I J R) (fun (x0 : Nat) (x1 : Int32) (x2 : Int32) (C : MC) (I : MI) (J : MJ) (R : MR) => ∃ m, m < n ∧ Q94 m (gK Γ) x0 x1 x2 C I J R) (fun (x0 : Nat) (x1 : Int32) (x2 : Int32) (x3 : Int64) (x5 : Int32) (C : MC) (I : MI) (J : MJ) (R : MR) => ∃ m, m < n ∧ Q145 m (gK Γ) x0 x1 x2 x3 x5 C I J R) (fun (x0 : Nat) (x1 : Int32) (x2 : Int32) (x3 : Int64) (x5 : Int32) (C : MC) (I : MI) (J : MJ) (R : MR) => ∃ m, m < n ∧ Q322 m (gK Γ) x0 x1 x2 x3 x5 C I J R) (gK Γ) x0 x1 x2 x3 C I J R → AW Γ 0 0 C I J R 238 [(0, aR (some x0)), (1, aI x1), (2, aI x2), (3, aJ x3)] [] := fun x0 x1 x2 x3 C I J R h => bX2_bounds_238 G S_X2_told0 w284 h
    have w171 : ∀ (x0 : Nat) (x1 : Int32) (x2 : Int32) (x3 : Int64) (x5 : Int32) (C : MC) (I : MI) (J : MJ) (R : MR), PX2_bounds_171 F_X2_told0 F_X2_boundRow F_X2_at F_X2_by0 F_X2_boundFan (fun (x0 : Nat) (x1 : Int32) (x2 : Int32) (C : MC) (I : MI) (J : MJ) (R : MR) => ∃ m, m < n ∧ Q2 m (gK Γ) x0 x1 x2 C I J R) (fun (x0 : Nat) (x1 : Int32) (x2 : Int32) (C : MC) (I : MI) (J : MJ) (R : MR) => ∃ m, m < n ∧ Q94 m (gK Γ) x0 x1 x2 C I J R) (fun (x0 : Nat) (x1 : Int32) (x2 : Int32) (x3 : Int64) (x5 : Int32) (C : MC) (I : MI) (J : MJ) (R : MR) => ∃ m, m < n ∧ Q145 m (gK Γ) x0 x1 x2 x3 x5 C I J R) (fun (x0 : Nat) (x1 : Int32) (x2 : Int32) (x3 : Int64) (x5 : Int32) (C : MC) (I : MI) (J : MJ) (R : MR) => ∃ m, m < n ∧ Q322 m (gK Γ) x0 x1 x2 x3 x5 C I J R) (gK Γ) x0 x1 x2 x3 x5 C I J R → AW Γ 0 0 C I J R 171 [(0, aR (some x0)), (1, aI x1), (2, aI x2), (3, aJ x3), (5, aI x5)] [] := fun x0 x1 x2 x3 x5 C I J R h => bX2_bounds_171 G w145 w238 h
    have w141 : ∀ (x0 : Nat) (x1 : Int32) (x2 : Int32) (s0 : Int64) (C : MC) (I : MI) (J : MJ) (R : MR), PX2_bounds_141 F_X2_told0 F_X2_boundRow F_X2_at F_X2_by0 F_X2_boundFan (fun (x0 : Nat) (x1 : Int32) (x2 : Int32) (C : MC) (I : MI) (J : MJ) (R : MR) => ∃ m, m < n ∧ Q2 m (gK Γ) x0 x1 x2 C I J R) (fun (x0 : Nat) (x1 : Int32) (x2 : Int32) (C : MC) (I : MI) (J : MJ) (R : MR) => ∃ m, m < n ∧ Q94 m (gK Γ) x0 x1 x2 C I J R) (fun (x0 : Nat) (x1 : Int32) (x2 : Int32) (x3 : Int64) (x5 : Int32) (C : MC) (I : MI) (J : MJ) (R : MR) => ∃ m, m < n ∧ Q145 m (gK Γ) x0 x1 x2 x3 x5 C I J R) (fun (x0 : Nat) (x1 : Int32) (x2 : Int32) (x3 : Int64) (x5 : Int32) (C : MC) (I : MI) (J : MJ) (R : MR) => ∃ m, m < n ∧ Q322 m (gK Γ) x0 x1 x2 x3 x5 C I J R) (gK Γ) x0 x1 x2 s0 C I J R → AW Γ 0 0 C I J R 141 [(0, aR (some x0)), (1, aI x1), (2, aI x2)] [aJ s0] := fun x0 x1 x2 s0 C I J R h => bX2_bounds_141 G w145 h
    have w131 : ∀ (x0 : Nat) (x1 : Int32) (x2 : Int32) (C : MC) (I : MI) (J : MJ) (R : MR), PX2_bounds_131 F_X2_told0 F_X2_boundRow F_X2_at F_X2_by0 F_X2_boundFan (fun (x0 : Nat) (x1 : Int32) (x2 : Int32) (C : MC) (I : MI) (J : MJ) (R : MR) => ∃ m, m < n ∧ Q2 m (gK Γ) x0 x1 x2 C I J R) (fun (x0 : Nat) (x1 : Int32) (x2 : Int32) (C : MC) (I : MI) (J : MJ) (R : MR) => ∃ m, m < n ∧ Q94 m (gK Γ) x0 x1 x2 C I J R) (fun (x0 : Nat) (x1 : Int32) (x2 : Int32) (x3 : Int64) (x5 : Int32) (C : MC) (I : MI) (J : MJ) (R : MR) => ∃ m, m < n ∧ Q145 m (gK Γ) x0 x1 x2 x3 x5 C I J R) (fun (x0 : Nat) (x1 : Int32) (x2 : Int32) (x3 : Int64) (x5 : Int32) (C : MC) (I : MI) (J : MJ) (R : MR) => ∃ m, m < n ∧ Q322 m (gK Γ) x0 x1 x2 x3 x5 C I J R) (gK Γ) x0 x1 x2 C I J R → AW Γ 0 0 C I J R 131 [(0, aR (some x0)), (1, aI x1), (2, aI x2)] [] := fun x0 x1 x2 C I J R h => bX2_bounds_131 G w141 h
    have w85 : ∀ (x0 : Nat) (x1 : Int32) (x2 : Int32) (s0 : Option Nat) (s1 : Int32) (s2 : Int32) (C : MC) (I : MI) (J : MJ) (R : MR), PX2_bounds_85 F_X2_told0 F_X2_boundRow F_X2_at F_X2_by0 F_X2_boundFan (fun (x0 : Nat) (x1 : Int32) (x2 : Int32) (C : MC) (I : MI) (J : MJ) (R : MR) => ∃ m, m < n ∧ Q2 m (gK Γ) x0 x1 x2 C I J R) (fun (x0 : Nat) (x1 : Int32) (x2 : Int32) (C : MC) (I : MI) (J : MJ) (R : MR) => ∃ m, m < n ∧ Q94 m (gK Γ) x0 x1 x2 C I J R) (fun (x0 : Nat) (x1 : Int32) (x2 : Int32) (x3 : Int64) (x5 : Int32) (C : MC) (I : MI) (J : MJ) (R : MR) => ∃ m, m < n ∧ Q145 m (gK Γ) x0 x1 x2 x3 x5 C I J R) (fun (x0 : Nat) (x1 : Int32) (x2 : Int32) (x3 : Int64) (x5 : Int32) (C : MC) (I : MI) (J : MJ) (R : MR) => ∃ m, m < n ∧ Q322 m (gK Γ) x0 x1 x2 x3 x5 C I J R) (gK Γ) x0 x1 x2 s0 s1 s2 C I J R → AW Γ 0 0 C I J R 85 [(0, aR (some x0)), (1, aI x1), (2, aI x2)] [aI s2, aI s1, aR s0] := fun x0 x1 x2 s0 s1 s2 C I J R h => bX2_bounds_85 G w2 h
    have w84 : ∀ (x0 : Nat) (x1 : Int32) (x2 : Int32) (s0 : Option Nat) (s1 : Int32) (C : MC) (I : MI) (J : MJ) (R : MR), PX2_bounds_84 F_X2_told0 F_X2_boundRow F_X2_at F_X2_by0 F_X2_boundFan (fun (x0 : Nat) (x1 : Int32) (x2 : Int32) (C : MC) (I : MI) (J : MJ) (R : MR) => ∃ m, m < n ∧ Q2 m (gK Γ) x0 x1 x2 C I J R) (fun (x0 : Nat) (x1 : Int32) (x2 : Int32) (C : MC) (I : MI) (J : MJ) (R : MR) => ∃ m, m < n ∧ Q94 m (gK Γ) x0 x1 x2 C I J R) (fun (x0 : Nat) (x1 : Int32) (x2 : Int32) (x3 : Int64) (x5 : Int32) (C : MC) (I : MI) (J : MJ) (R : MR) => ∃ m, m < n ∧ Q145 m (gK Γ) x0 x1 x2 x3 x5 C I J R) (fun (x0 : Nat) (x1 : Int32) (x2 : Int32) (x3 : Int64) (x5 : Int32) (C : MC) (I : MI) (J : MJ) (R : MR) => ∃ m, m < n ∧ Q322 m (gK Γ) x0 x1 x2 x3 x5 C I J R) (gK Γ) x0 x1 x2 s0 s1 C I J R → AW Γ 0 0 C I J R 84 [(0, aR (some x0)), (1, aI x1), (2, aI x2)] [aI s1, aR s0] := fun x0 x1 x2 s0 s1 C I J R h => bX2_bounds_84 G w85 h
    have w80 : ∀ (x0 : Nat) (x1 : Int32) (x2 : Int32) (s0 : Option Nat) (s1 : Int32) (C : MC) (I : MI) (J : MJ) (R : MR), PX2_bounds_80 F_X2_told0 F_X2_boundRow F_X2_at F_X2_by0 F_X2_boundFan (fun (x0 : Nat) (x1 : Int32) (x2 : Int32) (C : MC) (I : MI) (J : MJ) (R : MR) => ∃ m, m < n ∧ Q2 m (gK Γ) x0 x1 x2 C I J R) (fun (x0 : Nat) (x1 : Int32) (x2 : Int32) (C : MC) (I : MI) (J : MJ) (R : MR) => ∃ m, m < n ∧ Q94 m (gK Γ) x0 x1 x2 C I J R) (fun (x0 : Nat) (x1 : Int32) (x2 : Int32) (x3 : Int64) (x5 : Int32) (C : MC) (I : MI) (J : MJ) (R : MR) => ∃ m, m < n ∧ Q145 m (gK Γ) x0 x1 x2 x3 x5 C I J R) (fun (x0 : Nat) (x1 : Int32) (x2 : Int32) (x3 : Int64) (x5 : Int32) (C : MC) (I : MI) (J : MJ) (R : MR) => ∃ m, m < n ∧ Q322 m (gK Γ) x0 x1 x2 x3 x5 C I J R) (gK Γ) x0 x1 x2 s0 s1 C I J R → AW Γ 0 0 C I J R 80 [(0, aR (some x0)), (1, aI x1), (2, aI x2)] [aI s1, aR s0] := fun x0 x1 x2 s0 s1 C I J R h => bX2_bounds_80 G w85 h
    exact ⟨fun x0 x1 x2 C I J R h => bX2_bounds_2 G w80 w84 w94 (h2 n (gK Γ) x0 x1 x2 C I J R h), fun x0 x1 x2 C I J R h => bX2_bounds_94 G w131 w141 w375 (h94 n (gK Γ) x0 x1 x2 C I J R h), fun x0 x1 x2 x3 x5 C I J R h => bX2_bounds_145 G w171 w238 (h145 n (gK Γ) x0 x1 x2 x3 x5 C I J R h), fun x0 x1 x2 x3 x5 C I J R h => bX2_bounds_322 G S_X2_at S_X2_by0 S_X2_boundFan w368 w375 (h322 n (gK Γ) x0 x1 x2 x3 x5 C I J R h)⟩
  have w2 : ∀ (x0 : Nat) (x1 : Int32) (x2 : Int32) (C : MC) (I : MI) (J : MJ) (R : MR), (∃ n, Q2 n (gK Γ) x0 x1 x2 C I J R) → AW Γ 0 0 C I J R 2 [(0, aR (some x0)), (1, aI x1), (2, aI x2)] [] := fun x0 x1 x2 C I J R ⟨m, hq⟩ => (key m).1 x0 x1 x2 C I J R hq
  have w94 : ∀ (x0 : Nat) (x1 : Int32) (x2 : Int32) (C : MC) (I : MI) (J : MJ) (R : MR), (∃ n, Q94 n (gK Γ) x0 x1 x2 C I J R) → AW Γ 0 0 C I J R 94 [(0, aR (some x0)), (1, aI x1), (2, aI x2)] [] := fun x0 x1 x2 C I J R ⟨m, hq⟩ => (key m).2.1 x0 x1 x2 C I J R hq
  have w145 : ∀ (x0 : Nat) (x1 : Int32) (x2 : Int32) (x3 : Int64) (x5 : Int32) (C : MC) (I : MI) (J : MJ) (R : MR), (∃ n, Q145 n (gK Γ) x0 x1 x2 x3 x5 C I J R) → AW Γ 0 0 C I J R 145 [(0, aR (some x0)), (1, aI x1), (2, aI x2), (3, aJ x3), (5, aI x5)] [] := fun x0 x1 x2 x3 x5 C I J R ⟨m, hq⟩ => (key m).2.2.1 x0 x1 x2 x3 x5 C I J R hq
  have w322 : ∀ (x0 : Nat) (x1 : Int32) (x2 : Int32) (x3 : Int64) (x5 : Int32) (C : MC) (I : MI) (J : MJ) (R : MR), (∃ n, Q322 n (gK Γ) x0 x1 x2 x3 x5 C I J R) → AW Γ 0 0 C I J R 322 [(0, aR (some x0)), (1, aI x1), (2, aI x2), (3, aJ x3), (5, aI x5)] [] := fun x0 x1 x2 x3 x5 C I J R ⟨m, hq⟩ => (key m).2.2.2 x0 x1 x2 x3 x5 C I J R hq
  have w375 : ∀ (x0 : Nat) (x1 : Int32) (x2 : Int32) (C : MC) (I : MI) (J : MJ) (R : MR), PX2_bounds_375 F_X2_told0 F_X2_boundRow F_X2_at F_X2_by0 F_X2_boundFan (fun (x0 : Nat) (x1 : Int32) (x2 : Int32) (C : MC) (I : MI) (J : MJ) (R : MR) => ∃ n, Q2 n (gK Γ) x0 x1 x2 C I J R) (fun (x0 : Nat) (x1 : Int32) (x2 : Int32) (C : MC) (I : MI) (J : MJ) (R : MR) => ∃ n, Q94 n (gK Γ) x0 x1 x2 C I J R) (fun (x0 : Nat) (x1 : Int32) (x2 : Int32) (x3 : Int64) (x5 : Int32) (C : MC) (I : MI) (J : MJ) (R : MR) => ∃ n, Q145 n (gK Γ) x0 x1 x2 x3 x5 C I J R) (fun (x0 : Nat) (x1 : Int32) (x2 : Int32) (x3 : Int64) (x5 : Int32) (C : MC) (I : MI) (J : MJ) (R : MR) => ∃ n, Q322 n (gK Γ) x0 x1 x2 x3 x5 C I J R) (gK Γ) x0 x1 x2 C I J R → AW Γ 0 0 C I J R 375 [(0, aR (some x0)), (1, aI x1), (2, aI x2)] [] := fun x0 x1 x2 C I J R h => bX2_bounds_375 G w94 h
  have w368 : ∀ (x0 : Nat) (x1 : Int32) (x2 : Int32) (x3 : Int64) (x5 : Int32) (s0 : Option Nat) (s1 : Int32) (s2 : Int64) (C : MC) (I : MI) (J : MJ) (R : MR), PX2_bounds_368 F_X2_told0 F_X2_boundRow F_X2_at F_X2_by0 F_X2_boundFan (fun (x0 : Nat) (x1 : Int32) (x2 : Int32) (C : MC) (I : MI) (J : MJ) (R : MR) => ∃ n, Q2 n (gK Γ) x0 x1 x2 C I J R) (fun (x0 : Nat) (x1 : Int32) (x2 : Int32) (C : MC) (I : MI) (J : MJ) (R : MR) => ∃ n, Q94 n (gK Γ) x0 x1 x2 C I J R) (fun (x0 : Nat) (x1 : Int32) (x2 : Int32) (x3 : Int64) (x5 : Int32) (C : MC) (I : MI) (J : MJ) (R : MR) => ∃ n, Q145 n (gK Γ) x0 x1 x2 x3 x5 C I J R) (fun (x0 : Nat) (x1 : Int32) (x2 : Int32) (x3 : Int64) (x5 : Int32) (C : MC) (I : MI) (J : MJ) (R : MR) => ∃ n, Q322 n (gK Γ) x0 x1 x2 x3 x5 C I J R) (gK Γ) x0 x1 x2 x3 x5 s0 s1 s2 C I J R → AW Γ 0 0 C I J R 368 [(0, aR (some x0)), (1, aI x1), (2, aI x2), (3, aJ x3), (5, aI x5)] [aJ s2, aI s1, aR s0] := fun x0 x1 x2 x3 x5 s0 s1 s2 C I J R h => bX2_bounds_368 G w322 h
  have w284 : ∀ (x0 : Nat) (x1 : Int32) (x2 : Int32) (x3 : Int64) (C : MC) (I : MI) (J : MJ) (R : MR), PX2_bounds_284 F_X2_told0 F_X2_boundRow F_X2_at F_X2_by0 F_X2_boundFan (fun (x0 : Nat) (x1 : Int32) (x2 : Int32) (C : MC) (I : MI) (J : MJ) (R : MR) => ∃ n, Q2 n (gK Γ) x0 x1 x2 C I J R) (fun (x0 : Nat) (x1 : Int32) (x2 : Int32) (C : MC) (I : MI) (J : MJ) (R : MR) => ∃ n, Q94 n (gK Γ) x0 x1 x2 C I J R) (fun (x0 : Nat) (x1 : Int32) (x2 : Int32) (x3 : Int64) (x5 : Int32) (C : MC) (I : MI) (J : MJ) (R : MR) => ∃ n, Q145 n (gK Γ) x0 x1 x2 x3 x5 C I J R) (fun (x0 : Nat) (x1 : Int32) (x2 : Int32) (x3 : Int64) (x5 : Int32) (C : MC) (I : MI) (J : MJ) (R : MR) => ∃ n, Q322 n (gK Γ) x0 x1 x2 x3 x5 C I J R) (gK Γ) x0 x1 x2 x3 C I J R → AW Γ 0 0 C I J R 284 [(0, aR (some x0)), (1, aI x1), (2, aI x2), (3, aJ x3)] [] := fun x0 x1 x2 x3 C I J R h => bX2_bounds_284 G S_X2_boundRow w322 w375 h
  have w238 : ∀ (x0 : Nat) (x1 : Int32) (x2 : Int32) (x3 : Int64) (C : MC) (I : MI) (J : MJ) (R : MR), PX2_bounds_238 F_X2_told0 F_X2_boundRow F_X2_at F_X2_by0 F_X2_boundFan (fun (x0 : Nat) (x1 : Int32) (x2 : Int32) (C : MC) (I : MI) (J : MJ) (R : MR) => ∃ n, Q2 n (gK Γ) x0 x1 x2 C I J R) (fun (x0 : Nat) (x1 : Int32) (x2 : Int32) (C : MC) (I : MI) (J : MJ) (R : MR) => ∃ n, Q94 n (gK Γ) x0 x1 x2 C I J R) (fun (x0 : Nat) (x1 : Int32) (x2 : Int32) (x3 : Int64) (x5 : Int32) (C : MC) (I : MI) (J : MJ) (R : MR) => ∃ n, Q145 n (gK Γ) x0 x1 x2 x3 x5 C I J R) (fun (x0 : Nat) (x1 : Int32) (x2 : Int32) (x3 : Int64) (x5 : Int32) (C : MC) (I : MI) (J : MJ) (R : MR) => ∃ n, Q322 n (gK Γ) x0 x1 x2 x3 x5 C I J R) (gK Γ) x0 x1 x2 x3 C I J R → AW Γ 0 0 C I J R 238 [(0, aR (some x0)), (1, aI x1), (2, aI x2), (3, aJ x3)] [] := fun x0 x1 x2 x3 C I J R h => bX2_bounds_238 G S_X2_told0 w284 h
  have w171 : ∀ (x0 : Nat) (x1 : Int32) (x2 : Int32) (x3 : Int64) (x5 : Int32) (C : MC) (I : MI) (J : MJ) (R : MR), PX2_bounds_171 F_X2_told0 F_X2_boundRow F_X2_at F_X2_by0 F_X2_boundFan (fun (x0 : Nat) (x1 : Int32) (x2 : Int32) (C : MC) (I : MI) (J : MJ) (R : MR) => ∃ n, Q2 n (gK Γ) x0 x1 x2 C I J R) (fun (x0 : Nat) (x1 : Int32) (x2 : Int32) (C : MC) (I : MI) (J : MJ) (R : MR) => ∃ n, Q94 n (gK Γ) x0 x1 x2 C I J R) (fun (x0 : Nat) (x1 : Int32) (x2 : Int32) (x3 : Int64) (x5 : Int32) (C : MC) (I : MI) (J : MJ) (R : MR) => ∃ n, Q145 n (gK Γ) x0 x1 x2 x3 x5 C I J R) (fun (x0 : Nat) (x1 : Int32) (x2 : Int32) (x3 : Int64) (x5 : Int32) (C : MC) (I : MI) (J : MJ) (R : MR) => ∃ n, Q322 n (gK Γ) x0 x1 x2 x3 x5 C I J R) (gK Γ) x0 x1 x2 x3 x5 C I J R → AW Γ 0 0 C I J R 171 [(0, aR (some x0)), (1, aI x1), (2, aI x2), (3, aJ x3), (5, aI x5)] [] := fun x0 x1 x2 x3 x5 C I J R h => bX2_bounds_171 G w145 w238 h
  have w141 : ∀ (x0 : Nat) (x1 : Int32) (x2 : Int32) (s0 : Int64) (C : MC) (I : MI) (J : MJ) (R : MR), PX2_bounds_141 F_X2_told0 F_X2_boundRow F_X2_at F_X2_by0 F_X2_boundFan (fun (x0 : Nat) (x1 : Int32) (x2 : Int32) (C : MC) (I : MI) (J : MJ) (R : MR) => ∃ n, Q2 n (gK Γ) x0 x1 x2 C I J R) (fun (x0 : Nat) (x1 : Int32) (x2 : Int32) (C : MC) (I : MI) (J : MJ) (R : MR) => ∃ n, Q94 n (gK Γ) x0 x1 x2 C I J R) (fun (x0 : Nat) (x1 : Int32) (x2 : Int32) (x3 : Int64) (x5 : Int32) (C : MC) (I : MI) (J : MJ) (R : MR) => ∃ n, Q145 n (gK Γ) x0 x1 x2 x3 x5 C I J R) (fun (x0 : Nat) (x1 : Int32) (x2 : Int32) (x3 : Int64) (x5 : Int32) (C : MC) (I : MI) (J : MJ) (R : MR) => ∃ n, Q322 n (gK Γ) x0 x1 x2 x3 x5 C I J R) (gK Γ) x0 x1 x2 s0 C I J R → AW Γ 0 0 C I J R 141 [(0, aR (some x0)), (1, aI x1), (2, aI x2)] [aJ s0] := fun x0 x1 x2 s0 C I J R h => bX2_bounds_141 G w145 h
  have w131 : ∀ (x0 : Nat) (x1 : Int32) (x2 : Int32) (C : MC) (I : MI) (J : MJ) (R : MR), PX2_bounds_131 F_X2_told0 F_X2_boundRow F_X2_at F_X2_by0 F_X2_boundFan (fun (x0 : Nat) (x1 : Int32) (x2 : Int32) (C : MC) (I : MI) (J : MJ) (R : MR) => ∃ n, Q2 n (gK Γ) x0 x1 x2 C I J R) (fun (x0 : Nat) (x1 : Int32) (x2 : Int32) (C : MC) (I : MI) (J : MJ) (R : MR) => ∃ n, Q94 n (gK Γ) x0 x1 x2 C I J R) (fun (x0 : Nat) (x1 : Int32) (x2 : Int32) (x3 : Int64) (x5 : Int32) (C : MC) (I : MI) (J : MJ) (R : MR) => ∃ n, Q145 n (gK Γ) x0 x1 x2 x3 x5 C I J R) (fun (x0 : Nat) (x1 : Int32) (x2 : Int32) (x3 : Int64) (x5 : Int32) (C : MC) (I : MI) (J : MJ) (R : MR) => ∃ n, Q322 n (gK Γ) x0 x1 x2 x3 x5 C I J R) (gK Γ) x0 x1 x2 C I J R → AW Γ 0 0 C I J R 131 [(0, aR (some x0)), (1, aI x1), (2, aI x2)] [] := fun x0 x1 x2 C I J R h => bX2_bounds_131 G w141 h
  have w85 : ∀ (x0 : Nat) (x1 : Int32) (x2 : Int32) (s0 : Option Nat) (s1 : Int32) (s2 : Int32) (C : MC) (I : MI) (J : MJ) (R : MR), PX2_bounds_85 F_X2_told0 F_X2_boundRow F_X2_at F_X2_by0 F_X2_boundFan (fun (x0 : Nat) (x1 : Int32) (x2 : Int32) (C : MC) (I : MI) (J : MJ) (R : MR) => ∃ n, Q2 n (gK Γ) x0 x1 x2 C I J R) (fun (x0 : Nat) (x1 : Int32) (x2 : Int32) (C : MC) (I : MI) (J : MJ) (R : MR) => ∃ n, Q94 n (gK Γ) x0 x1 x2 C I J R) (fun (x0 : Nat) (x1 : Int32) (x2 : Int32) (x3 : Int64) (x5 : Int32) (C : MC) (I : MI) (J : MJ) (R : MR) => ∃ n, Q145 n (gK Γ) x0 x1 x2 x3 x5 C I J R) (fun (x0 : Nat) (x1 : Int32) (x2 : Int32) (x3 : Int64) (x5 : Int32) (C : MC) (I : MI) (J : MJ) (R : MR) => ∃ n, Q322 n (gK Γ) x0 x1 x2 x3 x5 C I J R) (gK Γ) x0 x1 x2 s0 s1 s2 C I J R → AW Γ 0 0 C I J R 85 [(0, aR (some x0)), (1, aI x1), (2, aI x2)] [aI s2, aI s1, aR s0] := fun x0 x1 x2 s0 s1 s2 C I J R h => bX2_bounds_85 G w2 h
  have w84 : ∀ (x0 : Nat) (x1 : Int32) (x2 : Int32) (s0 : Option Nat) (s1 : Int32) (C : MC) (I : MI) (J : MJ) (R : MR), PX2_bounds_84 F_X2_told0 F_X2_boundRow F_X2_at F_X2_by0 F_X2_boundFan (fun (x0 : Nat) (x1 : Int32) (x2 : Int32) (C : MC) (I : MI) (J : MJ) (R : MR) => ∃ n, Q2 n (gK Γ) x0 x1 x2 C I J R) (fun (x0 : Nat) (x1 : Int32) (x2 : Int32) (C : MC) (I : MI) (J : MJ) (R : MR) => ∃ n, Q94 n (gK Γ) x0 x1 x2 C I J R) (fun (x0 : Nat) (x1 : Int32) (x2 : Int32) (x3 : Int64) (x5 : Int32) (C : MC) (I : MI) (J : MJ) (R : MR) => ∃ n, Q145 n (gK Γ) x0 x1 x2 x3 x5 C I J R) (fun (x0 : Nat) (x1 : Int32) (x2 : Int32) (x3 : Int64) (x5 : Int32) (C : MC) (I : MI) (J : MJ) (R : MR) => ∃ n, Q322 n (gK Γ) x0 x1 x2 x3 x5 C I J R) (gK Γ) x0 x1 x2 s0 s1 C I J R → AW Γ 0 0 C I J R 84 [(0, aR (some x0)), (1, aI x1), (2, aI x2)] [aI s1, aR s0] := fun x0 x1 x2 s0 s1 C I J R h => bX2_bounds_84 G w85 h
  have w80 : ∀ (x0 : Nat) (x1 : Int32) (x2 : Int32) (s0 : Option Nat) (s1 : Int32) (C : MC) (I : MI) (J : MJ) (R : MR), PX2_bounds_80 F_X2_told0 F_X2_boundRow F_X2_at F_X2_by0 F_X2_boundFan (fun (x0 : Nat) (x1 : Int32) (x2 : Int32) (C : MC) (I : MI) (J : MJ) (R : MR) => ∃ n, Q2 n (gK Γ) x0 x1 x2 C I J R) (fun (x0 : Nat) (x1 : Int32) (x2 : Int32) (C : MC) (I : MI) (J : MJ) (R : MR) => ∃ n, Q94 n (gK Γ) x0 x1 x2 C I J R) (fun (x0 : Nat) (x1 : Int32) (x2 : Int32) (x3 : Int64) (x5 : Int32) (C : MC) (I : MI) (J : MJ) (R : MR) => ∃ n, Q145 n (gK Γ) x0 x1 x2 x3 x5 C I J R) (fun (x0 : Nat) (x1 : Int32) (x2 : Int32) (x3 : Int64) (x5 : Int32) (C : MC) (I : MI) (J : MJ) (R : MR) => ∃ n, Q322 n (gK Γ) x0 x1 x2 x3 x5 C I J R) (gK Γ) x0 x1 x2 s0 s1 C I J R → AW Γ 0 0 C I J R 80 [(0, aR (some x0)), (1, aI x1), (2, aI x2)] [aI s1, aR s0] := fun x0 x1 x2 s0 s1 C I J R h => bX2_bounds_80 G w85 h
  obtain ⟨x0, x1, rfl, h⟩ := h0 As C I J R (gK Γ) hF
  exact ⟨Nat.le_of_ble_eq_true rfl, bX2_bounds_0 G w2 h⟩
def PX2_told0_29 (Q4 : Nat → Int32 → Int32 → Int32 → MC → MI → MJ → MR → Prop) (K : AK) (x0 : Nat) (x1 : Int32) (x3 : Int32) (s0 : Int32) (s1 : Int32) (C : MC) (I : MI) (J : MJ) (R : MR) : Prop :=
      Q4 x0 x1 (s0 + s1) (x3 + 1) C I J R
def PX2_told0_4 (Q4 : Nat → Int32 → Int32 → Int32 → MC → MI → MJ → MR → Prop) (K : AK) (x0 : Nat) (x1 : Int32) (x2 : Int32) (x3 : Int32) (C : MC) (I : MI) (J : MJ) (R : MR) : Prop :=
      (((4 : Int32) ≤ x3 →
      K (.inl (some (aI x2))) C I J R) ∧
      (¬ (4 : Int32) ≤ x3 →
      (C x0).1 = 3 ∧
      ∃ q3 : Nat, R x0 8 = some q3 ∧
      (C q3).1 = 20 ∧
      vp_in (((4 : Int32) * x1) + x3) (C q3).2 ∧
      ((¬ (I q3 (((4 : Int32) * x1) + x3).toNatClampNeg) = (-1 : Int32) →
      PX2_told0_29 Q4 K x0 x1 x3 x2 (1 : Int32) C I J R) ∧
      ((I q3 (((4 : Int32) * x1) + x3).toNatClampNeg) = (-1 : Int32) →
      PX2_told0_29 Q4 K x0 x1 x3 x2 (0 : Int32) C I J R))))
def PX2_told0_0 (Q4 : Nat → Int32 → Int32 → Int32 → MC → MI → MJ → MR → Prop) (K : AK) (x0 : Nat) (x1 : Int32) (C : MC) (I : MI) (J : MJ) (R : MR) : Prop :=
      Q4 x0 x1 (0 : Int32) (0 : Int32) C I J R
theorem wX2_told0 {l : Launch} 
    (Q4 : Nat → AK → Nat → Int32 → Int32 → Int32 → MC → MI → MJ → MR → Prop) {F : SPF}
    (h0 : ∀ (As : List AV) (C : MC) (I : MI) (J : MJ) (R : MR) (K : AK), F As C I J R K → ∃ (x0 : Nat) (x1 : Int32), As = [aR (some x0), aI x1] ∧ PX2_told0_0 (fun (x0 : Nat) (x1 : Int32) (x2 : Int32) (x3 : Int32) (C : MC) (I : MI) (J : MJ) (R : MR) => ∃ n, Q4 n K x0 x1 x2 x3 C I J R) K x0 x1 C I J R)
    (h4 : ∀ (n : Nat) (K : AK) (x0 : Nat) (x1 : Int32) (x2 : Int32) (x3 : Int32) (C : MC) (I : MI) (J : MJ) (R : MR), Q4 n K x0 x1 x2 x3 C I J R → PX2_told0_4 (fun (x0 : Nat) (x1 : Int32) (x2 : Int32) (x3 : Int32) (C : MC) (I : MI) (J : MJ) (R : MR) => ∃ m, m < n ∧ Q4 m K x0 x1 x2 x3 C I J R) K x0 x1 x2 x3 C I J R) : SpX2_told0 l F := by
  refine Spec.of (by rfl) ?_
  intro Γ C I J R As Gd gl gr _ _ gb hF
  subst gl
  have G : Gb Γ yX2_told0 cX2_told0 4 (some .int) [] rmX2_told0 bdX2_told0 := ⟨Gd, gr, gb⟩
  have key : ∀ n : Nat, (∀ (x0 : Nat) (x1 : Int32) (x2 : Int32) (x3 : Int32) (C : MC) (I : MI) (J : MJ) (R : MR), Q4 n (gK Γ) x0 x1 x2 x3 C I J R → AW Γ 0 0 C I J R 4 [(0, aR (some x0)), (1, aI x1), (2, aI x2), (3, aI x3)] []) := by
    intro n
    induction n using Nat.strongRecOn with
    | ind n ih =>
    have w4 : ∀ (x0 : Nat) (x1 : Int32) (x2 : Int32) (x3 : Int32) (C : MC) (I : MI) (J : MJ) (R : MR), (∃ m, m < n ∧ Q4 m (gK Γ) x0 x1 x2 x3 C I J R) → AW Γ 0 0 C I J R 4 [(0, aR (some x0)), (1, aI x1), (2, aI x2), (3, aI x3)] [] := fun x0 x1 x2 x3 C I J R ⟨m, hm, hq⟩ => (ih m hm) x0 x1 x2 x3 C I J R hq
    have w29 : ∀ (x0 : Nat) (x1 : Int32) (x3 : Int32) (s0 : Int32) (s1 : Int32) (C : MC) (I : MI) (J : MJ) (R : MR), PX2_told0_29 (fun (x0 : Nat) (x1 : Int32) (x2 : Int32) (x3 : Int32) (C : MC) (I : MI) (J : MJ) (R : MR) => ∃ m, m < n ∧ Q4 m (gK Γ) x0 x1 x2 x3 C I J R) (gK Γ) x0 x1 x3 s0 s1 C I J R → AW Γ 0 0 C I J R 29 [(0, aR (some x0)), (1, aI x1), (3, aI x3)] [aI s1, aI s0] := fun x0 x1 x3 s0 s1 C I J R h => bX2_told0_29 G w4 h
    exact fun x0 x1 x2 x3 C I J R h => bX2_told0_4 G w29 (h4 n (gK Γ) x0 x1 x2 x3 C I J R h)
  have w4 : ∀ (x0 : Nat) (x1 : Int32) (x2 : Int32) (x3 : Int32) (C : MC) (I : MI) (J : MJ) (R : MR), (∃ n, Q4 n (gK Γ) x0 x1 x2 x3 C I J R) → AW Γ 0 0 C I J R 4 [(0, aR (some x0)), (1, aI x1), (2, aI x2), (3, aI x3)] [] := fun x0 x1 x2 x3 C I J R ⟨m, hq⟩ => (key m) x0 x1 x2 x3 C I J R hq
  have w29 : ∀ (x0 : Nat) (x1 : Int32) (x3 : Int32) (s0 : Int32) (s1 : Int32) (C : MC) (I : MI) (J : MJ) (R : MR), PX2_told0_29 (fun (x0 : Nat) (x1 : Int32) (x2 : Int32) (x3 : Int32) (C : MC) (I : MI) (J : MJ) (R : MR) => ∃ n, Q4 n (gK Γ) x0 x1 x2 x3 C I J R) (gK Γ) x0 x1 x3 s0 s1 C I J R → AW Γ 0 0 C I J R 29 [(0, aR (some x0)), (1, aI x1), (3, aI x3)] [aI s1, aI s0] := fun x0 x1 x3 s0 s1 C I J R h => bX2_told0_29 G w4 h
  obtain ⟨x0, x1, rfl, h⟩ := h0 As C I J R (gK Γ) hF
  exact ⟨Nat.le_of_ble_eq_true rfl, bX2_told0_0 G w4 h⟩
def PX2_boundRow_227 (F_X2_at : SPF) (Q2 : Nat → Int32 → Int32 → MC → MI → MJ → MR → Prop) (Q23 : Nat → Int32 → Int32 → MC → MI → MJ → MR → Prop) (Q71 : Nat → Int32 → Int32 → Int32 → Int64 → Int32 → MC → MI → MJ → MR → Prop) (Q125 : Nat → Int32 → Int32 → Int32 → Int64 → Int32 → Int64 → Int32 → MC → MI → MJ → MR → Prop) (Q192 : Nat → Int32 → Int32 → Int32 → MC → MI → MJ → MR → Prop) (Q227 : Nat → Int32 → Int32 → MC → MI → MJ → MR → Prop) (K : AK) (x0 : Nat) (x1 : Int32) (x2 : Int32) (C : MC) (I : MI) (J : MJ) (R : MR) : Prop :=
      (((121 : Int32) ≤ x2 →
      K (.inl none) C I J R) ∧
      (¬ (121 : Int32) ≤ x2 →
      (C x0).1 = 3 ∧
      F_X2_at [aI x1, aI x2] C I J R (fun o C3 I4 J5 R6 =>
      ∃ r7 : Int32, o = .inl (some (aI r7)) ∧
      (C3 x0).1 = 3 ∧
      ∃ q9 : Nat, R6 x0 33 = some q9 ∧
      (C3 q9).1 = 21 ∧
      vp_in x1 (C3 q9).2 ∧
      ∃ q12 : Nat, R6 x0 34 = some q12 ∧
      (C3 q12).1 = 21 ∧
      vp_in x2 (C3 q12).2 ∧
      ∃ q15 : Nat, R x0 32 = some q15 ∧
      (C3 q15).1 = 21 ∧
      vp_in r7 (C3 q15).2 ∧
      ∀ J18 : MJ, J18 = va_up J5 q15 (va_up (J5 q15) r7.toNatClampNeg (if (J5 q12 x2.toNatClampNeg) < (J5 q9 x1.toNatClampNeg) then (J5 q12 x2.toNatClampNeg) else (J5 q9 x1.toNatClampNeg))) →
      Q227 x0 x1 (x2 + 1) C3 I4 J18 R6)))
def PX2_boundRow_225 (F_X2_at : SPF) (Q2 : Nat → Int32 → Int32 → MC → MI → MJ → MR → Prop) (Q23 : Nat → Int32 → Int32 → MC → MI → MJ → MR → Prop) (Q71 : Nat → Int32 → Int32 → Int32 → Int64 → Int32 → MC → MI → MJ → MR → Prop) (Q125 : Nat → Int32 → Int32 → Int32 → Int64 → Int32 → Int64 → Int32 → MC → MI → MJ → MR → Prop) (Q192 : Nat → Int32 → Int32 → Int32 → MC → MI → MJ → MR → Prop) (Q227 : Nat → Int32 → Int32 → MC → MI → MJ → MR → Prop) (K : AK) (x0 : Nat) (x1 : Int32) (C : MC) (I : MI) (J : MJ) (R : MR) : Prop :=
      Q227 x0 x1 (0 : Int32) C I J R
def PX2_boundRow_192 (F_X2_at : SPF) (Q2 : Nat → Int32 → Int32 → MC → MI → MJ → MR → Prop) (Q23 : Nat → Int32 → Int32 → MC → MI → MJ → MR → Prop) (Q71 : Nat → Int32 → Int32 → Int32 → Int64 → Int32 → MC → MI → MJ → MR → Prop) (Q125 : Nat → Int32 → Int32 → Int32 → Int64 → Int32 → Int64 → Int32 → MC → MI → MJ → MR → Prop) (Q192 : Nat → Int32 → Int32 → Int32 → MC → MI → MJ → MR → Prop) (Q227 : Nat → Int32 → Int32 → MC → MI → MJ → MR → Prop) (K : AK) (x0 : Nat) (x1 : Int32) (x2 : Int32) (x6 : Int32) (C : MC) (I : MI) (J : MJ) (R : MR) : Prop :=
      (((121 : Int32) ≤ x6 →
      Q23 x0 x1 (x2 + 1) C I J R) ∧
      (¬ (121 : Int32) ≤ x6 →
      (C x0).1 = 3 ∧
      ∃ q3 : Nat, R x0 35 = some q3 ∧
      (C q3).1 = 21 ∧
      vp_in x6 (C q3).2 ∧
      ∃ q6 : Nat, R x0 34 = some q6 ∧
      (C q6).1 = 21 ∧
      vp_in x6 (C q6).2 ∧
      ∀ J9 : MJ, J9 = va_up J q6 (va_up (J q6) x6.toNatClampNeg (J q3 x6.toNatClampNeg)) →
      Q192 x0 x1 x2 (x6 + 1) C I J9 R))
def PX2_boundRow_174 (F_X2_at : SPF) (Q2 : Nat → Int32 → Int32 → MC → MI → MJ → MR → Prop) (Q23 : Nat → Int32 → Int32 → MC → MI → MJ → MR → Prop) (Q71 : Nat → Int32 → Int32 → Int32 → Int64 → Int32 → MC → MI → MJ → MR → Prop) (Q125 : Nat → Int32 → Int32 → Int32 → Int64 → Int32 → Int64 → Int32 → MC → MI → MJ → MR → Prop) (Q192 : Nat → Int32 → Int32 → Int32 → MC → MI → MJ → MR → Prop) (Q227 : Nat → Int32 → Int32 → MC → MI → MJ → MR → Prop) (K : AK) (x0 : Nat) (x1 : Int32) (x2 : Int32) (x3 : Int32) (x4 : Int64) (x6 : Int32) (x7 : Int64) (C : MC) (I : MI) (J : MJ) (R : MR) : Prop :=
      (C x0).1 = 3 ∧
      ∃ q2 : Nat, R x0 35 = some q2 ∧
      (C q2).1 = 21 ∧
      vp_in x6 (C q2).2 ∧
      ∀ J5 : MJ, J5 = va_up J q2 (va_up (J q2) x6.toNatClampNeg x7) →
      Q71 x0 x1 x2 x3 x4 (x6 + 1) C I J5 R
def PX2_boundRow_125 (F_X2_at : SPF) (Q2 : Nat → Int32 → Int32 → MC → MI → MJ → MR → Prop) (Q23 : Nat → Int32 → Int32 → MC → MI → MJ → MR → Prop) (Q71 : Nat → Int32 → Int32 → Int32 → Int64 → Int32 → MC → MI → MJ → MR → Prop) (Q125 : Nat → Int32 → Int32 → Int32 → Int64 → Int32 → Int64 → Int32 → MC → MI → MJ → MR → Prop) (Q192 : Nat → Int32 → Int32 → Int32 → MC → MI → MJ → MR → Prop) (Q227 : Nat → Int32 → Int32 → MC → MI → MJ → MR → Prop) (K : AK) (x0 : Nat) (x1 : Int32) (x2 : Int32) (x3 : Int32) (x4 : Int64) (x6 : Int32) (x7 : Int64) (x9 : Int32) (C : MC) (I : MI) (J : MJ) (R : MR) : Prop :=
      ((x6 < x9 →
      PX2_boundRow_174 F_X2_at Q2 Q23 Q71 Q125 Q192 Q227 K x0 x1 x2 x3 x4 x6 x7 C I J R) ∧
      (¬ x6 < x9 →
      ((x2 ≤ 0 →
      PX2_boundRow_174 F_X2_at Q2 Q23 Q71 Q125 Q192 Q227 K x0 x1 x2 x3 x4 x6 x7 C I J R) ∧
      (¬ x2 ≤ 0 →
      (C x0).1 = 3 ∧
      ∃ q4 : Nat, R x0 34 = some q4 ∧
      (C q4).1 = 21 ∧
      vp_in (x6 - x9) (C q4).2 ∧
      F_X2_at [aI x3, aI x9] C I J R (fun o C7 I8 J9 R10 =>
      ∃ r11 : Int32, o = .inl (some (aI r11)) ∧
      ∃ q12 : Nat, R x0 32 = some q12 ∧
      (C7 q12).1 = 21 ∧
      vp_in r11 (C7 q12).2 ∧
      Q125 x0 x1 x2 x3 x4 x6 (if ((J q4 (x6 - x9).toNatClampNeg) + ((J9 q12 r11.toNatClampNeg) * x4)) < x7 then ((J q4 (x6 - x9).toNatClampNeg) + ((J9 q12 r11.toNatClampNeg) * x4)) else x7) (x9 + 1) C7 I8 J9 R10)))))
def PX2_boundRow_120 (F_X2_at : SPF) (Q2 : Nat → Int32 → Int32 → MC → MI → MJ → MR → Prop) (Q23 : Nat → Int32 → Int32 → MC → MI → MJ → MR → Prop) (Q71 : Nat → Int32 → Int32 → Int32 → Int64 → Int32 → MC → MI → MJ → MR → Prop) (Q125 : Nat → Int32 → Int32 → Int32 → Int64 → Int32 → Int64 → Int32 → MC → MI → MJ → MR → Prop) (Q192 : Nat → Int32 → Int32 → Int32 → MC → MI → MJ → MR → Prop) (Q227 : Nat → Int32 → Int32 → MC → MI → MJ → MR → Prop) (K : AK) (x0 : Nat) (x1 : Int32) (x2 : Int32) (x3 : Int32) (x4 : Int64) (x6 : Int32) (s0 : Int64) (C : MC) (I : MI) (J : MJ) (R : MR) : Prop :=
      Q125 x0 x1 x2 x3 x4 x6 s0 (0 : Int32) C I J R
def PX2_boundRow_71 (F_X2_at : SPF) (Q2 : Nat → Int32 → Int32 → MC → MI → MJ → MR → Prop) (Q23 : Nat → Int32 → Int32 → MC → MI → MJ → MR → Prop) (Q71 : Nat → Int32 → Int32 → Int32 → Int64 → Int32 → MC → MI → MJ → MR → Prop) (Q125 : Nat → Int32 → Int32 → Int32 → Int64 → Int32 → Int64 → Int32 → MC → MI → MJ → MR → Prop) (Q192 : Nat → Int32 → Int32 → Int32 → MC → MI → MJ → MR → Prop) (Q227 : Nat → Int32 → Int32 → MC → MI → MJ → MR → Prop) (K : AK) (x0 : Nat) (x1 : Int32) (x2 : Int32) (x3 : Int32) (x4 : Int64) (x6 : Int32) (C : MC) (I : MI) (J : MJ) (R : MR) : Prop :=
      (((121 : Int32) ≤ x6 →
      Q192 x0 x1 x2 (0 : Int32) C I J R) ∧
      (¬ (121 : Int32) ≤ x6 →
      ((¬ x2 = 0 →
      (C x0).1 = 3 ∧
      ∃ q4 : Nat, R x0 34 = some q4 ∧
      (C q4).1 = 21 ∧
      vp_in (0 : Int32) (C q4).2 ∧
      F_X2_at [aI x3, aI x6] C I J R (fun o C7 I8 J9 R10 =>
      ∃ r11 : Int32, o = .inl (some (aI r11)) ∧
      ∃ q12 : Nat, R x0 32 = some q12 ∧
      (C7 q12).1 = 21 ∧
      vp_in r11 (C7 q12).2 ∧
      PX2_boundRow_120 F_X2_at Q2 Q23 Q71 Q125 Q192 Q227 K x0 x1 x2 x3 x4 x6 ((J q4 (0 : Int32).toNatClampNeg) + ((J9 q12 r11.toNatClampNeg) * x4)) C7 I8 J9 R10)) ∧
      (x2 = 0 →
      (C x0).1 = 3 ∧
      F_X2_at [aI x3, aI x6] C I J R (fun o C16 I17 J18 R19 =>
      ∃ r20 : Int32, o = .inl (some (aI r20)) ∧
      ∃ q21 : Nat, R x0 32 = some q21 ∧
      (C16 q21).1 = 21 ∧
      vp_in r20 (C16 q21).2 ∧
      PX2_boundRow_120 F_X2_at Q2 Q23 Q71 Q125 Q192 Q227 K x0 x1 x2 x3 x4 x6 ((J18 q21 r20.toNatClampNeg) * x4) C16 I17 J18 R19)))))
def PX2_boundRow_23 (F_X2_at : SPF) (Q2 : Nat → Int32 → Int32 → MC → MI → MJ → MR → Prop) (Q23 : Nat → Int32 → Int32 → MC → MI → MJ → MR → Prop) (Q71 : Nat → Int32 → Int32 → Int32 → Int64 → Int32 → MC → MI → MJ → MR → Prop) (Q125 : Nat → Int32 → Int32 → Int32 → Int64 → Int32 → Int64 → Int32 → MC → MI → MJ → MR → Prop) (Q192 : Nat → Int32 → Int32 → Int32 → MC → MI → MJ → MR → Prop) (Q227 : Nat → Int32 → Int32 → MC → MI → MJ → MR → Prop) (K : AK) (x0 : Nat) (x1 : Int32) (x2 : Int32) (C : MC) (I : MI) (J : MJ) (R : MR) : Prop :=
      (((4 : Int32) ≤ x2 →
      PX2_boundRow_225 F_X2_at Q2 Q23 Q71 Q125 Q192 Q227 K x0 x1 C I J R) ∧
      (¬ (4 : Int32) ≤ x2 →
      (C x0).1 = 3 ∧
      ∃ q3 : Nat, R x0 8 = some q3 ∧
      (C q3).1 = 20 ∧
      vp_in (((4 : Int32) * x1) + x2) (C q3).2 ∧
      (((I q3 (((4 : Int32) * x1) + x2).toNatClampNeg) = (-1 : Int32) →
      PX2_boundRow_225 F_X2_at Q2 Q23 Q71 Q125 Q192 Q227 K x0 x1 C I J R) ∧
      (¬ (I q3 (((4 : Int32) * x1) + x2).toNatClampNeg) = (-1 : Int32) →
      ∃ q7 : Nat, R x0 33 = some q7 ∧
      (C q7).1 = 21 ∧
      vp_in x1 (C q7).2 ∧
      vp_in (I q3 (((4 : Int32) * x1) + x2).toNatClampNeg) (C q7).2 ∧
      ¬ (J q7 (I q3 (((4 : Int32) * x1) + x2).toNatClampNeg).toNatClampNeg) = 0 ∧
      Q71 x0 x1 x2 (I q3 (((4 : Int32) * x1) + x2).toNatClampNeg) ((J q7 x1.toNatClampNeg) / (J q7 (I q3 (((4 : Int32) * x1) + x2).toNatClampNeg).toNatClampNeg)) (0 : Int32) C I J R))))
def PX2_boundRow_2 (F_X2_at : SPF) (Q2 : Nat → Int32 → Int32 → MC → MI → MJ → MR → Prop) (Q23 : Nat → Int32 → Int32 → MC → MI → MJ → MR → Prop) (Q71 : Nat → Int32 → Int32 → Int32 → Int64 → Int32 → MC → MI → MJ → MR → Prop) (Q125 : Nat → Int32 → Int32 → Int32 → Int64 → Int32 → Int64 → Int32 → MC → MI → MJ → MR → Prop) (Q192 : Nat → Int32 → Int32 → Int32 → MC → MI → MJ → MR → Prop) (Q227 : Nat → Int32 → Int32 → MC → MI → MJ → MR → Prop) (K : AK) (x0 : Nat) (x1 : Int32) (x2 : Int32) (C : MC) (I : MI) (J : MJ) (R : MR) : Prop :=
      (((121 : Int32) ≤ x2 →
      Q23 x0 x1 (0 : Int32) C I J R) ∧
      (¬ (121 : Int32) ≤ x2 →
      (C x0).1 = 3 ∧
      ∃ q3 : Nat, R x0 34 = some q3 ∧
      (C q3).1 = 21 ∧
      vp_in x2 (C q3).2 ∧
      ∀ J6 : MJ, J6 = va_up J q3 (va_up (J q3) x2.toNatClampNeg (0 : Int64)) →
      Q2 x0 x1 (x2 + 1) C I J6 R))
def PX2_boundRow_0 (F_X2_at : SPF) (Q2 : Nat → Int32 → Int32 → MC → MI → MJ → MR → Prop) (Q23 : Nat → Int32 → Int32 → MC → MI → MJ → MR → Prop) (Q71 : Nat → Int32 → Int32 → Int32 → Int64 → Int32 → MC → MI → MJ → MR → Prop) (Q125 : Nat → Int32 → Int32 → Int32 → Int64 → Int32 → Int64 → Int32 → MC → MI → MJ → MR → Prop) (Q192 : Nat → Int32 → Int32 → Int32 → MC → MI → MJ → MR → Prop) (Q227 : Nat → Int32 → Int32 → MC → MI → MJ → MR → Prop) (K : AK) (x0 : Nat) (x1 : Int32) (C : MC) (I : MI) (J : MJ) (R : MR) : Prop :=
      Q2 x0 x1 (0 : Int32) C I J R
theorem wX2_boundRow {l : Launch}  {F_X2_at : SPF} (S_X2_at : SpX2_at l F_X2_at)
    (Q2 : Nat → AK → Nat → Int32 → Int32 → MC → MI → MJ → MR → Prop)
    (Q23 : Nat → AK → Nat → Int32 → Int32 → MC → MI → MJ → MR → Prop)
    (Q71 : Nat → AK → Nat → Int32 → Int32 → Int32 → Int64 → Int32 → MC → MI → MJ → MR → Prop)
    (Q125 : Nat → AK → Nat → Int32 → Int32 → Int32 → Int64 → Int32 → Int64 → Int32 → MC → MI → MJ → MR → Prop)
    (Q192 : Nat → AK → Nat → Int32 → Int32 → Int32 → MC → MI → MJ → MR → Prop)
    (Q227 : Nat → AK → Nat → Int32 → Int32 → MC → MI → MJ → MR → Prop) {F : SPF}
    (h0 : ∀ (As : List AV) (C : MC) (I : MI) (J : MJ) (R : MR) (K : AK), F As C I J R K → ∃ (x0 : Nat) (x1 : Int32), As = [aR (some x0), aI x1] ∧ PX2_boundRow_0 F_X2_at (fun (x0 : Nat) (x1 : Int32) (x2 : Int32) (C : MC) (I : MI) (J : MJ) (R : MR) => ∃ n, Q2 n K x0 x1 x2 C I J R) (fun (x0 : Nat) (x1 : Int32) (x2 : Int32) (C : MC) (I : MI) (J : MJ) (R : MR) => ∃ n, Q23 n K x0 x1 x2 C I J R) (fun (x0 : Nat) (x1 : Int32) (x2 : Int32) (x3 : Int32) (x4 : Int64) (x6 : Int32) (C : MC) (I : MI) (J : MJ) (R : MR) => ∃ n, Q71 n K x0 x1 x2 x3 x4 x6 C I J R) (fun (x0 : Nat) (x1 : Int32) (x2 : Int32) (x3 : Int32) (x4 : Int64) (x6 : Int32) (x7 : Int64) (x9 : Int32) (C : MC) (I : MI) (J : MJ) (R : MR) => ∃ n, Q125 n K x0 x1 x2 x3 x4 x6 x7 x9 C I J R) (fun (x0 : Nat) (x1 : Int32) (x2 : Int32) (x6 : Int32) (C : MC) (I : MI) (J : MJ) (R : MR) => ∃ n, Q192 n K x0 x1 x2 x6 C I J R) (fun (x0 : Nat) (x1 : Int32) (x2 : Int32) (C : MC) (I : MI) (J : MJ) (R : MR) => ∃ n, Q227 n K x0 x1 x2 C I J R) K x0 x1 C I J R)
    (h2 : ∀ (n : Nat) (K : AK) (x0 : Nat) (x1 : Int32) (x2 : Int32) (C : MC) (I : MI) (J : MJ) (R : MR), Q2 n K x0 x1 x2 C I J R → PX2_boundRow_2 F_X2_at (fun (x0 : Nat) (x1 : Int32) (x2 : Int32) (C : MC) (I : MI) (J : MJ) (R : MR) => ∃ m, m < n ∧ Q2 m K x0 x1 x2 C I J R) (fun (x0 : Nat) (x1 : Int32) (x2 : Int32) (C : MC) (I : MI) (J : MJ) (R : MR) => ∃ m, m < n ∧ Q23 m K x0 x1 x2 C I J R) (fun (x0 : Nat) (x1 : Int32) (x2 : Int32) (x3 : Int32) (x4 : Int64) (x6 : Int32) (C : MC) (I : MI) (J : MJ) (R : MR) => ∃ m, m < n ∧ Q71 m K x0 x1 x2 x3 x4 x6 C I J R) (fun (x0 : Nat) (x1 : Int32) (x2 : Int32) (x3 : Int32) (x4 : Int64) (x6 : Int32) (x7 : Int64) (x9 : Int32) (C : MC) (I : MI) (J : MJ) (R : MR) => ∃ m, m < n ∧ Q125 m K x0 x1 x2 x3 x4 x6 x7 x9 C I J R) (fun (x0 : Nat) (x1 : Int32) (x2 : Int32) (x6 : Int32) (C : MC) (I : MI) (J : MJ) (R : MR) => ∃ m, m < n ∧ Q192 m K x0 x1 x2 x6 C I J R) (fun (x0 : Nat) (x1 : Int32) (x2 : Int32) (C : MC) (I : MI) (J : MJ) (R : MR) => ∃ m, m < n ∧ Q227 m K x0 x1 x2 C I J R) K x0 x1 x2 C I J R)
    (h23 : ∀ (n : Nat) (K : AK) (x0 : Nat) (x1 : Int32) (x2 : Int32) (C : MC) (I : MI) (J : MJ) (R : MR), Q23 n K x0 x1 x2 C I J R → PX2_boundRow_23 F_X2_at (fun (x0 : Nat) (x1 : Int32) (x2 : Int32) (C : MC) (I : MI) (J : MJ) (R : MR) => ∃ m, m < n ∧ Q2 m K x0 x1 x2 C I J R) (fun (x0 : Nat) (x1 : Int32) (x2 : Int32) (C : MC) (I : MI) (J : MJ) (R : MR) => ∃ m, m < n ∧ Q23 m K x0 x1 x2 C I J R) (fun (x0 : Nat) (x1 : Int32) (x2 : Int32) (x3 : Int32) (x4 : Int64) (x6 : Int32) (C : MC) (I : MI) (J : MJ) (R : MR) => ∃ m, m < n ∧ Q71 m K x0 x1 x2 x3 x4 x6 C I J R) (fun (x0 : Nat) (x1 : Int32) (x2 : Int32) (x3 : Int32) (x4 : Int64) (x6 : Int32) (x7 : Int64) (x9 : Int32) (C : MC) (I : MI) (J : MJ) (R : MR) => ∃ m, m < n ∧ Q125 m K x0 x1 x2 x3 x4 x6 x7 x9 C I J R) (fun (x0 : Nat) (x1 : Int32) (x2 : Int32) (x6 : Int32) (C : MC) (I : MI) (J : MJ) (R : MR) => ∃ m, m < n ∧ Q192 m K x0 x1 x2 x6 C I J R) (fun (x0 : Nat) (x1 : Int32) (x2 : Int32) (C : MC) (I : MI) (J : MJ) (R : MR) => ∃ m, m < n ∧ Q227 m K x0 x1 x2 C I J R) K x0 x1 x2 C I J R)
    (h71 : ∀ (n : Nat) (K : AK) (x0 : Nat) (x1 : Int32) (x2 : Int32) (x3 : Int32) (x4 : Int64) (x6 : Int32) (C : MC) (I : MI) (J : MJ) (R : MR), Q71 n K x0 x1 x2 x3 x4 x6 C I J R → PX2_boundRow_71 F_X2_at (fun (x0 : Nat) (x1 : Int32) (x2 : Int32) (C : MC) (I : MI) (J : MJ) (R : MR) => ∃ m, m < n ∧ Q2 m K x0 x1 x2 C I J R) (fun (x0 : Nat) (x1 : Int32) (x2 : Int32) (C : MC) (I : MI) (J : MJ) (R : MR) => ∃ m, m < n ∧ Q23 m K x0 x1 x2 C I J R) (fun (x0 : Nat) (x1 : Int32) (x2 : Int32) (x3 : Int32) (x4 : Int64) (x6 : Int32) (C : MC) (I : MI) (J : MJ) (R : MR) => ∃ m, m < n ∧ Q71 m K x0 x1 x2 x3 x4 x6 C I J R) (fun (x0 : Nat) (x1 : Int32) (x2 : Int32) (x3 : Int32) (x4 : Int64) (x6 : Int32) (x7 : Int64) (x9 : Int32) (C : MC) (I : MI) (J : MJ) (R : MR) => ∃ m, m < n ∧ Q125 m K x0 x1 x2 x3 x4 x6 x7 x9 C I J R) (fun (x0 : Nat) (x1 : Int32) (x2 : Int32) (x6 : Int32) (C : MC) (I : MI) (J : MJ) (R : MR) => ∃ m, m < n ∧ Q192 m K x0 x1 x2 x6 C I J R) (fun (x0 : Nat) (x1 : Int32) (x2 : Int32) (C : MC) (I : MI) (J : MJ) (R : MR) => ∃ m, m < n ∧ Q227 m K x0 x1 x2 C I J R) K x0 x1 x2 x3 x4 x6 C I J R)
    (h125 : ∀ (n : Nat) (K : AK) (x0 : Nat) (x1 : Int32) (x2 : Int32) (x3 : Int32) (x4 : Int64) (x6 : Int32) (x7 : Int64) (x9 : Int32) (C : MC) (I : MI) (J : MJ) (R : MR), Q125 n K x0 x1 x2 x3 x4 x6 x7 x9 C I J R → PX2_boundRow_125 F_X2_at (fun (x0 : Nat) (x1 : Int32) (x2 : Int32) (C : MC) (I : MI) (J : MJ) (R : MR) => ∃ m, m < n ∧ Q2 m K x0 x1 x2 C I J R) (fun (x0 : Nat) (x1 : Int32) (x2 : Int32) (C : MC) (I : MI) (J : MJ) (R : MR) => ∃ m, m < n ∧ Q23 m K x0 x1 x2 C I J R) (fun (x0 : Nat) (x1 : Int32) (x2 : Int32) (x3 : Int32) (x4 : Int64) (x6 : Int32) (C : MC) (I : MI) (J : MJ) (R : MR) => ∃ m, m < n ∧ Q71 m K x0 x1 x2 x3 x4 x6 C I J R) (fun (x0 : Nat) (x1 : Int32) (x2 : Int32) (x3 : Int32) (x4 : Int64) (x6 : Int32) (x7 : Int64) (x9 : Int32) (C : MC) (I : MI) (J : MJ) (R : MR) => ∃ m, m < n ∧ Q125 m K x0 x1 x2 x3 x4 x6 x7 x9 C I J R) (fun (x0 : Nat) (x1 : Int32) (x2 : Int32) (x6 : Int32) (C : MC) (I : MI) (J : MJ) (R : MR) => ∃ m, m < n ∧ Q192 m K x0 x1 x2 x6 C I J R) (fun (x0 : Nat) (x1 : Int32) (x2 : Int32) (C : MC) (I : MI) (J : MJ) (R : MR) => ∃ m, m < n ∧ Q227 m K x0 x1 x2 C I J R) K x0 x1 x2 x3 x4 x6 x7 x9 C I J R)
    (h192 : ∀ (n : Nat) (K : AK) (x0 : Nat) (x1 : Int32) (x2 : Int32) (x6 : Int32) (C : MC) (I : MI) (J : MJ) (R : MR), Q192 n K x0 x1 x2 x6 C I J R → PX2_boundRow_192 F_X2_at (fun (x0 : Nat) (x1 : Int32) (x2 : Int32) (C : MC) (I : MI) (J : MJ) (R : MR) => ∃ m, m < n ∧ Q2 m K x0 x1 x2 C I J R) (fun (x0 : Nat) (x1 : Int32) (x2 : Int32) (C : MC) (I : MI) (J : MJ) (R : MR) => ∃ m, m < n ∧ Q23 m K x0 x1 x2 C I J R) (fun (x0 : Nat) (x1 : Int32) (x2 : Int32) (x3 : Int32) (x4 : Int64) (x6 : Int32) (C : MC) (I : MI) (J : MJ) (R : MR) => ∃ m, m < n ∧ Q71 m K x0 x1 x2 x3 x4 x6 C I J R) (fun (x0 : Nat) (x1 : Int32) (x2 : Int32) (x3 : Int32) (x4 : Int64) (x6 : Int32) (x7 : Int64) (x9 : Int32) (C : MC) (I : MI) (J : MJ) (R : MR) => ∃ m, m < n ∧ Q125 m K x0 x1 x2 x3 x4 x6 x7 x9 C I J R) (fun (x0 : Nat) (x1 : Int32) (x2 : Int32) (x6 : Int32) (C : MC) (I : MI) (J : MJ) (R : MR) => ∃ m, m < n ∧ Q192 m K x0 x1 x2 x6 C I J R) (fun (x0 : Nat) (x1 : Int32) (x2 : Int32) (C : MC) (I : MI) (J : MJ) (R : MR) => ∃ m, m < n ∧ Q227 m K x0 x1 x2 C I J R) K x0 x1 x2 x6 C I J R)
    (h227 : ∀ (n : Nat) (K : AK) (x0 : Nat) (x1 : Int32) (x2 : Int32) (C : MC) (I : MI) (J : MJ) (R : MR), Q227 n K x0 x1 x2 C I J R → PX2_boundRow_227 F_X2_at (fun (x0 : Nat) (x1 : Int32) (x2 : Int32) (C : MC) (I : MI) (J : MJ) (R : MR) => ∃ m, m < n ∧ Q2 m K x0 x1 x2 C I J R) (fun (x0 : Nat) (x1 : Int32) (x2 : Int32) (C : MC) (I : MI) (J : MJ) (R : MR) => ∃ m, m < n ∧ Q23 m K x0 x1 x2 C I J R) (fun (x0 : Nat) (x1 : Int32) (x2 : Int32) (x3 : Int32) (x4 : Int64) (x6 : Int32) (C : MC) (I : MI) (J : MJ) (R : MR) => ∃ m, m < n ∧ Q71 m K x0 x1 x2 x3 x4 x6 C I J R) (fun (x0 : Nat) (x1 : Int32) (x2 : Int32) (x3 : Int32) (x4 : Int64) (x6 : Int32) (x7 : Int64) (x9 : Int32) (C : MC) (I : MI) (J : MJ) (R : MR) => ∃ m, m < n ∧ Q125 m K x0 x1 x2 x3 x4 x6 x7 x9 C I J R) (fun (x0 : Nat) (x1 : Int32) (x2 : Int32) (x6 : Int32) (C : MC) (I : MI) (J : MJ) (R : MR) => ∃ m, m < n ∧ Q192 m K x0 x1 x2 x6 C I J R) (fun (x0 : Nat) (x1 : Int32) (x2 : Int32) (C : MC) (I : MI) (J : MJ) (R : MR) => ∃ m, m < n ∧ Q227 m K x0 x1 x2 C I J R) K x0 x1 x2 C I J R) : SpX2_boundRow l F := by
  refine Spec.of (by rfl) ?_
  intro Γ C I J R As Gd gl gr _ _ gb hF
  subst gl
  have G : Gb Γ yX2_boundRow cX2_boundRow 10 (none) [] rmX2_boundRow bdX2_boundRow := ⟨Gd, gr, gb⟩
  have key : ∀ n : Nat, (∀ (x0 : Nat) (x1 : Int32) (x2 : Int32) (C : MC) (I : MI) (J : MJ) (R : MR), Q2 n (gK Γ) x0 x1 x2 C I J R → AW Γ 0 0 C I J R 2 [(0, aR (some x0)), (1, aI x1), (2, aI x2)] []) ∧ (∀ (x0 : Nat) (x1 : Int32) (x2 : Int32) (C : MC) (I : MI) (J : MJ) (R : MR), Q23 n (gK Γ) x0 x1 x2 C I J R → AW Γ 0 0 C I J R 23 [(0, aR (some x0)), (1, aI x1), (2, aI x2)] []) ∧ (∀ (x0 : Nat) (x1 : Int32) (x2 : Int32) (x3 : Int32) (x4 : Int64) (x6 : Int32) (C : MC) (I : MI) (J : MJ) (R : MR), Q71 n (gK Γ) x0 x1 x2 x3 x4 x6 C I J R → AW Γ 0 0 C I J R 71 [(0, aR (some x0)), (1, aI x1), (2, aI x2), (3, aI x3), (4, aJ x4), (6, aI x6)] []) ∧ (∀ (x0 : Nat) (x1 : Int32) (x2 : Int32) (x3 : Int32) (x4 : Int64) (x6 : Int32) (x7 : Int64) (x9 : Int32) (C : MC) (I : MI) (J : MJ) (R : MR), Q125 n (gK Γ) x0 x1 x2 x3 x4 x6 x7 x9 C I J R → AW Γ 0 0 C I J R 125 [(0, aR (some x0)), (1, aI x1), (2, aI x2), (3, aI x3), (4, aJ x4), (6, aI x6), (7, aJ x7), (9, aI x9)] []) ∧ (∀ (x0 : Nat) (x1 : Int32) (x2 : Int32) (x6 : Int32) (C : MC) (I : MI) (J : MJ) (R : MR), Q192 n (gK Γ) x0 x1 x2 x6 C I J R → AW Γ 0 0 C I J R 192 [(0, aR (some x0)), (1, aI x1), (2, aI x2), (6, aI x6)] []) ∧ (∀ (x0 : Nat) (x1 : Int32) (x2 : Int32) (C : MC) (I : MI) (J : MJ) (R : MR), Q227 n (gK Γ) x0 x1 x2 C I J R → AW Γ 0 0 C I J R 227 [(0, aR (some x0)), (1, aI x1), (2, aI x2)] []) := by
    intro n
    induction n using Nat.strongRecOn with
    | ind n ih =>
    have w2 : ∀ (x0 : Nat) (x1 : Int32) (x2 : Int32) (C : MC) (I : MI) (J : MJ) (R : MR), (∃ m, m < n ∧ Q2 m (gK Γ) x0 x1 x2 C I J R) → AW Γ 0 0 C I J R 2 [(0, aR (some x0)), (1, aI x1), (2, aI x2)] [] := fun x0 x1 x2 C I J R ⟨m, hm, hq⟩ => (ih m hm).1 x0 x1 x2 C I J R hq
    have w23 : ∀ (x0 : Nat) (x1 : Int32) (x2 : Int32) (C : MC) (I : MI) (J : MJ) (R : MR), (∃ m, m < n ∧ Q23 m (gK Γ) x0 x1 x2 C I J R) → AW Γ 0 0 C I J R 23 [(0, aR (some x0)), (1, aI x1), (2, aI x2)] [] := fun x0 x1 x2 C I J R ⟨m, hm, hq⟩ => (ih m hm).2.1 x0 x1 x2 C I J R hq
    have w71 : ∀ (x0 : Nat) (x1 : Int32) (x2 : Int32) (x3 : Int32) (x4 : Int64) (x6 : Int32) (C : MC) (I : MI) (J : MJ) (R : MR), (∃ m, m < n ∧ Q71 m (gK Γ) x0 x1 x2 x3 x4 x6 C I J R) → AW Γ 0 0 C I J R 71 [(0, aR (some x0)), (1, aI x1), (2, aI x2), (3, aI x3), (4, aJ x4), (6, aI x6)] [] := fun x0 x1 x2 x3 x4 x6 C I J R ⟨m, hm, hq⟩ => (ih m hm).2.2.1 x0 x1 x2 x3 x4 x6 C I J R hq
    have w125 : ∀ (x0 : Nat) (x1 : Int32) (x2 : Int32) (x3 : Int32) (x4 : Int64) (x6 : Int32) (x7 : Int64) (x9 : Int32) (C : MC) (I : MI) (J : MJ) (R : MR), (∃ m, m < n ∧ Q125 m (gK Γ) x0 x1 x2 x3 x4 x6 x7 x9 C I J R) → AW Γ 0 0 C I J R 125 [(0, aR (some x0)), (1, aI x1), (2, aI x2), (3, aI x3), (4, aJ x4), (6, aI x6), (7, aJ x7), (9, aI x9)] [] := fun x0 x1 x2 x3 x4 x6 x7 x9 C I J R ⟨m, hm, hq⟩ => (ih m hm).2.2.2.1 x0 x1 x2 x3 x4 x6 x7 x9 C I J R hq
    have w192 : ∀ (x0 : Nat) (x1 : Int32) (x2 : Int32) (x6 : Int32) (C : MC) (I : MI) (J : MJ) (R : MR), (∃ m, m < n ∧ Q192 m (gK Γ) x0 x1 x2 x6 C I J R) → AW Γ 0 0 C I J R 192 [(0, aR (some x0)), (1, aI x1), (2, aI x2), (6, aI x6)] [] := fun x0 x1 x2 x6 C I J R ⟨m, hm, hq⟩ => (ih m hm).2.2.2.2.1 x0 x1 x2 x6 C I J R hq
    have w227 : ∀ (x0 : Nat) (x1 : Int32) (x2 : Int32) (C : MC) (I : MI) (J : MJ) (R : MR), (∃ m, m < n ∧ Q227 m (gK Γ) x0 x1 x2 C I J R) → AW Γ 0 0 C I J R 227 [(0, aR (some x0)), (1, aI x1), (2, aI x2)] [] := fun x0 x1 x2 C I J R ⟨m, hm, hq⟩ => (ih m hm).2.2.2.2.2 x0 x1 x2 C I J R hq
    have w225 : ∀ (x0 : Nat) (x1 : Int32) (C : MC) (I : MI) (J : MJ) (R : MR), PX2_boundRow_225 F_X2_at (fun (x0 : Nat) (x1 : Int32) (x2 : Int32) (C : MC) (I : MI) (J : MJ) (R : MR) => ∃ m, m < n ∧ Q2 m (gK Γ) x0 x1 x2 C I J R) (fun (x0 : Nat) (x1 : Int32) (x2 : Int32) (C : MC) (I : MI) (J : MJ) (R : MR) => ∃ m, m < n ∧ Q23 m (gK Γ) x0 x1 x2 C I J R) (fun (x0 : Nat) (x1 : Int32) (x2 : Int32) (x3 : Int32) (x4 : Int64) (x6 : Int32) (C : MC) (I : MI) (J : MJ) (R : MR) => ∃ m, m < n ∧ Q71 m (gK Γ) x0 x1 x2 x3 x4 x6 C I J R) (fun (x0 : Nat) (x1 : Int32) (x2 : Int32) (x3 : Int32) (x4 : Int64) (x6 : Int32) (x7 : Int64) (x9 : Int32) (C : MC) (I : MI) (J : MJ) (R : MR) => ∃ m, m < n ∧ Q125 m (gK Γ) x0 x1 x2 x3 x4 x6 x7 x9 C I J R) (fun (x0 : Nat) (x1 : Int32) (x2 : Int32) (x6 : Int32) (C : MC) (I : MI) (J : MJ) (R : MR) => ∃ m, m < n ∧ Q192 m (gK Γ) x0 x1 x2 x6 C I J R) (fun (x0 : Nat) (x1 : Int32) (x2 : Int32) (C : MC) (I : MI) (J : MJ) (R : MR) => ∃ m, m < n ∧ Q227 m (gK Γ) x0 x1 x2 C I J R) (gK Γ) x0 x1 C I J R → AW Γ 0 0 C I J R 225 [(0, aR (some x0)), (1, aI x1)] [] := fun x0 x1 C I J R h => bX2_boundRow_225 G w227 h
    have w174 : ∀ (x0 : Nat) (x1 : Int32) (x2 : Int32) (x3 : Int32) (x4 : Int64) (x6 : Int32) (x7 : Int64) (C : MC) (I : MI) (J : MJ) (R : MR), PX2_boundRow_174 F_X2_at (fun (x0 : Nat) (x1 : Int32) (x2 : Int32) (C : MC) (I : MI) (J : MJ) (R : MR) => ∃ m, m < n ∧ Q2 m (gK Γ) x0 x1 x2 C I J R) (fun (x0 : Nat) (x1 : Int32) (x2 : Int32) (C : MC) (I : MI) (J : MJ) (R : MR) => ∃ m, m < n ∧ Q23 m (gK Γ) x0 x1 x2 C I J R) (fun (x0 : Nat) (x1 : Int32) (x2 : Int32) (x3 : Int32) (x4 : Int64) (x6 : Int32) (C : MC) (I : MI) (J : MJ) (R : MR) => ∃ m, m < n ∧ Q71 m (gK Γ) x0 x1 x2 x3 x4 x6 C I J R) (fun (x0 : Nat) (x1 : Int32) (x2 : Int32) (x3 : Int32) (x4 : Int64) (x6 : Int32) (x7 : Int64) (x9 : Int32) (C : MC) (I : MI) (J : MJ) (R : MR) => ∃ m, m < n ∧ Q125 m (gK Γ) x0 x1 x2 x3 x4 x6 x7 x9 C I J R) (fun (x0 : Nat) (x1 : Int32) (x2 : Int32) (x6 : Int32) (C : MC) (I : MI) (J : MJ) (R : MR) => ∃ m, m < n ∧ Q192 m (gK Γ) x0 x1 x2 x6 C I J R) (fun (x0 : Nat) (x1 : Int32) (x2 : Int32) (C : MC) (I : MI) (J : MJ) (R : MR) => ∃ m, m < n ∧ Q227 m (gK Γ) x0 x1 x2 C I J R) (gK Γ) x0 x1 x2 x3 x4 x6 x7 C I J R → AW Γ 0 0 C I J R 174 [(0, aR (some x0)), (1, aI x1), (2, aI x2), (3, aI x3), (4, aJ x4), (6, aI x6), (7, aJ x7)] [] := fun x0 x1 x2 x3 x4 x6 x7 C I J R h => bX2_boundRow_174 G w71 h
    have w120 : ∀ (x0 : Nat) (x1 : Int32) (x2 : Int32) (x3 : Int32) (x4 : Int64) (x6 : Int32) (s0 : Int64) (C : MC) (I : MI) (J : MJ) (R : MR), PX2_boundRow_120 F_X2_at (fun (x0 : Nat) (x1 : Int32) (x2 : Int32) (C : MC) (I : MI) (J : MJ) (R : MR) => ∃ m, m < n ∧ Q2 m (gK Γ) x0 x1 x2 C I J R) (fun (x0 : Nat) (x1 : Int32) (x2 : Int32) (C : MC) (I : MI) (J : MJ) (R : MR) => ∃ m, m < n ∧ Q23 m (gK Γ) x0 x1 x2 C I J R) (fun (x0 : Nat) (x1 : Int32) (x2 : Int32) (x3 : Int32) (x4 : Int64) (x6 : Int32) (C : MC) (I : MI) (J : MJ) (R : MR) => ∃ m, m < n ∧ Q71 m (gK Γ) x0 x1 x2 x3 x4 x6 C I J R) (fun (x0 : Nat) (x1 : Int32) (x2 : Int32) (x3 : Int32) (x4 : Int64) (x6 : Int32) (x7 : Int64) (x9 : Int32) (C : MC) (I : MI) (J : MJ) (R : MR) => ∃ m, m < n ∧ Q125 m (gK Γ) x0 x1 x2 x3 x4 x6 x7 x9 C I J R) (fun (x0 : Nat) (x1 : Int32) (x2 : Int32) (x6 : Int32) (C : MC) (I : MI) (J : MJ) (R : MR) => ∃ m, m < n ∧ Q192 m (gK Γ) x0 x1 x2 x6 C I J R) (fun (x0 : Nat) (x1 : Int32) (x2 : Int32) (C : MC) (I : MI) (J : MJ) (R : MR) => ∃ m, m < n ∧ Q227 m (gK Γ) x0 x1 x2 C I J R) (gK Γ) x0 x1 x2 x3 x4 x6 s0 C I J R → AW Γ 0 0 C I J R 120 [(0, aR (some x0)), (1, aI x1), (2, aI x2), (3, aI x3), (4, aJ x4), (6, aI x6)] [aJ s0] := fun x0 x1 x2 x3 x4 x6 s0 C I J R h => bX2_boundRow_120 G w125 h
    exact ⟨fun x0 x1 x2 C I J R h => bX2_boundRow_2 G w2 w23 (h2 n (gK Γ) x0 x1 x2 C I J R h), fun x0 x1 x2 C I J R h => bX2_boundRow_23 G w71 w225 (h23 n (gK Γ) x0 x1 x2 C I J R h), fun x0 x1 x2 x3 x4 x6 C I J R h => bX2_boundRow_71 G S_X2_at w120 w192 (h71 n (gK Γ) x0 x1 x2 x3 x4 x6 C I J R h), fun x0 x1 x2 x3 x4 x6 x7 x9 C I J R h => bX2_boundRow_125 G S_X2_at w125 w174 (h125 n (gK Γ) x0 x1 x2 x3 x4 x6 x7 x9 C I J R h), fun x0 x1 x2 x6 C I J R h => bX2_boundRow_192 G w23 w192 (h192 n (gK Γ) x0 x1 x2 x6 C I J R h), fun x0 x1 x2 C I J R h => bX2_boundRow_227 G S_X2_at w227 (h227 n (gK Γ) x0 x1 x2 C I J R h)⟩
  have w2 : ∀ (x0 : Nat) (x1 : Int32) (x2 : Int32) (C : MC) (I : MI) (J : MJ) (R : MR), (∃ n, Q2 n (gK Γ) x0 x1 x2 C I J R) → AW Γ 0 0 C I J R 2 [(0, aR (some x0)), (1, aI x1), (2, aI x2)] [] := fun x0 x1 x2 C I J R ⟨m, hq⟩ => (key m).1 x0 x1 x2 C I J R hq
  have w23 : ∀ (x0 : Nat) (x1 : Int32) (x2 : Int32) (C : MC) (I : MI) (J : MJ) (R : MR), (∃ n, Q23 n (gK Γ) x0 x1 x2 C I J R) → AW Γ 0 0 C I J R 23 [(0, aR (some x0)), (1, aI x1), (2, aI x2)] [] := fun x0 x1 x2 C I J R ⟨m, hq⟩ => (key m).2.1 x0 x1 x2 C I J R hq
  have w71 : ∀ (x0 : Nat) (x1 : Int32) (x2 : Int32) (x3 : Int32) (x4 : Int64) (x6 : Int32) (C : MC) (I : MI) (J : MJ) (R : MR), (∃ n, Q71 n (gK Γ) x0 x1 x2 x3 x4 x6 C I J R) → AW Γ 0 0 C I J R 71 [(0, aR (some x0)), (1, aI x1), (2, aI x2), (3, aI x3), (4, aJ x4), (6, aI x6)] [] := fun x0 x1 x2 x3 x4 x6 C I J R ⟨m, hq⟩ => (key m).2.2.1 x0 x1 x2 x3 x4 x6 C I J R hq
  have w125 : ∀ (x0 : Nat) (x1 : Int32) (x2 : Int32) (x3 : Int32) (x4 : Int64) (x6 : Int32) (x7 : Int64) (x9 : Int32) (C : MC) (I : MI) (J : MJ) (R : MR), (∃ n, Q125 n (gK Γ) x0 x1 x2 x3 x4 x6 x7 x9 C I J R) → AW Γ 0 0 C I J R 125 [(0, aR (some x0)), (1, aI x1), (2, aI x2), (3, aI x3), (4, aJ x4), (6, aI x6), (7, aJ x7), (9, aI x9)] [] := fun x0 x1 x2 x3 x4 x6 x7 x9 C I J R ⟨m, hq⟩ => (key m).2.2.2.1 x0 x1 x2 x3 x4 x6 x7 x9 C I J R hq
  have w192 : ∀ (x0 : Nat) (x1 : Int32) (x2 : Int32) (x6 : Int32) (C : MC) (I : MI) (J : MJ) (R : MR), (∃ n, Q192 n (gK Γ) x0 x1 x2 x6 C I J R) → AW Γ 0 0 C I J R 192 [(0, aR (some x0)), (1, aI x1), (2, aI x2), (6, aI x6)] [] := fun x0 x1 x2 x6 C I J R ⟨m, hq⟩ => (key m).2.2.2.2.1 x0 x1 x2 x6 C I J R hq
  have w227 : ∀ (x0 : Nat) (x1 : Int32) (x2 : Int32) (C : MC) (I : MI) (J : MJ) (R : MR), (∃ n, Q227 n (gK Γ) x0 x1 x2 C I J R) → AW Γ 0 0 C I J R 227 [(0, aR (some x0)), (1, aI x1), (2, aI x2)] [] := fun x0 x1 x2 C I J R ⟨m, hq⟩ => (key m).2.2.2.2.2 x0 x1 x2 C I J R hq
  have w225 : ∀ (x0 : Nat) (x1 : Int32) (C : MC) (I : MI) (J : MJ) (R : MR), PX2_boundRow_225 F_X2_at (fun (x0 : Nat) (x1 : Int32) (x2 : Int32) (C : MC) (I : MI) (J : MJ) (R : MR) => ∃ n, Q2 n (gK Γ) x0 x1 x2 C I J R) (fun (x0 : Nat) (x1 : Int32) (x2 : Int32) (C : MC) (I : MI) (J : MJ) (R : MR) => ∃ n, Q23 n (gK Γ) x0 x1 x2 C I J R) (fun (x0 : Nat) (x1 : Int32) (x2 : Int32) (x3 : Int32) (x4 : Int64) (x6 : Int32) (C : MC) (I : MI) (J : MJ) (R : MR) => ∃ n, Q71 n (gK Γ) x0 x1 x2 x3 x4 x6 C I J R) (fun (x0 : Nat) (x1 : Int32) (x2 : Int32) (x3 : Int32) (x4 : Int64) (x6 : Int32) (x7 : Int64) (x9 : Int32) (C : MC) (I : MI) (J : MJ) (R : MR) => ∃ n, Q125 n (gK Γ) x0 x1 x2 x3 x4 x6 x7 x9 C I J R) (fun (x0 : Nat) (x1 : Int32) (x2 : Int32) (x6 : Int32) (C : MC) (I : MI) (J : MJ) (R : MR) => ∃ n, Q192 n (gK Γ) x0 x1 x2 x6 C I J R) (fun (x0 : Nat) (x1 : Int32) (x2 : Int32) (C : MC) (I : MI) (J : MJ) (R : MR) => ∃ n, Q227 n (gK Γ) x0 x1 x2 C I J R) (gK Γ) x0 x1 C I J R → AW Γ 0 0 C I J R 225 [(0, aR (some x0)), (1, aI x1)] [] := fun x0 x1 C I J R h => bX2_boundRow_225 G w227 h
  have w174 : ∀ (x0 : Nat) (x1 : Int32) (x2 : Int32) (x3 : Int32) (x4 : Int64) (x6 : Int32) (x7 : Int64) (C : MC) (I : MI) (J : MJ) (R : MR), PX2_boundRow_174 F_X2_at (fun (x0 : Nat) (x1 : Int32) (x2 : Int32) (C : MC) (I : MI) (J : MJ) (R : MR) => ∃ n, Q2 n (gK Γ) x0 x1 x2 C I J R) (fun (x0 : Nat) (x1 : Int32) (x2 : Int32) (C : MC) (I : MI) (J : MJ) (R : MR) => ∃ n, Q23 n (gK Γ) x0 x1 x2 C I J R) (fun (x0 : Nat) (x1 : Int32) (x2 : Int32) (x3 : Int32) (x4 : Int64) (x6 : Int32) (C : MC) (I : MI) (J : MJ) (R : MR) => ∃ n, Q71 n (gK Γ) x0 x1 x2 x3 x4 x6 C I J R) (fun (x0 : Nat) (x1 : Int32) (x2 : Int32) (x3 : Int32) (x4 : Int64) (x6 : Int32) (x7 : Int64) (x9 : Int32) (C : MC) (I : MI) (J : MJ) (R : MR) => ∃ n, Q125 n (gK Γ) x0 x1 x2 x3 x4 x6 x7 x9 C I J R) (fun (x0 : Nat) (x1 : Int32) (x2 : Int32) (x6 : Int32) (C : MC) (I : MI) (J : MJ) (R : MR) => ∃ n, Q192 n (gK Γ) x0 x1 x2 x6 C I J R) (fun (x0 : Nat) (x1 : Int32) (x2 : Int32) (C : MC) (I : MI) (J : MJ) (R : MR) => ∃ n, Q227 n (gK Γ) x0 x1 x2 C I J R) (gK Γ) x0 x1 x2 x3 x4 x6 x7 C I J R → AW Γ 0 0 C I J R 174 [(0, aR (some x0)), (1, aI x1), (2, aI x2), (3, aI x3), (4, aJ x4), (6, aI x6), (7, aJ x7)] [] := fun x0 x1 x2 x3 x4 x6 x7 C I J R h => bX2_boundRow_174 G w71 h
  have w120 : ∀ (x0 : Nat) (x1 : Int32) (x2 : Int32) (x3 : Int32) (x4 : Int64) (x6 : Int32) (s0 : Int64) (C : MC) (I : MI) (J : MJ) (R : MR), PX2_boundRow_120 F_X2_at (fun (x0 : Nat) (x1 : Int32) (x2 : Int32) (C : MC) (I : MI) (J : MJ) (R : MR) => ∃ n, Q2 n (gK Γ) x0 x1 x2 C I J R) (fun (x0 : Nat) (x1 : Int32) (x2 : Int32) (C : MC) (I : MI) (J : MJ) (R : MR) => ∃ n, Q23 n (gK Γ) x0 x1 x2 C I J R) (fun (x0 : Nat) (x1 : Int32) (x2 : Int32) (x3 : Int32) (x4 : Int64) (x6 : Int32) (C : MC) (I : MI) (J : MJ) (R : MR) => ∃ n, Q71 n (gK Γ) x0 x1 x2 x3 x4 x6 C I J R) (fun (x0 : Nat) (x1 : Int32) (x2 : Int32) (x3 : Int32) (x4 : Int64) (x6 : Int32) (x7 : Int64) (x9 : Int32) (C : MC) (I : MI) (J : MJ) (R : MR) => ∃ n, Q125 n (gK Γ) x0 x1 x2 x3 x4 x6 x7 x9 C I J R) (fun (x0 : Nat) (x1 : Int32) (x2 : Int32) (x6 : Int32) (C : MC) (I : MI) (J : MJ) (R : MR) => ∃ n, Q192 n (gK Γ) x0 x1 x2 x6 C I J R) (fun (x0 : Nat) (x1 : Int32) (x2 : Int32) (C : MC) (I : MI) (J : MJ) (R : MR) => ∃ n, Q227 n (gK Γ) x0 x1 x2 C I J R) (gK Γ) x0 x1 x2 x3 x4 x6 s0 C I J R → AW Γ 0 0 C I J R 120 [(0, aR (some x0)), (1, aI x1), (2, aI x2), (3, aI x3), (4, aJ x4), (6, aI x6)] [aJ s0] := fun x0 x1 x2 x3 x4 x6 s0 C I J R h => bX2_boundRow_120 G w125 h
  obtain ⟨x0, x1, rfl, h⟩ := h0 As C I J R (gK Γ) hF
  exact ⟨Nat.le_of_ble_eq_true rfl, bX2_boundRow_0 G w2 h⟩
def PX2_boundFan_104 (F_X2_told0 : SPF) (F_X2_at : SPF) (Q32 : Nat → Int32 → Int32 → Int64 → Int64 → Int32 → MC → MI → MJ → MR → Prop) (K : AK) (x0 : Nat) (x1 : Int32) (x7 : Int64) (C : MC) (I : MI) (J : MJ) (R : MR) : Prop :=
      (C x0).1 = 3 ∧
      ∃ q2 : Nat, R x0 33 = some q2 ∧
      (C q2).1 = 21 ∧
      vp_in x1 (C q2).2 ∧
      K (.inl (some (aJ (if x7 < (J q2 x1.toNatClampNeg) then x7 else (J q2 x1.toNatClampNeg))))) C I J R
def PX2_boundFan_32 (F_X2_told0 : SPF) (F_X2_at : SPF) (Q32 : Nat → Int32 → Int32 → Int64 → Int64 → Int32 → MC → MI → MJ → MR → Prop) (K : AK) (x0 : Nat) (x1 : Int32) (x2 : Int32) (x5 : Int64) (x7 : Int64) (x9 : Int32) (C : MC) (I : MI) (J : MJ) (R : MR) : Prop :=
      (((4 : Int32) ≤ x9 →
      PX2_boundFan_104 F_X2_told0 F_X2_at Q32 K x0 x1 x7 C I J R) ∧
      (¬ (4 : Int32) ≤ x9 →
      (C x0).1 = 3 ∧
      ∃ q3 : Nat, R x0 8 = some q3 ∧
      (C q3).1 = 20 ∧
      vp_in (((4 : Int32) * x1) + x9) (C q3).2 ∧
      (((I q3 (((4 : Int32) * x1) + x9).toNatClampNeg) = (-1 : Int32) →
      PX2_boundFan_104 F_X2_told0 F_X2_at Q32 K x0 x1 x7 C I J R) ∧
      (¬ (I q3 (((4 : Int32) * x1) + x9).toNatClampNeg) = (-1 : Int32) →
      F_X2_at [aI (I q3 (((4 : Int32) * x1) + x9).toNatClampNeg), aI x2] C I J R (fun o C7 I8 J9 R10 =>
      ∃ r11 : Int32, o = .inl (some (aI r11)) ∧
      ∃ q12 : Nat, R x0 32 = some q12 ∧
      (C7 q12).1 = 21 ∧
      vp_in r11 (C7 q12).2 ∧
      (C7 x0).1 = 3 ∧
      ∃ q16 : Nat, R10 x0 8 = some q16 ∧
      (C7 q16).1 = 20 ∧
      vp_in (((4 : Int32) * x1) + x9) (C7 q16).2 ∧
      ∃ q19 : Nat, R10 x0 33 = some q19 ∧
      (C7 q19).1 = 21 ∧
      vp_in (I8 q16 (((4 : Int32) * x1) + x9).toNatClampNeg) (C7 q19).2 ∧
      ¬ (J9 q19 (I8 q16 (((4 : Int32) * x1) + x9).toNatClampNeg).toNatClampNeg) = 0 ∧
      Q32 x0 x1 x2 x5 (x7 + ((J9 q12 r11.toNatClampNeg) * (x5 / (J9 q19 (I8 q16 (((4 : Int32) * x1) + x9).toNatClampNeg).toNatClampNeg)))) (x9 + 1) C7 I8 J9 R10)))))
def PX2_boundFan_0 (F_X2_told0 : SPF) (F_X2_at : SPF) (Q32 : Nat → Int32 → Int32 → Int64 → Int64 → Int32 → MC → MI → MJ → MR → Prop) (K : AK) (x0 : Nat) (x1 : Int32) (x2 : Int32) (C : MC) (I : MI) (J : MJ) (R : MR) : Prop :=
      (C x0).1 = 3 ∧
      F_X2_told0 [aR (some x0), aI x1] C I J R (fun o C2 I3 J4 R5 =>
      ∃ r6 : Int32, o = .inl (some (aI r6)) ∧
      (C2 x0).1 = 3 ∧
      ∃ q8 : Nat, R5 x0 9 = some q8 ∧
      (C2 q8).1 = 20 ∧
      vp_in x1 (C2 q8).2 ∧
      ∃ q11 : Nat, R5 x0 33 = some q11 ∧
      (C2 q11).1 = 21 ∧
      vp_in x1 (C2 q11).2 ∧
      ¬ (((r6 - (I3 q8 x1.toNatClampNeg)) + (1 : Int32)).toInt64) = 0 ∧
      Q32 x0 x1 x2 ((J4 q11 x1.toNatClampNeg) / (((r6 - (I3 q8 x1.toNatClampNeg)) + (1 : Int32)).toInt64)) (0 : Int64) (0 : Int32) C2 I3 J4 R5)
theorem wX2_boundFan {l : Launch}  {F_X2_told0 : SPF} (S_X2_told0 : SpX2_told0 l F_X2_told0) {F_X2_at : SPF} (S_X2_at : SpX2_at l F_X2_at)
    (Q32 : Nat → AK → Nat → Int32 → Int32 → Int64 → Int64 → Int32 → MC → MI → MJ → MR → Prop) {F : SPF}
    (h0 : ∀ (As : List AV) (C : MC) (I : MI) (J : MJ) (R : MR) (K : AK), F As C I J R K → ∃ (x0 : Nat) (x1 : Int32) (x2 : Int32), As = [aR (some x0), aI x1, aI x2] ∧ PX2_boundFan_0 F_X2_told0 F_X2_at (fun (x0 : Nat) (x1 : Int32) (x2 : Int32) (x5 : Int64) (x7 : Int64) (x9 : Int32) (C : MC) (I : MI) (J : MJ) (R : MR) => ∃ n, Q32 n K x0 x1 x2 x5 x7 x9 C I J R) K x0 x1 x2 C I J R)
    (h32 : ∀ (n : Nat) (K : AK) (x0 : Nat) (x1 : Int32) (x2 : Int32) (x5 : Int64) (x7 : Int64) (x9 : Int32) (C : MC) (I : MI) (J : MJ) (R : MR), Q32 n K x0 x1 x2 x5 x7 x9 C I J R → PX2_boundFan_32 F_X2_told0 F_X2_at (fun (x0 : Nat) (x1 : Int32) (x2 : Int32) (x5 : Int64) (x7 : Int64) (x9 : Int32) (C : MC) (I : MI) (J : MJ) (R : MR) => ∃ m, m < n ∧ Q32 m K x0 x1 x2 x5 x7 x9 C I J R) K x0 x1 x2 x5 x7 x9 C I J R) : SpX2_boundFan l F := by
  refine Spec.of (by rfl) ?_
  intro Γ C I J R As Gd gl gr _ _ gb hF
  subst gl
  have G : Gb Γ yX2_boundFan cX2_boundFan 10 (some .long) [] rmX2_boundFan bdX2_boundFan := ⟨Gd, gr, gb⟩
  have key : ∀ n : Nat, (∀ (x0 : Nat) (x1 : Int32) (x2 : Int32) (x5 : Int64) (x7 : Int64) (x9 : Int32) (C : MC) (I : MI) (J : MJ) (R : MR), Q32 n (gK Γ) x0 x1 x2 x5 x7 x9 C I J R → AW Γ 0 0 C I J R 32 [(0, aR (some x0)), (1, aI x1), (2, aI x2), (5, aJ x5), (7, aJ x7), (9, aI x9)] []) := by
    intro n
    induction n using Nat.strongRecOn with
    | ind n ih =>
    have w32 : ∀ (x0 : Nat) (x1 : Int32) (x2 : Int32) (x5 : Int64) (x7 : Int64) (x9 : Int32) (C : MC) (I : MI) (J : MJ) (R : MR), (∃ m, m < n ∧ Q32 m (gK Γ) x0 x1 x2 x5 x7 x9 C I J R) → AW Γ 0 0 C I J R 32 [(0, aR (some x0)), (1, aI x1), (2, aI x2), (5, aJ x5), (7, aJ x7), (9, aI x9)] [] := fun x0 x1 x2 x5 x7 x9 C I J R ⟨m, hm, hq⟩ => (ih m hm) x0 x1 x2 x5 x7 x9 C I J R hq
    have w104 : ∀ (x0 : Nat) (x1 : Int32) (x7 : Int64) (C : MC) (I : MI) (J : MJ) (R : MR), PX2_boundFan_104 F_X2_told0 F_X2_at (fun (x0 : Nat) (x1 : Int32) (x2 : Int32) (x5 : Int64) (x7 : Int64) (x9 : Int32) (C : MC) (I : MI) (J : MJ) (R : MR) => ∃ m, m < n ∧ Q32 m (gK Γ) x0 x1 x2 x5 x7 x9 C I J R) (gK Γ) x0 x1 x7 C I J R → AW Γ 0 0 C I J R 104 [(0, aR (some x0)), (1, aI x1), (7, aJ x7)] [] := fun x0 x1 x7 C I J R h => bX2_boundFan_104 G h
    exact fun x0 x1 x2 x5 x7 x9 C I J R h => bX2_boundFan_32 G S_X2_at w32 w104 (h32 n (gK Γ) x0 x1 x2 x5 x7 x9 C I J R h)
  have w32 : ∀ (x0 : Nat) (x1 : Int32) (x2 : Int32) (x5 : Int64) (x7 : Int64) (x9 : Int32) (C : MC) (I : MI) (J : MJ) (R : MR), (∃ n, Q32 n (gK Γ) x0 x1 x2 x5 x7 x9 C I J R) → AW Γ 0 0 C I J R 32 [(0, aR (some x0)), (1, aI x1), (2, aI x2), (5, aJ x5), (7, aJ x7), (9, aI x9)] [] := fun x0 x1 x2 x5 x7 x9 C I J R ⟨m, hq⟩ => (key m) x0 x1 x2 x5 x7 x9 C I J R hq
  have w104 : ∀ (x0 : Nat) (x1 : Int32) (x7 : Int64) (C : MC) (I : MI) (J : MJ) (R : MR), PX2_boundFan_104 F_X2_told0 F_X2_at (fun (x0 : Nat) (x1 : Int32) (x2 : Int32) (x5 : Int64) (x7 : Int64) (x9 : Int32) (C : MC) (I : MI) (J : MJ) (R : MR) => ∃ n, Q32 n (gK Γ) x0 x1 x2 x5 x7 x9 C I J R) (gK Γ) x0 x1 x7 C I J R → AW Γ 0 0 C I J R 104 [(0, aR (some x0)), (1, aI x1), (7, aJ x7)] [] := fun x0 x1 x7 C I J R h => bX2_boundFan_104 G h
  obtain ⟨x0, x1, x2, rfl, h⟩ := h0 As C I J R (gK Γ) hF
  exact ⟨Nat.le_of_ble_eq_true rfl, bX2_boundFan_0 G S_X2_told0 w32 h⟩
def PX2_asks_41 (F_X2_isThing : SPF) (F_X2_refuse : SPF) (F_X2_isLeaf : SPF) (F_X2_has : SPF) (F_X2_factor : SPF) (Q41 : Nat → Int32 → Int32 → Int32 → MC → MI → MJ → MR → Prop) (K : AK) (x0 : Nat) (x1 : Int32) (x3 : Int32) (x4 : Int32) (C : MC) (I : MI) (J : MJ) (R : MR) : Prop :=
      ((x4 = x1 →
      K (.inl (some (aI x3))) C I J R) ∧
      (¬ x4 = x1 →
      (C x0).1 = 3 ∧
      ∃ q3 : Nat, R x0 11 = some q3 ∧
      (C q3).1 = 20 ∧
      vp_in x4 (C q3).2 ∧
      F_X2_factor [aR (some x0), aI (I q3 x4.toNatClampNeg)] C I J R (fun o C6 I7 J8 R9 =>
      ∃ r10 : Int32, o = .inl (some (aI r10)) ∧
      (C6 x0).1 = 3 ∧
      ∃ q12 : Nat, R9 x0 11 = some q12 ∧
      (C6 q12).1 = 20 ∧
      vp_in x4 (C6 q12).2 ∧
      Q41 x0 x1 (x3 * r10) (I7 q12 x4.toNatClampNeg) C6 I7 J8 R9)))
def PX2_asks_0 (F_X2_isThing : SPF) (F_X2_refuse : SPF) (F_X2_isLeaf : SPF) (F_X2_has : SPF) (F_X2_factor : SPF) (Q41 : Nat → Int32 → Int32 → Int32 → MC → MI → MJ → MR → Prop) (K : AK) (x0 : Nat) (x1 : Int32) (x2 : Int32) (C : MC) (I : MI) (J : MJ) (R : MR) : Prop :=
      (C x0).1 = 3 ∧
      F_X2_isThing [aR (some x0), aI x1] C I J R (fun o C2 I3 J4 R5 =>
      ∃ r6 : Int32, o = .inl (some (aI r6)) ∧
      ((r6 = 0 →
      (C2 x0).1 = 3 ∧
      F_X2_refuse [aR (some x0), aI (1 : Int32)] C2 I3 J4 R5 (fun o C9 I10 J11 R12 =>
      ∃ r13 : Int32, o = .inl (some (aI r13)) ∧
      K (.inl (some (aI r13))) C9 I10 J11 R12)) ∧
      (¬ r6 = 0 →
      (C2 x0).1 = 3 ∧
      F_X2_isLeaf [aR (some x0), aI x2] C2 I3 J4 R5 (fun o C15 I16 J17 R18 =>
      ∃ r19 : Int32, o = .inl (some (aI r19)) ∧
      ((r19 = 0 →
      (C15 x0).1 = 3 ∧
      F_X2_refuse [aR (some x0), aI (1 : Int32)] C15 I16 J17 R18 (fun o C22 I23 J24 R25 =>
      ∃ r26 : Int32, o = .inl (some (aI r26)) ∧
      K (.inl (some (aI r26))) C22 I23 J24 R25)) ∧
      (¬ r19 = 0 →
      (C15 x0).1 = 3 ∧
      F_X2_has [aR (some x0), aI x1, aI x2] C15 I16 J17 R18 (fun o C28 I29 J30 R31 =>
      ∃ r32 : Int32, o = .inl (some (aI r32)) ∧
      ((¬ r32 = 0 →
      (C28 x0).1 = 3 ∧
      ∀ I35 : MI, I35 = va_up I29 x0 (va_up (I29 x0) 0 (0 : Int32)) →
      Q41 x0 x1 (1 : Int32) x2 C28 I35 J30 R31) ∧
      (r32 = 0 →
      (C28 x0).1 = 3 ∧
      F_X2_refuse [aR (some x0), aI (1 : Int32)] C28 I29 J30 R31 (fun o C37 I38 J39 R40 =>
      ∃ r41 : Int32, o = .inl (some (aI r41)) ∧
      K (.inl (some (aI r41))) C37 I38 J39 R40))))))))))
theorem wX2_asks {l : Launch}  {F_X2_isThing : SPF} (S_X2_isThing : SpX2_isThing l F_X2_isThing) {F_X2_refuse : SPF} (S_X2_refuse : SpX2_refuse l F_X2_refuse) {F_X2_isLeaf : SPF} (S_X2_isLeaf : SpX2_isLeaf l F_X2_isLeaf) {F_X2_has : SPF} (S_X2_has : SpX2_has l F_X2_has) {F_X2_factor : SPF} (S_X2_factor : SpX2_factor l F_X2_factor)
    (Q41 : Nat → AK → Nat → Int32 → Int32 → Int32 → MC → MI → MJ → MR → Prop) {F : SPF}
    (h0 : ∀ (As : List AV) (C : MC) (I : MI) (J : MJ) (R : MR) (K : AK), F As C I J R K → ∃ (x0 : Nat) (x1 : Int32) (x2 : Int32), As = [aR (some x0), aI x1, aI x2] ∧ PX2_asks_0 F_X2_isThing F_X2_refuse F_X2_isLeaf F_X2_has F_X2_factor (fun (x0 : Nat) (x1 : Int32) (x3 : Int32) (x4 : Int32) (C : MC) (I : MI) (J : MJ) (R : MR) => ∃ n, Q41 n K x0 x1 x3 x4 C I J R) K x0 x1 x2 C I J R)
    (h41 : ∀ (n : Nat) (K : AK) (x0 : Nat) (x1 : Int32) (x3 : Int32) (x4 : Int32) (C : MC) (I : MI) (J : MJ) (R : MR), Q41 n K x0 x1 x3 x4 C I J R → PX2_asks_41 F_X2_isThing F_X2_refuse F_X2_isLeaf F_X2_has F_X2_factor (fun (x0 : Nat) (x1 : Int32) (x3 : Int32) (x4 : Int32) (C : MC) (I : MI) (J : MJ) (R : MR) => ∃ m, m < n ∧ Q41 m K x0 x1 x3 x4 C I J R) K x0 x1 x3 x4 C I J R) : SpX2_asks l F := by
  refine Spec.of (by rfl) ?_
  intro Γ C I J R As Gd gl gr _ _ gb hF
  subst gl
  have G : Gb Γ yX2_asks cX2_asks 5 (some .int) [] rmX2_asks bdX2_asks := ⟨Gd, gr, gb⟩
  have key : ∀ n : Nat, (∀ (x0 : Nat) (x1 : Int32) (x3 : Int32) (x4 : Int32) (C : MC) (I : MI) (J : MJ) (R : MR), Q41 n (gK Γ) x0 x1 x3 x4 C I J R → AW Γ 0 0 C I J R 41 [(0, aR (some x0)), (1, aI x1), (3, aI x3), (4, aI x4)] []) := by
    intro n
    induction n using Nat.strongRecOn with
    | ind n ih =>
    have w41 : ∀ (x0 : Nat) (x1 : Int32) (x3 : Int32) (x4 : Int32) (C : MC) (I : MI) (J : MJ) (R : MR), (∃ m, m < n ∧ Q41 m (gK Γ) x0 x1 x3 x4 C I J R) → AW Γ 0 0 C I J R 41 [(0, aR (some x0)), (1, aI x1), (3, aI x3), (4, aI x4)] [] := fun x0 x1 x3 x4 C I J R ⟨m, hm, hq⟩ => (ih m hm) x0 x1 x3 x4 C I J R hq
    exact fun x0 x1 x3 x4 C I J R h => bX2_asks_41 G S_X2_factor w41 (h41 n (gK Γ) x0 x1 x3 x4 C I J R h)
  have w41 : ∀ (x0 : Nat) (x1 : Int32) (x3 : Int32) (x4 : Int32) (C : MC) (I : MI) (J : MJ) (R : MR), (∃ n, Q41 n (gK Γ) x0 x1 x3 x4 C I J R) → AW Γ 0 0 C I J R 41 [(0, aR (some x0)), (1, aI x1), (3, aI x3), (4, aI x4)] [] := fun x0 x1 x3 x4 C I J R ⟨m, hq⟩ => (key m) x0 x1 x3 x4 C I J R hq
  obtain ⟨x0, x1, x2, rfl, h⟩ := h0 As C I J R (gK Γ) hF
  exact ⟨Nat.le_of_ble_eq_true rfl, bX2_asks_0 G S_X2_isThing S_X2_refuse S_X2_isLeaf S_X2_has w41 h⟩
def PX2_isLeaf_0 (F_X2_isThing : SPF) (K : AK) (x0 : Nat) (x1 : Int32) (C : MC) (I : MI) (J : MJ) (R : MR) : Prop :=
      (C x0).1 = 3 ∧
      F_X2_isThing [aR (some x0), aI x1] C I J R (fun o C2 I3 J4 R5 =>
      ∃ r6 : Int32, o = .inl (some (aI r6)) ∧
      ((r6 = 0 →
      K (.inl (some (aI (0 : Int32)))) C2 I3 J4 R5) ∧
      (¬ r6 = 0 →
      (C2 x0).1 = 3 ∧
      ∃ q9 : Nat, R5 x0 7 = some q9 ∧
      (C2 q9).1 = 20 ∧
      vp_in x1 (C2 q9).2 ∧
      ((¬ (I3 q9 x1.toNatClampNeg) = 0 →
      K (.inl (some (aI (0 : Int32)))) C2 I3 J4 R5) ∧
      ((I3 q9 x1.toNatClampNeg) = 0 →
      K (.inl (some (aI (1 : Int32)))) C2 I3 J4 R5)))))
theorem wX2_isLeaf {l : Launch}  {F_X2_isThing : SPF} (S_X2_isThing : SpX2_isThing l F_X2_isThing) {F : SPF}
    (h0 : ∀ (As : List AV) (C : MC) (I : MI) (J : MJ) (R : MR) (K : AK), F As C I J R K → ∃ (x0 : Nat) (x1 : Int32), As = [aR (some x0), aI x1] ∧ PX2_isLeaf_0 F_X2_isThing K x0 x1 C I J R) : SpX2_isLeaf l F := by
  refine Spec.of (by rfl) ?_
  intro Γ C I J R As Gd gl gr _ _ gb hF
  subst gl
  have G : Gb Γ yX2_isLeaf cX2_isLeaf 2 (some .boolean) [] rmX2_isLeaf bdX2_isLeaf := ⟨Gd, gr, gb⟩
  obtain ⟨x0, x1, rfl, h⟩ := h0 As C I J R (gK Γ) hF
  exact ⟨Nat.le_of_ble_eq_true rfl, bX2_isLeaf_0 G S_X2_isThing h⟩
def PX2_factor_0 (K : AK) (x0 : Nat) (x1 : Int32) (C : MC) (I : MI) (J : MJ) (R : MR) : Prop :=
      (C x0).1 = 3 ∧
      ∃ q2 : Nat, R x0 7 = some q2 ∧
      (C q2).1 = 20 ∧
      vp_in x1 (C q2).2 ∧
      ((¬ (I q2 x1.toNatClampNeg) = (4 : Int32) →
      ((¬ (I q2 x1.toNatClampNeg) = (5 : Int32) →
      K (.inl (some (aI (1 : Int32)))) C I J R) ∧
      ((I q2 x1.toNatClampNeg) = (5 : Int32) →
      K (.inl (some (aI (2 : Int32)))) C I J R))) ∧
      ((I q2 x1.toNatClampNeg) = (4 : Int32) →
      ∃ q7 : Nat, R x0 10 = some q7 ∧
      (C q7).1 = 20 ∧
      vp_in x1 (C q7).2 ∧
      K (.inl (some (aI ((I q7 x1.toNatClampNeg) + (1 : Int32))))) C I J R))
theorem wX2_factor {l : Launch}  {F : SPF}
    (h0 : ∀ (As : List AV) (C : MC) (I : MI) (J : MJ) (R : MR) (K : AK), F As C I J R K → ∃ (x0 : Nat) (x1 : Int32), As = [aR (some x0), aI x1] ∧ PX2_factor_0 K x0 x1 C I J R) : SpX2_factor l F := by
  refine Spec.of (by rfl) ?_
  intro Γ C I J R As Gd gl gr _ _ gb hF
  subst gl
  have G : Gb Γ yX2_factor cX2_factor 2 (some .int) [] rmX2_factor bdX2_factor := ⟨Gd, gr, gb⟩
  obtain ⟨x0, x1, rfl, h⟩ := h0 As C I J R (gK Γ) hF
  exact ⟨Nat.le_of_ble_eq_true rfl, bX2_factor_0 G h⟩
def PX2_change_18 (F_X2_isLeaf : SPF) (F_X2_wrongWeights : SPF) (F_X2_is : SPF) (F_X2_takeWeights : SPF) (K : AK) (x0 : Nat) (x1 : Int32) (x2 : Int32) (x3 : Int32) (s0 : Int32) (C : MC) (I : MI) (J : MJ) (R : MR) : Prop :=
      ((¬ s0 = 0 →
      (C x0).1 = 3 ∧
      F_X2_is [aR (some x0), aI s0] C I J R (fun o C3 I4 J5 R6 =>
      ∃ r7 : Int32, o = .inl (some (aI r7)) ∧
      (r7 = 0 ∨ r7 = 1) ∧ K (.inl (some (aI r7))) C3 I4 J5 R6)) ∧
      (s0 = 0 →
      (C x0).1 = 3 ∧
      F_X2_takeWeights [aR (some x0), aI x1, aI (0 : Int32), aI x2, aI x3] C I J R (fun o C10 I11 J12 R13 =>
      o = .inl none ∧
      (C10 x0).1 = 3 ∧
      F_X2_is [aR (some x0), aI s0] C10 I11 J12 R13 (fun o C16 I17 J18 R19 =>
      ∃ r20 : Int32, o = .inl (some (aI r20)) ∧
      (r20 = 0 ∨ r20 = 1) ∧ K (.inl (some (aI r20))) C16 I17 J18 R19))))
def PX2_change_0 (F_X2_isLeaf : SPF) (F_X2_wrongWeights : SPF) (F_X2_is : SPF) (F_X2_takeWeights : SPF) (K : AK) (x0 : Nat) (x1 : Int32) (x2 : Int32) (x3 : Int32) (C : MC) (I : MI) (J : MJ) (R : MR) : Prop :=
      (C x0).1 = 3 ∧
      F_X2_isLeaf [aR (some x0), aI x1] C I J R (fun o C2 I3 J4 R5 =>
      ∃ r6 : Int32, o = .inl (some (aI r6)) ∧
      ((¬ r6 = 0 →
      (C2 x0).1 = 3 ∧
      F_X2_wrongWeights [aR (some x0), aI x2, aI x3] C2 I3 J4 R5 (fun o C9 I10 J11 R12 =>
      ∃ r13 : Int32, o = .inl (some (aI r13)) ∧
      PX2_change_18 F_X2_isLeaf F_X2_wrongWeights F_X2_is F_X2_takeWeights K x0 x1 x2 x3 r13 C9 I10 J11 R12)) ∧
      (r6 = 0 →
      PX2_change_18 F_X2_isLeaf F_X2_wrongWeights F_X2_is F_X2_takeWeights K x0 x1 x2 x3 (1 : Int32) C2 I3 J4 R5)))
theorem wX2_change {l : Launch}  {F_X2_isLeaf : SPF} (S_X2_isLeaf : SpX2_isLeaf l F_X2_isLeaf) {F_X2_wrongWeights : SPF} (S_X2_wrongWeights : SpX2_wrongWeights l F_X2_wrongWeights) {F_X2_is : SPF} (S_X2_is : SpX2_is l F_X2_is) {F_X2_takeWeights : SPF} (S_X2_takeWeights : SpX2_takeWeights l F_X2_takeWeights) {F : SPF}
    (h0 : ∀ (As : List AV) (C : MC) (I : MI) (J : MJ) (R : MR) (K : AK), F As C I J R K → ∃ (x0 : Nat) (x1 : Int32) (x2 : Int32) (x3 : Int32), As = [aR (some x0), aI x1, aI x2, aI x3] ∧ PX2_change_0 F_X2_isLeaf F_X2_wrongWeights F_X2_is F_X2_takeWeights K x0 x1 x2 x3 C I J R) : SpX2_change l F := by
  refine Spec.of (by rfl) ?_
  intro Γ C I J R As Gd gl gr _ _ gb hF
  subst gl
  have G : Gb Γ yX2_change cX2_change 5 (some .boolean) [] rmX2_change bdX2_change := ⟨Gd, gr, gb⟩
  have w18 : ∀ (x0 : Nat) (x1 : Int32) (x2 : Int32) (x3 : Int32) (s0 : Int32) (C : MC) (I : MI) (J : MJ) (R : MR), PX2_change_18 F_X2_isLeaf F_X2_wrongWeights F_X2_is F_X2_takeWeights (gK Γ) x0 x1 x2 x3 s0 C I J R → AW Γ 0 0 C I J R 18 [(0, aR (some x0)), (1, aI x1), (2, aI x2), (3, aI x3)] [aI s0] := fun x0 x1 x2 x3 s0 C I J R h => bX2_change_18 G S_X2_is S_X2_takeWeights h
  obtain ⟨x0, x1, x2, x3, rfl, h⟩ := h0 As C I J R (gK Γ) hF
  exact ⟨Nat.le_of_ble_eq_true rfl, bX2_change_0 G S_X2_isLeaf S_X2_wrongWeights w18 h⟩
def PX2_price_0 (F_X2_isLeaf : SPF) (F_X2_is : SPF) (F_X2_isPrice : SPF) (K : AK) (x0 : Nat) (x1 : Int32) (x2 : Int32) (C : MC) (I : MI) (J : MJ) (R : MR) : Prop :=
      (C x0).1 = 3 ∧
      F_X2_isLeaf [aR (some x0), aI x1] C I J R (fun o C2 I3 J4 R5 =>
      ∃ r6 : Int32, o = .inl (some (aI r6)) ∧
      ((r6 = 0 →
      (C2 x0).1 = 3 ∧
      F_X2_is [aR (some x0), aI (1 : Int32)] C2 I3 J4 R5 (fun o C9 I10 J11 R12 =>
      ∃ r13 : Int32, o = .inl (some (aI r13)) ∧
      (r13 = 0 ∨ r13 = 1) ∧ K (.inl (some (aI r13))) C9 I10 J11 R12)) ∧
      (¬ r6 = 0 →
      F_X2_isPrice [aI x2] C2 I3 J4 R5 (fun o C15 I16 J17 R18 =>
      ∃ r19 : Int32, o = .inl (some (aI r19)) ∧
      ((¬ r19 = 0 →
      (C15 x0).1 = 3 ∧
      ∃ q22 : Nat, R18 x0 13 = some q22 ∧
      (C15 q22).1 = 20 ∧
      vp_in ((3 : Int32) * x1) (C15 q22).2 ∧
      ∀ I25 : MI, I25 = va_up I16 q22 (va_up (I16 q22) ((3 : Int32) * x1).toNatClampNeg x2) →
      F_X2_is [aR (some x0), aI (0 : Int32)] C15 I25 J17 R18 (fun o C26 I27 J28 R29 =>
      ∃ r30 : Int32, o = .inl (some (aI r30)) ∧
      (r30 = 0 ∨ r30 = 1) ∧ K (.inl (some (aI r30))) C26 I27 J28 R29)) ∧
      (r19 = 0 →
      (C15 x0).1 = 3 ∧
      F_X2_is [aR (some x0), aI (1 : Int32)] C15 I16 J17 R18 (fun o C33 I34 J35 R36 =>
      ∃ r37 : Int32, o = .inl (some (aI r37)) ∧
      (r37 = 0 ∨ r37 = 1) ∧ K (.inl (some (aI r37))) C33 I34 J35 R36)))))))
theorem wX2_price {l : Launch}  {F_X2_isLeaf : SPF} (S_X2_isLeaf : SpX2_isLeaf l F_X2_isLeaf) {F_X2_is : SPF} (S_X2_is : SpX2_is l F_X2_is) {F_X2_isPrice : SPF} (S_X2_isPrice : SpX2_isPrice l F_X2_isPrice) {F : SPF}
    (h0 : ∀ (As : List AV) (C : MC) (I : MI) (J : MJ) (R : MR) (K : AK), F As C I J R K → ∃ (x0 : Nat) (x1 : Int32) (x2 : Int32), As = [aR (some x0), aI x1, aI x2] ∧ PX2_price_0 F_X2_isLeaf F_X2_is F_X2_isPrice K x0 x1 x2 C I J R) : SpX2_price l F := by
  refine Spec.of (by rfl) ?_
  intro Γ C I J R As Gd gl gr _ _ gb hF
  subst gl
  have G : Gb Γ yX2_price cX2_price 3 (some .boolean) [] rmX2_price bdX2_price := ⟨Gd, gr, gb⟩
  obtain ⟨x0, x1, x2, rfl, h⟩ := h0 As C I J R (gK Γ) hF
  exact ⟨Nat.le_of_ble_eq_true rfl, bX2_price_0 G S_X2_isLeaf S_X2_is S_X2_isPrice h⟩
def PX2_isPrice_0 (K : AK) (x0 : Int32) (C : MC) (I : MI) (J : MJ) (R : MR) : Prop :=
      ((x0 < 0 →
      K (.inl (some (aI (0 : Int32)))) C I J R) ∧
      (¬ x0 < 0 →
      (((10000 : Int32) < x0 →
      K (.inl (some (aI (0 : Int32)))) C I J R) ∧
      (¬ (10000 : Int32) < x0 →
      K (.inl (some (aI (1 : Int32)))) C I J R))))
theorem wX2_isPrice {l : Launch}  {F : SPF}
    (h0 : ∀ (As : List AV) (C : MC) (I : MI) (J : MJ) (R : MR) (K : AK), F As C I J R K → ∃ (x0 : Int32), As = [aI x0] ∧ PX2_isPrice_0 K x0 C I J R) : SpX2_isPrice l F := by
  refine Spec.of (by rfl) ?_
  intro Γ C I J R As Gd gl gr _ _ gb hF
  subst gl
  have G : Gb Γ yX2_isPrice cX2_isPrice 1 (some .boolean) [] rmX2_isPrice bdX2_isPrice := ⟨Gd, gr, gb⟩
  obtain ⟨x0, rfl, h⟩ := h0 As C I J R (gK Γ) hF
  exact ⟨Nat.le_of_ble_eq_true rfl, bX2_isPrice_0 G h⟩
def PX2_grade_114 (F_X2_isLeaf : SPF) (F_X2_isPrice : SPF) (F_X2_wrongWeights : SPF) (F_X2_takeWeights : SPF) (F_X2_refuse : SPF) (Q34 : Nat → Int32 → Int32 → Int32 → Int32 → Int32 → Int32 → Int32 → MC → MI → MJ → MR → Prop) (K : AK) (x0 : Nat) (x1 : Int32) (x2 : Int32) (x3 : Int32) (x4 : Int32) (x5 : Int32) (C : MC) (I : MI) (J : MJ) (R : MR) : Prop :=
      ((x5 ≤ 0 →
      (C x0).1 = 3 ∧
      ∃ q3 : Nat, R x0 12 = some q3 ∧
      (C q3).1 = 20 ∧
      vp_in x1 (C q3).2 ∧
      F_X2_takeWeights [aR (some x0), aI x1, aI (I q3 x1.toNatClampNeg), aI x2, aI x3] C I J R (fun o C6 I7 J8 R9 =>
      o = .inl none ∧
      (C6 x0).1 = 3 ∧
      ∃ q12 : Nat, R9 x0 12 = some q12 ∧
      (C6 q12).1 = 20 ∧
      vp_in x1 (C6 q12).2 ∧
      ∃ q15 : Nat, R9 x0 13 = some q15 ∧
      (C6 q15).1 = 20 ∧
      vp_in (((3 : Int32) * x1) + (I7 q12 x1.toNatClampNeg)) (C6 q15).2 ∧
      ∀ I18 : MI, I18 = va_up I7 q15 (va_up (I7 q15) (((3 : Int32) * x1) + (I7 q12 x1.toNatClampNeg)).toNatClampNeg x4) →
      ∀ I19 : MI, I19 = va_up I18 q12 (va_up (I18 q12) x1.toNatClampNeg ((I18 q12 x1.toNatClampNeg) + (1 : Int32))) →
      ∀ I20 : MI, I20 = va_up I19 x0 (va_up (I19 x0) 0 (0 : Int32)) →
      K (.inl (some (aI ((I20 q12 x1.toNatClampNeg) - (1 : Int32))))) C6 I20 J8 R9)) ∧
      (¬ x5 ≤ 0 →
      (C x0).1 = 3 ∧
      F_X2_refuse [aR (some x0), aI x5] C I J R (fun o C22 I23 J24 R25 =>
      ∃ r26 : Int32, o = .inl (some (aI r26)) ∧
      K (.inl (some (aI r26))) C22 I23 J24 R25)))
def PX2_grade_111 (F_X2_isLeaf : SPF) (F_X2_isPrice : SPF) (F_X2_wrongWeights : SPF) (F_X2_takeWeights : SPF) (F_X2_refuse : SPF) (Q34 : Nat → Int32 → Int32 → Int32 → Int32 → Int32 → Int32 → Int32 → MC → MI → MJ → MR → Prop) (K : AK) (x0 : Nat) (x1 : Int32) (x2 : Int32) (x3 : Int32) (x4 : Int32) (C : MC) (I : MI) (J : MJ) (R : MR) : Prop :=
      PX2_grade_114 F_X2_isLeaf F_X2_isPrice F_X2_wrongWeights F_X2_takeWeights F_X2_refuse Q34 K x0 x1 x2 x3 x4 (4 : Int32) C I J R
def PX2_grade_71 (F_X2_isLeaf : SPF) (F_X2_isPrice : SPF) (F_X2_wrongWeights : SPF) (F_X2_takeWeights : SPF) (F_X2_refuse : SPF) (Q34 : Nat → Int32 → Int32 → Int32 → Int32 → Int32 → Int32 → Int32 → MC → MI → MJ → MR → Prop) (K : AK) (x0 : Nat) (x1 : Int32) (x2 : Int32) (x3 : Int32) (x4 : Int32) (x5 : Int32) (x7 : Int32) (s0 : Int32) (s1 : Int32) (C : MC) (I : MI) (J : MJ) (R : MR) : Prop :=
      Q34 x0 x1 x2 x3 x4 x5 (s0 + s1) (x7 + 1) C I J R
def PX2_grade_70 (F_X2_isLeaf : SPF) (F_X2_isPrice : SPF) (F_X2_wrongWeights : SPF) (F_X2_takeWeights : SPF) (F_X2_refuse : SPF) (Q34 : Nat → Int32 → Int32 → Int32 → Int32 → Int32 → Int32 → Int32 → MC → MI → MJ → MR → Prop) (K : AK) (x0 : Nat) (x1 : Int32) (x2 : Int32) (x3 : Int32) (x4 : Int32) (x5 : Int32) (x7 : Int32) (s0 : Int32) (C : MC) (I : MI) (J : MJ) (R : MR) : Prop :=
      PX2_grade_71 F_X2_isLeaf F_X2_isPrice F_X2_wrongWeights F_X2_takeWeights F_X2_refuse Q34 K x0 x1 x2 x3 x4 x5 x7 s0 (0 : Int32) C I J R
def PX2_grade_34 (F_X2_isLeaf : SPF) (F_X2_isPrice : SPF) (F_X2_wrongWeights : SPF) (F_X2_takeWeights : SPF) (F_X2_refuse : SPF) (Q34 : Nat → Int32 → Int32 → Int32 → Int32 → Int32 → Int32 → Int32 → MC → MI → MJ → MR → Prop) (K : AK) (x0 : Nat) (x1 : Int32) (x2 : Int32) (x3 : Int32) (x4 : Int32) (x5 : Int32) (x6 : Int32) (x7 : Int32) (C : MC) (I : MI) (J : MJ) (R : MR) : Prop :=
      (C x0).1 = 3 ∧
      (((I x0 6) ≤ x7 →
      ((¬ x5 = 0 →
      PX2_grade_114 F_X2_isLeaf F_X2_isPrice F_X2_wrongWeights F_X2_takeWeights F_X2_refuse Q34 K x0 x1 x2 x3 x4 x5 C I J R) ∧
      (x5 = 0 →
      ∃ q4 : Nat, R x0 12 = some q4 ∧
      (C q4).1 = 20 ∧
      vp_in x1 (C q4).2 ∧
      (((I q4 x1.toNatClampNeg) = (3 : Int32) →
      PX2_grade_111 F_X2_isLeaf F_X2_isPrice F_X2_wrongWeights F_X2_takeWeights F_X2_refuse Q34 K x0 x1 x2 x3 x4 C I J R) ∧
      (¬ (I q4 x1.toNatClampNeg) = (3 : Int32) →
      ((¬ (I q4 x1.toNatClampNeg) = (1 : Int32) →
      PX2_grade_114 F_X2_isLeaf F_X2_isPrice F_X2_wrongWeights F_X2_takeWeights F_X2_refuse Q34 K x0 x1 x2 x3 x4 x5 C I J R) ∧
      ((I q4 x1.toNatClampNeg) = (1 : Int32) →
      ((¬ x6 = (4 : Int32) →
      PX2_grade_114 F_X2_isLeaf F_X2_isPrice F_X2_wrongWeights F_X2_takeWeights F_X2_refuse Q34 K x0 x1 x2 x3 x4 x5 C I J R) ∧
      (x6 = (4 : Int32) →
      PX2_grade_111 F_X2_isLeaf F_X2_isPrice F_X2_wrongWeights F_X2_takeWeights F_X2_refuse Q34 K x0 x1 x2 x3 x4 C I J R))))))))) ∧
      (¬ (I x0 6) ≤ x7 →
      ∃ q10 : Nat, R x0 7 = some q10 ∧
      (C q10).1 = 20 ∧
      vp_in x7 (C q10).2 ∧
      ((¬ (I q10 x7.toNatClampNeg) = 0 →
      PX2_grade_70 F_X2_isLeaf F_X2_isPrice F_X2_wrongWeights F_X2_takeWeights F_X2_refuse Q34 K x0 x1 x2 x3 x4 x5 x7 x6 C I J R) ∧
      ((I q10 x7.toNatClampNeg) = 0 →
      ∃ q14 : Nat, R x0 12 = some q14 ∧
      (C q14).1 = 20 ∧
      vp_in x7 (C q14).2 ∧
      (((I q14 x7.toNatClampNeg) ≤ (1 : Int32) →
      PX2_grade_70 F_X2_isLeaf F_X2_isPrice F_X2_wrongWeights F_X2_takeWeights F_X2_refuse Q34 K x0 x1 x2 x3 x4 x5 x7 x6 C I J R) ∧
      (¬ (I q14 x7.toNatClampNeg) ≤ (1 : Int32) →
      PX2_grade_71 F_X2_isLeaf F_X2_isPrice F_X2_wrongWeights F_X2_takeWeights F_X2_refuse Q34 K x0 x1 x2 x3 x4 x5 x7 x6 (1 : Int32) C I J R))))))
def PX2_grade_26 (F_X2_isLeaf : SPF) (F_X2_isPrice : SPF) (F_X2_wrongWeights : SPF) (F_X2_takeWeights : SPF) (F_X2_refuse : SPF) (Q34 : Nat → Int32 → Int32 → Int32 → Int32 → Int32 → Int32 → Int32 → MC → MI → MJ → MR → Prop) (K : AK) (x0 : Nat) (x1 : Int32) (x2 : Int32) (x3 : Int32) (x4 : Int32) (s0 : Int32) (C : MC) (I : MI) (J : MJ) (R : MR) : Prop :=
      Q34 x0 x1 x2 x3 x4 s0 (0 : Int32) (0 : Int32) C I J R
def PX2_grade_16 (F_X2_isLeaf : SPF) (F_X2_isPrice : SPF) (F_X2_wrongWeights : SPF) (F_X2_takeWeights : SPF) (F_X2_refuse : SPF) (Q34 : Nat → Int32 → Int32 → Int32 → Int32 → Int32 → Int32 → Int32 → MC → MI → MJ → MR → Prop) (K : AK) (x0 : Nat) (x1 : Int32) (x2 : Int32) (x3 : Int32) (x4 : Int32) (C : MC) (I : MI) (J : MJ) (R : MR) : Prop :=
      PX2_grade_26 F_X2_isLeaf F_X2_isPrice F_X2_wrongWeights F_X2_takeWeights F_X2_refuse Q34 K x0 x1 x2 x3 x4 (1 : Int32) C I J R
def PX2_grade_0 (F_X2_isLeaf : SPF) (F_X2_isPrice : SPF) (F_X2_wrongWeights : SPF) (F_X2_takeWeights : SPF) (F_X2_refuse : SPF) (Q34 : Nat → Int32 → Int32 → Int32 → Int32 → Int32 → Int32 → Int32 → MC → MI → MJ → MR → Prop) (K : AK) (x0 : Nat) (x1 : Int32) (x2 : Int32) (x3 : Int32) (x4 : Int32) (C : MC) (I : MI) (J : MJ) (R : MR) : Prop :=
      (C x0).1 = 3 ∧
      F_X2_isLeaf [aR (some x0), aI x1] C I J R (fun o C2 I3 J4 R5 =>
      ∃ r6 : Int32, o = .inl (some (aI r6)) ∧
      ((r6 = 0 →
      PX2_grade_16 F_X2_isLeaf F_X2_isPrice F_X2_wrongWeights F_X2_takeWeights F_X2_refuse Q34 K x0 x1 x2 x3 x4 C2 I3 J4 R5) ∧
      (¬ r6 = 0 →
      F_X2_isPrice [aI x4] C2 I3 J4 R5 (fun o C8 I9 J10 R11 =>
      ∃ r12 : Int32, o = .inl (some (aI r12)) ∧
      ((¬ r12 = 0 →
      (C8 x0).1 = 3 ∧
      F_X2_wrongWeights [aR (some x0), aI x2, aI x3] C8 I9 J10 R11 (fun o C15 I16 J17 R18 =>
      ∃ r19 : Int32, o = .inl (some (aI r19)) ∧
      PX2_grade_26 F_X2_isLeaf F_X2_isPrice F_X2_wrongWeights F_X2_takeWeights F_X2_refuse Q34 K x0 x1 x2 x3 x4 r19 C15 I16 J17 R18)) ∧
      (r12 = 0 →
      PX2_grade_16 F_X2_isLeaf F_X2_isPrice F_X2_wrongWeights F_X2_takeWeights F_X2_refuse Q34 K x0 x1 x2 x3 x4 C8 I9 J10 R11))))))
theorem wX2_grade {l : Launch}  {F_X2_isLeaf : SPF} (S_X2_isLeaf : SpX2_isLeaf l F_X2_isLeaf) {F_X2_isPrice : SPF} (S_X2_isPrice : SpX2_isPrice l F_X2_isPrice) {F_X2_wrongWeights : SPF} (S_X2_wrongWeights : SpX2_wrongWeights l F_X2_wrongWeights) {F_X2_takeWeights : SPF} (S_X2_takeWeights : SpX2_takeWeights l F_X2_takeWeights) {F_X2_refuse : SPF} (S_X2_refuse : SpX2_refuse l F_X2_refuse)
    (Q34 : Nat → AK → Nat → Int32 → Int32 → Int32 → Int32 → Int32 → Int32 → Int32 → MC → MI → MJ → MR → Prop) {F : SPF}
    (h0 : ∀ (As : List AV) (C : MC) (I : MI) (J : MJ) (R : MR) (K : AK), F As C I J R K → ∃ (x0 : Nat) (x1 : Int32) (x2 : Int32) (x3 : Int32) (x4 : Int32), As = [aR (some x0), aI x1, aI x2, aI x3, aI x4] ∧ PX2_grade_0 F_X2_isLeaf F_X2_isPrice F_X2_wrongWeights F_X2_takeWeights F_X2_refuse (fun (x0 : Nat) (x1 : Int32) (x2 : Int32) (x3 : Int32) (x4 : Int32) (x5 : Int32) (x6 : Int32) (x7 : Int32) (C : MC) (I : MI) (J : MJ) (R : MR) => ∃ n, Q34 n K x0 x1 x2 x3 x4 x5 x6 x7 C I J R) K x0 x1 x2 x3 x4 C I J R)
    (h34 : ∀ (n : Nat) (K : AK) (x0 : Nat) (x1 : Int32) (x2 : Int32) (x3 : Int32) (x4 : Int32) (x5 : Int32) (x6 : Int32) (x7 : Int32) (C : MC) (I : MI) (J : MJ) (R : MR), Q34 n K x0 x1 x2 x3 x4 x5 x6 x7 C I J R → PX2_grade_34 F_X2_isLeaf F_X2_isPrice F_X2_wrongWeights F_X2_takeWeights F_X2_refuse (fun (x0 : Nat) (x1 : Int32) (x2 : Int32) (x3 : Int32) (x4 : Int32) (x5 : Int32) (x6 : Int32) (x7 : Int32) (C : MC) (I : MI) (J : MJ) (R : MR) => ∃ m, m < n ∧ Q34 m K x0 x1 x2 x3 x4 x5 x6 x7 C I J R) K x0 x1 x2 x3 x4 x5 x6 x7 C I J R) : SpX2_grade l F := by
  refine Spec.of (by rfl) ?_
  intro Γ C I J R As Gd gl gr _ _ gb hF
  subst gl
  have G : Gb Γ yX2_grade cX2_grade 8 (some .int) [] rmX2_grade bdX2_grade := ⟨Gd, gr, gb⟩
  have key : ∀ n : Nat, (∀ (x0 : Nat) (x1 : Int32) (x2 : Int32) (x3 : Int32) (x4 : Int32) (x5 : Int32) (x6 : Int32) (x7 : Int32) (C : MC) (I : MI) (J : MJ) (R : MR), Q34 n (gK Γ) x0 x1 x2 x3 x4 x5 x6 x7 C I J R → AW Γ 0 0 C I J R 34 [(0, aR (some x0)), (1, aI x1), (2, aI x2), (3, aI x3), (4, aI x4), (5, aI x5), (6, aI x6), (7, aI x7)] []) := by
    intro n
    induction n using Nat.strongRecOn with
    | ind n ih =>
    have w34 : ∀ (x0 : Nat) (x1 : Int32) (x2 : Int32) (x3 : Int32) (x4 : Int32) (x5 : Int32) (x6 : Int32) (x7 : Int32) (C : MC) (I : MI) (J : MJ) (R : MR), (∃ m, m < n ∧ Q34 m (gK Γ) x0 x1 x2 x3 x4 x5 x6 x7 C I J R) → AW Γ 0 0 C I J R 34 [(0, aR (some x0)), (1, aI x1), (2, aI x2), (3, aI x3), (4, aI x4), (5, aI x5), (6, aI x6), (7, aI x7)] [] := fun x0 x1 x2 x3 x4 x5 x6 x7 C I J R ⟨m, hm, hq⟩ => (ih m hm) x0 x1 x2 x3 x4 x5 x6 x7 C I J R hq
    have w114 : ∀ (x0 : Nat) (x1 : Int32) (x2 : Int32) (x3 : Int32) (x4 : Int32) (x5 : Int32) (C : MC) (I : MI) (J : MJ) (R : MR), PX2_grade_114 F_X2_isLeaf F_X2_isPrice F_X2_wrongWeights F_X2_takeWeights F_X2_refuse (fun (x0 : Nat) (x1 : Int32) (x2 : Int32) (x3 : Int32) (x4 : Int32) (x5 : Int32) (x6 : Int32) (x7 : Int32) (C : MC) (I : MI) (J : MJ) (R : MR) => ∃ m, m < n ∧ Q34 m (gK Γ) x0 x1 x2 x3 x4 x5 x6 x7 C I J R) (gK Γ) x0 x1 x2 x3 x4 x5 C I J R → AW Γ 0 0 C I J R 114 [(0, aR (some x0)), (1, aI x1), (2, aI x2), (3, aI x3), (4, aI x4), (5, aI x5)] [] := fun x0 x1 x2 x3 x4 x5 C I J R h => bX2_grade_114 G S_X2_takeWeights S_X2_refuse h
    have w111 : ∀ (x0 : Nat) (x1 : Int32) (x2 : Int32) (x3 : Int32) (x4 : Int32) (C : MC) (I : MI) (J : MJ) (R : MR), PX2_grade_111 F_X2_isLeaf F_X2_isPrice F_X2_wrongWeights F_X2_takeWeights F_X2_refuse (fun (x0 : Nat) (x1 : Int32) (x2 : Int32) (x3 : Int32) (x4 : Int32) (x5 : Int32) (x6 : Int32) (x7 : Int32) (C : MC) (I : MI) (J : MJ) (R : MR) => ∃ m, m < n ∧ Q34 m (gK Γ) x0 x1 x2 x3 x4 x5 x6 x7 C I J R) (gK Γ) x0 x1 x2 x3 x4 C I J R → AW Γ 0 0 C I J R 111 [(0, aR (some x0)), (1, aI x1), (2, aI x2), (3, aI x3), (4, aI x4)] [] := fun x0 x1 x2 x3 x4 C I J R h => bX2_grade_111 G w114 h
    have w71 : ∀ (x0 : Nat) (x1 : Int32) (x2 : Int32) (x3 : Int32) (x4 : Int32) (x5 : Int32) (x7 : Int32) (s0 : Int32) (s1 : Int32) (C : MC) (I : MI) (J : MJ) (R : MR), PX2_grade_71 F_X2_isLeaf F_X2_isPrice F_X2_wrongWeights F_X2_takeWeights F_X2_refuse (fun (x0 : Nat) (x1 : Int32) (x2 : Int32) (x3 : Int32) (x4 : Int32) (x5 : Int32) (x6 : Int32) (x7 : Int32) (C : MC) (I : MI) (J : MJ) (R : MR) => ∃ m, m < n ∧ Q34 m (gK Γ) x0 x1 x2 x3 x4 x5 x6 x7 C I J R) (gK Γ) x0 x1 x2 x3 x4 x5 x7 s0 s1 C I J R → AW Γ 0 0 C I J R 71 [(0, aR (some x0)), (1, aI x1), (2, aI x2), (3, aI x3), (4, aI x4), (5, aI x5), (7, aI x7)] [aI s1, aI s0] := fun x0 x1 x2 x3 x4 x5 x7 s0 s1 C I J R h => bX2_grade_71 G w34 h
    have w70 : ∀ (x0 : Nat) (x1 : Int32) (x2 : Int32) (x3 : Int32) (x4 : Int32) (x5 : Int32) (x7 : Int32) (s0 : Int32) (C : MC) (I : MI) (J : MJ) (R : MR), PX2_grade_70 F_X2_isLeaf F_X2_isPrice F_X2_wrongWeights F_X2_takeWeights F_X2_refuse (fun (x0 : Nat) (x1 : Int32) (x2 : Int32) (x3 : Int32) (x4 : Int32) (x5 : Int32) (x6 : Int32) (x7 : Int32) (C : MC) (I : MI) (J : MJ) (R : MR) => ∃ m, m < n ∧ Q34 m (gK Γ) x0 x1 x2 x3 x4 x5 x6 x7 C I J R) (gK Γ) x0 x1 x2 x3 x4 x5 x7 s0 C I J R → AW Γ 0 0 C I J R 70 [(0, aR (some x0)), (1, aI x1), (2, aI x2), (3, aI x3), (4, aI x4), (5, aI x5), (7, aI x7)] [aI s0] := fun x0 x1 x2 x3 x4 x5 x7 s0 C I J R h => bX2_grade_70 G w71 h
    have w26 : ∀ (x0 : Nat) (x1 : Int32) (x2 : Int32) (x3 : Int32) (x4 : Int32) (s0 : Int32) (C : MC) (I : MI) (J : MJ) (R : MR), PX2_grade_26 F_X2_isLeaf F_X2_isPrice F_X2_wrongWeights F_X2_takeWeights F_X2_refuse (fun (x0 : Nat) (x1 : Int32) (x2 : Int32) (x3 : Int32) (x4 : Int32) (x5 : Int32) (x6 : Int32) (x7 : Int32) (C : MC) (I : MI) (J : MJ) (R : MR) => ∃ m, m < n ∧ Q34 m (gK Γ) x0 x1 x2 x3 x4 x5 x6 x7 C I J R) (gK Γ) x0 x1 x2 x3 x4 s0 C I J R → AW Γ 0 0 C I J R 26 [(0, aR (some x0)), (1, aI x1), (2, aI x2), (3, aI x3), (4, aI x4)] [aI s0] := fun x0 x1 x2 x3 x4 s0 C I J R h => bX2_grade_26 G w34 h
    have w16 : ∀ (x0 : Nat) (x1 : Int32) (x2 : Int32) (x3 : Int32) (x4 : Int32) (C : MC) (I : MI) (J : MJ) (R : MR), PX2_grade_16 F_X2_isLeaf F_X2_isPrice F_X2_wrongWeights F_X2_takeWeights F_X2_refuse (fun (x0 : Nat) (x1 : Int32) (x2 : Int32) (x3 : Int32) (x4 : Int32) (x5 : Int32) (x6 : Int32) (x7 : Int32) (C : MC) (I : MI) (J : MJ) (R : MR) => ∃ m, m < n ∧ Q34 m (gK Γ) x0 x1 x2 x3 x4 x5 x6 x7 C I J R) (gK Γ) x0 x1 x2 x3 x4 C I J R → AW Γ 0 0 C I J R 16 [(0, aR (some x0)), (1, aI x1), (2, aI x2), (3, aI x3), (4, aI x4)] [] := fun x0 x1 x2 x3 x4 C I J R h => bX2_grade_16 G w26 h
    exact fun x0 x1 x2 x3 x4 x5 x6 x7 C I J R h => bX2_grade_34 G w70 w71 w111 w114 (h34 n (gK Γ) x0 x1 x2 x3 x4 x5 x6 x7 C I J R h)
  have w34 : ∀ (x0 : Nat) (x1 : Int32) (x2 : Int32) (x3 : Int32) (x4 : Int32) (x5 : Int32) (x6 : Int32) (x7 : Int32) (C : MC) (I : MI) (J : MJ) (R : MR), (∃ n, Q34 n (gK Γ) x0 x1 x2 x3 x4 x5 x6 x7 C I J R) → AW Γ 0 0 C I J R 34 [(0, aR (some x0)), (1, aI x1), (2, aI x2), (3, aI x3), (4, aI x4), (5, aI x5), (6, aI x6), (7, aI x7)] [] := fun x0 x1 x2 x3 x4 x5 x6 x7 C I J R ⟨m, hq⟩ => (key m) x0 x1 x2 x3 x4 x5 x6 x7 C I J R hq
  have w114 : ∀ (x0 : Nat) (x1 : Int32) (x2 : Int32) (x3 : Int32) (x4 : Int32) (x5 : Int32) (C : MC) (I : MI) (J : MJ) (R : MR), PX2_grade_114 F_X2_isLeaf F_X2_isPrice F_X2_wrongWeights F_X2_takeWeights F_X2_refuse (fun (x0 : Nat) (x1 : Int32) (x2 : Int32) (x3 : Int32) (x4 : Int32) (x5 : Int32) (x6 : Int32) (x7 : Int32) (C : MC) (I : MI) (J : MJ) (R : MR) => ∃ n, Q34 n (gK Γ) x0 x1 x2 x3 x4 x5 x6 x7 C I J R) (gK Γ) x0 x1 x2 x3 x4 x5 C I J R → AW Γ 0 0 C I J R 114 [(0, aR (some x0)), (1, aI x1), (2, aI x2), (3, aI x3), (4, aI x4), (5, aI x5)] [] := fun x0 x1 x2 x3 x4 x5 C I J R h => bX2_grade_114 G S_X2_takeWeights S_X2_refuse h
  have w111 : ∀ (x0 : Nat) (x1 : Int32) (x2 : Int32) (x3 : Int32) (x4 : Int32) (C : MC) (I : MI) (J : MJ) (R : MR), PX2_grade_111 F_X2_isLeaf F_X2_isPrice F_X2_wrongWeights F_X2_takeWeights F_X2_refuse (fun (x0 : Nat) (x1 : Int32) (x2 : Int32) (x3 : Int32) (x4 : Int32) (x5 : Int32) (x6 : Int32) (x7 : Int32) (C : MC) (I : MI) (J : MJ) (R : MR) => ∃ n, Q34 n (gK Γ) x0 x1 x2 x3 x4 x5 x6 x7 C I J R) (gK Γ) x0 x1 x2 x3 x4 C I J R → AW Γ 0 0 C I J R 111 [(0, aR (some x0)), (1, aI x1), (2, aI x2), (3, aI x3), (4, aI x4)] [] := fun x0 x1 x2 x3 x4 C I J R h => bX2_grade_111 G w114 h
  have w71 : ∀ (x0 : Nat) (x1 : Int32) (x2 : Int32) (x3 : Int32) (x4 : Int32) (x5 : Int32) (x7 : Int32) (s0 : Int32) (s1 : Int32) (C : MC) (I : MI) (J : MJ) (R : MR), PX2_grade_71 F_X2_isLeaf F_X2_isPrice F_X2_wrongWeights F_X2_takeWeights F_X2_refuse (fun (x0 : Nat) (x1 : Int32) (x2 : Int32) (x3 : Int32) (x4 : Int32) (x5 : Int32) (x6 : Int32) (x7 : Int32) (C : MC) (I : MI) (J : MJ) (R : MR) => ∃ n, Q34 n (gK Γ) x0 x1 x2 x3 x4 x5 x6 x7 C I J R) (gK Γ) x0 x1 x2 x3 x4 x5 x7 s0 s1 C I J R → AW Γ 0 0 C I J R 71 [(0, aR (some x0)), (1, aI x1), (2, aI x2), (3, aI x3), (4, aI x4), (5, aI x5), (7, aI x7)] [aI s1, aI s0] := fun x0 x1 x2 x3 x4 x5 x7 s0 s1 C I J R h => bX2_grade_71 G w34 h
  have w70 : ∀ (x0 : Nat) (x1 : Int32) (x2 : Int32) (x3 : Int32) (x4 : Int32) (x5 : Int32) (x7 : Int32) (s0 : Int32) (C : MC) (I : MI) (J : MJ) (R : MR), PX2_grade_70 F_X2_isLeaf F_X2_isPrice F_X2_wrongWeights F_X2_takeWeights F_X2_refuse (fun (x0 : Nat) (x1 : Int32) (x2 : Int32) (x3 : Int32) (x4 : Int32) (x5 : Int32) (x6 : Int32) (x7 : Int32) (C : MC) (I : MI) (J : MJ) (R : MR) => ∃ n, Q34 n (gK Γ) x0 x1 x2 x3 x4 x5 x6 x7 C I J R) (gK Γ) x0 x1 x2 x3 x4 x5 x7 s0 C I J R → AW Γ 0 0 C I J R 70 [(0, aR (some x0)), (1, aI x1), (2, aI x2), (3, aI x3), (4, aI x4), (5, aI x5), (7, aI x7)] [aI s0] := fun x0 x1 x2 x3 x4 x5 x7 s0 C I J R h => bX2_grade_70 G w71 h
  have w26 : ∀ (x0 : Nat) (x1 : Int32) (x2 : Int32) (x3 : Int32) (x4 : Int32) (s0 : Int32) (C : MC) (I : MI) (J : MJ) (R : MR), PX2_grade_26 F_X2_isLeaf F_X2_isPrice F_X2_wrongWeights F_X2_takeWeights F_X2_refuse (fun (x0 : Nat) (x1 : Int32) (x2 : Int32) (x3 : Int32) (x4 : Int32) (x5 : Int32) (x6 : Int32) (x7 : Int32) (C : MC) (I : MI) (J : MJ) (R : MR) => ∃ n, Q34 n (gK Γ) x0 x1 x2 x3 x4 x5 x6 x7 C I J R) (gK Γ) x0 x1 x2 x3 x4 s0 C I J R → AW Γ 0 0 C I J R 26 [(0, aR (some x0)), (1, aI x1), (2, aI x2), (3, aI x3), (4, aI x4)] [aI s0] := fun x0 x1 x2 x3 x4 s0 C I J R h => bX2_grade_26 G w34 h
  have w16 : ∀ (x0 : Nat) (x1 : Int32) (x2 : Int32) (x3 : Int32) (x4 : Int32) (C : MC) (I : MI) (J : MJ) (R : MR), PX2_grade_16 F_X2_isLeaf F_X2_isPrice F_X2_wrongWeights F_X2_takeWeights F_X2_refuse (fun (x0 : Nat) (x1 : Int32) (x2 : Int32) (x3 : Int32) (x4 : Int32) (x5 : Int32) (x6 : Int32) (x7 : Int32) (C : MC) (I : MI) (J : MJ) (R : MR) => ∃ n, Q34 n (gK Γ) x0 x1 x2 x3 x4 x5 x6 x7 C I J R) (gK Γ) x0 x1 x2 x3 x4 C I J R → AW Γ 0 0 C I J R 16 [(0, aR (some x0)), (1, aI x1), (2, aI x2), (3, aI x3), (4, aI x4)] [] := fun x0 x1 x2 x3 x4 C I J R h => bX2_grade_16 G w26 h
  obtain ⟨x0, x1, x2, x3, x4, rfl, h⟩ := h0 As C I J R (gK Γ) hF
  exact ⟨Nat.le_of_ble_eq_true rfl, bX2_grade_0 G S_X2_isLeaf S_X2_isPrice S_X2_wrongWeights w16 w26 h⟩
def PX2_best_271 (F_X2_isThing : SPF) (F_X2_refuse : SPF) (F_X2_isShare : SPF) (F_X2_usual : SPF) (F_X2_tables : SPF) (F_X2_has : SPF) (F_X2_by0 : SPF) (F_X2_isEnough : SPF) (F_X2_next : SPF) (Q43 : Nat → Int32 → Int32 → Int32 → Int32 → Int32 → Int32 → MC → MI → MJ → MR → Prop) (Q79 : Nat → Int32 → Int32 → Int32 → Int32 → Int32 → Int32 → Int32 → MC → MI → MJ → MR → Prop) (Q183 : Nat → Int32 → Int32 → Int32 → Int32 → Int32 → Int32 → MC → MI → MJ → MR → Prop) (Q271 : Nat → Int32 → Int32 → MC → MI → MJ → MR → Prop) (K : AK) (x0 : Nat) (x5 : Int32) (x7 : Int32) (C : MC) (I : MI) (J : MJ) (R : MR) : Prop :=
      (C x0).1 = 3 ∧
      (((I x0 6) ≤ x7 →
      ∀ I3 : MI, I3 = va_up I x0 (va_up (I x0) 0 (0 : Int32)) →
      K (.inl (some (aI x5))) C I3 J R) ∧
      (¬ (I x0 6) ≤ x7 →
      ∃ q4 : Nat, R x0 37 = some q4 ∧
      (C q4).1 = 20 ∧
      vp_in x7 (C q4).2 ∧
      ∃ q7 : Nat, R x0 17 = some q7 ∧
      (C q7).1 = 20 ∧
      vp_in x7 (C q7).2 ∧
      ∀ I10 : MI, I10 = va_up I q7 (va_up (I q7) x7.toNatClampNeg (I q4 x7.toNatClampNeg)) →
      Q271 x0 x5 (x7 + 1) C I10 J R))
def PX2_best_236 (F_X2_isThing : SPF) (F_X2_refuse : SPF) (F_X2_isShare : SPF) (F_X2_usual : SPF) (F_X2_tables : SPF) (F_X2_has : SPF) (F_X2_by0 : SPF) (F_X2_isEnough : SPF) (F_X2_next : SPF) (Q43 : Nat → Int32 → Int32 → Int32 → Int32 → Int32 → Int32 → MC → MI → MJ → MR → Prop) (Q79 : Nat → Int32 → Int32 → Int32 → Int32 → Int32 → Int32 → Int32 → MC → MI → MJ → MR → Prop) (Q183 : Nat → Int32 → Int32 → Int32 → Int32 → Int32 → Int32 → MC → MI → MJ → MR → Prop) (Q271 : Nat → Int32 → Int32 → MC → MI → MJ → MR → Prop) (K : AK) (x0 : Nat) (x1 : Int32) (x2 : Int32) (x3 : Int32) (x4 : Int32) (x5 : Int32) (C : MC) (I : MI) (J : MJ) (R : MR) : Prop :=
      (C x0).1 = 3 ∧
      F_X2_next [aR (some x0), aI x1] C I J R (fun o C2 I3 J4 R5 =>
      ∃ r6 : Int32, o = .inl (some (aI r6)) ∧
      Q43 x0 x1 x2 x3 x4 x5 r6 C2 I3 J4 R5)
def PX2_best_229 (F_X2_isThing : SPF) (F_X2_refuse : SPF) (F_X2_isShare : SPF) (F_X2_usual : SPF) (F_X2_tables : SPF) (F_X2_has : SPF) (F_X2_by0 : SPF) (F_X2_isEnough : SPF) (F_X2_next : SPF) (Q43 : Nat → Int32 → Int32 → Int32 → Int32 → Int32 → Int32 → MC → MI → MJ → MR → Prop) (Q79 : Nat → Int32 → Int32 → Int32 → Int32 → Int32 → Int32 → Int32 → MC → MI → MJ → MR → Prop) (Q183 : Nat → Int32 → Int32 → Int32 → Int32 → Int32 → Int32 → MC → MI → MJ → MR → Prop) (Q271 : Nat → Int32 → Int32 → MC → MI → MJ → MR → Prop) (K : AK) (x0 : Nat) (x1 : Int32) (x2 : Int32) (x3 : Int32) (x4 : Int32) (x5 : Int32) (x8 : Int32) (s0 : Option Nat) (s1 : Int32) (s2 : Int32) (C : MC) (I : MI) (J : MJ) (R : MR) : Prop :=
      ∃ q1 : Nat, s0 = some q1 ∧
      (C q1).1 = 20 ∧
      vp_in s1 (C q1).2 ∧
      ∀ I4 : MI, I4 = va_up I q1 (va_up (I q1) s1.toNatClampNeg s2) →
      Q183 x0 x1 x2 x3 x4 x5 (x8 + 1) C I4 J R
def PX2_best_228 (F_X2_isThing : SPF) (F_X2_refuse : SPF) (F_X2_isShare : SPF) (F_X2_usual : SPF) (F_X2_tables : SPF) (F_X2_has : SPF) (F_X2_by0 : SPF) (F_X2_isEnough : SPF) (F_X2_next : SPF) (Q43 : Nat → Int32 → Int32 → Int32 → Int32 → Int32 → Int32 → MC → MI → MJ → MR → Prop) (Q79 : Nat → Int32 → Int32 → Int32 → Int32 → Int32 → Int32 → Int32 → MC → MI → MJ → MR → Prop) (Q183 : Nat → Int32 → Int32 → Int32 → Int32 → Int32 → Int32 → MC → MI → MJ → MR → Prop) (Q271 : Nat → Int32 → Int32 → MC → MI → MJ → MR → Prop) (K : AK) (x0 : Nat) (x1 : Int32) (x2 : Int32) (x3 : Int32) (x4 : Int32) (x5 : Int32) (x8 : Int32) (s0 : Option Nat) (s1 : Int32) (C : MC) (I : MI) (J : MJ) (R : MR) : Prop :=
      PX2_best_229 F_X2_isThing F_X2_refuse F_X2_isShare F_X2_usual F_X2_tables F_X2_has F_X2_by0 F_X2_isEnough F_X2_next Q43 Q79 Q183 Q271 K x0 x1 x2 x3 x4 x5 x8 s0 s1 (-1 : Int32) C I J R
def PX2_best_183 (F_X2_isThing : SPF) (F_X2_refuse : SPF) (F_X2_isShare : SPF) (F_X2_usual : SPF) (F_X2_tables : SPF) (F_X2_has : SPF) (F_X2_by0 : SPF) (F_X2_isEnough : SPF) (F_X2_next : SPF) (Q43 : Nat → Int32 → Int32 → Int32 → Int32 → Int32 → Int32 → MC → MI → MJ → MR → Prop) (Q79 : Nat → Int32 → Int32 → Int32 → Int32 → Int32 → Int32 → Int32 → MC → MI → MJ → MR → Prop) (Q183 : Nat → Int32 → Int32 → Int32 → Int32 → Int32 → Int32 → MC → MI → MJ → MR → Prop) (Q271 : Nat → Int32 → Int32 → MC → MI → MJ → MR → Prop) (K : AK) (x0 : Nat) (x1 : Int32) (x2 : Int32) (x3 : Int32) (x4 : Int32) (x5 : Int32) (x8 : Int32) (C : MC) (I : MI) (J : MJ) (R : MR) : Prop :=
      (C x0).1 = 3 ∧
      (((I x0 6) ≤ x8 →
      PX2_best_236 F_X2_isThing F_X2_refuse F_X2_isShare F_X2_usual F_X2_tables F_X2_has F_X2_by0 F_X2_isEnough F_X2_next Q43 Q79 Q183 Q271 K x0 x1 x2 x3 x4 x5 C I J R) ∧
      (¬ (I x0 6) ≤ x8 →
      ∃ q3 : Nat, R x0 7 = some q3 ∧
      (C q3).1 = 20 ∧
      vp_in x8 (C q3).2 ∧
      ((¬ (I q3 x8.toNatClampNeg) = 0 →
      PX2_best_228 F_X2_isThing F_X2_refuse F_X2_isShare F_X2_usual F_X2_tables F_X2_has F_X2_by0 F_X2_isEnough F_X2_next Q43 Q79 Q183 Q271 K x0 x1 x2 x3 x4 x5 x8 (R x0 37) x8 C I J R) ∧
      ((I q3 x8.toNatClampNeg) = 0 →
      F_X2_has [aR (some x0), aI x1, aI x8] C I J R (fun o C7 I8 J9 R10 =>
      ∃ r11 : Int32, o = .inl (some (aI r11)) ∧
      ((r11 = 0 →
      PX2_best_228 F_X2_isThing F_X2_refuse F_X2_isShare F_X2_usual F_X2_tables F_X2_has F_X2_by0 F_X2_isEnough F_X2_next Q43 Q79 Q183 Q271 K x0 x1 x2 x3 x4 x5 x8 (R x0 37) x8 C7 I8 J9 R10) ∧
      (¬ r11 = 0 →
      (C7 x0).1 = 3 ∧
      ∃ q14 : Nat, R10 x0 15 = some q14 ∧
      (C7 q14).1 = 20 ∧
      vp_in x8 (C7 q14).2 ∧
      PX2_best_229 F_X2_isThing F_X2_refuse F_X2_isShare F_X2_usual F_X2_tables F_X2_has F_X2_by0 F_X2_isEnough F_X2_next Q43 Q79 Q183 Q271 K x0 x1 x2 x3 x4 x5 x8 (R x0 37) x8 (I8 q14 x8.toNatClampNeg) C7 I8 J9 R10)))))))
def PX2_best_153 (F_X2_isThing : SPF) (F_X2_refuse : SPF) (F_X2_isShare : SPF) (F_X2_usual : SPF) (F_X2_tables : SPF) (F_X2_has : SPF) (F_X2_by0 : SPF) (F_X2_isEnough : SPF) (F_X2_next : SPF) (Q43 : Nat → Int32 → Int32 → Int32 → Int32 → Int32 → Int32 → MC → MI → MJ → MR → Prop) (Q79 : Nat → Int32 → Int32 → Int32 → Int32 → Int32 → Int32 → Int32 → MC → MI → MJ → MR → Prop) (Q183 : Nat → Int32 → Int32 → Int32 → Int32 → Int32 → Int32 → MC → MI → MJ → MR → Prop) (Q271 : Nat → Int32 → Int32 → MC → MI → MJ → MR → Prop) (K : AK) (x0 : Nat) (x1 : Int32) (x2 : Int32) (x3 : Int32) (x4 : Int32) (x5 : Int32) (x7 : Int32) (C : MC) (I : MI) (J : MJ) (R : MR) : Prop :=
      (C x0).1 = 3 ∧
      F_X2_by0 [aR (some x0), aI x1, aI x2] C I J R (fun o C2 I3 J4 R5 =>
      ∃ r6 : Int64, o = .inl (some (aJ r6)) ∧
      (C2 x0).1 = 3 ∧
      ∃ q8 : Nat, R5 x0 24 = some q8 ∧
      (C2 q8).1 = 21 ∧
      vp_in x1 (C2 q8).2 ∧
      F_X2_isEnough [aJ r6, aJ (J4 q8 x1.toNatClampNeg), aJ x3.toInt64, aJ x4.toInt64] C2 I3 J4 R5 (fun o C11 I12 J13 R14 =>
      ∃ r15 : Int32, o = .inl (some (aI r15)) ∧
      ((r15 = 0 →
      PX2_best_236 F_X2_isThing F_X2_refuse F_X2_isShare F_X2_usual F_X2_tables F_X2_has F_X2_by0 F_X2_isEnough F_X2_next Q43 Q79 Q183 Q271 K x0 x1 x2 x3 x4 x5 C11 I12 J13 R14) ∧
      (¬ r15 = 0 →
      Q183 x0 x1 x2 x3 x4 x7 (0 : Int32) C11 I12 J13 R14))))
def PX2_best_131 (F_X2_isThing : SPF) (F_X2_refuse : SPF) (F_X2_isShare : SPF) (F_X2_usual : SPF) (F_X2_tables : SPF) (F_X2_has : SPF) (F_X2_by0 : SPF) (F_X2_isEnough : SPF) (F_X2_next : SPF) (Q43 : Nat → Int32 → Int32 → Int32 → Int32 → Int32 → Int32 → MC → MI → MJ → MR → Prop) (Q79 : Nat → Int32 → Int32 → Int32 → Int32 → Int32 → Int32 → Int32 → MC → MI → MJ → MR → Prop) (Q183 : Nat → Int32 → Int32 → Int32 → Int32 → Int32 → Int32 → MC → MI → MJ → MR → Prop) (Q271 : Nat → Int32 → Int32 → MC → MI → MJ → MR → Prop) (K : AK) (x0 : Nat) (x1 : Int32) (x2 : Int32) (x3 : Int32) (x4 : Int32) (x5 : Int32) (x8 : Int32) (s0 : Int32) (s1 : Int32) (C : MC) (I : MI) (J : MJ) (R : MR) : Prop :=
      Q79 x0 x1 x2 x3 x4 x5 (s0 + s1) (x8 + 1) C I J R
def PX2_best_130 (F_X2_isThing : SPF) (F_X2_refuse : SPF) (F_X2_isShare : SPF) (F_X2_usual : SPF) (F_X2_tables : SPF) (F_X2_has : SPF) (F_X2_by0 : SPF) (F_X2_isEnough : SPF) (F_X2_next : SPF) (Q43 : Nat → Int32 → Int32 → Int32 → Int32 → Int32 → Int32 → MC → MI → MJ → MR → Prop) (Q79 : Nat → Int32 → Int32 → Int32 → Int32 → Int32 → Int32 → Int32 → MC → MI → MJ → MR → Prop) (Q183 : Nat → Int32 → Int32 → Int32 → Int32 → Int32 → Int32 → MC → MI → MJ → MR → Prop) (Q271 : Nat → Int32 → Int32 → MC → MI → MJ → MR → Prop) (K : AK) (x0 : Nat) (x1 : Int32) (x2 : Int32) (x3 : Int32) (x4 : Int32) (x5 : Int32) (x8 : Int32) (s0 : Int32) (C : MC) (I : MI) (J : MJ) (R : MR) : Prop :=
      PX2_best_131 F_X2_isThing F_X2_refuse F_X2_isShare F_X2_usual F_X2_tables F_X2_has F_X2_by0 F_X2_isEnough F_X2_next Q43 Q79 Q183 Q271 K x0 x1 x2 x3 x4 x5 x8 s0 (0 : Int32) C I J R
def PX2_best_79 (F_X2_isThing : SPF) (F_X2_refuse : SPF) (F_X2_isShare : SPF) (F_X2_usual : SPF) (F_X2_tables : SPF) (F_X2_has : SPF) (F_X2_by0 : SPF) (F_X2_isEnough : SPF) (F_X2_next : SPF) (Q43 : Nat → Int32 → Int32 → Int32 → Int32 → Int32 → Int32 → MC → MI → MJ → MR → Prop) (Q79 : Nat → Int32 → Int32 → Int32 → Int32 → Int32 → Int32 → Int32 → MC → MI → MJ → MR → Prop) (Q183 : Nat → Int32 → Int32 → Int32 → Int32 → Int32 → Int32 → MC → MI → MJ → MR → Prop) (Q271 : Nat → Int32 → Int32 → MC → MI → MJ → MR → Prop) (K : AK) (x0 : Nat) (x1 : Int32) (x2 : Int32) (x3 : Int32) (x4 : Int32) (x5 : Int32) (x7 : Int32) (x8 : Int32) (C : MC) (I : MI) (J : MJ) (R : MR) : Prop :=
      (C x0).1 = 3 ∧
      (((I x0 6) ≤ x8 →
      ((x5 = (-1 : Int32) →
      PX2_best_153 F_X2_isThing F_X2_refuse F_X2_isShare F_X2_usual F_X2_tables F_X2_has F_X2_by0 F_X2_isEnough F_X2_next Q43 Q79 Q183 Q271 K x0 x1 x2 x3 x4 x5 x7 C I J R) ∧
      (¬ x5 = (-1 : Int32) →
      ((x5 ≤ x7 →
      PX2_best_236 F_X2_isThing F_X2_refuse F_X2_isShare F_X2_usual F_X2_tables F_X2_has F_X2_by0 F_X2_isEnough F_X2_next Q43 Q79 Q183 Q271 K x0 x1 x2 x3 x4 x5 C I J R) ∧
      (¬ x5 ≤ x7 →
      PX2_best_153 F_X2_isThing F_X2_refuse F_X2_isShare F_X2_usual F_X2_tables F_X2_has F_X2_by0 F_X2_isEnough F_X2_next Q43 Q79 Q183 Q271 K x0 x1 x2 x3 x4 x5 x7 C I J R))))) ∧
      (¬ (I x0 6) ≤ x8 →
      ∃ q5 : Nat, R x0 7 = some q5 ∧
      (C q5).1 = 20 ∧
      vp_in x8 (C q5).2 ∧
      ((¬ (I q5 x8.toNatClampNeg) = 0 →
      PX2_best_130 F_X2_isThing F_X2_refuse F_X2_isShare F_X2_usual F_X2_tables F_X2_has F_X2_by0 F_X2_isEnough F_X2_next Q43 Q79 Q183 Q271 K x0 x1 x2 x3 x4 x5 x8 x7 C I J R) ∧
      ((I q5 x8.toNatClampNeg) = 0 →
      F_X2_has [aR (some x0), aI x1, aI x8] C I J R (fun o C9 I10 J11 R12 =>
      ∃ r13 : Int32, o = .inl (some (aI r13)) ∧
      ((r13 = 0 →
      PX2_best_130 F_X2_isThing F_X2_refuse F_X2_isShare F_X2_usual F_X2_tables F_X2_has F_X2_by0 F_X2_isEnough F_X2_next Q43 Q79 Q183 Q271 K x0 x1 x2 x3 x4 x5 x8 x7 C9 I10 J11 R12) ∧
      (¬ r13 = 0 →
      (C9 x0).1 = 3 ∧
      ∃ q16 : Nat, R12 x0 15 = some q16 ∧
      (C9 q16).1 = 20 ∧
      vp_in x8 (C9 q16).2 ∧
      ∃ q19 : Nat, R12 x0 13 = some q19 ∧
      (C9 q19).1 = 20 ∧
      vp_in (((3 : Int32) * x8) + (I10 q16 x8.toNatClampNeg)) (C9 q19).2 ∧
      PX2_best_131 F_X2_isThing F_X2_refuse F_X2_isShare F_X2_usual F_X2_tables F_X2_has F_X2_by0 F_X2_isEnough F_X2_next Q43 Q79 Q183 Q271 K x0 x1 x2 x3 x4 x5 x8 x7 (I10 q19 (((3 : Int32) * x8) + (I10 q16 x8.toNatClampNeg)).toNatClampNeg) C9 I10 J11 R12)))))))
def PX2_best_43 (F_X2_isThing : SPF) (F_X2_refuse : SPF) (F_X2_isShare : SPF) (F_X2_usual : SPF) (F_X2_tables : SPF) (F_X2_has : SPF) (F_X2_by0 : SPF) (F_X2_isEnough : SPF) (F_X2_next : SPF) (Q43 : Nat → Int32 → Int32 → Int32 → Int32 → Int32 → Int32 → MC → MI → MJ → MR → Prop) (Q79 : Nat → Int32 → Int32 → Int32 → Int32 → Int32 → Int32 → Int32 → MC → MI → MJ → MR → Prop) (Q183 : Nat → Int32 → Int32 → Int32 → Int32 → Int32 → Int32 → MC → MI → MJ → MR → Prop) (Q271 : Nat → Int32 → Int32 → MC → MI → MJ → MR → Prop) (K : AK) (x0 : Nat) (x1 : Int32) (x2 : Int32) (x3 : Int32) (x4 : Int32) (x5 : Int32) (x6 : Int32) (C : MC) (I : MI) (J : MJ) (R : MR) : Prop :=
      ((x6 = 0 →
      (C x0).1 = 3 ∧
      F_X2_usual [aR (some x0)] C I J R (fun o C3 I4 J5 R6 =>
      o = .inl none ∧
      ((¬ x5 = (-1 : Int32) →
      (C3 x0).1 = 3 ∧
      ∀ I10 : MI, I10 = va_up I4 x0 (va_up (I4 x0) 21 (1 : Int32)) →
      Q271 x0 x5 (0 : Int32) C3 I10 J5 R6) ∧
      (x5 = (-1 : Int32) →
      (C3 x0).1 = 3 ∧
      F_X2_refuse [aR (some x0), aI (6 : Int32)] C3 I4 J5 R6 (fun o C12 I13 J14 R15 =>
      ∃ r16 : Int32, o = .inl (some (aI r16)) ∧
      K (.inl (some (aI r16))) C12 I13 J14 R15))))) ∧
      (¬ x6 = 0 →
      (C x0).1 = 3 ∧
      F_X2_tables [aR (some x0), aI x1] C I J R (fun o C18 I19 J20 R21 =>
      o = .inl none ∧
      (C18 x0).1 = 3 ∧
      ∃ q24 : Nat, R21 x0 25 = some q24 ∧
      (C18 q24).1 = 24 ∧
      vp_in x1 (C18 q24).2 ∧
      (((I19 q24 x1.toNatClampNeg) = 0 →
      Q79 x0 x1 x2 x3 x4 x5 (0 : Int32) (0 : Int32) C18 I19 J20 R21) ∧
      (¬ (I19 q24 x1.toNatClampNeg) = 0 →
      F_X2_usual [aR (some x0)] C18 I19 J20 R21 (fun o C28 I29 J30 R31 =>
      o = .inl none ∧
      (C28 x0).1 = 3 ∧
      F_X2_refuse [aR (some x0), aI (9 : Int32)] C28 I29 J30 R31 (fun o C34 I35 J36 R37 =>
      ∃ r38 : Int32, o = .inl (some (aI r38)) ∧
      K (.inl (some (aI r38))) C34 I35 J36 R37)))))))
def PX2_best_0 (F_X2_isThing : SPF) (F_X2_refuse : SPF) (F_X2_isShare : SPF) (F_X2_usual : SPF) (F_X2_tables : SPF) (F_X2_has : SPF) (F_X2_by0 : SPF) (F_X2_isEnough : SPF) (F_X2_next : SPF) (Q43 : Nat → Int32 → Int32 → Int32 → Int32 → Int32 → Int32 → MC → MI → MJ → MR → Prop) (Q79 : Nat → Int32 → Int32 → Int32 → Int32 → Int32 → Int32 → Int32 → MC → MI → MJ → MR → Prop) (Q183 : Nat → Int32 → Int32 → Int32 → Int32 → Int32 → Int32 → MC → MI → MJ → MR → Prop) (Q271 : Nat → Int32 → Int32 → MC → MI → MJ → MR → Prop) (K : AK) (x0 : Nat) (x1 : Int32) (x2 : Int32) (x3 : Int32) (x4 : Int32) (C : MC) (I : MI) (J : MJ) (R : MR) : Prop :=
      (C x0).1 = 3 ∧
      F_X2_isThing [aR (some x0), aI x1] C I J R (fun o C2 I3 J4 R5 =>
      ∃ r6 : Int32, o = .inl (some (aI r6)) ∧
      ((r6 = 0 →
      (C2 x0).1 = 3 ∧
      F_X2_refuse [aR (some x0), aI (1 : Int32)] C2 I3 J4 R5 (fun o C9 I10 J11 R12 =>
      ∃ r13 : Int32, o = .inl (some (aI r13)) ∧
      K (.inl (some (aI r13))) C9 I10 J11 R12)) ∧
      (¬ r6 = 0 →
      ((x2 < 0 →
      (C2 x0).1 = 3 ∧
      F_X2_refuse [aR (some x0), aI (1 : Int32)] C2 I3 J4 R5 (fun o C16 I17 J18 R19 =>
      ∃ r20 : Int32, o = .inl (some (aI r20)) ∧
      K (.inl (some (aI r20))) C16 I17 J18 R19)) ∧
      (¬ x2 < 0 →
      (((121 : Int32) ≤ x2 →
      (C2 x0).1 = 3 ∧
      F_X2_refuse [aR (some x0), aI (1 : Int32)] C2 I3 J4 R5 (fun o C23 I24 J25 R26 =>
      ∃ r27 : Int32, o = .inl (some (aI r27)) ∧
      K (.inl (some (aI r27))) C23 I24 J25 R26)) ∧
      (¬ (121 : Int32) ≤ x2 →
      F_X2_isShare [aI x3, aI x4] C2 I3 J4 R5 (fun o C28 I29 J30 R31 =>
      ∃ r32 : Int32, o = .inl (some (aI r32)) ∧
      ((¬ r32 = 0 →
      (C28 x0).1 = 3 ∧
      F_X2_usual [aR (some x0)] C28 I29 J30 R31 (fun o C35 I36 J37 R38 =>
      o = .inl none ∧
      Q43 x0 x1 x2 x3 x4 (-1 : Int32) (1 : Int32) C35 I36 J37 R38)) ∧
      (r32 = 0 →
      (C28 x0).1 = 3 ∧
      F_X2_refuse [aR (some x0), aI (1 : Int32)] C28 I29 J30 R31 (fun o C41 I42 J43 R44 =>
      ∃ r45 : Int32, o = .inl (some (aI r45)) ∧
      K (.inl (some (aI r45))) C41 I42 J43 R44)))))))))))
theorem wX2_best {l : Launch}  {F_X2_isThing : SPF} (S_X2_isThing : SpX2_isThing l F_X2_isThing) {F_X2_refuse : SPF} (S_X2_refuse : SpX2_refuse l F_X2_refuse) {F_X2_isShare : SPF} (S_X2_isShare : SpX2_isShare l F_X2_isShare) {F_X2_usual : SPF} (S_X2_usual : SpX2_usual l F_X2_usual) {F_X2_tables : SPF} (S_X2_tables : SpX2_tables l F_X2_tables) {F_X2_has : SPF} (S_X2_has : SpX2_has l F_X2_has) {F_X2_by0 : SPF} (S_X2_by0 : SpX2_by0 l F_X2_by0) {F_X2_isEnough : SPF} (S_X2_isEnough : SpX2_isEnough l F_X2_isEnough) {F_X2_next : SPF} (S_X2_next : SpX2_next l F_X2_next)
    (Q43 : Nat → AK → Nat → Int32 → Int32 → Int32 → Int32 → Int32 → Int32 → MC → MI → MJ → MR → Prop)
    (Q79 : Nat → AK → Nat → Int32 → Int32 → Int32 → Int32 → Int32 → Int32 → Int32 → MC → MI → MJ → MR → Prop)
    (Q183 : Nat → AK → Nat → Int32 → Int32 → Int32 → Int32 → Int32 → Int32 → MC → MI → MJ → MR → Prop)
    (Q271 : Nat → AK → Nat → Int32 → Int32 → MC → MI → MJ → MR → Prop) {F : SPF}
    (h0 : ∀ (As : List AV) (C : MC) (I : MI) (J : MJ) (R : MR) (K : AK), F As C I J R K → ∃ (x0 : Nat) (x1 : Int32) (x2 : Int32) (x3 : Int32) (x4 : Int32), As = [aR (some x0), aI x1, aI x2, aI x3, aI x4] ∧ PX2_best_0 F_X2_isThing F_X2_refuse F_X2_isShare F_X2_usual F_X2_tables F_X2_has F_X2_by0 F_X2_isEnough F_X2_next (fun (x0 : Nat) (x1 : Int32) (x2 : Int32) (x3 : Int32) (x4 : Int32) (x5 : Int32) (x6 : Int32) (C : MC) (I : MI) (J : MJ) (R : MR) => ∃ n, Q43 n K x0 x1 x2 x3 x4 x5 x6 C I J R) (fun (x0 : Nat) (x1 : Int32) (x2 : Int32) (x3 : Int32) (x4 : Int32) (x5 : Int32) (x7 : Int32) (x8 : Int32) (C : MC) (I : MI) (J : MJ) (R : MR) => ∃ n, Q79 n K x0 x1 x2 x3 x4 x5 x7 x8 C I J R) (fun (x0 : Nat) (x1 : Int32) (x2 : Int32) (x3 : Int32) (x4 : Int32) (x5 : Int32) (x8 : Int32) (C : MC) (I : MI) (J : MJ) (R : MR) => ∃ n, Q183 n K x0 x1 x2 x3 x4 x5 x8 C I J R) (fun (x0 : Nat) (x5 : Int32) (x7 : Int32) (C : MC) (I : MI) (J : MJ) (R : MR) => ∃ n, Q271 n K x0 x5 x7 C I J R) K x0 x1 x2 x3 x4 C I J R)
    (h43 : ∀ (n : Nat) (K : AK) (x0 : Nat) (x1 : Int32) (x2 : Int32) (x3 : Int32) (x4 : Int32) (x5 : Int32) (x6 : Int32) (C : MC) (I : MI) (J : MJ) (R : MR), Q43 n K x0 x1 x2 x3 x4 x5 x6 C I J R → PX2_best_43 F_X2_isThing F_X2_refuse F_X2_isShare F_X2_usual F_X2_tables F_X2_has F_X2_by0 F_X2_isEnough F_X2_next (fun (x0 : Nat) (x1 : Int32) (x2 : Int32) (x3 : Int32) (x4 : Int32) (x5 : Int32) (x6 : Int32) (C : MC) (I : MI) (J : MJ) (R : MR) => ∃ m, m < n ∧ Q43 m K x0 x1 x2 x3 x4 x5 x6 C I J R) (fun (x0 : Nat) (x1 : Int32) (x2 : Int32) (x3 : Int32) (x4 : Int32) (x5 : Int32) (x7 : Int32) (x8 : Int32) (C : MC) (I : MI) (J : MJ) (R : MR) => ∃ m, m < n ∧ Q79 m K x0 x1 x2 x3 x4 x5 x7 x8 C I J R) (fun (x0 : Nat) (x1 : Int32) (x2 : Int32) (x3 : Int32) (x4 : Int32) (x5 : Int32) (x8 : Int32) (C : MC) (I : MI) (J : MJ) (R : MR) => ∃ m, m < n ∧ Q183 m K x0 x1 x2 x3 x4 x5 x8 C I J R) (fun (x0 : Nat) (x5 : Int32) (x7 : Int32) (C : MC) (I : MI) (J : MJ) (R : MR) => ∃ m, m < n ∧ Q271 m K x0 x5 x7 C I J R) K x0 x1 x2 x3 x4 x5 x6 C I J R)
    (h79 : ∀ (n : Nat) (K : AK) (x0 : Nat) (x1 : Int32) (x2 : Int32) (x3 : Int32) (x4 : Int32) (x5 : Int32) (x7 : Int32) (x8 : Int32) (C : MC) (I : MI) (J : MJ) (R : MR), Q79 n K x0 x1 x2 x3 x4 x5 x7 x8 C I J R → PX2_best_79 F_X2_isThing F_X2_refuse F_X2_isShare F_X2_usual F_X2_tables F_X2_has F_X2_by0 F_X2_isEnough F_X2_next (fun (x0 : Nat) (x1 : Int32) (x2 : Int32) (x3 : Int32) (x4 : Int32) (x5 : Int32) (x6 : Int32) (C : MC) (I : MI) (J : MJ) (R : MR) => ∃ m, m < n ∧ Q43 m K x0 x1 x2 x3 x4 x5 x6 C I J R) (fun (x0 : Nat) (x1 : Int32) (x2 : Int32) (x3 : Int32) (x4 : Int32) (x5 : Int32) (x7 : Int32) (x8 : Int32) (C : MC) (I : MI) (J : MJ) (R : MR) => ∃ m, m < n ∧ Q79 m K x0 x1 x2 x3 x4 x5 x7 x8 C I J R) (fun (x0 : Nat) (x1 : Int32) (x2 : Int32) (x3 : Int32) (x4 : Int32) (x5 : Int32) (x8 : Int32) (C : MC) (I : MI) (J : MJ) (R : MR) => ∃ m, m < n ∧ Q183 m K x0 x1 x2 x3 x4 x5 x8 C I J R) (fun (x0 : Nat) (x5 : Int32) (x7 : Int32) (C : MC) (I : MI) (J : MJ) (R : MR) => ∃ m, m < n ∧ Q271 m K x0 x5 x7 C I J R) K x0 x1 x2 x3 x4 x5 x7 x8 C I J R)
    (h183 : ∀ (n : Nat) (K : AK) (x0 : Nat) (x1 : Int32) (x2 : Int32) (x3 : Int32) (x4 : Int32) (x5 : Int32) (x8 : Int32) (C : MC) (I : MI) (J : MJ) (R : MR), Q183 n K x0 x1 x2 x3 x4 x5 x8 C I J R → PX2_best_183 F_X2_isThing F_X2_refuse F_X2_isShare F_X2_usual F_X2_tables F_X2_has F_X2_by0 F_X2_isEnough F_X2_next (fun (x0 : Nat) (x1 : Int32) (x2 : Int32) (x3 : Int32) (x4 : Int32) (x5 : Int32) (x6 : Int32) (C : MC) (I : MI) (J : MJ) (R : MR) => ∃ m, m < n ∧ Q43 m K x0 x1 x2 x3 x4 x5 x6 C I J R) (fun (x0 : Nat) (x1 : Int32) (x2 : Int32) (x3 : Int32) (x4 : Int32) (x5 : Int32) (x7 : Int32) (x8 : Int32) (C : MC) (I : MI) (J : MJ) (R : MR) => ∃ m, m < n ∧ Q79 m K x0 x1 x2 x3 x4 x5 x7 x8 C I J R) (fun (x0 : Nat) (x1 : Int32) (x2 : Int32) (x3 : Int32) (x4 : Int32) (x5 : Int32) (x8 : Int32) (C : MC) (I : MI) (J : MJ) (R : MR) => ∃ m, m < n ∧ Q183 m K x0 x1 x2 x3 x4 x5 x8 C I J R) (fun (x0 : Nat) (x5 : Int32) (x7 : Int32) (C : MC) (I : MI) (J : MJ) (R : MR) => ∃ m, m < n ∧ Q271 m K x0 x5 x7 C I J R) K x0 x1 x2 x3 x4 x5 x8 C I J R)
    (h271 : ∀ (n : Nat) (K : AK) (x0 : Nat) (x5 : Int32) (x7 : Int32) (C : MC) (I : MI) (J : MJ) (R : MR), Q271 n K x0 x5 x7 C I J R → PX2_best_271 F_X2_isThing F_X2_refuse F_X2_isShare F_X2_usual F_X2_tables F_X2_has F_X2_by0 F_X2_isEnough F_X2_next (fun (x0 : Nat) (x1 : Int32) (x2 : Int32) (x3 : Int32) (x4 : Int32) (x5 : Int32) (x6 : Int32) (C : MC) (I : MI) (J : MJ) (R : MR) => ∃ m, m < n ∧ Q43 m K x0 x1 x2 x3 x4 x5 x6 C I J R) (fun (x0 : Nat) (x1 : Int32) (x2 : Int32) (x3 : Int32) (x4 : Int32) (x5 : Int32) (x7 : Int32) (x8 : Int32) (C : MC) (I : MI) (J : MJ) (R : MR) => ∃ m, m < n ∧ Q79 m K x0 x1 x2 x3 x4 x5 x7 x8 C I J R) (fun (x0 : Nat) (x1 : Int32) (x2 : Int32) (x3 : Int32) (x4 : Int32) (x5 : Int32) (x8 : Int32) (C : MC) (I : MI) (J : MJ) (R : MR) => ∃ m, m < n ∧ Q183 m K x0 x1 x2 x3 x4 x5 x8 C I J R) (fun (x0 : Nat) (x5 : Int32) (x7 : Int32) (C : MC) (I : MI) (J : MJ) (R : MR) => ∃ m, m < n ∧ Q271 m K x0 x5 x7 C I J R) K x0 x5 x7 C I J R) : SpX2_best l F := by
  refine Spec.of (by rfl) ?_
  intro Γ C I J R As Gd gl gr _ _ gb hF
  subst gl
  have G : Gb Γ yX2_best cX2_best 9 (some .int) [] rmX2_best bdX2_best := ⟨Gd, gr, gb⟩
  have key : ∀ n : Nat, (∀ (x0 : Nat) (x1 : Int32) (x2 : Int32) (x3 : Int32) (x4 : Int32) (x5 : Int32) (x6 : Int32) (C : MC) (I : MI) (J : MJ) (R : MR), Q43 n (gK Γ) x0 x1 x2 x3 x4 x5 x6 C I J R → AW Γ 0 0 C I J R 43 [(0, aR (some x0)), (1, aI x1), (2, aI x2), (3, aI x3), (4, aI x4), (5, aI x5), (6, aI x6)] []) ∧ (∀ (x0 : Nat) (x1 : Int32) (x2 : Int32) (x3 : Int32) (x4 : Int32) (x5 : Int32) (x7 : Int32) (x8 : Int32) (C : MC) (I : MI) (J : MJ) (R : MR), Q79 n (gK Γ) x0 x1 x2 x3 x4 x5 x7 x8 C I J R → AW Γ 0 0 C I J R 79 [(0, aR (some x0)), (1, aI x1), (2, aI x2), (3, aI x3), (4, aI x4), (5, aI x5), (7, aI x7), (8, aI x8)] []) ∧ (∀ (x0 : Nat) (x1 : Int32) (x2 : Int32) (x3 : Int32) (x4 : Int32) (x5 : Int32) (x8 : Int32) (C : MC) (I : MI) (J : MJ) (R : MR), Q183 n (gK Γ) x0 x1 x2 x3 x4 x5 x8 C I J R → AW Γ 0 0 C I J R 183 [(0, aR (some x0)), (1, aI x1), (2, aI x2), (3, aI x3), (4, aI x4), (5, aI x5), (8, aI x8)] []) ∧ (∀ (x0 : Nat) (x5 : Int32) (x7 : Int32) (C : MC) (I : MI) (J : MJ) (R : MR), Q271 n (gK Γ) x0 x5 x7 C I J R → AW Γ 0 0 C I J R 271 [(0, aR (some x0)), (5, aI x5), (7, aI x7)] []) := by
    intro n
    induction n using Nat.strongRecOn with
    | ind n ih =>
    have w43 : ∀ (x0 : Nat) (x1 : Int32) (x2 : Int32) (x3 : Int32) (x4 : Int32) (x5 : Int32) (x6 : Int32) (C : MC) (I : MI) (J : MJ) (R : MR), (∃ m, m < n ∧ Q43 m (gK Γ) x0 x1 x2 x3 x4 x5 x6 C I J R) → AW Γ 0 0 C I J R 43 [(0, aR (some x0)), (1, aI x1), (2, aI x2), (3, aI x3), (4, aI x4), (5, aI x5), (6, aI x6)] [] := fun x0 x1 x2 x3 x4 x5 x6 C I J R ⟨m, hm, hq⟩ => (ih m hm).1 x0 x1 x2 x3 x4 x5 x6 C I J R hq
    have w79 : ∀ (x0 : Nat) (x1 : Int32) (x2 : Int32) (x3 : Int32) (x4 : Int32) (x5 : Int32) (x7 : Int32) (x8 : Int32) (C : MC) (I : MI) (J : MJ) (R : MR), (∃ m, m < n ∧ Q79 m (gK Γ) x0 x1 x2 x3 x4 x5 x7 x8 C I J R) → AW Γ 0 0 C I J R 79 [(0, aR (some x0)), (1, aI x1), (2, aI x2), (3, aI x3), (4, aI x4), (5, aI x5), (7, aI x7), (8, aI x8)] [] := fun x0 x1 x2 x3 x4 x5 x7 x8 C I J R ⟨m, hm, hq⟩ => (ih m hm).2.1 x0 x1 x2 x3 x4 x5 x7 x8 C I J R hq
    have w183 : ∀ (x0 : Nat) (x1 : Int32) (x2 : Int32) (x3 : Int32) (x4 : Int32) (x5 : Int32) (x8 : Int32) (C : MC) (I : MI) (J : MJ) (R : MR), (∃ m, m < n ∧ Q183 m (gK Γ) x0 x1 x2 x3 x4 x5 x8 C I J R) → AW Γ 0 0 C I J R 183 [(0, aR (some x0)), (1, aI x1), (2, aI x2), (3, aI x3), (4, aI x4), (5, aI x5), (8, aI x8)] [] := fun x0 x1 x2 x3 x4 x5 x8 C I J R ⟨m, hm, hq⟩ => (ih m hm).2.2.1 x0 x1 x2 x3 x4 x5 x8 C I J R hq
    have w271 : ∀ (x0 : Nat) (x5 : Int32) (x7 : Int32) (C : MC) (I : MI) (J : MJ) (R : MR), (∃ m, m < n ∧ Q271 m (gK Γ) x0 x5 x7 C I J R) → AW Γ 0 0 C I J R 271 [(0, aR (some x0)), (5, aI x5), (7, aI x7)] [] := fun x0 x5 x7 C I J R ⟨m, hm, hq⟩ => (ih m hm).2.2.2 x0 x5 x7 C I J R hq
    have w236 : ∀ (x0 : Nat) (x1 : Int32) (x2 : Int32) (x3 : Int32) (x4 : Int32) (x5 : Int32) (C : MC) (I : MI) (J : MJ) (R : MR), PX2_best_236 F_X2_isThing F_X2_refuse F_X2_isShare F_X2_usual F_X2_tables F_X2_has F_X2_by0 F_X2_isEnough F_X2_next (fun (x0 : Nat) (x1 : Int32) (x2 : Int32) (x3 : Int32) (x4 : Int32) (x5 : Int32) (x6 : Int32) (C : MC) (I : MI) (J : MJ) (R : MR) => ∃ m, m < n ∧ Q43 m (gK Γ) x0 x1 x2 x3 x4 x5 x6 C I J R) (fun (x0 : Nat) (x1 : Int32) (x2 : Int32) (x3 : Int32) (x4 : Int32) (x5 : Int32) (x7 : Int32) (x8 : Int32) (C : MC) (I : MI) (J : MJ) (R : MR) => ∃ m, m < n ∧ Q79 m (gK Γ) x0 x1 x2 x3 x4 x5 x7 x8 C I J R) (fun (x0 : Nat) (x1 : Int32) (x2 : Int32) (x3 : Int32) (x4 : Int32) (x5 : Int32) (x8 : Int32) (C : MC) (I : MI) (J : MJ) (R : MR) => ∃ m, m < n ∧ Q183 m (gK Γ) x0 x1 x2 x3 x4 x5 x8 C I J R) (fun (x0 : Nat) (x5 : Int32) (x7 : Int32) (C : MC) (I : MI) (J : MJ) (R : MR) => ∃ m, m < n ∧ Q271 m (gK Γ) x0 x5 x7 C I J R) (gK Γ) x0 x1 x2 x3 x4 x5 C I J R → AW Γ 0 0 C I J R 236 [(0, aR (some x0)), (1, aI x1), (2, aI x2), (3, aI x3), (4, aI x4), (5, aI x5)] [] := fun x0 x1 x2 x3 x4 x5 C I J R h => bX2_best_236 G S_X2_next w43 h
    have w229 : ∀ (x0 : Nat) (x1 : Int32) (x2 : Int32) (x3 : Int32) (x4 : Int32) (x5 : Int32) (x8 : Int32) (s0 : Option Nat) (s1 : Int32) (s2 : Int32) (C : MC) (I : MI) (J : MJ) (R : MR), PX2_best_229 F_X2_isThing F_X2_refuse F_X2_isShare F_X2_usual F_X2_tables F_X2_has F_X2_by0 F_X2_isEnough F_X2_next (fun (x0 : Nat) (x1 : Int32) (x2 : Int32) (x3 : Int32) (x4 : Int32) (x5 : Int32) (x6 : Int32) (C : MC) (I : MI) (J : MJ) (R : MR) => ∃ m, m < n ∧ Q43 m (gK Γ) x0 x1 x2 x3 x4 x5 x6 C I J R) (fun (x0 : Nat) (x1 : Int32) (x2 : Int32) (x3 : Int32) (x4 : Int32) (x5 : Int32) (x7 : Int32) (x8 : Int32) (C : MC) (I : MI) (J : MJ) (R : MR) => ∃ m, m < n ∧ Q79 m (gK Γ) x0 x1 x2 x3 x4 x5 x7 x8 C I J R) (fun (x0 : Nat) (x1 : Int32) (x2 : Int32) (x3 : Int32) (x4 : Int32) (x5 : Int32) (x8 : Int32) (C : MC) (I : MI) (J : MJ) (R : MR) => ∃ m, m < n ∧ Q183 m (gK Γ) x0 x1 x2 x3 x4 x5 x8 C I J R) (fun (x0 : Nat) (x5 : Int32) (x7 : Int32) (C : MC) (I : MI) (J : MJ) (R : MR) => ∃ m, m < n ∧ Q271 m (gK Γ) x0 x5 x7 C I J R) (gK Γ) x0 x1 x2 x3 x4 x5 x8 s0 s1 s2 C I J R → AW Γ 0 0 C I J R 229 [(0, aR (some x0)), (1, aI x1), (2, aI x2), (3, aI x3), (4, aI x4), (5, aI x5), (8, aI x8)] [aI s2, aI s1, aR s0] := fun x0 x1 x2 x3 x4 x5 x8 s0 s1 s2 C I J R h => bX2_best_229 G w183 h
    have w228 : ∀ (x0 : Nat) (x1 : Int32) (x2 : Int32) (x3 : Int32) (x4 : Int32) (x5 : Int32) (x8 : Int32) (s0 : Option Nat) (s1 : Int32) (C : MC) (I : MI) (J : MJ) (R : MR), PX2_best_228 F_X2_isThing F_X2_refuse F_X2_isShare F_X2_usual F_X2_tables F_X2_has F_X2_by0 F_X2_isEnough F_X2_next (fun (x0 : Nat) (x1 : Int32) (x2 : Int32) (x3 : Int32) (x4 : Int32) (x5 : Int32) (x6 : Int32) (C : MC) (I : MI) (J : MJ) (R : MR) => ∃ m, m < n ∧ Q43 m (gK Γ) x0 x1 x2 x3 x4 x5 x6 C I J R) (fun (x0 : Nat) (x1 : Int32) (x2 : Int32) (x3 : Int32) (x4 : Int32) (x5 : Int32) (x7 : Int32) (x8 : Int32) (C : MC) (I : MI) (J : MJ) (R : MR) => ∃ m, m < n ∧ Q79 m (gK Γ) x0 x1 x2 x3 x4 x5 x7 x8 C I J R) (fun (x0 : Nat) (x1 : Int32) (x2 : Int32) (x3 : Int32) (x4 : Int32) (x5 : Int32) (x8 : Int32) (C : MC) (I : MI) (J : MJ) (R : MR) => ∃ m, m < n ∧ Q183 m (gK Γ) x0 x1 x2 x3 x4 x5 x8 C I J R) (fun (x0 : Nat) (x5 : Int32) (x7 : Int32) (C : MC) (I : MI) (J : MJ) (R : MR) => ∃ m, m < n ∧ Q271 m (gK Γ) x0 x5 x7 C I J R) (gK Γ) x0 x1 x2 x3 x4 x5 x8 s0 s1 C I J R → AW Γ 0 0 C I J R 228 [(0, aR (some x0)), (1, aI x1), (2, aI x2), (3, aI x3), (4, aI x4), (5, aI x5), (8, aI x8)] [aI s1, aR s0] := fun x0 x1 x2 x3 x4 x5 x8 s0 s1 C I J R h => bX2_best_228 G w229 h
    have w153 : ∀ (x0 : Nat) (x1 : Int32) (x2 : Int32) (x3 : Int32) (x4 : Int32) (x5 : Int32) (x7 : Int32) (C : MC) (I : MI) (J : MJ) (R : MR), PX2_best_153 F_X2_isThing F_X2_refuse F_X2_isShare F_X2_usual F_X2_tables F_X2_has F_X2_by0 F_X2_isEnough F_X2_next (fun (x0 : Nat) (x1 : Int32) (x2 : Int32) (x3 : Int32) (x4 : Int32) (x5 : Int32) (x6 : Int32) (C : MC) (I : MI) (J : MJ) (R : MR) => ∃ m, m < n ∧ Q43 m (gK Γ) x0 x1 x2 x3 x4 x5 x6 C I J R) (fun (x0 : Nat) (x1 : Int32) (x2 : Int32) (x3 : Int32) (x4 : Int32) (x5 : Int32) (x7 : Int32) (x8 : Int32) (C : MC) (I : MI) (J : MJ) (R : MR) => ∃ m, m < n ∧ Q79 m (gK Γ) x0 x1 x2 x3 x4 x5 x7 x8 C I J R) (fun (x0 : Nat) (x1 : Int32) (x2 : Int32) (x3 : Int32) (x4 : Int32) (x5 : Int32) (x8 : Int32) (C : MC) (I : MI) (J : MJ) (R : MR) => ∃ m, m < n ∧ Q183 m (gK Γ) x0 x1 x2 x3 x4 x5 x8 C I J R) (fun (x0 : Nat) (x5 : Int32) (x7 : Int32) (C : MC) (I : MI) (J : MJ) (R : MR) => ∃ m, m < n ∧ Q271 m (gK Γ) x0 x5 x7 C I J R) (gK Γ) x0 x1 x2 x3 x4 x5 x7 C I J R → AW Γ 0 0 C I J R 153 [(0, aR (some x0)), (1, aI x1), (2, aI x2), (3, aI x3), (4, aI x4), (5, aI x5), (7, aI x7)] [] := fun x0 x1 x2 x3 x4 x5 x7 C I J R h => bX2_best_153 G S_X2_by0 S_X2_isEnough w183 w236 h
    have w131 : ∀ (x0 : Nat) (x1 : Int32) (x2 : Int32) (x3 : Int32) (x4 : Int32) (x5 : Int32) (x8 : Int32) (s0 : Int32) (s1 : Int32) (C : MC) (I : MI) (J : MJ) (R : MR), PX2_best_131 F_X2_isThing F_X2_refuse F_X2_isShare F_X2_usual F_X2_tables F_X2_has F_X2_by0 F_X2_isEnough F_X2_next (fun (x0 : Nat) (x1 : Int32) (x2 : Int32) (x3 : Int32) (x4 : Int32) (x5 : Int32) (x6 : Int32) (C : MC) (I : MI) (J : MJ) (R : MR) => ∃ m, m < n ∧ Q43 m (gK Γ) x0 x1 x2 x3 x4 x5 x6 C I J R) (fun (x0 : Nat) (x1 : Int32) (x2 : Int32) (x3 : Int32) (x4 : Int32) (x5 : Int32) (x7 : Int32) (x8 : Int32) (C : MC) (I : MI) (J : MJ) (R : MR) => ∃ m, m < n ∧ Q79 m (gK Γ) x0 x1 x2 x3 x4 x5 x7 x8 C I J R) (fun (x0 : Nat) (x1 : Int32) (x2 : Int32) (x3 : Int32) (x4 : Int32) (x5 : Int32) (x8 : Int32) (C : MC) (I : MI) (J : MJ) (R : MR) => ∃ m, m < n ∧ Q183 m (gK Γ) x0 x1 x2 x3 x4 x5 x8 C I J R) (fun (x0 : Nat) (x5 : Int32) (x7 : Int32) (C : MC) (I : MI) (J : MJ) (R : MR) => ∃ m, m < n ∧ Q271 m (gK Γ) x0 x5 x7 C I J R) (gK Γ) x0 x1 x2 x3 x4 x5 x8 s0 s1 C I J R → AW Γ 0 0 C I J R 131 [(0, aR (some x0)), (1, aI x1), (2, aI x2), (3, aI x3), (4, aI x4), (5, aI x5), (8, aI x8)] [aI s1, aI s0] := fun x0 x1 x2 x3 x4 x5 x8 s0 s1 C I J R h => bX2_best_131 G w79 h
    have w130 : ∀ (x0 : Nat) (x1 : Int32) (x2 : Int32) (x3 : Int32) (x4 : Int32) (x5 : Int32) (x8 : Int32) (s0 : Int32) (C : MC) (I : MI) (J : MJ) (R : MR), PX2_best_130 F_X2_isThing F_X2_refuse F_X2_isShare F_X2_usual F_X2_tables F_X2_has F_X2_by0 F_X2_isEnough F_X2_next (fun (x0 : Nat) (x1 : Int32) (x2 : Int32) (x3 : Int32) (x4 : Int32) (x5 : Int32) (x6 : Int32) (C : MC) (I : MI) (J : MJ) (R : MR) => ∃ m, m < n ∧ Q43 m (gK Γ) x0 x1 x2 x3 x4 x5 x6 C I J R) (fun (x0 : Nat) (x1 : Int32) (x2 : Int32) (x3 : Int32) (x4 : Int32) (x5 : Int32) (x7 : Int32) (x8 : Int32) (C : MC) (I : MI) (J : MJ) (R : MR) => ∃ m, m < n ∧ Q79 m (gK Γ) x0 x1 x2 x3 x4 x5 x7 x8 C I J R) (fun (x0 : Nat) (x1 : Int32) (x2 : Int32) (x3 : Int32) (x4 : Int32) (x5 : Int32) (x8 : Int32) (C : MC) (I : MI) (J : MJ) (R : MR) => ∃ m, m < n ∧ Q183 m (gK Γ) x0 x1 x2 x3 x4 x5 x8 C I J R) (fun (x0 : Nat) (x5 : Int32) (x7 : Int32) (C : MC) (I : MI) (J : MJ) (R : MR) => ∃ m, m < n ∧ Q271 m (gK Γ) x0 x5 x7 C I J R) (gK Γ) x0 x1 x2 x3 x4 x5 x8 s0 C I J R → AW Γ 0 0 C I J R 130 [(0, aR (some x0)), (1, aI x1), (2, aI x2), (3, aI x3), (4, aI x4), (5, aI x5), (8, aI x8)] [aI s0] := fun x0 x1 x2 x3 x4 x5 x8 s0 C I J R h => bX2_best_130 G w131 h
    exact ⟨fun x0 x1 x2 x3 x4 x5 x6 C I J R h => bX2_best_43 G S_X2_usual S_X2_refuse S_X2_tables w79 w271 (h43 n (gK Γ) x0 x1 x2 x3 x4 x5 x6 C I J R h), fun x0 x1 x2 x3 x4 x5 x7 x8 C I J R h => bX2_best_79 G S_X2_has w130 w131 w153 w236 (h79 n (gK Γ) x0 x1 x2 x3 x4 x5 x7 x8 C I J R h), fun x0 x1 x2 x3 x4 x5 x8 C I J R h => bX2_best_183 G S_X2_has w228 w229 w236 (h183 n (gK Γ) x0 x1 x2 x3 x4 x5 x8 C I J R h), fun x0 x5 x7 C I J R h => bX2_best_271 G w271 (h271 n (gK Γ) x0 x5 x7 C I J R h)⟩
  have w43 : ∀ (x0 : Nat) (x1 : Int32) (x2 : Int32) (x3 : Int32) (x4 : Int32) (x5 : Int32) (x6 : Int32) (C : MC) (I : MI) (J : MJ) (R : MR), (∃ n, Q43 n (gK Γ) x0 x1 x2 x3 x4 x5 x6 C I J R) → AW Γ 0 0 C I J R 43 [(0, aR (some x0)), (1, aI x1), (2, aI x2), (3, aI x3), (4, aI x4), (5, aI x5), (6, aI x6)] [] := fun x0 x1 x2 x3 x4 x5 x6 C I J R ⟨m, hq⟩ => (key m).1 x0 x1 x2 x3 x4 x5 x6 C I J R hq
  have w79 : ∀ (x0 : Nat) (x1 : Int32) (x2 : Int32) (x3 : Int32) (x4 : Int32) (x5 : Int32) (x7 : Int32) (x8 : Int32) (C : MC) (I : MI) (J : MJ) (R : MR), (∃ n, Q79 n (gK Γ) x0 x1 x2 x3 x4 x5 x7 x8 C I J R) → AW Γ 0 0 C I J R 79 [(0, aR (some x0)), (1, aI x1), (2, aI x2), (3, aI x3), (4, aI x4), (5, aI x5), (7, aI x7), (8, aI x8)] [] := fun x0 x1 x2 x3 x4 x5 x7 x8 C I J R ⟨m, hq⟩ => (key m).2.1 x0 x1 x2 x3 x4 x5 x7 x8 C I J R hq
  have w183 : ∀ (x0 : Nat) (x1 : Int32) (x2 : Int32) (x3 : Int32) (x4 : Int32) (x5 : Int32) (x8 : Int32) (C : MC) (I : MI) (J : MJ) (R : MR), (∃ n, Q183 n (gK Γ) x0 x1 x2 x3 x4 x5 x8 C I J R) → AW Γ 0 0 C I J R 183 [(0, aR (some x0)), (1, aI x1), (2, aI x2), (3, aI x3), (4, aI x4), (5, aI x5), (8, aI x8)] [] := fun x0 x1 x2 x3 x4 x5 x8 C I J R ⟨m, hq⟩ => (key m).2.2.1 x0 x1 x2 x3 x4 x5 x8 C I J R hq
  have w271 : ∀ (x0 : Nat) (x5 : Int32) (x7 : Int32) (C : MC) (I : MI) (J : MJ) (R : MR), (∃ n, Q271 n (gK Γ) x0 x5 x7 C I J R) → AW Γ 0 0 C I J R 271 [(0, aR (some x0)), (5, aI x5), (7, aI x7)] [] := fun x0 x5 x7 C I J R ⟨m, hq⟩ => (key m).2.2.2 x0 x5 x7 C I J R hq
  have w236 : ∀ (x0 : Nat) (x1 : Int32) (x2 : Int32) (x3 : Int32) (x4 : Int32) (x5 : Int32) (C : MC) (I : MI) (J : MJ) (R : MR), PX2_best_236 F_X2_isThing F_X2_refuse F_X2_isShare F_X2_usual F_X2_tables F_X2_has F_X2_by0 F_X2_isEnough F_X2_next (fun (x0 : Nat) (x1 : Int32) (x2 : Int32) (x3 : Int32) (x4 : Int32) (x5 : Int32) (x6 : Int32) (C : MC) (I : MI) (J : MJ) (R : MR) => ∃ n, Q43 n (gK Γ) x0 x1 x2 x3 x4 x5 x6 C I J R) (fun (x0 : Nat) (x1 : Int32) (x2 : Int32) (x3 : Int32) (x4 : Int32) (x5 : Int32) (x7 : Int32) (x8 : Int32) (C : MC) (I : MI) (J : MJ) (R : MR) => ∃ n, Q79 n (gK Γ) x0 x1 x2 x3 x4 x5 x7 x8 C I J R) (fun (x0 : Nat) (x1 : Int32) (x2 : Int32) (x3 : Int32) (x4 : Int32) (x5 : Int32) (x8 : Int32) (C : MC) (I : MI) (J : MJ) (R : MR) => ∃ n, Q183 n (gK Γ) x0 x1 x2 x3 x4 x5 x8 C I J R) (fun (x0 : Nat) (x5 : Int32) (x7 : Int32) (C : MC) (I : MI) (J : MJ) (R : MR) => ∃ n, Q271 n (gK Γ) x0 x5 x7 C I J R) (gK Γ) x0 x1 x2 x3 x4 x5 C I J R → AW Γ 0 0 C I J R 236 [(0, aR (some x0)), (1, aI x1), (2, aI x2), (3, aI x3), (4, aI x4), (5, aI x5)] [] := fun x0 x1 x2 x3 x4 x5 C I J R h => bX2_best_236 G S_X2_next w43 h
  have w229 : ∀ (x0 : Nat) (x1 : Int32) (x2 : Int32) (x3 : Int32) (x4 : Int32) (x5 : Int32) (x8 : Int32) (s0 : Option Nat) (s1 : Int32) (s2 : Int32) (C : MC) (I : MI) (J : MJ) (R : MR), PX2_best_229 F_X2_isThing F_X2_refuse F_X2_isShare F_X2_usual F_X2_tables F_X2_has F_X2_by0 F_X2_isEnough F_X2_next (fun (x0 : Nat) (x1 : Int32) (x2 : Int32) (x3 : Int32) (x4 : Int32) (x5 : Int32) (x6 : Int32) (C : MC) (I : MI) (J : MJ) (R : MR) => ∃ n, Q43 n (gK Γ) x0 x1 x2 x3 x4 x5 x6 C I J R) (fun (x0 : Nat) (x1 : Int32) (x2 : Int32) (x3 : Int32) (x4 : Int32) (x5 : Int32) (x7 : Int32) (x8 : Int32) (C : MC) (I : MI) (J : MJ) (R : MR) => ∃ n, Q79 n (gK Γ) x0 x1 x2 x3 x4 x5 x7 x8 C I J R) (fun (x0 : Nat) (x1 : Int32) (x2 : Int32) (x3 : Int32) (x4 : Int32) (x5 : Int32) (x8 : Int32) (C : MC) (I : MI) (J : MJ) (R : MR) => ∃ n, Q183 n (gK Γ) x0 x1 x2 x3 x4 x5 x8 C I J R) (fun (x0 : Nat) (x5 : Int32) (x7 : Int32) (C : MC) (I : MI) (J : MJ) (R : MR) => ∃ n, Q271 n (gK Γ) x0 x5 x7 C I J R) (gK Γ) x0 x1 x2 x3 x4 x5 x8 s0 s1 s2 C I J R → AW Γ 0 0 C I J R 229 [(0, aR (some x0)), (1, aI x1), (2, aI x2), (3, aI x3), (4, aI x4), (5, aI x5), (8, aI x8)] [aI s2, aI s1, aR s0] := fun x0 x1 x2 x3 x4 x5 x8 s0 s1 s2 C I J R h => bX2_best_229 G w183 h
  have w228 : ∀ (x0 : Nat) (x1 : Int32) (x2 : Int32) (x3 : Int32) (x4 : Int32) (x5 : Int32) (x8 : Int32) (s0 : Option Nat) (s1 : Int32) (C : MC) (I : MI) (J : MJ) (R : MR), PX2_best_228 F_X2_isThing F_X2_refuse F_X2_isShare F_X2_usual F_X2_tables F_X2_has F_X2_by0 F_X2_isEnough F_X2_next (fun (x0 : Nat) (x1 : Int32) (x2 : Int32) (x3 : Int32) (x4 : Int32) (x5 : Int32) (x6 : Int32) (C : MC) (I : MI) (J : MJ) (R : MR) => ∃ n, Q43 n (gK Γ) x0 x1 x2 x3 x4 x5 x6 C I J R) (fun (x0 : Nat) (x1 : Int32) (x2 : Int32) (x3 : Int32) (x4 : Int32) (x5 : Int32) (x7 : Int32) (x8 : Int32) (C : MC) (I : MI) (J : MJ) (R : MR) => ∃ n, Q79 n (gK Γ) x0 x1 x2 x3 x4 x5 x7 x8 C I J R) (fun (x0 : Nat) (x1 : Int32) (x2 : Int32) (x3 : Int32) (x4 : Int32) (x5 : Int32) (x8 : Int32) (C : MC) (I : MI) (J : MJ) (R : MR) => ∃ n, Q183 n (gK Γ) x0 x1 x2 x3 x4 x5 x8 C I J R) (fun (x0 : Nat) (x5 : Int32) (x7 : Int32) (C : MC) (I : MI) (J : MJ) (R : MR) => ∃ n, Q271 n (gK Γ) x0 x5 x7 C I J R) (gK Γ) x0 x1 x2 x3 x4 x5 x8 s0 s1 C I J R → AW Γ 0 0 C I J R 228 [(0, aR (some x0)), (1, aI x1), (2, aI x2), (3, aI x3), (4, aI x4), (5, aI x5), (8, aI x8)] [aI s1, aR s0] := fun x0 x1 x2 x3 x4 x5 x8 s0 s1 C I J R h => bX2_best_228 G w229 h
  have w153 : ∀ (x0 : Nat) (x1 : Int32) (x2 : Int32) (x3 : Int32) (x4 : Int32) (x5 : Int32) (x7 : Int32) (C : MC) (I : MI) (J : MJ) (R : MR), PX2_best_153 F_X2_isThing F_X2_refuse F_X2_isShare F_X2_usual F_X2_tables F_X2_has F_X2_by0 F_X2_isEnough F_X2_next (fun (x0 : Nat) (x1 : Int32) (x2 : Int32) (x3 : Int32) (x4 : Int32) (x5 : Int32) (x6 : Int32) (C : MC) (I : MI) (J : MJ) (R : MR) => ∃ n, Q43 n (gK Γ) x0 x1 x2 x3 x4 x5 x6 C I J R) (fun (x0 : Nat) (x1 : Int32) (x2 : Int32) (x3 : Int32) (x4 : Int32) (x5 : Int32) (x7 : Int32) (x8 : Int32) (C : MC) (I : MI) (J : MJ) (R : MR) => ∃ n, Q79 n (gK Γ) x0 x1 x2 x3 x4 x5 x7 x8 C I J R) (fun (x0 : Nat) (x1 : Int32) (x2 : Int32) (x3 : Int32) (x4 : Int32) (x5 : Int32) (x8 : Int32) (C : MC) (I : MI) (J : MJ) (R : MR) => ∃ n, Q183 n (gK Γ) x0 x1 x2 x3 x4 x5 x8 C I J R) (fun (x0 : Nat) (x5 : Int32) (x7 : Int32) (C : MC) (I : MI) (J : MJ) (R : MR) => ∃ n, Q271 n (gK Γ) x0 x5 x7 C I J R) (gK Γ) x0 x1 x2 x3 x4 x5 x7 C I J R → AW Γ 0 0 C I J R 153 [(0, aR (some x0)), (1, aI x1), (2, aI x2), (3, aI x3), (4, aI x4), (5, aI x5), (7, aI x7)] [] := fun x0 x1 x2 x3 x4 x5 x7 C I J R h => bX2_best_153 G S_X2_by0 S_X2_isEnough w183 w236 h
  have w131 : ∀ (x0 : Nat) (x1 : Int32) (x2 : Int32) (x3 : Int32) (x4 : Int32) (x5 : Int32) (x8 : Int32) (s0 : Int32) (s1 : Int32) (C : MC) (I : MI) (J : MJ) (R : MR), PX2_best_131 F_X2_isThing F_X2_refuse F_X2_isShare F_X2_usual F_X2_tables F_X2_has F_X2_by0 F_X2_isEnough F_X2_next (fun (x0 : Nat) (x1 : Int32) (x2 : Int32) (x3 : Int32) (x4 : Int32) (x5 : Int32) (x6 : Int32) (C : MC) (I : MI) (J : MJ) (R : MR) => ∃ n, Q43 n (gK Γ) x0 x1 x2 x3 x4 x5 x6 C I J R) (fun (x0 : Nat) (x1 : Int32) (x2 : Int32) (x3 : Int32) (x4 : Int32) (x5 : Int32) (x7 : Int32) (x8 : Int32) (C : MC) (I : MI) (J : MJ) (R : MR) => ∃ n, Q79 n (gK Γ) x0 x1 x2 x3 x4 x5 x7 x8 C I J R) (fun (x0 : Nat) (x1 : Int32) (x2 : Int32) (x3 : Int32) (x4 : Int32) (x5 : Int32) (x8 : Int32) (C : MC) (I : MI) (J : MJ) (R : MR) => ∃ n, Q183 n (gK Γ) x0 x1 x2 x3 x4 x5 x8 C I J R) (fun (x0 : Nat) (x5 : Int32) (x7 : Int32) (C : MC) (I : MI) (J : MJ) (R : MR) => ∃ n, Q271 n (gK Γ) x0 x5 x7 C I J R) (gK Γ) x0 x1 x2 x3 x4 x5 x8 s0 s1 C I J R → AW Γ 0 0 C I J R 131 [(0, aR (some x0)), (1, aI x1), (2, aI x2), (3, aI x3), (4, aI x4), (5, aI x5), (8, aI x8)] [aI s1, aI s0] := fun x0 x1 x2 x3 x4 x5 x8 s0 s1 C I J R h => bX2_best_131 G w79 h
  have w130 : ∀ (x0 : Nat) (x1 : Int32) (x2 : Int32) (x3 : Int32) (x4 : Int32) (x5 : Int32) (x8 : Int32) (s0 : Int32) (C : MC) (I : MI) (J : MJ) (R : MR), PX2_best_130 F_X2_isThing F_X2_refuse F_X2_isShare F_X2_usual F_X2_tables F_X2_has F_X2_by0 F_X2_isEnough F_X2_next (fun (x0 : Nat) (x1 : Int32) (x2 : Int32) (x3 : Int32) (x4 : Int32) (x5 : Int32) (x6 : Int32) (C : MC) (I : MI) (J : MJ) (R : MR) => ∃ n, Q43 n (gK Γ) x0 x1 x2 x3 x4 x5 x6 C I J R) (fun (x0 : Nat) (x1 : Int32) (x2 : Int32) (x3 : Int32) (x4 : Int32) (x5 : Int32) (x7 : Int32) (x8 : Int32) (C : MC) (I : MI) (J : MJ) (R : MR) => ∃ n, Q79 n (gK Γ) x0 x1 x2 x3 x4 x5 x7 x8 C I J R) (fun (x0 : Nat) (x1 : Int32) (x2 : Int32) (x3 : Int32) (x4 : Int32) (x5 : Int32) (x8 : Int32) (C : MC) (I : MI) (J : MJ) (R : MR) => ∃ n, Q183 n (gK Γ) x0 x1 x2 x3 x4 x5 x8 C I J R) (fun (x0 : Nat) (x5 : Int32) (x7 : Int32) (C : MC) (I : MI) (J : MJ) (R : MR) => ∃ n, Q271 n (gK Γ) x0 x5 x7 C I J R) (gK Γ) x0 x1 x2 x3 x4 x5 x8 s0 C I J R → AW Γ 0 0 C I J R 130 [(0, aR (some x0)), (1, aI x1), (2, aI x2), (3, aI x3), (4, aI x4), (5, aI x5), (8, aI x8)] [aI s0] := fun x0 x1 x2 x3 x4 x5 x8 s0 C I J R h => bX2_best_130 G w131 h
  obtain ⟨x0, x1, x2, x3, x4, rfl, h⟩ := h0 As C I J R (gK Γ) hF
  exact ⟨Nat.le_of_ble_eq_true rfl, bX2_best_0 G S_X2_isThing S_X2_refuse S_X2_isShare S_X2_usual w43 h⟩
def PX2_next_66 (F_X2_has : SPF) (Q7 : Nat → Int32 → Int32 → MC → MI → MJ → MR → Prop) (K : AK) (x0 : Nat) (x1 : Int32) (x2 : Int32) (C : MC) (I : MI) (J : MJ) (R : MR) : Prop :=
      Q7 x0 x1 (x2 + (-1)) C I J R
def PX2_next_7 (F_X2_has : SPF) (Q7 : Nat → Int32 → Int32 → MC → MI → MJ → MR → Prop) (K : AK) (x0 : Nat) (x1 : Int32) (x2 : Int32) (C : MC) (I : MI) (J : MJ) (R : MR) : Prop :=
      ((x2 < 0 →
      K (.inl (some (aI (0 : Int32)))) C I J R) ∧
      (¬ x2 < 0 →
      (C x0).1 = 3 ∧
      ∃ q3 : Nat, R x0 7 = some q3 ∧
      (C q3).1 = 20 ∧
      vp_in x2 (C q3).2 ∧
      ((¬ (I q3 x2.toNatClampNeg) = 0 →
      PX2_next_66 F_X2_has Q7 K x0 x1 x2 C I J R) ∧
      ((I q3 x2.toNatClampNeg) = 0 →
      F_X2_has [aR (some x0), aI x1, aI x2] C I J R (fun o C7 I8 J9 R10 =>
      ∃ r11 : Int32, o = .inl (some (aI r11)) ∧
      ((¬ r11 = 0 →
      (C7 x0).1 = 3 ∧
      ∃ q14 : Nat, R10 x0 15 = some q14 ∧
      (C7 q14).1 = 20 ∧
      vp_in x2 (C7 q14).2 ∧
      ∀ I17 : MI, I17 = va_up I8 q14 (va_up (I8 q14) x2.toNatClampNeg ((I8 q14 x2.toNatClampNeg) + (1 : Int32))) →
      ∃ q18 : Nat, R10 x0 12 = some q18 ∧
      (C7 q18).1 = 20 ∧
      vp_in x2 (C7 q18).2 ∧
      (((I17 q18 x2.toNatClampNeg) ≤ (I17 q14 x2.toNatClampNeg) →
      ∀ I22 : MI, I22 = va_up I17 q14 (va_up (I17 q14) x2.toNatClampNeg (0 : Int32)) →
      PX2_next_66 F_X2_has Q7 K x0 x1 x2 C7 I22 J9 R10) ∧
      (¬ (I17 q18 x2.toNatClampNeg) ≤ (I17 q14 x2.toNatClampNeg) →
      K (.inl (some (aI (1 : Int32)))) C7 I17 J9 R10))) ∧
      (r11 = 0 →
      PX2_next_66 F_X2_has Q7 K x0 x1 x2 C7 I8 J9 R10)))))))
def PX2_next_0 (F_X2_has : SPF) (Q7 : Nat → Int32 → Int32 → MC → MI → MJ → MR → Prop) (K : AK) (x0 : Nat) (x1 : Int32) (C : MC) (I : MI) (J : MJ) (R : MR) : Prop :=
      (C x0).1 = 3 ∧
      Q7 x0 x1 ((I x0 6) - (1 : Int32)) C I J R
theorem wX2_next {l : Launch}  {F_X2_has : SPF} (S_X2_has : SpX2_has l F_X2_has)
    (Q7 : Nat → AK → Nat → Int32 → Int32 → MC → MI → MJ → MR → Prop) {F : SPF}
    (h0 : ∀ (As : List AV) (C : MC) (I : MI) (J : MJ) (R : MR) (K : AK), F As C I J R K → ∃ (x0 : Nat) (x1 : Int32), As = [aR (some x0), aI x1] ∧ PX2_next_0 F_X2_has (fun (x0 : Nat) (x1 : Int32) (x2 : Int32) (C : MC) (I : MI) (J : MJ) (R : MR) => ∃ n, Q7 n K x0 x1 x2 C I J R) K x0 x1 C I J R)
    (h7 : ∀ (n : Nat) (K : AK) (x0 : Nat) (x1 : Int32) (x2 : Int32) (C : MC) (I : MI) (J : MJ) (R : MR), Q7 n K x0 x1 x2 C I J R → PX2_next_7 F_X2_has (fun (x0 : Nat) (x1 : Int32) (x2 : Int32) (C : MC) (I : MI) (J : MJ) (R : MR) => ∃ m, m < n ∧ Q7 m K x0 x1 x2 C I J R) K x0 x1 x2 C I J R) : SpX2_next l F := by
  refine Spec.of (by rfl) ?_
  intro Γ C I J R As Gd gl gr _ _ gb hF
  subst gl
  have G : Gb Γ yX2_next cX2_next 3 (some .boolean) [] rmX2_next bdX2_next := ⟨Gd, gr, gb⟩
  have key : ∀ n : Nat, (∀ (x0 : Nat) (x1 : Int32) (x2 : Int32) (C : MC) (I : MI) (J : MJ) (R : MR), Q7 n (gK Γ) x0 x1 x2 C I J R → AW Γ 0 0 C I J R 7 [(0, aR (some x0)), (1, aI x1), (2, aI x2)] []) := by
    intro n
    induction n using Nat.strongRecOn with
    | ind n ih =>
    have w7 : ∀ (x0 : Nat) (x1 : Int32) (x2 : Int32) (C : MC) (I : MI) (J : MJ) (R : MR), (∃ m, m < n ∧ Q7 m (gK Γ) x0 x1 x2 C I J R) → AW Γ 0 0 C I J R 7 [(0, aR (some x0)), (1, aI x1), (2, aI x2)] [] := fun x0 x1 x2 C I J R ⟨m, hm, hq⟩ => (ih m hm) x0 x1 x2 C I J R hq
    have w66 : ∀ (x0 : Nat) (x1 : Int32) (x2 : Int32) (C : MC) (I : MI) (J : MJ) (R : MR), PX2_next_66 F_X2_has (fun (x0 : Nat) (x1 : Int32) (x2 : Int32) (C : MC) (I : MI) (J : MJ) (R : MR) => ∃ m, m < n ∧ Q7 m (gK Γ) x0 x1 x2 C I J R) (gK Γ) x0 x1 x2 C I J R → AW Γ 0 0 C I J R 66 [(0, aR (some x0)), (1, aI x1), (2, aI x2)] [] := fun x0 x1 x2 C I J R h => bX2_next_66 G w7 h
    exact fun x0 x1 x2 C I J R h => bX2_next_7 G S_X2_has w66 (h7 n (gK Γ) x0 x1 x2 C I J R h)
  have w7 : ∀ (x0 : Nat) (x1 : Int32) (x2 : Int32) (C : MC) (I : MI) (J : MJ) (R : MR), (∃ n, Q7 n (gK Γ) x0 x1 x2 C I J R) → AW Γ 0 0 C I J R 7 [(0, aR (some x0)), (1, aI x1), (2, aI x2)] [] := fun x0 x1 x2 C I J R ⟨m, hq⟩ => (key m) x0 x1 x2 C I J R hq
  have w66 : ∀ (x0 : Nat) (x1 : Int32) (x2 : Int32) (C : MC) (I : MI) (J : MJ) (R : MR), PX2_next_66 F_X2_has (fun (x0 : Nat) (x1 : Int32) (x2 : Int32) (C : MC) (I : MI) (J : MJ) (R : MR) => ∃ n, Q7 n (gK Γ) x0 x1 x2 C I J R) (gK Γ) x0 x1 x2 C I J R → AW Γ 0 0 C I J R 66 [(0, aR (some x0)), (1, aI x1), (2, aI x2)] [] := fun x0 x1 x2 C I J R h => bX2_next_66 G w7 h
  obtain ⟨x0, x1, rfl, h⟩ := h0 As C I J R (gK Γ) hF
  exact ⟨Nat.le_of_ble_eq_true rfl, bX2_next_0 G w7 h⟩
def PX2_chosen_0 (F_X2_isLeaf : SPF) (F_X2_refuse : SPF) (K : AK) (x0 : Nat) (x1 : Int32) (C : MC) (I : MI) (J : MJ) (R : MR) : Prop :=
      (C x0).1 = 3 ∧
      F_X2_isLeaf [aR (some x0), aI x1] C I J R (fun o C2 I3 J4 R5 =>
      ∃ r6 : Int32, o = .inl (some (aI r6)) ∧
      ((¬ r6 = 0 →
      (C2 x0).1 = 3 ∧
      (((I3 x0 21) = 0 →
      F_X2_refuse [aR (some x0), aI (6 : Int32)] C2 I3 J4 R5 (fun o C10 I11 J12 R13 =>
      ∃ r14 : Int32, o = .inl (some (aI r14)) ∧
      K (.inl (some (aI r14))) C10 I11 J12 R13)) ∧
      (¬ (I3 x0 21) = 0 →
      ∃ q15 : Nat, R5 x0 17 = some q15 ∧
      (C2 q15).1 = 20 ∧
      vp_in x1 (C2 q15).2 ∧
      ((¬ (I3 q15 x1.toNatClampNeg) = (-1 : Int32) →
      ∀ I19 : MI, I19 = va_up I3 x0 (va_up (I3 x0) 0 (0 : Int32)) →
      K (.inl (some (aI (I19 q15 x1.toNatClampNeg)))) C2 I19 J4 R5) ∧
      ((I3 q15 x1.toNatClampNeg) = (-1 : Int32) →
      F_X2_refuse [aR (some x0), aI (6 : Int32)] C2 I3 J4 R5 (fun o C20 I21 J22 R23 =>
      ∃ r24 : Int32, o = .inl (some (aI r24)) ∧
      K (.inl (some (aI r24))) C20 I21 J22 R23)))))) ∧
      (r6 = 0 →
      (C2 x0).1 = 3 ∧
      F_X2_refuse [aR (some x0), aI (1 : Int32)] C2 I3 J4 R5 (fun o C26 I27 J28 R29 =>
      ∃ r30 : Int32, o = .inl (some (aI r30)) ∧
      K (.inl (some (aI r30))) C26 I27 J28 R29))))
theorem wX2_chosen {l : Launch}  {F_X2_isLeaf : SPF} (S_X2_isLeaf : SpX2_isLeaf l F_X2_isLeaf) {F_X2_refuse : SPF} (S_X2_refuse : SpX2_refuse l F_X2_refuse) {F : SPF}
    (h0 : ∀ (As : List AV) (C : MC) (I : MI) (J : MJ) (R : MR) (K : AK), F As C I J R K → ∃ (x0 : Nat) (x1 : Int32), As = [aR (some x0), aI x1] ∧ PX2_chosen_0 F_X2_isLeaf F_X2_refuse K x0 x1 C I J R) : SpX2_chosen l F := by
  refine Spec.of (by rfl) ?_
  intro Γ C I J R As Gd gl gr _ _ gb hF
  subst gl
  have G : Gb Γ yX2_chosen cX2_chosen 2 (some .int) [] rmX2_chosen bdX2_chosen := ⟨Gd, gr, gb⟩
  obtain ⟨x0, x1, rfl, h⟩ := h0 As C I J R (gK Γ) hF
  exact ⟨Nat.le_of_ble_eq_true rfl, bX2_chosen_0 G S_X2_isLeaf S_X2_refuse h⟩
def PX2_part_0 (F_X2_isLeaf : SPF) (F_X2_is : SPF) (K : AK) (x0 : Nat) (x1 : Int32) (x2 : Int32) (C : MC) (I : MI) (J : MJ) (R : MR) : Prop :=
      (C x0).1 = 3 ∧
      F_X2_isLeaf [aR (some x0), aI x1] C I J R (fun o C2 I3 J4 R5 =>
      ∃ r6 : Int32, o = .inl (some (aI r6)) ∧
      ((r6 = 0 →
      (C2 x0).1 = 3 ∧
      F_X2_is [aR (some x0), aI (1 : Int32)] C2 I3 J4 R5 (fun o C9 I10 J11 R12 =>
      ∃ r13 : Int32, o = .inl (some (aI r13)) ∧
      (r13 = 0 ∨ r13 = 1) ∧ K (.inl (some (aI r13))) C9 I10 J11 R12)) ∧
      (¬ r6 = 0 →
      ((x2 < (-1 : Int32) →
      (C2 x0).1 = 3 ∧
      F_X2_is [aR (some x0), aI (1 : Int32)] C2 I3 J4 R5 (fun o C17 I18 J19 R20 =>
      ∃ r21 : Int32, o = .inl (some (aI r21)) ∧
      (r21 = 0 ∨ r21 = 1) ∧ K (.inl (some (aI r21))) C17 I18 J19 R20)) ∧
      (¬ x2 < (-1 : Int32) →
      ((x2 < (121 : Int32) →
      (C2 x0).1 = 3 ∧
      ∃ q25 : Nat, R5 x0 16 = some q25 ∧
      (C2 q25).1 = 20 ∧
      vp_in x1 (C2 q25).2 ∧
      ∀ I28 : MI, I28 = va_up I3 q25 (va_up (I3 q25) x1.toNatClampNeg x2) →
      F_X2_is [aR (some x0), aI (0 : Int32)] C2 I28 J4 R5 (fun o C29 I30 J31 R32 =>
      ∃ r33 : Int32, o = .inl (some (aI r33)) ∧
      (r33 = 0 ∨ r33 = 1) ∧ K (.inl (some (aI r33))) C29 I30 J31 R32)) ∧
      (¬ x2 < (121 : Int32) →
      (C2 x0).1 = 3 ∧
      F_X2_is [aR (some x0), aI (1 : Int32)] C2 I3 J4 R5 (fun o C36 I37 J38 R39 =>
      ∃ r40 : Int32, o = .inl (some (aI r40)) ∧
      (r40 = 0 ∨ r40 = 1) ∧ K (.inl (some (aI r40))) C36 I37 J38 R39))))))))
theorem wX2_part {l : Launch}  {F_X2_isLeaf : SPF} (S_X2_isLeaf : SpX2_isLeaf l F_X2_isLeaf) {F_X2_is : SPF} (S_X2_is : SpX2_is l F_X2_is) {F : SPF}
    (h0 : ∀ (As : List AV) (C : MC) (I : MI) (J : MJ) (R : MR) (K : AK), F As C I J R K → ∃ (x0 : Nat) (x1 : Int32) (x2 : Int32), As = [aR (some x0), aI x1, aI x2] ∧ PX2_part_0 F_X2_isLeaf F_X2_is K x0 x1 x2 C I J R) : SpX2_part l F := by
  refine Spec.of (by rfl) ?_
  intro Γ C I J R As Gd gl gr _ _ gb hF
  subst gl
  have G : Gb Γ yX2_part cX2_part 3 (some .boolean) [] rmX2_part bdX2_part := ⟨Gd, gr, gb⟩
  obtain ⟨x0, x1, x2, rfl, h⟩ := h0 As C I J R (gK Γ) hF
  exact ⟨Nat.le_of_ble_eq_true rfl, bX2_part_0 G S_X2_isLeaf S_X2_is h⟩
def PX2_trace_318 (F_X2_isThing : SPF) (F_X2_refuse : SPF) (F_X2_isTray : SPF) (F_X2_leaves : SPF) (F_X2_has : SPF) (Q65 : Nat → Int32 → Int32 → Int32 → Int64 → Int32 → MC → MI → MJ → MR → Prop) (Q126 : Nat → Int32 → Int32 → Int64 → Int64 → Int32 → MC → MI → MJ → MR → Prop) (Q239 : Nat → Int32 → Int32 → Int32 → Int32 → Int32 → MC → MI → MJ → MR → Prop) (K : AK) (x0 : Nat) (x1 : Int32) (x2 : Int32) (x8 : Int32) (x9 : Int32) (x10 : Int32) (C : MC) (I : MI) (J : MJ) (R : MR) : Prop :=
      Q239 x0 x1 x2 x8 x9 (x10 + 1) C I J R
def PX2_trace_315 (F_X2_isThing : SPF) (F_X2_refuse : SPF) (F_X2_isTray : SPF) (F_X2_leaves : SPF) (F_X2_has : SPF) (Q65 : Nat → Int32 → Int32 → Int32 → Int64 → Int32 → MC → MI → MJ → MR → Prop) (Q126 : Nat → Int32 → Int32 → Int64 → Int64 → Int32 → MC → MI → MJ → MR → Prop) (Q239 : Nat → Int32 → Int32 → Int32 → Int32 → Int32 → MC → MI → MJ → MR → Prop) (K : AK) (x0 : Nat) (x1 : Int32) (x2 : Int32) (x8 : Int32) (x9 : Int32) (x10 : Int32) (C : MC) (I : MI) (J : MJ) (R : MR) : Prop :=
      PX2_trace_318 F_X2_isThing F_X2_refuse F_X2_isTray F_X2_leaves F_X2_has Q65 Q126 Q239 K x0 x1 x2 x8 (x9 + 1) x10 C I J R
def PX2_trace_239 (F_X2_isThing : SPF) (F_X2_refuse : SPF) (F_X2_isTray : SPF) (F_X2_leaves : SPF) (F_X2_has : SPF) (Q65 : Nat → Int32 → Int32 → Int32 → Int64 → Int32 → MC → MI → MJ → MR → Prop) (Q126 : Nat → Int32 → Int32 → Int64 → Int64 → Int32 → MC → MI → MJ → MR → Prop) (Q239 : Nat → Int32 → Int32 → Int32 → Int32 → Int32 → MC → MI → MJ → MR → Prop) (K : AK) (x0 : Nat) (x1 : Int32) (x2 : Int32) (x8 : Int32) (x9 : Int32) (x10 : Int32) (C : MC) (I : MI) (J : MJ) (R : MR) : Prop :=
      (C x0).1 = 3 ∧
      (((I x0 6) ≤ x10 →
      ∀ I3 : MI, I3 = va_up I x0 (va_up (I x0) 0 (0 : Int32)) →
      ((x8 = 0 →
      K (.inl (some (aI (0 : Int32)))) C I3 J R) ∧
      (¬ x8 = 0 →
      K (.inl (some (aI (1 : Int32)))) C I3 J R))) ∧
      (¬ (I x0 6) ≤ x10 →
      ∃ q5 : Nat, R x0 7 = some q5 ∧
      (C q5).1 = 20 ∧
      vp_in x10 (C q5).2 ∧
      ((¬ (I q5 x10.toNatClampNeg) = 0 →
      PX2_trace_318 F_X2_isThing F_X2_refuse F_X2_isTray F_X2_leaves F_X2_has Q65 Q126 Q239 K x0 x1 x2 x8 x9 x10 C I J R) ∧
      ((I q5 x10.toNatClampNeg) = 0 →
      F_X2_has [aR (some x0), aI x1, aI x10] C I J R (fun o C9 I10 J11 R12 =>
      ∃ r13 : Int32, o = .inl (some (aI r13)) ∧
      ((¬ r13 = 0 →
      ((x8 = 0 →
      PX2_trace_315 F_X2_isThing F_X2_refuse F_X2_isTray F_X2_leaves F_X2_has Q65 Q126 Q239 K x0 x1 x2 x8 x9 x10 C9 I10 J11 R12) ∧
      (¬ x8 = 0 →
      (C9 x0).1 = 3 ∧
      ∃ q17 : Nat, R12 x0 5 = some q17 ∧
      (C9 q17).1 = 21 ∧
      vp_in (((60 : Int32) * x2) + x9) (C9 q17).2 ∧
      ∃ q20 : Nat, R12 x0 16 = some q20 ∧
      (C9 q20).1 = 20 ∧
      vp_in x10 (C9 q20).2 ∧
      (((J11 q17 (((60 : Int32) * x2) + x9).toNatClampNeg) ≤ ((if (0 : Int32) < (I10 q20 x10.toNatClampNeg) then (I10 q20 x10.toNatClampNeg) else (0 : Int32)).toInt64) →
      PX2_trace_315 F_X2_isThing F_X2_refuse F_X2_isTray F_X2_leaves F_X2_has Q65 Q126 Q239 K x0 x1 x2 x8 x9 x10 C9 I10 J11 R12) ∧
      (¬ (J11 q17 (((60 : Int32) * x2) + x9).toNatClampNeg) ≤ ((if (0 : Int32) < (I10 q20 x10.toNatClampNeg) then (I10 q20 x10.toNatClampNeg) else (0 : Int32)).toInt64) →
      ∃ q24 : Nat, R12 x0 20 = some q24 ∧
      (C9 q24).1 = 20 ∧
      vp_in x10 (C9 q24).2 ∧
      ∀ I27 : MI, I27 = va_up I10 q24 (va_up (I10 q24) x10.toNatClampNeg ((I10 q24 x10.toNatClampNeg) + (1 : Int32))) →
      PX2_trace_315 F_X2_isThing F_X2_refuse F_X2_isTray F_X2_leaves F_X2_has Q65 Q126 Q239 K x0 x1 x2 x8 x9 x10 C9 I27 J11 R12))))) ∧
      (r13 = 0 →
      PX2_trace_318 F_X2_isThing F_X2_refuse F_X2_isTray F_X2_leaves F_X2_has Q65 Q126 Q239 K x0 x1 x2 x8 x9 x10 C9 I10 J11 R12)))))))
def PX2_trace_231 (F_X2_isThing : SPF) (F_X2_refuse : SPF) (F_X2_isTray : SPF) (F_X2_leaves : SPF) (F_X2_has : SPF) (Q65 : Nat → Int32 → Int32 → Int32 → Int64 → Int32 → MC → MI → MJ → MR → Prop) (Q126 : Nat → Int32 → Int32 → Int64 → Int64 → Int32 → MC → MI → MJ → MR → Prop) (Q239 : Nat → Int32 → Int32 → Int32 → Int32 → Int32 → MC → MI → MJ → MR → Prop) (K : AK) (x0 : Nat) (x1 : Int32) (x2 : Int32) (x8 : Int32) (s0 : Option Nat) (s1 : Int32) (s2 : Int32) (s3 : Int32) (C : MC) (I : MI) (J : MJ) (R : MR) : Prop :=
      ∃ q1 : Nat, s0 = some q1 ∧
      (C q1).1 = 20 ∧
      vp_in s1 (C q1).2 ∧
      ∀ I4 : MI, I4 = va_up I q1 (va_up (I q1) s1.toNatClampNeg (s2 + s3)) →
      Q239 x0 x1 x2 x8 (0 : Int32) (0 : Int32) C I4 J R
def PX2_trace_202 (F_X2_isThing : SPF) (F_X2_refuse : SPF) (F_X2_isTray : SPF) (F_X2_leaves : SPF) (F_X2_has : SPF) (Q65 : Nat → Int32 → Int32 → Int32 → Int64 → Int32 → MC → MI → MJ → MR → Prop) (Q126 : Nat → Int32 → Int32 → Int64 → Int64 → Int32 → MC → MI → MJ → MR → Prop) (Q239 : Nat → Int32 → Int32 → Int32 → Int32 → Int32 → MC → MI → MJ → MR → Prop) (K : AK) (x0 : Nat) (x1 : Int32) (x2 : Int32) (s0 : Int32) (C : MC) (I : MI) (J : MJ) (R : MR) : Prop :=
      (C x0).1 = 3 ∧
      ∃ q2 : Nat, R x0 18 = some q2 ∧
      (C q2).1 = 20 ∧
      vp_in x1 (C q2).2 ∧
      ∀ I5 : MI, I5 = va_up I q2 (va_up (I q2) x1.toNatClampNeg ((I q2 x1.toNatClampNeg) + (1 : Int32))) →
      ∃ q6 : Nat, R x0 19 = some q6 ∧
      (C q6).1 = 20 ∧
      vp_in x1 (C q6).2 ∧
      ((s0 = 0 →
      PX2_trace_231 F_X2_isThing F_X2_refuse F_X2_isTray F_X2_leaves F_X2_has Q65 Q126 Q239 K x0 x1 x2 s0 (R x0 19) x1 (I5 q6 x1.toNatClampNeg) (0 : Int32) C I5 J R) ∧
      (¬ s0 = 0 →
      PX2_trace_231 F_X2_isThing F_X2_refuse F_X2_isTray F_X2_leaves F_X2_has Q65 Q126 Q239 K x0 x1 x2 s0 (R x0 19) x1 (I5 q6 x1.toNatClampNeg) (1 : Int32) C I5 J R))
def PX2_trace_180 (F_X2_isThing : SPF) (F_X2_refuse : SPF) (F_X2_isTray : SPF) (F_X2_leaves : SPF) (F_X2_has : SPF) (Q65 : Nat → Int32 → Int32 → Int32 → Int64 → Int32 → MC → MI → MJ → MR → Prop) (Q126 : Nat → Int32 → Int32 → Int64 → Int64 → Int32 → MC → MI → MJ → MR → Prop) (Q239 : Nat → Int32 → Int32 → Int32 → Int32 → Int32 → MC → MI → MJ → MR → Prop) (K : AK) (x0 : Nat) (x1 : Int32) (x2 : Int32) (x4 : Int64) (x8 : Int32) (s0 : Int64) (s1 : Int64) (C : MC) (I : MI) (J : MJ) (R : MR) : Prop :=
      Q126 x0 x1 x2 x4 (s0 + s1) (x8 + 1) C I J R
def PX2_trace_179 (F_X2_isThing : SPF) (F_X2_refuse : SPF) (F_X2_isTray : SPF) (F_X2_leaves : SPF) (F_X2_has : SPF) (Q65 : Nat → Int32 → Int32 → Int32 → Int64 → Int32 → MC → MI → MJ → MR → Prop) (Q126 : Nat → Int32 → Int32 → Int64 → Int64 → Int32 → MC → MI → MJ → MR → Prop) (Q239 : Nat → Int32 → Int32 → Int32 → Int32 → Int32 → MC → MI → MJ → MR → Prop) (K : AK) (x0 : Nat) (x1 : Int32) (x2 : Int32) (x4 : Int64) (x8 : Int32) (s0 : Int64) (C : MC) (I : MI) (J : MJ) (R : MR) : Prop :=
      PX2_trace_180 F_X2_isThing F_X2_refuse F_X2_isTray F_X2_leaves F_X2_has Q65 Q126 Q239 K x0 x1 x2 x4 x8 s0 (0 : Int64) C I J R
def PX2_trace_126 (F_X2_isThing : SPF) (F_X2_refuse : SPF) (F_X2_isTray : SPF) (F_X2_leaves : SPF) (F_X2_has : SPF) (Q65 : Nat → Int32 → Int32 → Int32 → Int64 → Int32 → MC → MI → MJ → MR → Prop) (Q126 : Nat → Int32 → Int32 → Int64 → Int64 → Int32 → MC → MI → MJ → MR → Prop) (Q239 : Nat → Int32 → Int32 → Int32 → Int32 → Int32 → MC → MI → MJ → MR → Prop) (K : AK) (x0 : Nat) (x1 : Int32) (x2 : Int32) (x4 : Int64) (x6 : Int64) (x8 : Int32) (C : MC) (I : MI) (J : MJ) (R : MR) : Prop :=
      (C x0).1 = 3 ∧
      (((I x0 6) ≤ x8 →
      ((x4 ≤ x6 →
      PX2_trace_202 F_X2_isThing F_X2_refuse F_X2_isTray F_X2_leaves F_X2_has Q65 Q126 Q239 K x0 x1 x2 (0 : Int32) C I J R) ∧
      (¬ x4 ≤ x6 →
      PX2_trace_202 F_X2_isThing F_X2_refuse F_X2_isTray F_X2_leaves F_X2_has Q65 Q126 Q239 K x0 x1 x2 (1 : Int32) C I J R))) ∧
      (¬ (I x0 6) ≤ x8 →
      ∃ q4 : Nat, R x0 7 = some q4 ∧
      (C q4).1 = 20 ∧
      vp_in x8 (C q4).2 ∧
      ((¬ (I q4 x8.toNatClampNeg) = 0 →
      PX2_trace_179 F_X2_isThing F_X2_refuse F_X2_isTray F_X2_leaves F_X2_has Q65 Q126 Q239 K x0 x1 x2 x4 x8 x6 C I J R) ∧
      ((I q4 x8.toNatClampNeg) = 0 →
      F_X2_has [aR (some x0), aI x1, aI x8] C I J R (fun o C8 I9 J10 R11 =>
      ∃ r12 : Int32, o = .inl (some (aI r12)) ∧
      ((r12 = 0 →
      PX2_trace_179 F_X2_isThing F_X2_refuse F_X2_isTray F_X2_leaves F_X2_has Q65 Q126 Q239 K x0 x1 x2 x4 x8 x6 C8 I9 J10 R11) ∧
      (¬ r12 = 0 →
      (C8 x0).1 = 3 ∧
      ∃ q15 : Nat, R11 x0 16 = some q15 ∧
      (C8 q15).1 = 20 ∧
      vp_in x8 (C8 q15).2 ∧
      (((I9 q15 x8.toNatClampNeg) = (-1 : Int32) →
      PX2_trace_179 F_X2_isThing F_X2_refuse F_X2_isTray F_X2_leaves F_X2_has Q65 Q126 Q239 K x0 x1 x2 x4 x8 x6 C8 I9 J10 R11) ∧
      (¬ (I9 q15 x8.toNatClampNeg) = (-1 : Int32) →
      PX2_trace_180 F_X2_isThing F_X2_refuse F_X2_isTray F_X2_leaves F_X2_has Q65 Q126 Q239 K x0 x1 x2 x4 x8 x6 ((I9 q15 x8.toNatClampNeg).toInt64) C8 I9 J10 R11)))))))))
def PX2_trace_65 (F_X2_isThing : SPF) (F_X2_refuse : SPF) (F_X2_isTray : SPF) (F_X2_leaves : SPF) (F_X2_has : SPF) (Q65 : Nat → Int32 → Int32 → Int32 → Int64 → Int32 → MC → MI → MJ → MR → Prop) (Q126 : Nat → Int32 → Int32 → Int64 → Int64 → Int32 → MC → MI → MJ → MR → Prop) (Q239 : Nat → Int32 → Int32 → Int32 → Int32 → Int32 → MC → MI → MJ → MR → Prop) (K : AK) (x0 : Nat) (x1 : Int32) (x2 : Int32) (x3 : Int32) (x4 : Int64) (x6 : Int32) (C : MC) (I : MI) (J : MJ) (R : MR) : Prop :=
      ((x3 ≤ x6 →
      Q126 x0 x1 x2 x4 (0 : Int64) (0 : Int32) C I J R) ∧
      (¬ x3 ≤ x6 →
      (C x0).1 = 3 ∧
      ∃ q3 : Nat, R x0 5 = some q3 ∧
      (C q3).1 = 21 ∧
      vp_in (((60 : Int32) * x2) + x6) (C q3).2 ∧
      (((J q3 (((60 : Int32) * x2) + x6).toNatClampNeg) < (0 : Int64) →
      F_X2_refuse [aR (some x0), aI (1 : Int32)] C I J R (fun o C7 I8 J9 R10 =>
      ∃ r11 : Int32, o = .inl (some (aI r11)) ∧
      K (.inl (some (aI r11))) C7 I8 J9 R10)) ∧
      (¬ (J q3 (((60 : Int32) * x2) + x6).toNatClampNeg) < (0 : Int64) →
      (((J q3 (((60 : Int32) * x2) + x6).toNatClampNeg) ≤ (1000 : Int64) →
      Q65 x0 x1 x2 x3 (x4 + (J q3 (((60 : Int32) * x2) + x6).toNatClampNeg)) (x6 + 1) C I J R) ∧
      (¬ (J q3 (((60 : Int32) * x2) + x6).toNatClampNeg) ≤ (1000 : Int64) →
      F_X2_refuse [aR (some x0), aI (1 : Int32)] C I J R (fun o C13 I14 J15 R16 =>
      ∃ r17 : Int32, o = .inl (some (aI r17)) ∧
      K (.inl (some (aI r17))) C13 I14 J15 R16)))))))
def PX2_trace_0 (F_X2_isThing : SPF) (F_X2_refuse : SPF) (F_X2_isTray : SPF) (F_X2_leaves : SPF) (F_X2_has : SPF) (Q65 : Nat → Int32 → Int32 → Int32 → Int64 → Int32 → MC → MI → MJ → MR → Prop) (Q126 : Nat → Int32 → Int32 → Int64 → Int64 → Int32 → MC → MI → MJ → MR → Prop) (Q239 : Nat → Int32 → Int32 → Int32 → Int32 → Int32 → MC → MI → MJ → MR → Prop) (K : AK) (x0 : Nat) (x1 : Int32) (x2 : Int32) (C : MC) (I : MI) (J : MJ) (R : MR) : Prop :=
      (C x0).1 = 3 ∧
      F_X2_isThing [aR (some x0), aI x1] C I J R (fun o C2 I3 J4 R5 =>
      ∃ r6 : Int32, o = .inl (some (aI r6)) ∧
      ((r6 = 0 →
      (C2 x0).1 = 3 ∧
      F_X2_refuse [aR (some x0), aI (1 : Int32)] C2 I3 J4 R5 (fun o C9 I10 J11 R12 =>
      ∃ r13 : Int32, o = .inl (some (aI r13)) ∧
      K (.inl (some (aI r13))) C9 I10 J11 R12)) ∧
      (¬ r6 = 0 →
      F_X2_isTray [aI x2] C2 I3 J4 R5 (fun o C14 I15 J16 R17 =>
      ∃ r18 : Int32, o = .inl (some (aI r18)) ∧
      ((¬ r18 = 0 →
      (C14 x0).1 = 3 ∧
      ∃ q21 : Nat, R17 x0 4 = some q21 ∧
      (C14 q21).1 = 20 ∧
      vp_in x2 (C14 q21).2 ∧
      ((¬ (I15 q21 x2.toNatClampNeg) = (-1 : Int32) →
      F_X2_leaves [aR (some x0), aI x1] C14 I15 J16 R17 (fun o C25 I26 J27 R28 =>
      ∃ r29 : Int32, o = .inl (some (aI r29)) ∧
      (C25 x0).1 = 3 ∧
      ∃ q31 : Nat, R28 x0 4 = some q31 ∧
      (C25 q31).1 = 20 ∧
      vp_in x2 (C25 q31).2 ∧
      ((r29 ≤ (I26 q31 x2.toNatClampNeg) →
      Q65 x0 x1 x2 r29 (0 : Int64) (0 : Int32) C25 I26 J27 R28) ∧
      (¬ r29 ≤ (I26 q31 x2.toNatClampNeg) →
      F_X2_refuse [aR (some x0), aI (3 : Int32)] C25 I26 J27 R28 (fun o C35 I36 J37 R38 =>
      ∃ r39 : Int32, o = .inl (some (aI r39)) ∧
      K (.inl (some (aI r39))) C35 I36 J37 R38))))) ∧
      ((I15 q21 x2.toNatClampNeg) = (-1 : Int32) →
      F_X2_refuse [aR (some x0), aI (2 : Int32)] C14 I15 J16 R17 (fun o C40 I41 J42 R43 =>
      ∃ r44 : Int32, o = .inl (some (aI r44)) ∧
      K (.inl (some (aI r44))) C40 I41 J42 R43)))) ∧
      (r18 = 0 →
      (C14 x0).1 = 3 ∧
      F_X2_refuse [aR (some x0), aI (1 : Int32)] C14 I15 J16 R17 (fun o C46 I47 J48 R49 =>
      ∃ r50 : Int32, o = .inl (some (aI r50)) ∧
      K (.inl (some (aI r50))) C46 I47 J48 R49)))))))
theorem wX2_trace {l : Launch}  {F_X2_isThing : SPF} (S_X2_isThing : SpX2_isThing l F_X2_isThing) {F_X2_refuse : SPF} (S_X2_refuse : SpX2_refuse l F_X2_refuse) {F_X2_isTray : SPF} (S_X2_isTray : SpX2_isTray l F_X2_isTray) {F_X2_leaves : SPF} (S_X2_leaves : SpX2_leaves l F_X2_leaves) {F_X2_has : SPF} (S_X2_has : SpX2_has l F_X2_has)
    (Q65 : Nat → AK → Nat → Int32 → Int32 → Int32 → Int64 → Int32 → MC → MI → MJ → MR → Prop)
    (Q126 : Nat → AK → Nat → Int32 → Int32 → Int64 → Int64 → Int32 → MC → MI → MJ → MR → Prop)
    (Q239 : Nat → AK → Nat → Int32 → Int32 → Int32 → Int32 → Int32 → MC → MI → MJ → MR → Prop) {F : SPF}
    (h0 : ∀ (As : List AV) (C : MC) (I : MI) (J : MJ) (R : MR) (K : AK), F As C I J R K → ∃ (x0 : Nat) (x1 : Int32) (x2 : Int32), As = [aR (some x0), aI x1, aI x2] ∧ PX2_trace_0 F_X2_isThing F_X2_refuse F_X2_isTray F_X2_leaves F_X2_has (fun (x0 : Nat) (x1 : Int32) (x2 : Int32) (x3 : Int32) (x4 : Int64) (x6 : Int32) (C : MC) (I : MI) (J : MJ) (R : MR) => ∃ n, Q65 n K x0 x1 x2 x3 x4 x6 C I J R) (fun (x0 : Nat) (x1 : Int32) (x2 : Int32) (x4 : Int64) (x6 : Int64) (x8 : Int32) (C : MC) (I : MI) (J : MJ) (R : MR) => ∃ n, Q126 n K x0 x1 x2 x4 x6 x8 C I J R) (fun (x0 : Nat) (x1 : Int32) (x2 : Int32) (x8 : Int32) (x9 : Int32) (x10 : Int32) (C : MC) (I : MI) (J : MJ) (R : MR) => ∃ n, Q239 n K x0 x1 x2 x8 x9 x10 C I J R) K x0 x1 x2 C I J R)
    (h65 : ∀ (n : Nat) (K : AK) (x0 : Nat) (x1 : Int32) (x2 : Int32) (x3 : Int32) (x4 : Int64) (x6 : Int32) (C : MC) (I : MI) (J : MJ) (R : MR), Q65 n K x0 x1 x2 x3 x4 x6 C I J R → PX2_trace_65 F_X2_isThing F_X2_refuse F_X2_isTray F_X2_leaves F_X2_has (fun (x0 : Nat) (x1 : Int32) (x2 : Int32) (x3 : Int32) (x4 : Int64) (x6 : Int32) (C : MC) (I : MI) (J : MJ) (R : MR) => ∃ m, m < n ∧ Q65 m K x0 x1 x2 x3 x4 x6 C I J R) (fun (x0 : Nat) (x1 : Int32) (x2 : Int32) (x4 : Int64) (x6 : Int64) (x8 : Int32) (C : MC) (I : MI) (J : MJ) (R : MR) => ∃ m, m < n ∧ Q126 m K x0 x1 x2 x4 x6 x8 C I J R) (fun (x0 : Nat) (x1 : Int32) (x2 : Int32) (x8 : Int32) (x9 : Int32) (x10 : Int32) (C : MC) (I : MI) (J : MJ) (R : MR) => ∃ m, m < n ∧ Q239 m K x0 x1 x2 x8 x9 x10 C I J R) K x0 x1 x2 x3 x4 x6 C I J R)
    (h126 : ∀ (n : Nat) (K : AK) (x0 : Nat) (x1 : Int32) (x2 : Int32) (x4 : Int64) (x6 : Int64) (x8 : Int32) (C : MC) (I : MI) (J : MJ) (R : MR), Q126 n K x0 x1 x2 x4 x6 x8 C I J R → PX2_trace_126 F_X2_isThing F_X2_refuse F_X2_isTray F_X2_leaves F_X2_has (fun (x0 : Nat) (x1 : Int32) (x2 : Int32) (x3 : Int32) (x4 : Int64) (x6 : Int32) (C : MC) (I : MI) (J : MJ) (R : MR) => ∃ m, m < n ∧ Q65 m K x0 x1 x2 x3 x4 x6 C I J R) (fun (x0 : Nat) (x1 : Int32) (x2 : Int32) (x4 : Int64) (x6 : Int64) (x8 : Int32) (C : MC) (I : MI) (J : MJ) (R : MR) => ∃ m, m < n ∧ Q126 m K x0 x1 x2 x4 x6 x8 C I J R) (fun (x0 : Nat) (x1 : Int32) (x2 : Int32) (x8 : Int32) (x9 : Int32) (x10 : Int32) (C : MC) (I : MI) (J : MJ) (R : MR) => ∃ m, m < n ∧ Q239 m K x0 x1 x2 x8 x9 x10 C I J R) K x0 x1 x2 x4 x6 x8 C I J R)
    (h239 : ∀ (n : Nat) (K : AK) (x0 : Nat) (x1 : Int32) (x2 : Int32) (x8 : Int32) (x9 : Int32) (x10 : Int32) (C : MC) (I : MI) (J : MJ) (R : MR), Q239 n K x0 x1 x2 x8 x9 x10 C I J R → PX2_trace_239 F_X2_isThing F_X2_refuse F_X2_isTray F_X2_leaves F_X2_has (fun (x0 : Nat) (x1 : Int32) (x2 : Int32) (x3 : Int32) (x4 : Int64) (x6 : Int32) (C : MC) (I : MI) (J : MJ) (R : MR) => ∃ m, m < n ∧ Q65 m K x0 x1 x2 x3 x4 x6 C I J R) (fun (x0 : Nat) (x1 : Int32) (x2 : Int32) (x4 : Int64) (x6 : Int64) (x8 : Int32) (C : MC) (I : MI) (J : MJ) (R : MR) => ∃ m, m < n ∧ Q126 m K x0 x1 x2 x4 x6 x8 C I J R) (fun (x0 : Nat) (x1 : Int32) (x2 : Int32) (x8 : Int32) (x9 : Int32) (x10 : Int32) (C : MC) (I : MI) (J : MJ) (R : MR) => ∃ m, m < n ∧ Q239 m K x0 x1 x2 x8 x9 x10 C I J R) K x0 x1 x2 x8 x9 x10 C I J R) : SpX2_trace l F := by
  refine Spec.of (by rfl) ?_
  intro Γ C I J R As Gd gl gr _ _ gb hF
  subst gl
  have G : Gb Γ yX2_trace cX2_trace 11 (some .int) [] rmX2_trace bdX2_trace := ⟨Gd, gr, gb⟩
  have key : ∀ n : Nat, (∀ (x0 : Nat) (x1 : Int32) (x2 : Int32) (x3 : Int32) (x4 : Int64) (x6 : Int32) (C : MC) (I : MI) (J : MJ) (R : MR), Q65 n (gK Γ) x0 x1 x2 x3 x4 x6 C I J R → AW Γ 0 0 C I J R 65 [(0, aR (some x0)), (1, aI x1), (2, aI x2), (3, aI x3), (4, aJ x4), (6, aI x6)] []) ∧ (∀ (x0 : Nat) (x1 : Int32) (x2 : Int32) (x4 : Int64) (x6 : Int64) (x8 : Int32) (C : MC) (I : MI) (J : MJ) (R : MR), Q126 n (gK Γ) x0 x1 x2 x4 x6 x8 C I J R → AW Γ 0 0 C I J R 126 [(0, aR (some x0)), (1, aI x1), (2, aI x2), (4, aJ x4), (6, aJ x6), (8, aI x8)] []) ∧ (∀ (x0 : Nat) (x1 : Int32) (x2 : Int32) (x8 : Int32) (x9 : Int32) (x10 : Int32) (C : MC) (I : MI) (J : MJ) (R : MR), Q239 n (gK Γ) x0 x1 x2 x8 x9 x10 C I J R → AW Γ 0 0 C I J R 239 [(0, aR (some x0)), (1, aI x1), (2, aI x2), (8, aI x8), (9, aI x9), (10, aI x10)] []) := by
    intro n
    induction n using Nat.strongRecOn with
    | ind n ih =>
    have w65 : ∀ (x0 : Nat) (x1 : Int32) (x2 : Int32) (x3 : Int32) (x4 : Int64) (x6 : Int32) (C : MC) (I : MI) (J : MJ) (R : MR), (∃ m, m < n ∧ Q65 m (gK Γ) x0 x1 x2 x3 x4 x6 C I J R) → AW Γ 0 0 C I J R 65 [(0, aR (some x0)), (1, aI x1), (2, aI x2), (3, aI x3), (4, aJ x4), (6, aI x6)] [] := fun x0 x1 x2 x3 x4 x6 C I J R ⟨m, hm, hq⟩ => (ih m hm).1 x0 x1 x2 x3 x4 x6 C I J R hq
    have w126 : ∀ (x0 : Nat) (x1 : Int32) (x2 : Int32) (x4 : Int64) (x6 : Int64) (x8 : Int32) (C : MC) (I : MI) (J : MJ) (R : MR), (∃ m, m < n ∧ Q126 m (gK Γ) x0 x1 x2 x4 x6 x8 C I J R) → AW Γ 0 0 C I J R 126 [(0, aR (some x0)), (1, aI x1), (2, aI x2), (4, aJ x4), (6, aJ x6), (8, aI x8)] [] := fun x0 x1 x2 x4 x6 x8 C I J R ⟨m, hm, hq⟩ => (ih m hm).2.1 x0 x1 x2 x4 x6 x8 C I J R hq
    have w239 : ∀ (x0 : Nat) (x1 : Int32) (x2 : Int32) (x8 : Int32) (x9 : Int32) (x10 : Int32) (C : MC) (I : MI) (J : MJ) (R : MR), (∃ m, m < n ∧ Q239 m (gK Γ) x0 x1 x2 x8 x9 x10 C I J R) → AW Γ 0 0 C I J R 239 [(0, aR (some x0)), (1, aI x1), (2, aI x2), (8, aI x8), (9, aI x9), (10, aI x10)] [] := fun x0 x1 x2 x8 x9 x10 C I J R ⟨m, hm, hq⟩ => (ih m hm).2.2 x0 x1 x2 x8 x9 x10 C I J R hq
    have w318 : ∀ (x0 : Nat) (x1 : Int32) (x2 : Int32) (x8 : Int32) (x9 : Int32) (x10 : Int32) (C : MC) (I : MI) (J : MJ) (R : MR), PX2_trace_318 F_X2_isThing F_X2_refuse F_X2_isTray F_X2_leaves F_X2_has (fun (x0 : Nat) (x1 : Int32) (x2 : Int32) (x3 : Int32) (x4 : Int64) (x6 : Int32) (C : MC) (I : MI) (J : MJ) (R : MR) => ∃ m, m < n ∧ Q65 m (gK Γ) x0 x1 x2 x3 x4 x6 C I J R) (fun (x0 : Nat) (x1 : Int32) (x2 : Int32) (x4 : Int64) (x6 : Int64) (x8 : Int32) (C : MC) (I : MI) (J : MJ) (R : MR) => ∃ m, m < n ∧ Q126 m (gK Γ) x0 x1 x2 x4 x6 x8 C I J R) (fun (x0 : Nat) (x1 : Int32) (x2 : Int32) (x8 : Int32) (x9 : Int32) (x10 : Int32) (C : MC) (I : MI) (J : MJ) (R : MR) => ∃ m, m < n ∧ Q239 m (gK Γ) x0 x1 x2 x8 x9 x10 C I J R) (gK Γ) x0 x1 x2 x8 x9 x10 C I J R → AW Γ 0 0 C I J R 318 [(0, aR (some x0)), (1, aI x1), (2, aI x2), (8, aI x8), (9, aI x9), (10, aI x10)] [] := fun x0 x1 x2 x8 x9 x10 C I J R h => bX2_trace_318 G w239 h
    have w315 : ∀ (x0 : Nat) (x1 : Int32) (x2 : Int32) (x8 : Int32) (x9 : Int32) (x10 : Int32) (C : MC) (I : MI) (J : MJ) (R : MR), PX2_trace_315 F_X2_isThing F_X2_refuse F_X2_isTray F_X2_leaves F_X2_has (fun (x0 : Nat) (x1 : Int32) (x2 : Int32) (x3 : Int32) (x4 : Int64) (x6 : Int32) (C : MC) (I : MI) (J : MJ) (R : MR) => ∃ m, m < n ∧ Q65 m (gK Γ) x0 x1 x2 x3 x4 x6 C I J R) (fun (x0 : Nat) (x1 : Int32) (x2 : Int32) (x4 : Int64) (x6 : Int64) (x8 : Int32) (C : MC) (I : MI) (J : MJ) (R : MR) => ∃ m, m < n ∧ Q126 m (gK Γ) x0 x1 x2 x4 x6 x8 C I J R) (fun (x0 : Nat) (x1 : Int32) (x2 : Int32) (x8 : Int32) (x9 : Int32) (x10 : Int32) (C : MC) (I : MI) (J : MJ) (R : MR) => ∃ m, m < n ∧ Q239 m (gK Γ) x0 x1 x2 x8 x9 x10 C I J R) (gK Γ) x0 x1 x2 x8 x9 x10 C I J R → AW Γ 0 0 C I J R 315 [(0, aR (some x0)), (1, aI x1), (2, aI x2), (8, aI x8), (9, aI x9), (10, aI x10)] [] := fun x0 x1 x2 x8 x9 x10 C I J R h => bX2_trace_315 G w318 h
    have w231 : ∀ (x0 : Nat) (x1 : Int32) (x2 : Int32) (x8 : Int32) (s0 : Option Nat) (s1 : Int32) (s2 : Int32) (s3 : Int32) (C : MC) (I : MI) (J : MJ) (R : MR), PX2_trace_231 F_X2_isThing F_X2_refuse F_X2_isTray F_X2_leaves F_X2_has (fun (x0 : Nat) (x1 : Int32) (x2 : Int32) (x3 : Int32) (x4 : Int64) (x6 : Int32) (C : MC) (I : MI) (J : MJ) (R : MR) => ∃ m, m < n ∧ Q65 m (gK Γ) x0 x1 x2 x3 x4 x6 C I J R) (fun (x0 : Nat) (x1 : Int32) (x2 : Int32) (x4 : Int64) (x6 : Int64) (x8 : Int32) (C : MC) (I : MI) (J : MJ) (R : MR) => ∃ m, m < n ∧ Q126 m (gK Γ) x0 x1 x2 x4 x6 x8 C I J R) (fun (x0 : Nat) (x1 : Int32) (x2 : Int32) (x8 : Int32) (x9 : Int32) (x10 : Int32) (C : MC) (I : MI) (J : MJ) (R : MR) => ∃ m, m < n ∧ Q239 m (gK Γ) x0 x1 x2 x8 x9 x10 C I J R) (gK Γ) x0 x1 x2 x8 s0 s1 s2 s3 C I J R → AW Γ 0 0 C I J R 231 [(0, aR (some x0)), (1, aI x1), (2, aI x2), (8, aI x8)] [aI s3, aI s2, aI s1, aR s0] := fun x0 x1 x2 x8 s0 s1 s2 s3 C I J R h => bX2_trace_231 G w239 h
    have w202 : ∀ (x0 : Nat) (x1 : Int32) (x2 : Int32) (s0 : Int32) (C : MC) (I : MI) (J : MJ) (R : MR), PX2_trace_202 F_X2_isThing F_X2_refuse F_X2_isTray F_X2_leaves F_X2_has (fun (x0 : Nat) (x1 : Int32) (x2 : Int32) (x3 : Int32) (x4 : Int64) (x6 : Int32) (C : MC) (I : MI) (J : MJ) (R : MR) => ∃ m, m < n ∧ Q65 m (gK Γ) x0 x1 x2 x3 x4 x6 C I J R) (fun (x0 : Nat) (x1 : Int32) (x2 : Int32) (x4 : Int64) (x6 : Int64) (x8 : Int32) (C : MC) (I : MI) (J : MJ) (R : MR) => ∃ m, m < n ∧ Q126 m (gK Γ) x0 x1 x2 x4 x6 x8 C I J R) (fun (x0 : Nat) (x1 : Int32) (x2 : Int32) (x8 : Int32) (x9 : Int32) (x10 : Int32) (C : MC) (I : MI) (J : MJ) (R : MR) => ∃ m, m < n ∧ Q239 m (gK Γ) x0 x1 x2 x8 x9 x10 C I J R) (gK Γ) x0 x1 x2 s0 C I J R → AW Γ 0 0 C I J R 202 [(0, aR (some x0)), (1, aI x1), (2, aI x2)] [aI s0] := fun x0 x1 x2 s0 C I J R h => bX2_trace_202 G w231 h
    have w180 : ∀ (x0 : Nat) (x1 : Int32) (x2 : Int32) (x4 : Int64) (x8 : Int32) (s0 : Int64) (s1 : Int64) (C : MC) (I : MI) (J : MJ) (R : MR), PX2_trace_180 F_X2_isThing F_X2_refuse F_X2_isTray F_X2_leaves F_X2_has (fun (x0 : Nat) (x1 : Int32) (x2 : Int32) (x3 : Int32) (x4 : Int64) (x6 : Int32) (C : MC) (I : MI) (J : MJ) (R : MR) => ∃ m, m < n ∧ Q65 m (gK Γ) x0 x1 x2 x3 x4 x6 C I J R) (fun (x0 : Nat) (x1 : Int32) (x2 : Int32) (x4 : Int64) (x6 : Int64) (x8 : Int32) (C : MC) (I : MI) (J : MJ) (R : MR) => ∃ m, m < n ∧ Q126 m (gK Γ) x0 x1 x2 x4 x6 x8 C I J R) (fun (x0 : Nat) (x1 : Int32) (x2 : Int32) (x8 : Int32) (x9 : Int32) (x10 : Int32) (C : MC) (I : MI) (J : MJ) (R : MR) => ∃ m, m < n ∧ Q239 m (gK Γ) x0 x1 x2 x8 x9 x10 C I J R) (gK Γ) x0 x1 x2 x4 x8 s0 s1 C I J R → AW Γ 0 0 C I J R 180 [(0, aR (some x0)), (1, aI x1), (2, aI x2), (4, aJ x4), (8, aI x8)] [aJ s1, aJ s0] := fun x0 x1 x2 x4 x8 s0 s1 C I J R h => bX2_trace_180 G w126 h
    have w179 : ∀ (x0 : Nat) (x1 : Int32) (x2 : Int32) (x4 : Int64) (x8 : Int32) (s0 : Int64) (C : MC) (I : MI) (J : MJ) (R : MR), PX2_trace_179 F_X2_isThing F_X2_refuse F_X2_isTray F_X2_leaves F_X2_has (fun (x0 : Nat) (x1 : Int32) (x2 : Int32) (x3 : Int32) (x4 : Int64) (x6 : Int32) (C : MC) (I : MI) (J : MJ) (R : MR) => ∃ m, m < n ∧ Q65 m (gK Γ) x0 x1 x2 x3 x4 x6 C I J R) (fun (x0 : Nat) (x1 : Int32) (x2 : Int32) (x4 : Int64) (x6 : Int64) (x8 : Int32) (C : MC) (I : MI) (J : MJ) (R : MR) => ∃ m, m < n ∧ Q126 m (gK Γ) x0 x1 x2 x4 x6 x8 C I J R) (fun (x0 : Nat) (x1 : Int32) (x2 : Int32) (x8 : Int32) (x9 : Int32) (x10 : Int32) (C : MC) (I : MI) (J : MJ) (R : MR) => ∃ m, m < n ∧ Q239 m (gK Γ) x0 x1 x2 x8 x9 x10 C I J R) (gK Γ) x0 x1 x2 x4 x8 s0 C I J R → AW Γ 0 0 C I J R 179 [(0, aR (some x0)), (1, aI x1), (2, aI x2), (4, aJ x4), (8, aI x8)] [aJ s0] := fun x0 x1 x2 x4 x8 s0 C I J R h => bX2_trace_179 G w180 h
    exact ⟨fun x0 x1 x2 x3 x4 x6 C I J R h => bX2_trace_65 G S_X2_refuse w65 w126 (h65 n (gK Γ) x0 x1 x2 x3 x4 x6 C I J R h), fun x0 x1 x2 x4 x6 x8 C I J R h => bX2_trace_126 G S_X2_has w179 w180 w202 (h126 n (gK Γ) x0 x1 x2 x4 x6 x8 C I J R h), fun x0 x1 x2 x8 x9 x10 C I J R h => bX2_trace_239 G S_X2_has w315 w318 (h239 n (gK Γ) x0 x1 x2 x8 x9 x10 C I J R h)⟩
  have w65 : ∀ (x0 : Nat) (x1 : Int32) (x2 : Int32) (x3 : Int32) (x4 : Int64) (x6 : Int32) (C : MC) (I : MI) (J : MJ) (R : MR), (∃ n, Q65 n (gK Γ) x0 x1 x2 x3 x4 x6 C I J R) → AW Γ 0 0 C I J R 65 [(0, aR (some x0)), (1, aI x1), (2, aI x2), (3, aI x3), (4, aJ x4), (6, aI x6)] [] := fun x0 x1 x2 x3 x4 x6 C I J R ⟨m, hq⟩ => (key m).1 x0 x1 x2 x3 x4 x6 C I J R hq
  have w126 : ∀ (x0 : Nat) (x1 : Int32) (x2 : Int32) (x4 : Int64) (x6 : Int64) (x8 : Int32) (C : MC) (I : MI) (J : MJ) (R : MR), (∃ n, Q126 n (gK Γ) x0 x1 x2 x4 x6 x8 C I J R) → AW Γ 0 0 C I J R 126 [(0, aR (some x0)), (1, aI x1), (2, aI x2), (4, aJ x4), (6, aJ x6), (8, aI x8)] [] := fun x0 x1 x2 x4 x6 x8 C I J R ⟨m, hq⟩ => (key m).2.1 x0 x1 x2 x4 x6 x8 C I J R hq
  have w239 : ∀ (x0 : Nat) (x1 : Int32) (x2 : Int32) (x8 : Int32) (x9 : Int32) (x10 : Int32) (C : MC) (I : MI) (J : MJ) (R : MR), (∃ n, Q239 n (gK Γ) x0 x1 x2 x8 x9 x10 C I J R) → AW Γ 0 0 C I J R 239 [(0, aR (some x0)), (1, aI x1), (2, aI x2), (8, aI x8), (9, aI x9), (10, aI x10)] [] := fun x0 x1 x2 x8 x9 x10 C I J R ⟨m, hq⟩ => (key m).2.2 x0 x1 x2 x8 x9 x10 C I J R hq
  have w318 : ∀ (x0 : Nat) (x1 : Int32) (x2 : Int32) (x8 : Int32) (x9 : Int32) (x10 : Int32) (C : MC) (I : MI) (J : MJ) (R : MR), PX2_trace_318 F_X2_isThing F_X2_refuse F_X2_isTray F_X2_leaves F_X2_has (fun (x0 : Nat) (x1 : Int32) (x2 : Int32) (x3 : Int32) (x4 : Int64) (x6 : Int32) (C : MC) (I : MI) (J : MJ) (R : MR) => ∃ n, Q65 n (gK Γ) x0 x1 x2 x3 x4 x6 C I J R) (fun (x0 : Nat) (x1 : Int32) (x2 : Int32) (x4 : Int64) (x6 : Int64) (x8 : Int32) (C : MC) (I : MI) (J : MJ) (R : MR) => ∃ n, Q126 n (gK Γ) x0 x1 x2 x4 x6 x8 C I J R) (fun (x0 : Nat) (x1 : Int32) (x2 : Int32) (x8 : Int32) (x9 : Int32) (x10 : Int32) (C : MC) (I : MI) (J : MJ) (R : MR) => ∃ n, Q239 n (gK Γ) x0 x1 x2 x8 x9 x10 C I J R) (gK Γ) x0 x1 x2 x8 x9 x10 C I J R → AW Γ 0 0 C I J R 318 [(0, aR (some x0)), (1, aI x1), (2, aI x2), (8, aI x8), (9, aI x9), (10, aI x10)] [] := fun x0 x1 x2 x8 x9 x10 C I J R h => bX2_trace_318 G w239 h
  have w315 : ∀ (x0 : Nat) (x1 : Int32) (x2 : Int32) (x8 : Int32) (x9 : Int32) (x10 : Int32) (C : MC) (I : MI) (J : MJ) (R : MR), PX2_trace_315 F_X2_isThing F_X2_refuse F_X2_isTray F_X2_leaves F_X2_has (fun (x0 : Nat) (x1 : Int32) (x2 : Int32) (x3 : Int32) (x4 : Int64) (x6 : Int32) (C : MC) (I : MI) (J : MJ) (R : MR) => ∃ n, Q65 n (gK Γ) x0 x1 x2 x3 x4 x6 C I J R) (fun (x0 : Nat) (x1 : Int32) (x2 : Int32) (x4 : Int64) (x6 : Int64) (x8 : Int32) (C : MC) (I : MI) (J : MJ) (R : MR) => ∃ n, Q126 n (gK Γ) x0 x1 x2 x4 x6 x8 C I J R) (fun (x0 : Nat) (x1 : Int32) (x2 : Int32) (x8 : Int32) (x9 : Int32) (x10 : Int32) (C : MC) (I : MI) (J : MJ) (R : MR) => ∃ n, Q239 n (gK Γ) x0 x1 x2 x8 x9 x10 C I J R) (gK Γ) x0 x1 x2 x8 x9 x10 C I J R → AW Γ 0 0 C I J R 315 [(0, aR (some x0)), (1, aI x1), (2, aI x2), (8, aI x8), (9, aI x9), (10, aI x10)] [] := fun x0 x1 x2 x8 x9 x10 C I J R h => bX2_trace_315 G w318 h
  have w231 : ∀ (x0 : Nat) (x1 : Int32) (x2 : Int32) (x8 : Int32) (s0 : Option Nat) (s1 : Int32) (s2 : Int32) (s3 : Int32) (C : MC) (I : MI) (J : MJ) (R : MR), PX2_trace_231 F_X2_isThing F_X2_refuse F_X2_isTray F_X2_leaves F_X2_has (fun (x0 : Nat) (x1 : Int32) (x2 : Int32) (x3 : Int32) (x4 : Int64) (x6 : Int32) (C : MC) (I : MI) (J : MJ) (R : MR) => ∃ n, Q65 n (gK Γ) x0 x1 x2 x3 x4 x6 C I J R) (fun (x0 : Nat) (x1 : Int32) (x2 : Int32) (x4 : Int64) (x6 : Int64) (x8 : Int32) (C : MC) (I : MI) (J : MJ) (R : MR) => ∃ n, Q126 n (gK Γ) x0 x1 x2 x4 x6 x8 C I J R) (fun (x0 : Nat) (x1 : Int32) (x2 : Int32) (x8 : Int32) (x9 : Int32) (x10 : Int32) (C : MC) (I : MI) (J : MJ) (R : MR) => ∃ n, Q239 n (gK Γ) x0 x1 x2 x8 x9 x10 C I J R) (gK Γ) x0 x1 x2 x8 s0 s1 s2 s3 C I J R → AW Γ 0 0 C I J R 231 [(0, aR (some x0)), (1, aI x1), (2, aI x2), (8, aI x8)] [aI s3, aI s2, aI s1, aR s0] := fun x0 x1 x2 x8 s0 s1 s2 s3 C I J R h => bX2_trace_231 G w239 h
  have w202 : ∀ (x0 : Nat) (x1 : Int32) (x2 : Int32) (s0 : Int32) (C : MC) (I : MI) (J : MJ) (R : MR), PX2_trace_202 F_X2_isThing F_X2_refuse F_X2_isTray F_X2_leaves F_X2_has (fun (x0 : Nat) (x1 : Int32) (x2 : Int32) (x3 : Int32) (x4 : Int64) (x6 : Int32) (C : MC) (I : MI) (J : MJ) (R : MR) => ∃ n, Q65 n (gK Γ) x0 x1 x2 x3 x4 x6 C I J R) (fun (x0 : Nat) (x1 : Int32) (x2 : Int32) (x4 : Int64) (x6 : Int64) (x8 : Int32) (C : MC) (I : MI) (J : MJ) (R : MR) => ∃ n, Q126 n (gK Γ) x0 x1 x2 x4 x6 x8 C I J R) (fun (x0 : Nat) (x1 : Int32) (x2 : Int32) (x8 : Int32) (x9 : Int32) (x10 : Int32) (C : MC) (I : MI) (J : MJ) (R : MR) => ∃ n, Q239 n (gK Γ) x0 x1 x2 x8 x9 x10 C I J R) (gK Γ) x0 x1 x2 s0 C I J R → AW Γ 0 0 C I J R 202 [(0, aR (some x0)), (1, aI x1), (2, aI x2)] [aI s0] := fun x0 x1 x2 s0 C I J R h => bX2_trace_202 G w231 h
  have w180 : ∀ (x0 : Nat) (x1 : Int32) (x2 : Int32) (x4 : Int64) (x8 : Int32) (s0 : Int64) (s1 : Int64) (C : MC) (I : MI) (J : MJ) (R : MR), PX2_trace_180 F_X2_isThing F_X2_refuse F_X2_isTray F_X2_leaves F_X2_has (fun (x0 : Nat) (x1 : Int32) (x2 : Int32) (x3 : Int32) (x4 : Int64) (x6 : Int32) (C : MC) (I : MI) (J : MJ) (R : MR) => ∃ n, Q65 n (gK Γ) x0 x1 x2 x3 x4 x6 C I J R) (fun (x0 : Nat) (x1 : Int32) (x2 : Int32) (x4 : Int64) (x6 : Int64) (x8 : Int32) (C : MC) (I : MI) (J : MJ) (R : MR) => ∃ n, Q126 n (gK Γ) x0 x1 x2 x4 x6 x8 C I J R) (fun (x0 : Nat) (x1 : Int32) (x2 : Int32) (x8 : Int32) (x9 : Int32) (x10 : Int32) (C : MC) (I : MI) (J : MJ) (R : MR) => ∃ n, Q239 n (gK Γ) x0 x1 x2 x8 x9 x10 C I J R) (gK Γ) x0 x1 x2 x4 x8 s0 s1 C I J R → AW Γ 0 0 C I J R 180 [(0, aR (some x0)), (1, aI x1), (2, aI x2), (4, aJ x4), (8, aI x8)] [aJ s1, aJ s0] := fun x0 x1 x2 x4 x8 s0 s1 C I J R h => bX2_trace_180 G w126 h
  have w179 : ∀ (x0 : Nat) (x1 : Int32) (x2 : Int32) (x4 : Int64) (x8 : Int32) (s0 : Int64) (C : MC) (I : MI) (J : MJ) (R : MR), PX2_trace_179 F_X2_isThing F_X2_refuse F_X2_isTray F_X2_leaves F_X2_has (fun (x0 : Nat) (x1 : Int32) (x2 : Int32) (x3 : Int32) (x4 : Int64) (x6 : Int32) (C : MC) (I : MI) (J : MJ) (R : MR) => ∃ n, Q65 n (gK Γ) x0 x1 x2 x3 x4 x6 C I J R) (fun (x0 : Nat) (x1 : Int32) (x2 : Int32) (x4 : Int64) (x6 : Int64) (x8 : Int32) (C : MC) (I : MI) (J : MJ) (R : MR) => ∃ n, Q126 n (gK Γ) x0 x1 x2 x4 x6 x8 C I J R) (fun (x0 : Nat) (x1 : Int32) (x2 : Int32) (x8 : Int32) (x9 : Int32) (x10 : Int32) (C : MC) (I : MI) (J : MJ) (R : MR) => ∃ n, Q239 n (gK Γ) x0 x1 x2 x8 x9 x10 C I J R) (gK Γ) x0 x1 x2 x4 x8 s0 C I J R → AW Γ 0 0 C I J R 179 [(0, aR (some x0)), (1, aI x1), (2, aI x2), (4, aJ x4), (8, aI x8)] [aJ s0] := fun x0 x1 x2 x4 x8 s0 C I J R h => bX2_trace_179 G w180 h
  obtain ⟨x0, x1, x2, rfl, h⟩ := h0 As C I J R (gK Γ) hF
  exact ⟨Nat.le_of_ble_eq_true rfl, bX2_trace_0 G S_X2_isThing S_X2_refuse S_X2_isTray S_X2_leaves w65 h⟩
def PX2_traces_0 (F_X2_isThing : SPF) (F_X2_refuse : SPF) (K : AK) (x0 : Nat) (x1 : Int32) (x2 : Int32) (C : MC) (I : MI) (J : MJ) (R : MR) : Prop :=
      (C x0).1 = 3 ∧
      F_X2_isThing [aR (some x0), aI x1] C I J R (fun o C2 I3 J4 R5 =>
      ∃ r6 : Int32, o = .inl (some (aI r6)) ∧
      ((r6 = 0 →
      (C2 x0).1 = 3 ∧
      F_X2_refuse [aR (some x0), aI (1 : Int32)] C2 I3 J4 R5 (fun o C9 I10 J11 R12 =>
      ∃ r13 : Int32, o = .inl (some (aI r13)) ∧
      K (.inl (some (aI r13))) C9 I10 J11 R12)) ∧
      (¬ r6 = 0 →
      ((x2 < 0 →
      (C2 x0).1 = 3 ∧
      F_X2_refuse [aR (some x0), aI (1 : Int32)] C2 I3 J4 R5 (fun o C16 I17 J18 R19 =>
      ∃ r20 : Int32, o = .inl (some (aI r20)) ∧
      K (.inl (some (aI r20))) C16 I17 J18 R19)) ∧
      (¬ x2 < 0 →
      ((x2 ≤ (1 : Int32) →
      (C2 x0).1 = 3 ∧
      ∀ I23 : MI, I23 = va_up I3 x0 (va_up (I3 x0) 0 (0 : Int32)) →
      ((¬ x2 = 0 →
      ∃ q25 : Nat, R5 x0 19 = some q25 ∧
      (C2 q25).1 = 20 ∧
      vp_in x1 (C2 q25).2 ∧
      K (.inl (some (aI (I23 q25 x1.toNatClampNeg)))) C2 I23 J4 R5) ∧
      (x2 = 0 →
      ∃ q28 : Nat, R5 x0 18 = some q28 ∧
      (C2 q28).1 = 20 ∧
      vp_in x1 (C2 q28).2 ∧
      K (.inl (some (aI (I23 q28 x1.toNatClampNeg)))) C2 I23 J4 R5))) ∧
      (¬ x2 ≤ (1 : Int32) →
      (C2 x0).1 = 3 ∧
      F_X2_refuse [aR (some x0), aI (1 : Int32)] C2 I3 J4 R5 (fun o C32 I33 J34 R35 =>
      ∃ r36 : Int32, o = .inl (some (aI r36)) ∧
      K (.inl (some (aI r36))) C32 I33 J34 R35))))))))
theorem wX2_traces {l : Launch}  {F_X2_isThing : SPF} (S_X2_isThing : SpX2_isThing l F_X2_isThing) {F_X2_refuse : SPF} (S_X2_refuse : SpX2_refuse l F_X2_refuse) {F : SPF}
    (h0 : ∀ (As : List AV) (C : MC) (I : MI) (J : MJ) (R : MR) (K : AK), F As C I J R K → ∃ (x0 : Nat) (x1 : Int32) (x2 : Int32), As = [aR (some x0), aI x1, aI x2] ∧ PX2_traces_0 F_X2_isThing F_X2_refuse K x0 x1 x2 C I J R) : SpX2_traces l F := by
  refine Spec.of (by rfl) ?_
  intro Γ C I J R As Gd gl gr _ _ gb hF
  subst gl
  have G : Gb Γ yX2_traces cX2_traces 3 (some .int) [] rmX2_traces bdX2_traces := ⟨Gd, gr, gb⟩
  obtain ⟨x0, x1, x2, rfl, h⟩ := h0 As C I J R (gK Γ) hF
  exact ⟨Nat.le_of_ble_eq_true rfl, bX2_traces_0 G S_X2_isThing S_X2_refuse h⟩
def PX2_over_0 (F_X2_isLeaf : SPF) (F_X2_refuse : SPF) (K : AK) (x0 : Nat) (x1 : Int32) (C : MC) (I : MI) (J : MJ) (R : MR) : Prop :=
      (C x0).1 = 3 ∧
      F_X2_isLeaf [aR (some x0), aI x1] C I J R (fun o C2 I3 J4 R5 =>
      ∃ r6 : Int32, o = .inl (some (aI r6)) ∧
      ((¬ r6 = 0 →
      (C2 x0).1 = 3 ∧
      ∀ I9 : MI, I9 = va_up I3 x0 (va_up (I3 x0) 0 (0 : Int32)) →
      ∃ q10 : Nat, R5 x0 20 = some q10 ∧
      (C2 q10).1 = 20 ∧
      vp_in x1 (C2 q10).2 ∧
      K (.inl (some (aI (I9 q10 x1.toNatClampNeg)))) C2 I9 J4 R5) ∧
      (r6 = 0 →
      (C2 x0).1 = 3 ∧
      F_X2_refuse [aR (some x0), aI (1 : Int32)] C2 I3 J4 R5 (fun o C14 I15 J16 R17 =>
      ∃ r18 : Int32, o = .inl (some (aI r18)) ∧
      K (.inl (some (aI r18))) C14 I15 J16 R17))))
theorem wX2_over {l : Launch}  {F_X2_isLeaf : SPF} (S_X2_isLeaf : SpX2_isLeaf l F_X2_isLeaf) {F_X2_refuse : SPF} (S_X2_refuse : SpX2_refuse l F_X2_refuse) {F : SPF}
    (h0 : ∀ (As : List AV) (C : MC) (I : MI) (J : MJ) (R : MR) (K : AK), F As C I J R K → ∃ (x0 : Nat) (x1 : Int32), As = [aR (some x0), aI x1] ∧ PX2_over_0 F_X2_isLeaf F_X2_refuse K x0 x1 C I J R) : SpX2_over l F := by
  refine Spec.of (by rfl) ?_
  intro Γ C I J R As Gd gl gr _ _ gb hF
  subst gl
  have G : Gb Γ yX2_over cX2_over 2 (some .int) [] rmX2_over bdX2_over := ⟨Gd, gr, gb⟩
  obtain ⟨x0, x1, rfl, h⟩ := h0 As C I J R (gK Γ) hF
  exact ⟨Nat.le_of_ble_eq_true rfl, bX2_over_0 G S_X2_isLeaf S_X2_refuse h⟩
