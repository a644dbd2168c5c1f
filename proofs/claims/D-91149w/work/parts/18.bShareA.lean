/-! WALKS of X0_init X0_status X0_top X0_bottom X0_tray X0_want X0_row X0_no X0_write X0_on X0_put X0_read X0_number X0_none X0_pour X0_sortOf X0_leaf X0_wantMany X0_weights X0_sizeOf X0_adds X0_row_2 X0_free X0_t (printed by gen/blocks.py) -/
set_option maxRecDepth 100000
section BL
variable {Γ : Gm} {C : MC} {I : MI} {J : MJ} {R : MR}
set_option maxHeartbeats 1000000
theorem bX0_init_0 (G : Gb Γ yX0_init cX0_init 1 (none) [] rmX0_init bdX0_init) {F_X1_init : SPF} (S_X1_init : SpX1_init (gL Γ) F_X1_init) {x0 : Nat}
    (h : ∃ q1 : Nat, (C q1).1 = 0 ∧
      ∀ (C3 : MC) (I4 : MI) (J5 : MJ) (R6 : MR), C3 = va_up C q1 (25, 4) → I4 = va_up I q1 (fun _ => 0) → J5 = va_up J q1 (fun _ => 0) → R6 = va_up R q1 (fun _ => none) → 
      (C3 x0).1 = 1 ∧
      ∀ R8 : MR, R8 = va_up R6 x0 (va_up (R6 x0) 0 (some q1)) →
      ∃ q9 : Nat, (C3 q9).1 = 0 ∧
      ∀ (C11 : MC) (I12 : MI) (J13 : MJ) (R14 : MR), C11 = va_up C3 q9 (21, 121) → I12 = va_up I4 q9 (fun _ => 0) → J13 = va_up J5 q9 (fun _ => 0) → R14 = va_up R8 q9 (fun _ => none) → 
      (C11 x0).1 = 1 ∧
      ∀ R16 : MR, R16 = va_up R14 x0 (va_up (R14 x0) 1 (some q9)) →
      ∃ q17 : Nat, (C11 q17).1 = 0 ∧
      ∀ (C19 : MC) (I20 : MI) (J21 : MJ) (R22 : MR), C19 = va_up C11 q17 (26, 20) → I20 = va_up I12 q17 (fun _ => 0) → J21 = va_up J13 q17 (fun _ => 0) → R22 = va_up R16 q17 (fun _ => none) → 
      (C19 x0).1 = 1 ∧
      ∀ R24 : MR, R24 = va_up R22 x0 (va_up (R22 x0) 2 (some q17)) →
      ∃ q25 : Nat, (C19 q25).1 = 0 ∧
      ∀ (C27 : MC) (I28 : MI) (J29 : MJ) (R30 : MR), C27 = va_up C19 q25 (2, 0) → I28 = va_up I20 q25 (fun _ => 0) → J29 = va_up J21 q25 (fun _ => 0) → R30 = va_up R24 q25 (fun _ => none) → 
      F_X1_init [aR (some q25)] C27 I28 J29 R30 (fun o C31 I32 J33 R34 =>
      o = .inl none ∧
      (C31 x0).1 = 1 ∧
      ∀ R37 : MR, R37 = va_up R34 x0 (va_up (R34 x0) 4 (some q25)) →
      ∀ J38 : MJ, J38 = va_up J33 x0 (va_up (J33 x0) 7 (1 : Int64)) →
      gK Γ (.inl none) C31 I32 J38 R37)) :
    AW Γ 0 0 C I J R 0 [(0, aR (some x0))] [] := by
  have G0 := G.1
  refine aw_aload_n G0 0 rfl dX0_init_0 ?_
  refine aw_objinit G0 q77 q78 q79 (by rw [G.2.1]; decide) (by rw [G.2.1]; exact Nat.le_of_ble_eq_true rfl) dX0_init_1 ?_
  refine aw_aload_n G0 0 rfl dX0_init_4 ?_
  refine aw_iconst (v := (4 : Int32)) G0 dX0_init_5 (by decide) ?_
  obtain ⟨q1, z2, h⟩ := h
  refine aw_newqO (q := q1) (k' := 1) (n' := 4) (N := 4) G0 q80 (by decide) (by decide) (by decide) (by decide) (by decide) (by rw [G.2.1]; decide) (by rw [G.2.1]; decide) z2 dX0_init_6 ?_
  generalize gC3 : va_up C q1 (25, 4) = C3
  generalize gI4 : va_up I q1 (fun _ => 0) = I4
  generalize gJ5 : va_up J q1 (fun _ => 0) = J5
  generalize gR6 : va_up R q1 (fun _ => none) = R6
  have h := h C3 I4 J5 R6 gC3.symm gI4.symm gJ5.symm gR6.symm
  obtain ⟨k7, h⟩ := h
  refine aw_putR (f := 0) G0 (by rw [k7]; exact fp_X0_40) dX0_init_9 ?_
  generalize gR8 : va_up R6 x0 (va_up (R6 x0) 0 (some q1)) = R8
  have h := h R8 gR8.symm
  refine aw_aload_n G0 0 rfl dX0_init_12 ?_
  refine aw_bipush (v := (121 : Int32)) G0 dX0_init_13 (by decide) ?_
  obtain ⟨q9, z10, h⟩ := h
  refine aw_newaJ (q := q9) (k' := 2) (n' := 125) (N := 121) G0 (by decide) (by decide) (by decide) (by decide) (by decide) (by rw [G.2.1]; decide) (by rw [G.2.1]; decide) z10 dX0_init_15 ?_
  generalize gC11 : va_up C3 q9 (21, 121) = C11
  generalize gI12 : va_up I4 q9 (fun _ => 0) = I12
  generalize gJ13 : va_up J5 q9 (fun _ => 0) = J13
  generalize gR14 : va_up R8 q9 (fun _ => none) = R14
  have h := h C11 I12 J13 R14 gC11.symm gI12.symm gJ13.symm gR14.symm
  obtain ⟨k15, h⟩ := h
  refine aw_putR (f := 1) G0 (by rw [k15]; exact fp_X0_44) dX0_init_17 ?_
  generalize gR16 : va_up R14 x0 (va_up (R14 x0) 1 (some q9)) = R16
  have h := h R16 gR16.symm
  refine aw_aload_n G0 0 rfl dX0_init_20 ?_
  refine aw_bipush (v := (20 : Int32)) G0 dX0_init_21 (by decide) ?_
  obtain ⟨q17, z18, h⟩ := h
  refine aw_newqT (q := q17) (k' := 3) (n' := 145) (N := 20) G0 q82 (by decide) (by decide) (by decide) (by decide) (by decide) (by rw [G.2.1]; decide) (by rw [G.2.1]; decide) z18 dX0_init_23 ?_
  generalize gC19 : va_up C11 q17 (26, 20) = C19
  generalize gI20 : va_up I12 q17 (fun _ => 0) = I20
  generalize gJ21 : va_up J13 q17 (fun _ => 0) = J21
  generalize gR22 : va_up R16 q17 (fun _ => none) = R22
  have h := h C19 I20 J21 R22 gC19.symm gI20.symm gJ21.symm gR22.symm
  obtain ⟨k23, h⟩ := h
  refine aw_putR (f := 2) G0 (by rw [k23]; exact fp_X0_49) dX0_init_26 ?_
  generalize gR24 : va_up R22 x0 (va_up (R22 x0) 2 (some q17)) = R24
  have h := h R24 gR24.symm
  refine aw_aload_n G0 0 rfl dX0_init_29 ?_
  obtain ⟨q25, z26, h⟩ := h
  refine aw_new (q := q25) (k' := 4) (n' := 152) G0 cl_1 (by decide) q84 q85 q53 nt_1 (by decide) (by decide) (by rw [G.2.1]; exact Nat.le_of_ble_eq_true rfl) (by rw [G.2.1]; exact Nat.le_of_ble_eq_true rfl) z26 dX0_init_30 ?_
  generalize gC27 : va_up C19 q25 (2, 0) = C27
  generalize gI28 : va_up I20 q25 (fun _ => 0) = I28
  generalize gJ29 : va_up J21 q25 (fun _ => 0) = J29
  generalize gR30 : va_up R24 q25 (fun _ => none) = R30
  have h := h C27 I28 J29 R30 gC27.symm gI28.symm gJ29.symm gR30.symm
  refine aw_dupR G0 dX0_init_33 ?_
  refine aw_callI (k1 := 4) (n1 := 152) (k2 := 4) (n2 := 152) (st := [aR (some q25), aR (some x0)]) G0 S_X1_init gw_X1_init q53 q124 q125 rfl md_X1_init (Nat.le_of_ble_eq_true rfl) (by decide) (by rw [G.2.1]; decide) (by rw [G.2.1]; decide) [] rfl rfl dX0_init_34 h (fun o C31 I32 J33 R34 h => ?_)
  obtain ⟨rfl, h⟩ := h
  show AW Γ 4 152 C31 I32 J33 R34 (34 + 3) [(0, aR (some x0))] [aR (some q25), aR (some x0)]
  obtain ⟨k36, h⟩ := h
  refine aw_putR (f := 4) G0 (by rw [k36]; exact fp_X0_56) dX0_init_37 ?_
  generalize gR37 : va_up R34 x0 (va_up (R34 x0) 4 (some q25)) = R37
  have h := h R37 gR37.symm
  refine aw_aload_n G0 0 rfl dX0_init_40 ?_
  refine aw_lconst (v := (1 : Int64)) G0 dX0_init_41 (by decide) ?_
  refine aw_putJ (f := 7) G0 (by rw [k36]; exact fp_X0_60 _) dX0_init_42 ?_
  generalize gJ38 : va_up J33 x0 (va_up (J33 x0) 7 (1 : Int64)) = J38
  have h := h J38 gJ38.symm
  exact aw_return G0 (by rw [G.2.2]; decide) (by rw [G.2.1]; decide) dX0_init_45 h
theorem bX0_status_0 (G : Gb Γ yX0_status cX0_status 1 (some .int) [] rmX0_status bdX0_status) {x0 : Nat}
    (h : (C x0).1 = 1 ∧
      gK Γ (.inl (some (aI (I x0 5)))) C I J R) :
    AW Γ 0 0 C I J R 0 [(0, aR (some x0))] [] := by
  have G0 := G.1
  refine aw_aload_n G0 0 rfl dX0_status_0 ?_
  obtain ⟨k1, h⟩ := h
  refine aw_getI (f := 5) G0 (by rw [k1]; exact fb_X0_63) dX0_status_1 ?_
  exact aw_ireturn G0 (Or.inl rfl) (by rw [G.2.2]; decide) (by rw [G.2.1]; decide) dX0_status_4 h
theorem bX0_top_0 (G : Gb Γ yX0_top cX0_top 1 (some .long) [] rmX0_top bdX0_top) {x0 : Nat}
    (h : (C x0).1 = 1 ∧
      gK Γ (.inl (some (aJ (J x0 6)))) C I J R) :
    AW Γ 0 0 C I J R 0 [(0, aR (some x0))] [] := by
  have G0 := G.1
  refine aw_aload_n G0 0 rfl dX0_top_0 ?_
  obtain ⟨k1, h⟩ := h
  refine aw_getJ (f := 6) G0 (by rw [k1]; exact fb_X0_67) dX0_top_1 ?_
  exact aw_lreturn G0 (by rw [G.2.2]; decide) (by rw [G.2.1]; decide) dX0_top_4 h
theorem bX0_bottom_0 (G : Gb Γ yX0_bottom cX0_bottom 1 (some .long) [] rmX0_bottom bdX0_bottom) {x0 : Nat}
    (h : (C x0).1 = 1 ∧
      gK Γ (.inl (some (aJ (J x0 7)))) C I J R) :
    AW Γ 0 0 C I J R 0 [(0, aR (some x0))] [] := by
  have G0 := G.1
  refine aw_aload_n G0 0 rfl dX0_bottom_0 ?_
  obtain ⟨k1, h⟩ := h
  refine aw_getJ (f := 7) G0 (by rw [k1]; exact fb_X0_60) dX0_bottom_1 ?_
  exact aw_lreturn G0 (by rw [G.2.2]; decide) (by rw [G.2.1]; decide) dX0_bottom_4 h
theorem bX0_tray_0 (G : Gb Γ yX0_tray cX0_tray 5 (some .boolean) [(5, 51, 52, 95), (5, 51, 61, 53)] rmX0_tray bdX0_tray)
    {Q34 : Nat → Int32 → Int32 → Int32 → Nat → MC → MI → MJ → MR → Prop} (w34 : ∀ (x0 : Nat) (x1 : Int32) (x2 : Int32) (x3 : Int32) (s0 : Nat) (C : MC) (I : MI) (J : MJ) (R : MR), Q34 x0 x1 x2 x3 s0 C I J R → AW Γ 0 0 C I J R 34 [(0, aR (some x0)), (1, aI x1), (2, aI x2), (3, aI x3)] [aR (some s0)])
    {Q35 : Nat → Int32 → Int32 → Int32 → Nat → Int32 → MC → MI → MJ → MR → Prop} (w35 : ∀ (x0 : Nat) (x1 : Int32) (x2 : Int32) (x3 : Int32) (s0 : Nat) (s1 : Int32) (C : MC) (I : MI) (J : MJ) (R : MR), Q35 x0 x1 x2 x3 s0 s1 C I J R → AW Γ 0 0 C I J R 35 [(0, aR (some x0)), (1, aI x1), (2, aI x2), (3, aI x3)] [aI s1, aR (some s0)]) {x0 : Nat} {x1 : Int32} {x2 : Int32} {x3 : Int32}
    (h : (C x0).1 = 1 ∧
      ∀ I2 : MI, I2 = va_up I x0 (va_up (I x0) 5 (0 : Int32)) →
      ((x1 < 0 →
      Q34 x0 x1 x2 x3 x0 C I2 J R) ∧
      (¬ x1 < 0 →
      (((4 : Int32) ≤ x1 →
      Q34 x0 x1 x2 x3 x0 C I2 J R) ∧
      (¬ (4 : Int32) ≤ x1 →
      ((x2 < 0 →
      Q34 x0 x1 x2 x3 x0 C I2 J R) ∧
      (¬ x2 < 0 →
      (((3 : Int32) < x2 →
      Q34 x0 x1 x2 x3 x0 C I2 J R) ∧
      (¬ (3 : Int32) < x2 →
      (((60 : Int32) < x3 →
      Q34 x0 x1 x2 x3 x0 C I2 J R) ∧
      (¬ (60 : Int32) < x3 →
      Q35 x0 x1 x2 x3 x0 (1 : Int32) C I2 J R))))))))))) :
    AW Γ 0 0 C I J R 0 [(0, aR (some x0)), (1, aI x1), (2, aI x2), (3, aI x3)] [] := by
  have G0 := G.1
  refine aw_aload_n G0 0 rfl dX0_tray_0 ?_
  refine aw_iconst (v := (0 : Int32)) G0 dX0_tray_1 (by decide) ?_
  obtain ⟨k1, h⟩ := h
  refine aw_putI (f := 5) G0 (by rw [k1]; exact fp_X0_63 _) dX0_tray_2 ?_
  generalize gI2 : va_up I x0 (va_up (I x0) 5 (0 : Int32)) = I2
  have h := h I2 gI2.symm
  refine aw_aload_n G0 0 rfl dX0_tray_5 ?_
  refine aw_iload_n G0 1 rfl dX0_tray_6 ?_
  refine aw_if_lt G0 34 dX0_tray_7 (by decide) (fun c3 => ?_) (fun c3 => ?_)
  · have h := h.1 c3
    exact (w34 x0 x1 x2 x3 x0 C I2 J R h)
  · have h := h.2 c3
    refine aw_iload_n G0 1 rfl dX0_tray_10 ?_
    refine aw_iconst (v := (4 : Int32)) G0 dX0_tray_11 (by decide) ?_
    refine aw_icmp_ge G0 34 dX0_tray_12 (by decide) (fun c4 => ?_) (fun c4 => ?_)
    · have h := h.1 c4
      exact (w34 x0 x1 x2 x3 x0 C I2 J R h)
    · have h := h.2 c4
      refine aw_iload_n G0 2 rfl dX0_tray_15 ?_
      refine aw_if_lt G0 34 dX0_tray_16 (by decide) (fun c5 => ?_) (fun c5 => ?_)
      · have h := h.1 c5
        exact (w34 x0 x1 x2 x3 x0 C I2 J R h)
      · have h := h.2 c5
        refine aw_iload_n G0 2 rfl dX0_tray_19 ?_
        refine aw_iconst (v := (3 : Int32)) G0 dX0_tray_20 (by decide) ?_
        refine aw_icmp_gt G0 34 dX0_tray_21 (by decide) (fun c6 => ?_) (fun c6 => ?_)
        · have h := h.1 c6
          exact (w34 x0 x1 x2 x3 x0 C I2 J R h)
        · have h := h.2 c6
          refine aw_iload_n G0 3 rfl dX0_tray_24 ?_
          refine aw_bipush (v := (60 : Int32)) G0 dX0_tray_25 (by decide) ?_
          refine aw_icmp_gt G0 34 dX0_tray_27 (by decide) (fun c7 => ?_) (fun c7 => ?_)
          · have h := h.1 c7
            exact (w34 x0 x1 x2 x3 x0 C I2 J R h)
          · have h := h.2 c7
            refine aw_iconst (v := (1 : Int32)) G0 dX0_tray_30 (by decide) ?_
            refine aw_goto G0 35 dX0_tray_31 (by decide) ?_
            exact (w35 x0 x1 x2 x3 x0 (1 : Int32) C I2 J R h)
theorem bX0_tray_34 (G : Gb Γ yX0_tray cX0_tray 5 (some .boolean) [(5, 51, 52, 95), (5, 51, 61, 53)] rmX0_tray bdX0_tray)
    {Q35 : Nat → Int32 → Int32 → Int32 → Nat → Int32 → MC → MI → MJ → MR → Prop} (w35 : ∀ (x0 : Nat) (x1 : Int32) (x2 : Int32) (x3 : Int32) (s0 : Nat) (s1 : Int32) (C : MC) (I : MI) (J : MJ) (R : MR), Q35 x0 x1 x2 x3 s0 s1 C I J R → AW Γ 0 0 C I J R 35 [(0, aR (some x0)), (1, aI x1), (2, aI x2), (3, aI x3)] [aI s1, aR (some s0)]) {x0 : Nat} {x1 : Int32} {x2 : Int32} {x3 : Int32} {s0 : Nat}
    (h : Q35 x0 x1 x2 x3 s0 (0 : Int32) C I J R) :
    AW Γ 0 0 C I J R 34 [(0, aR (some x0)), (1, aI x1), (2, aI x2), (3, aI x3)] [aR (some s0)] := by
  have G0 := G.1
  refine aw_iconst (v := (0 : Int32)) G0 dX0_tray_34 (by decide) ?_
  exact (w35 x0 x1 x2 x3 s0 (0 : Int32) C I J R h)
theorem bX0_tray_35 (G : Gb Γ yX0_tray cX0_tray 5 (some .boolean) [(5, 51, 52, 95), (5, 51, 61, 53)] rmX0_tray bdX0_tray) {F_X0_want : SPF} (S_X0_want : SpX0_want (gL Γ) F_X0_want) {F_X0_row : SPF} (S_X0_row : SpX0_row (gL Γ) F_X0_row)
    {Q52 : Nat → Nat → MC → MI → MJ → MR → Prop} (w52 : ∀ (x0 : Nat) (s0 : Nat) (C : MC) (I : MI) (J : MJ) (R : MR), Q52 x0 s0 C I J R → AW Γ 3 222 C I J R 52 [(0, aR (some x0))] [aR (some s0)])
    {Q61 : Nat → Nat → MC → MI → MJ → MR → Prop} (w61 : ∀ (x0 : Nat) (s0 : Nat) (C : MC) (I : MI) (J : MJ) (R : MR), Q61 x0 s0 C I J R → AW Γ 0 0 C I J R 61 [(0, aR (some x0))] [aR (some s0)]) {x0 : Nat} {x1 : Int32} {x2 : Int32} {x3 : Int32} {s0 : Nat} {s1 : Int32}
    (h : (C s0).1 = 1 ∧
      F_X0_want [aR (some s0), aI s1, aI (1 : Int32)] C I J R (fun o C2 I3 J4 R5 =>
      (o = .inl none ∧
      (C2 x0).1 = 1 ∧
      F_X0_row [aI x2, aI x3] C2 I3 J4 R5 (fun o C8 I9 J10 R11 =>
      (∃ r12 : Nat, o = .inl (some (aR (some r12))) ∧
      ∃ q13 : Nat, R5 x0 0 = some q13 ∧
      (25 ≤ (C8 q13).1 ∧ (C8 q13).1 < 29) ∧
      kFit (C8 q13).1 (C8 r12).1 ∧
      vp_in x1 (C8 q13).2 ∧
      ∀ R17 : MR, R17 = va_up R11 q13 (va_up (R11 q13) x1.toNatClampNeg (some r12)) →
      gK Γ (.inl (some (aI (1 : Int32)))) C8 I9 J10 R17) ∨
      (∃ q18 : Nat, o = .inr q18 ∧
      ((C8 q18).1 = 13 ∧
      Q52 x0 q18 C8 I9 J10 R11)))) ∨
      (∃ q20 : Nat, o = .inr q20 ∧
      ((C2 q20).1 = 2 ∧
      Q61 x0 q20 C2 I3 J4 R5)))) :
    AW Γ 0 0 C I J R 35 [(0, aR (some x0)), (1, aI x1), (2, aI x2), (3, aI x3)] [aI s1, aR (some s0)] := by
  have G0 := G.1
  refine aw_iconst (v := (1 : Int32)) G0 dX0_tray_35 (by decide) ?_
  obtain ⟨k1, h⟩ := h
  refine aw_callV (k1 := 0) (n1 := 0) (k2 := 0) (n2 := 0) (st := []) G0 S_X0_want gi_X0_87 (Or.inl (by rw [k1]; decide)) (by rw [k1]; rfl) md_X0_want (Nat.le_of_ble_eq_true rfl) (by decide) (by rw [G.2.1]; decide) (by rw [G.2.1]; decide) [aI s1, aI (1 : Int32)] rfl rfl dX0_tray_36 h (fun o C2 I3 J4 R5 h => ?_)
  rcases h with ⟨rfl, h⟩ | ⟨q20, rfl, h⟩
  · show AW Γ 0 0 C2 I3 J4 R5 (36 + 3) [(0, aR (some x0)), (1, aI x1), (2, aI x2), (3, aI x3)] []
    refine aw_aload_n G0 0 rfl dX0_tray_39 ?_
    obtain ⟨k7, h⟩ := h
    refine aw_getR (f := 0) G0 (by rw [k7]; exact fb_X0_40) dX0_tray_40 ?_
    refine aw_iload_n G0 1 rfl dX0_tray_43 ?_
    refine aw_iload_n G0 2 rfl dX0_tray_44 ?_
    refine aw_iload_n G0 3 rfl dX0_tray_45 ?_
    refine aw_callS (k1 := 1) (n1 := 60) (k2 := 3) (n2 := 222) (st := [aI x1, aR (R5 x0 0)]) G0 S_X0_row gi_X0_91 md_X0_row (Nat.le_of_ble_eq_true rfl) (by decide) (by rw [G.2.1]; decide) (by rw [G.2.1]; decide) [aI x2, aI x3] rfl rfl dX0_tray_46 h (fun o C8 I9 J10 R11 h => ?_)
    rcases h with ⟨r12, rfl, h⟩ | ⟨q18, rfl, h⟩
    · show AW Γ 1 60 C8 I9 J10 R11 (46 + 3) [(0, aR (some x0)), (1, aI x1), (2, aI x2), (3, aI x3)] [aR (some r12), aI x1, aR (R5 x0 0)]
      obtain ⟨q13, e13, h⟩ := h
      refine aw_dr2 e13 ?_
      obtain ⟨k14, h⟩ := h
      obtain ⟨k15, h⟩ := h
      obtain ⟨k16, h⟩ := h
      refine aw_aast G0 k14 (kFit_1 k15) (kFit_2 k15) k16 dX0_tray_49 ?_
      generalize gR17 : va_up R11 q13 (va_up (R11 q13) x1.toNatClampNeg (some r12)) = R17
      have h := h R17 gR17.symm
      refine aw_iconst (v := (1 : Int32)) G0 dX0_tray_50 (by decide) ?_
      exact aw_ireturn G0 (Or.inr ⟨rfl, by decide⟩) (by rw [G.2.2]; decide) (by rw [G.2.1]; decide) dX0_tray_51 h
    · show AX Γ 3 222 C8 I9 J10 R11 46 [(0, aR (some x0)), (1, aI x1), (2, aI x2), (3, aI x3)] q18
      obtain ⟨k19, h⟩ := h
      refine ax_catch G0 0 rfl (fun j hj _ _ _ _ _ => absurd hj (Nat.not_lt_zero j)) rfl (by decide) q192 (Or.inr (Or.inr (Or.inr k19))) (by rw [k19]; exact q212) ?_
      exact (aw_lv [0] rfl (w52 x0 q18 C8 I9 J10 R11 h))
  · show AX Γ 0 0 C2 I3 J4 R5 36 [(0, aR (some x0)), (1, aI x1), (2, aI x2), (3, aI x3)] q20
    obtain ⟨k21, h⟩ := h
    refine ax_catch G0 1 rfl (fun j hj a9 b9 h9 t9 ee => by
        match j, hj, ee with
        | 0, _, ee => cases ee; exact Or.inr ⟨by decide, _, q192, by rw [k21]; decide⟩
        | j + 1, hj, _ => exact absurd hj (by omega)) rfl (by decide) q84 (Or.inl k21) (by rw [k21]; exact q86) ?_
    exact (aw_lv [0] rfl (w61 x0 q20 C2 I3 J4 R5 h))
theorem bX0_tray_52 (G : Gb Γ yX0_tray cX0_tray 5 (some .boolean) [(5, 51, 52, 95), (5, 51, 61, 53)] rmX0_tray bdX0_tray) {x0 : Nat} {s0 : Nat}
    (h : (C x0).1 = 1 ∧
      ∀ I2 : MI, I2 = va_up I x0 (va_up (I x0) 5 (1 : Int32)) →
      gK Γ (.inl (some (aI (0 : Int32)))) C I2 J R) :
    AW Γ 3 222 C I J R 52 [(0, aR (some x0))] [aR (some s0)] := by
  have G0 := G.1
  refine aw_astore (lv' := [(4, aR (some s0)), (0, aR (some x0))]) G0 (by decide) rfl dX0_tray_52 ?_
  refine aw_aload_n G0 1 rfl dX0_tray_54 ?_
  refine aw_iconst (v := (1 : Int32)) G0 dX0_tray_55 (by decide) ?_
  obtain ⟨k1, h⟩ := h
  refine aw_putI (f := 5) G0 (by rw [k1]; exact fp_X0_63 _) dX0_tray_56 ?_
  generalize gI2 : va_up I x0 (va_up (I x0) 5 (1 : Int32)) = I2
  have h := h I2 gI2.symm
  refine aw_iconst (v := (0 : Int32)) G0 dX0_tray_59 (by decide) ?_
  exact aw_ireturn G0 (Or.inr ⟨rfl, by decide⟩) (by rw [G.2.2]; decide) (by rw [G.2.1]; decide) dX0_tray_60 h
theorem bX0_tray_61 (G : Gb Γ yX0_tray cX0_tray 5 (some .boolean) [(5, 51, 52, 95), (5, 51, 61, 53)] rmX0_tray bdX0_tray) {F_X0_no : SPF} (S_X0_no : SpX0_no (gL Γ) F_X0_no) {x0 : Nat} {s0 : Nat}
    (h : (C x0).1 = 1 ∧
      F_X0_no [aR (some x0), aR (some s0)] C I J R (fun o C2 I3 J4 R5 =>
      ∃ r6 : Int32, o = .inl (some (aI r6)) ∧
      (r6 = 0 ∨ r6 = 1) ∧ gK Γ (.inl (some (aI r6))) C2 I3 J4 R5)) :
    AW Γ 0 0 C I J R 61 [(0, aR (some x0))] [aR (some s0)] := by
  have G0 := G.1
  refine aw_astore (lv' := [(4, aR (some s0)), (0, aR (some x0))]) G0 (by decide) rfl dX0_tray_61 ?_
  refine aw_aload_n G0 1 rfl dX0_tray_63 ?_
  refine aw_aload G0 0 rfl dX0_tray_64 ?_
  obtain ⟨k1, h⟩ := h
  refine aw_callV (k1 := 0) (n1 := 0) (k2 := 0) (n2 := 0) (st := []) G0 S_X0_no gi_X0_97 (Or.inl (by rw [k1]; decide)) (by rw [k1]; rfl) md_X0_no (Nat.le_of_ble_eq_true rfl) (by decide) (by rw [G.2.1]; decide) (by rw [G.2.1]; decide) [aR (some s0)] rfl rfl dX0_tray_66 h (fun o C2 I3 J4 R5 h => ?_)
  obtain ⟨r6, rfl, h⟩ := h
  show AW Γ 0 0 C2 I3 J4 R5 (66 + 3) [(4, aR (some s0)), (0, aR (some x0))] [aI r6]
  obtain ⟨k7, h⟩ := h
  exact aw_ireturn G0 (Or.inr ⟨rfl, k7⟩) (by rw [G.2.2]; decide) (by rw [G.2.1]; decide) dX0_tray_69 h
theorem bX0_want_0 (G : Gb Γ yX0_want cX0_want 3 (none) [] rmX0_want bdX0_want) {F_X1_by : SPF} (S_X1_by : SpX1_by (gL Γ) F_X1_by) {x0 : Nat} {x1 : Int32} {x2 : Int32}
    (h : ((¬ x1 = 0 →
      gK Γ (.inl none) C I J R) ∧
      (x1 = 0 →
      (C x0).1 = 1 ∧
      ∃ q3 : Nat, R x0 4 = some q3 ∧
      (C q3).1 = 2 ∧
      F_X1_by [aR (some q3), aI x2] C I J R (fun o C5 I6 J7 R8 =>
      ∃ r9 : Nat, o = .inl (some (aR (some r9))) ∧
      (C5 r9).1 = 2 ∧
      gK Γ (.inr r9) C5 I6 J7 R8)))) :
    AW Γ 0 0 C I J R 0 [(0, aR (some x0)), (1, aI x1), (2, aI x2)] [] := by
  have G0 := G.1
  refine aw_iload_n G0 1 rfl dX0_want_0 ?_
  refine aw_if_ne G0 13 dX0_want_1 (by decide) (fun c1 => ?_) (fun c1 => ?_)
  · have h := h.1 c1
    exact aw_return G0 (by rw [G.2.2]; decide) (by rw [G.2.1]; decide) dX0_want_13 h
  · have h := h.2 c1
    refine aw_aload_n G0 0 rfl dX0_want_4 ?_
    obtain ⟨k2, h⟩ := h
    refine aw_getR (f := 4) G0 (by rw [k2]; exact fb_X0_56) dX0_want_5 ?_
    refine aw_iload_n G0 2 rfl dX0_want_8 ?_
    obtain ⟨q3, e3, h⟩ := h
    refine aw_dr1 e3 ?_
    obtain ⟨k4, h⟩ := h
    refine aw_callV (k1 := 0) (n1 := 0) (k2 := 0) (n2 := 0) (st := []) G0 S_X1_by gi_X0_70 (Or.inl (by rw [k4]; decide)) (by rw [k4]; rfl) md_X1_by (Nat.le_of_ble_eq_true rfl) (by decide) (by rw [G.2.1]; decide) (by rw [G.2.1]; decide) [aI x2] rfl rfl dX0_want_9 h (fun o C5 I6 J7 R8 h => ?_)
    obtain ⟨r9, rfl, h⟩ := h
    show AW Γ 0 0 C5 I6 J7 R8 (9 + 3) [(0, aR (some x0)), (1, aI x1), (2, aI x2)] [aR (some r9)]
    obtain ⟨k10, h⟩ := h
    refine aw_athrow G0 dX0_want_12 ?_
    exact ax_out G0 rfl (Or.inl k10) (by rw [G.2.2]; decide) (by rw [G.2.1]; decide) h
theorem bX0_row_0 (G : Gb Γ yX0_row cX0_row 2 (some (.object "java/lang/Object")) [] rmX0_row bdX0_row) {x0 : Int32} {x1 : Int32}
    (h : ((¬ x0 = 0 →
      ((¬ x0 = (1 : Int32) →
      ((¬ x0 = (2 : Int32) →
      ((¬ x1 < 0 →
      x1.toNatClampNeg ≤ 60 ∧
      ∃ q7 : Nat, (C q7).1 = 0 ∧
      ∀ (C10 : MC) (I11 : MI) (J12 : MJ) (R13 : MR), C10 = va_up C q7 (21, x1.toNatClampNeg) → I11 = va_up I q7 (fun _ => 0) → J12 = va_up J q7 (fun _ => 0) → R13 = va_up R q7 (fun _ => none) → 
      gK Γ (.inl (some (aR (some q7)))) C10 I11 J12 R13) ∧
      (x1 < 0 →
      ∃ q14 : Nat, (C q14).1 = 0 ∧
      ∀ (C17 : MC) (I18 : MI) (J19 : MJ) (R20 : MR), C17 = va_up C q14 (13, 0) → I18 = va_up I q14 (fun _ => 0) → J19 = va_up J q14 (fun _ => 0) → R20 = va_up R q14 (fun _ => none) → 
      gK Γ (.inr q14) C17 I18 J19 R20))) ∧
      (x0 = (2 : Int32) →
      ((¬ x1 < 0 →
      x1.toNatClampNeg ≤ 60 ∧
      ∃ q24 : Nat, (C q24).1 = 0 ∧
      ∀ (C27 : MC) (I28 : MI) (J29 : MJ) (R30 : MR), C27 = va_up C q24 (20, x1.toNatClampNeg) → I28 = va_up I q24 (fun _ => 0) → J29 = va_up J q24 (fun _ => 0) → R30 = va_up R q24 (fun _ => none) → 
      gK Γ (.inl (some (aR (some q24)))) C27 I28 J29 R30) ∧
      (x1 < 0 →
      ∃ q31 : Nat, (C q31).1 = 0 ∧
      ∀ (C34 : MC) (I35 : MI) (J36 : MJ) (R37 : MR), C34 = va_up C q31 (13, 0) → I35 = va_up I q31 (fun _ => 0) → J36 = va_up J q31 (fun _ => 0) → R37 = va_up R q31 (fun _ => none) → 
      gK Γ (.inr q31) C34 I35 J36 R37))))) ∧
      (x0 = (1 : Int32) →
      ((¬ x1 < 0 →
      x1.toNatClampNeg ≤ 60 ∧
      ∃ q41 : Nat, (C q41).1 = 0 ∧
      ∀ (C44 : MC) (I45 : MI) (J46 : MJ) (R47 : MR), C44 = va_up C q41 (23, x1.toNatClampNeg) → I45 = va_up I q41 (fun _ => 0) → J46 = va_up J q41 (fun _ => 0) → R47 = va_up R q41 (fun _ => none) → 
      gK Γ (.inl (some (aR (some q41)))) C44 I45 J46 R47) ∧
      (x1 < 0 →
      ∃ q48 : Nat, (C q48).1 = 0 ∧
      ∀ (C51 : MC) (I52 : MI) (J53 : MJ) (R54 : MR), C51 = va_up C q48 (13, 0) → I52 = va_up I q48 (fun _ => 0) → J53 = va_up J q48 (fun _ => 0) → R54 = va_up R q48 (fun _ => none) → 
      gK Γ (.inr q48) C51 I52 J53 R54))))) ∧
      (x0 = 0 →
      ((¬ x1 < 0 →
      x1.toNatClampNeg ≤ 60 ∧
      ∃ q58 : Nat, (C q58).1 = 0 ∧
      ∀ (C61 : MC) (I62 : MI) (J63 : MJ) (R64 : MR), C61 = va_up C q58 (22, x1.toNatClampNeg) → I62 = va_up I q58 (fun _ => 0) → J63 = va_up J q58 (fun _ => 0) → R64 = va_up R q58 (fun _ => none) → 
      gK Γ (.inl (some (aR (some q58)))) C61 I62 J63 R64) ∧
      (x1 < 0 →
      ∃ q65 : Nat, (C q65).1 = 0 ∧
      ∀ (C68 : MC) (I69 : MI) (J70 : MJ) (R71 : MR), C68 = va_up C q65 (13, 0) → I69 = va_up I q65 (fun _ => 0) → J70 = va_up J q65 (fun _ => 0) → R71 = va_up R q65 (fun _ => none) → 
      gK Γ (.inr q65) C68 I69 J70 R71))))) :
    AW Γ 0 0 C I J R 0 [(0, aI x0), (1, aI x1)] [] := by
  have G0 := G.1
  refine aw_iload_n G0 0 rfl dX0_row_0 ?_
  refine aw_if_ne G0 10 dX0_row_1 (by decide) (fun c1 => ?_) (fun c1 => ?_)
  · have h := h.1 c1
    refine aw_iload_n G0 0 rfl dX0_row_10 ?_
    refine aw_iconst (v := (1 : Int32)) G0 dX0_row_11 (by decide) ?_
    refine aw_icmp_ne G0 21 dX0_row_12 (by decide) (fun c2 => ?_) (fun c2 => ?_)
    · have h := h.1 c2
      refine aw_iload_n G0 0 rfl dX0_row_21 ?_
      refine aw_iconst (v := (2 : Int32)) G0 dX0_row_22 (by decide) ?_
      refine aw_icmp_ne G0 32 dX0_row_23 (by decide) (fun c3 => ?_) (fun c3 => ?_)
      · have h := h.1 c3
        refine aw_iload_n G0 1 rfl dX0_row_32 ?_
        rcases Classical.em (x1 < 0) with c6 | c6
        · have h := h.2 c6
          obtain ⟨q14, k15, h⟩ := h
          refine aw_newaN (k' := 3) (n' := 222) G0 c6 (Nat.le_of_ble_eq_true rfl) (by decide) (by decide) (by rw [G.2.1]; exact ⟨by decide, by decide⟩) (by rw [G.2.1]; exact ⟨by decide, by decide⟩) k15 dX0_row_33 ?_
          have k16 : (va_up C q14 (13, 0) q14).1 = 13 := by rw [va_up_self]
          generalize gC17 : va_up C q14 (13, 0) = C17 at k16 ⊢
          generalize gI18 : va_up I q14 (fun _ => 0) = I18
          generalize gJ19 : va_up J q14 (fun _ => 0) = J19
          generalize gR20 : va_up R q14 (fun _ => none) = R20
          have h := h C17 I18 J19 R20 gC17.symm gI18.symm gJ19.symm gR20.symm
          exact ax_out G0 rfl (Or.inr (Or.inr (Or.inr k16))) (by rw [G.2.2]; decide) (by rw [G.2.1]; decide) h
        · have h := h.1 c6
          obtain ⟨k9, h⟩ := h
          obtain ⟨q7, z8, h⟩ := h
          refine aw_newaJ (q := q7) (k' := 1) (n' := 60) (N := x1.toNatClampNeg) G0 c6 rfl (Nat.le_trans k9 (by decide)) (by decide) (by omega) (by rw [G.2.1]; decide) (by rw [G.2.1]; decide) z8 dX0_row_33 ?_
          generalize gC10 : va_up C q7 (21, x1.toNatClampNeg) = C10
          generalize gI11 : va_up I q7 (fun _ => 0) = I11
          generalize gJ12 : va_up J q7 (fun _ => 0) = J12
          generalize gR13 : va_up R q7 (fun _ => none) = R13
          have h := h C10 I11 J12 R13 gC10.symm gI11.symm gJ12.symm gR13.symm
          exact aw_areturn G0 ⟨_, rfl, rfl⟩ (by rw [G.2.2]; decide) (by rw [G.2.1]; decide) dX0_row_35 h
      · have h := h.2 c3
        refine aw_iload_n G0 1 rfl dX0_row_26 ?_
        rcases Classical.em (x1 < 0) with c23 | c23
        · have h := h.2 c23
          obtain ⟨q31, k32, h⟩ := h
          refine aw_newaN (k' := 3) (n' := 222) G0 c23 (Nat.le_of_ble_eq_true rfl) (by decide) (by decide) (by rw [G.2.1]; exact ⟨by decide, by decide⟩) (by rw [G.2.1]; exact ⟨by decide, by decide⟩) k32 dX0_row_27 ?_
          have k33 : (va_up C q31 (13, 0) q31).1 = 13 := by rw [va_up_self]
          generalize gC34 : va_up C q31 (13, 0) = C34 at k33 ⊢
          generalize gI35 : va_up I q31 (fun _ => 0) = I35
          generalize gJ36 : va_up J q31 (fun _ => 0) = J36
          generalize gR37 : va_up R q31 (fun _ => none) = R37
          have h := h C34 I35 J36 R37 gC34.symm gI35.symm gJ36.symm gR37.symm
          exact ax_out G0 rfl (Or.inr (Or.inr (Or.inr k33))) (by rw [G.2.2]; decide) (by rw [G.2.1]; decide) h
        · have h := h.1 c23
          obtain ⟨k26, h⟩ := h
          obtain ⟨q24, z25, h⟩ := h
          refine aw_newaI (q := q24) (k' := 1) (n' := 60) (N := x1.toNatClampNeg) G0 c23 rfl (Nat.le_trans k26 (by decide)) (by decide) (by omega) (by rw [G.2.1]; decide) (by rw [G.2.1]; decide) z25 dX0_row_27 ?_
          generalize gC27 : va_up C q24 (20, x1.toNatClampNeg) = C27
          generalize gI28 : va_up I q24 (fun _ => 0) = I28
          generalize gJ29 : va_up J q24 (fun _ => 0) = J29
          generalize gR30 : va_up R q24 (fun _ => none) = R30
          have h := h C27 I28 J29 R30 gC27.symm gI28.symm gJ29.symm gR30.symm
          refine aw_goto G0 35 dX0_row_29 (by decide) ?_
          exact aw_areturn G0 ⟨_, rfl, rfl⟩ (by rw [G.2.2]; decide) (by rw [G.2.1]; decide) dX0_row_35 h
    · have h := h.2 c2
      refine aw_iload_n G0 1 rfl dX0_row_15 ?_
      rcases Classical.em (x1 < 0) with c40 | c40
      · have h := h.2 c40
        obtain ⟨q48, k49, h⟩ := h
        refine aw_newaN (k' := 3) (n' := 222) G0 c40 (Nat.le_of_ble_eq_true rfl) (by decide) (by decide) (by rw [G.2.1]; exact ⟨by decide, by decide⟩) (by rw [G.2.1]; exact ⟨by decide, by decide⟩) k49 dX0_row_16 ?_
        have k50 : (va_up C q48 (13, 0) q48).1 = 13 := by rw [va_up_self]
        generalize gC51 : va_up C q48 (13, 0) = C51 at k50 ⊢
        generalize gI52 : va_up I q48 (fun _ => 0) = I52
        generalize gJ53 : va_up J q48 (fun _ => 0) = J53
        generalize gR54 : va_up R q48 (fun _ => none) = R54
        have h := h C51 I52 J53 R54 gC51.symm gI52.symm gJ53.symm gR54.symm
        exact ax_out G0 rfl (Or.inr (Or.inr (Or.inr k50))) (by rw [G.2.2]; decide) (by rw [G.2.1]; decide) h
      · have h := h.1 c40
        obtain ⟨k43, h⟩ := h
        obtain ⟨q41, z42, h⟩ := h
        refine aw_newaS (q := q41) (k' := 1) (n' := 60) (N := x1.toNatClampNeg) G0 c40 rfl (Nat.le_trans k43 (by decide)) (by decide) (by omega) (by rw [G.2.1]; decide) (by rw [G.2.1]; decide) z42 dX0_row_16 ?_
        generalize gC44 : va_up C q41 (23, x1.toNatClampNeg) = C44
        generalize gI45 : va_up I q41 (fun _ => 0) = I45
        generalize gJ46 : va_up J q41 (fun _ => 0) = J46
        generalize gR47 : va_up R q41 (fun _ => none) = R47
        have h := h C44 I45 J46 R47 gC44.symm gI45.symm gJ46.symm gR47.symm
        refine aw_goto G0 35 dX0_row_18 (by decide) ?_
        exact aw_areturn G0 ⟨_, rfl, rfl⟩ (by rw [G.2.2]; decide) (by rw [G.2.1]; decide) dX0_row_35 h
  · have h := h.2 c1
    refine aw_iload_n G0 1 rfl dX0_row_4 ?_
    rcases Classical.em (x1 < 0) with c57 | c57
    · have h := h.2 c57
      obtain ⟨q65, k66, h⟩ := h
      refine aw_newaN (k' := 3) (n' := 222) G0 c57 (Nat.le_of_ble_eq_true rfl) (by decide) (by decide) (by rw [G.2.1]; exact ⟨by decide, by decide⟩) (by rw [G.2.1]; exact ⟨by decide, by decide⟩) k66 dX0_row_5 ?_
      have k67 : (va_up C q65 (13, 0) q65).1 = 13 := by rw [va_up_self]
      generalize gC68 : va_up C q65 (13, 0) = C68 at k67 ⊢
      generalize gI69 : va_up I q65 (fun _ => 0) = I69
      generalize gJ70 : va_up J q65 (fun _ => 0) = J70
      generalize gR71 : va_up R q65 (fun _ => none) = R71
      have h := h C68 I69 J70 R71 gC68.symm gI69.symm gJ70.symm gR71.symm
      exact ax_out G0 rfl (Or.inr (Or.inr (Or.inr k67))) (by rw [G.2.2]; decide) (by rw [G.2.1]; decide) h
    · have h := h.1 c57
      obtain ⟨k60, h⟩ := h
      obtain ⟨q58, z59, h⟩ := h
      refine aw_newaB (q := q58) (k' := 1) (n' := 60) (N := x1.toNatClampNeg) G0 c57 rfl (Nat.le_trans k60 (by decide)) (by decide) (by omega) (by rw [G.2.1]; decide) (by rw [G.2.1]; decide) z59 dX0_row_5 ?_
      generalize gC61 : va_up C q58 (22, x1.toNatClampNeg) = C61
      generalize gI62 : va_up I q58 (fun _ => 0) = I62
      generalize gJ63 : va_up J q58 (fun _ => 0) = J63
      generalize gR64 : va_up R q58 (fun _ => none) = R64
      have h := h C61 I62 J63 R64 gC61.symm gI62.symm gJ63.symm gR64.symm
      refine aw_goto G0 35 dX0_row_7 (by decide) ?_
      exact aw_areturn G0 ⟨_, rfl, rfl⟩ (by rw [G.2.2]; decide) (by rw [G.2.1]; decide) dX0_row_35 h
theorem bX0_no_0 (G : Gb Γ yX0_no cX0_no 2 (some .boolean) [] rmX0_no bdX0_no) {x0 : Nat} {x1 : Nat}
    (h : (C x1).1 = 2 ∧
      (C x0).1 = 1 ∧
      ∀ I3 : MI, I3 = va_up I x0 (va_up (I x0) 5 (I x1 6)) →
      gK Γ (.inl (some (aI (0 : Int32)))) C I3 J R) :
    AW Γ 0 0 C I J R 0 [(0, aR (some x0)), (1, aR (some x1))] [] := by
  have G0 := G.1
  refine aw_aload_n G0 0 rfl dX0_no_0 ?_
  refine aw_aload_n G0 1 rfl dX0_no_1 ?_
  obtain ⟨k1, h⟩ := h
  refine aw_getI (f := 6) G0 (by rw [k1]; exact fb_X0_74) dX0_no_2 ?_
  obtain ⟨k2, h⟩ := h
  refine aw_putI (f := 5) G0 (by rw [k2]; exact fp_X0_63 _) dX0_no_5 ?_
  generalize gI3 : va_up I x0 (va_up (I x0) 5 (I x1 6)) = I3
  have h := h I3 gI3.symm
  refine aw_iconst (v := (0 : Int32)) G0 dX0_no_8 (by decide) ?_
  exact aw_ireturn G0 (Or.inr ⟨rfl, by decide⟩) (by rw [G.2.2]; decide) (by rw [G.2.1]; decide) dX0_no_9 h
theorem bX0_write_0 (G : Gb Γ yX0_write cX0_write 6 (some .boolean) [(5, 16, 17, 109), (5, 16, 26, 53)] rmX0_write bdX0_write) {F_X0_on : SPF} (S_X0_on : SpX0_on (gL Γ) F_X0_on) {F_X0_put : SPF} (S_X0_put : SpX0_put (gL Γ) F_X0_put)
    {Q17 : Nat → Nat → MC → MI → MJ → MR → Prop} (w17 : ∀ (x0 : Nat) (s0 : Nat) (C : MC) (I : MI) (J : MJ) (R : MR), Q17 x0 s0 C I J R → AW Γ 3 222 C I J R 17 [(0, aR (some x0))] [aR (some s0)])
    {Q26 : Nat → Nat → MC → MI → MJ → MR → Prop} (w26 : ∀ (x0 : Nat) (s0 : Nat) (C : MC) (I : MI) (J : MJ) (R : MR), Q26 x0 s0 C I J R → AW Γ 0 0 C I J R 26 [(0, aR (some x0))] [aR (some s0)]) {x0 : Nat} {x1 : Int32} {x2 : Int32} {x3 : Int64}
    (h : (C x0).1 = 1 ∧
      ∀ I2 : MI, I2 = va_up I x0 (va_up (I x0) 5 (0 : Int32)) →
      F_X0_on [aR (some x0), aI x1] C I2 J R (fun o C3 I4 J5 R6 =>
      (∃ r7 : Nat, o = .inl (some (aR (some r7))) ∧
      F_X0_put [aR (some r7), aI x2, aJ x3] C3 I4 J5 R6 (fun o C8 I9 J10 R11 =>
      (o = .inl none ∧
      gK Γ (.inl (some (aI (1 : Int32)))) C8 I9 J10 R11) ∨
      (∃ q13 : Nat, o = .inr q13 ∧
      ((C8 q13).1 = 12 ∧
      Q17 x0 q13 C8 I9 J10 R11)))) ∨
      (∃ q15 : Nat, o = .inr q15 ∧
      ((C3 q15).1 = 2 ∧
      Q26 x0 q15 C3 I4 J5 R6)))) :
    AW Γ 0 0 C I J R 0 [(0, aR (some x0)), (1, aI x1), (2, aI x2), (3, aJ x3)] [] := by
  have G0 := G.1
  refine aw_aload_n G0 0 rfl dX0_write_0 ?_
  refine aw_iconst (v := (0 : Int32)) G0 dX0_write_1 (by decide) ?_
  obtain ⟨k1, h⟩ := h
  refine aw_putI (f := 5) G0 (by rw [k1]; exact fp_X0_63 _) dX0_write_2 ?_
  generalize gI2 : va_up I x0 (va_up (I x0) 5 (0 : Int32)) = I2
  have h := h I2 gI2.symm
  refine aw_aload_n G0 0 rfl dX0_write_5 ?_
  refine aw_iload_n G0 1 rfl dX0_write_6 ?_
  refine aw_callV (k1 := 0) (n1 := 0) (k2 := 0) (n2 := 0) (st := []) G0 S_X0_on gi_X0_101 (Or.inl (by rw [k1]; decide)) (by rw [k1]; rfl) md_X0_on (Nat.le_of_ble_eq_true rfl) (by decide) (by rw [G.2.1]; decide) (by rw [G.2.1]; decide) [aI x1] rfl rfl dX0_write_7 h (fun o C3 I4 J5 R6 h => ?_)
  rcases h with ⟨r7, rfl, h⟩ | ⟨q15, rfl, h⟩
  · show AW Γ 0 0 C3 I4 J5 R6 (7 + 3) [(0, aR (some x0)), (1, aI x1), (2, aI x2), (3, aJ x3)] [aR (some r7)]
    refine aw_iload_n G0 2 rfl dX0_write_10 ?_
    refine aw_lload_n G0 3 rfl dX0_write_11 ?_
    refine aw_callS (k1 := 0) (n1 := 0) (k2 := 3) (n2 := 222) (st := []) G0 S_X0_put gi_X0_105 md_X0_put (Nat.le_of_ble_eq_true rfl) (by decide) (by rw [G.2.1]; decide) (by rw [G.2.1]; decide) [aR (some r7), aI x2, aJ x3] rfl rfl dX0_write_12 h (fun o C8 I9 J10 R11 h => ?_)
    rcases h with ⟨rfl, h⟩ | ⟨q13, rfl, h⟩
    · show AW Γ 0 0 C8 I9 J10 R11 (12 + 3) [(0, aR (some x0)), (1, aI x1), (2, aI x2), (3, aJ x3)] []
      refine aw_iconst (v := (1 : Int32)) G0 dX0_write_15 (by decide) ?_
      exact aw_ireturn G0 (Or.inr ⟨rfl, by decide⟩) (by rw [G.2.2]; decide) (by rw [G.2.1]; decide) dX0_write_16 h
    · show AX Γ 3 222 C8 I9 J10 R11 12 [(0, aR (some x0)), (1, aI x1), (2, aI x2), (3, aJ x3)] q13
      obtain ⟨k14, h⟩ := h
      refine ax_catch G0 0 rfl (fun j hj _ _ _ _ _ => absurd hj (Nat.not_lt_zero j)) rfl (by decide) q243 (Or.inr (Or.inr (Or.inl k14))) (by rw [k14]; exact q258) ?_
      exact (aw_lv [0] rfl (w17 x0 q13 C8 I9 J10 R11 h))
  · show AX Γ 0 0 C3 I4 J5 R6 7 [(0, aR (some x0)), (1, aI x1), (2, aI x2), (3, aJ x3)] q15
    obtain ⟨k16, h⟩ := h
    refine ax_catch G0 1 rfl (fun j hj a9 b9 h9 t9 ee => by
        match j, hj, ee with
        | 0, _, ee => cases ee; exact Or.inr ⟨by decide, _, q243, by rw [k16]; decide⟩
        | j + 1, hj, _ => exact absurd hj (by omega)) rfl (by decide) q84 (Or.inl k16) (by rw [k16]; exact q86) ?_
    exact (aw_lv [0] rfl (w26 x0 q15 C3 I4 J5 R6 h))
theorem bX0_write_17 (G : Gb Γ yX0_write cX0_write 6 (some .boolean) [(5, 16, 17, 109), (5, 16, 26, 53)] rmX0_write bdX0_write) {x0 : Nat} {s0 : Nat}
    (h : (C x0).1 = 1 ∧
      ∀ I2 : MI, I2 = va_up I x0 (va_up (I x0) 5 (3 : Int32)) →
      gK Γ (.inl (some (aI (0 : Int32)))) C I2 J R) :
    AW Γ 3 222 C I J R 17 [(0, aR (some x0))] [aR (some s0)] := by
  have G0 := G.1
  refine aw_astore (lv' := [(5, aR (some s0)), (0, aR (some x0))]) G0 (by decide) rfl dX0_write_17 ?_
  refine aw_aload_n G0 1 rfl dX0_write_19 ?_
  refine aw_iconst (v := (3 : Int32)) G0 dX0_write_20 (by decide) ?_
  obtain ⟨k1, h⟩ := h
  refine aw_putI (f := 5) G0 (by rw [k1]; exact fp_X0_63 _) dX0_write_21 ?_
  generalize gI2 : va_up I x0 (va_up (I x0) 5 (3 : Int32)) = I2
  have h := h I2 gI2.symm
  refine aw_iconst (v := (0 : Int32)) G0 dX0_write_24 (by decide) ?_
  exact aw_ireturn G0 (Or.inr ⟨rfl, by decide⟩) (by rw [G.2.2]; decide) (by rw [G.2.1]; decide) dX0_write_25 h
theorem bX0_write_26 (G : Gb Γ yX0_write cX0_write 6 (some .boolean) [(5, 16, 17, 109), (5, 16, 26, 53)] rmX0_write bdX0_write) {F_X0_no : SPF} (S_X0_no : SpX0_no (gL Γ) F_X0_no) {x0 : Nat} {s0 : Nat}
    (h : (C x0).1 = 1 ∧
      F_X0_no [aR (some x0), aR (some s0)] C I J R (fun o C2 I3 J4 R5 =>
      ∃ r6 : Int32, o = .inl (some (aI r6)) ∧
      (r6 = 0 ∨ r6 = 1) ∧ gK Γ (.inl (some (aI r6))) C2 I3 J4 R5)) :
    AW Γ 0 0 C I J R 26 [(0, aR (some x0))] [aR (some s0)] := by
  have G0 := G.1
  refine aw_astore (lv' := [(5, aR (some s0)), (0, aR (some x0))]) G0 (by decide) rfl dX0_write_26 ?_
  refine aw_aload_n G0 1 rfl dX0_write_28 ?_
  refine aw_aload G0 0 rfl dX0_write_29 ?_
  obtain ⟨k1, h⟩ := h
  refine aw_callV (k1 := 0) (n1 := 0) (k2 := 0) (n2 := 0) (st := []) G0 S_X0_no gi_X0_97 (Or.inl (by rw [k1]; decide)) (by rw [k1]; rfl) md_X0_no (Nat.le_of_ble_eq_true rfl) (by decide) (by rw [G.2.1]; decide) (by rw [G.2.1]; decide) [aR (some s0)] rfl rfl dX0_write_31 h (fun o C2 I3 J4 R5 h => ?_)
  obtain ⟨r6, rfl, h⟩ := h
  show AW Γ 0 0 C2 I3 J4 R5 (31 + 3) [(5, aR (some s0)), (0, aR (some x0))] [aI r6]
  obtain ⟨k7, h⟩ := h
  exact aw_ireturn G0 (Or.inr ⟨rfl, k7⟩) (by rw [G.2.2]; decide) (by rw [G.2.1]; decide) dX0_write_34 h
theorem bX0_on_0 (G : Gb Γ yX0_on cX0_on 2 (some (.object "java/lang/Object")) [] rmX0_on bdX0_on)
    {Q14 : Nat → Int32 → Nat → MC → MI → MJ → MR → Prop} (w14 : ∀ (x0 : Nat) (x1 : Int32) (s0 : Nat) (C : MC) (I : MI) (J : MJ) (R : MR), Q14 x0 x1 s0 C I J R → AW Γ 0 0 C I J R 14 [(0, aR (some x0)), (1, aI x1)] [aR (some s0)])
    {Q15 : Nat → Int32 → Nat → Int32 → MC → MI → MJ → MR → Prop} (w15 : ∀ (x0 : Nat) (x1 : Int32) (s0 : Nat) (s1 : Int32) (C : MC) (I : MI) (J : MJ) (R : MR), Q15 x0 x1 s0 s1 C I J R → AW Γ 0 0 C I J R 15 [(0, aR (some x0)), (1, aI x1)] [aI s1, aR (some s0)]) {x0 : Nat} {x1 : Int32}
    (h : ((x1 < 0 →
      Q14 x0 x1 x0 C I J R) ∧
      (¬ x1 < 0 →
      (((4 : Int32) ≤ x1 →
      Q14 x0 x1 x0 C I J R) ∧
      (¬ (4 : Int32) ≤ x1 →
      Q15 x0 x1 x0 (1 : Int32) C I J R))))) :
    AW Γ 0 0 C I J R 0 [(0, aR (some x0)), (1, aI x1)] [] := by
  have G0 := G.1
  refine aw_aload_n G0 0 rfl dX0_on_0 ?_
  refine aw_iload_n G0 1 rfl dX0_on_1 ?_
  refine aw_if_lt G0 14 dX0_on_2 (by decide) (fun c1 => ?_) (fun c1 => ?_)
  · have h := h.1 c1
    exact (w14 x0 x1 x0 C I J R h)
  · have h := h.2 c1
    refine aw_iload_n G0 1 rfl dX0_on_5 ?_
    refine aw_iconst (v := (4 : Int32)) G0 dX0_on_6 (by decide) ?_
    refine aw_icmp_ge G0 14 dX0_on_7 (by decide) (fun c2 => ?_) (fun c2 => ?_)
    · have h := h.1 c2
      exact (w14 x0 x1 x0 C I J R h)
    · have h := h.2 c2
      refine aw_iconst (v := (1 : Int32)) G0 dX0_on_10 (by decide) ?_
      refine aw_goto G0 15 dX0_on_11 (by decide) ?_
      exact (w15 x0 x1 x0 (1 : Int32) C I J R h)
theorem bX0_on_14 (G : Gb Γ yX0_on cX0_on 2 (some (.object "java/lang/Object")) [] rmX0_on bdX0_on)
    {Q15 : Nat → Int32 → Nat → Int32 → MC → MI → MJ → MR → Prop} (w15 : ∀ (x0 : Nat) (x1 : Int32) (s0 : Nat) (s1 : Int32) (C : MC) (I : MI) (J : MJ) (R : MR), Q15 x0 x1 s0 s1 C I J R → AW Γ 0 0 C I J R 15 [(0, aR (some x0)), (1, aI x1)] [aI s1, aR (some s0)]) {x0 : Nat} {x1 : Int32} {s0 : Nat}
    (h : Q15 x0 x1 s0 (0 : Int32) C I J R) :
    AW Γ 0 0 C I J R 14 [(0, aR (some x0)), (1, aI x1)] [aR (some s0)] := by
  have G0 := G.1
  refine aw_iconst (v := (0 : Int32)) G0 dX0_on_14 (by decide) ?_
  exact (w15 x0 x1 s0 (0 : Int32) C I J R h)
theorem bX0_on_15 (G : Gb Γ yX0_on cX0_on 2 (some (.object "java/lang/Object")) [] rmX0_on bdX0_on) {F_X0_want : SPF} (S_X0_want : SpX0_want (gL Γ) F_X0_want)
    {Q34 : Nat → Int32 → Nat → Int32 → MC → MI → MJ → MR → Prop} (w34 : ∀ (x0 : Nat) (x1 : Int32) (s0 : Nat) (s1 : Int32) (C : MC) (I : MI) (J : MJ) (R : MR), Q34 x0 x1 s0 s1 C I J R → AW Γ 0 0 C I J R 34 [(0, aR (some x0)), (1, aI x1)] [aI s1, aR (some s0)]) {x0 : Nat} {x1 : Int32} {s0 : Nat} {s1 : Int32}
    (h : (C s0).1 = 1 ∧
      F_X0_want [aR (some s0), aI s1, aI (1 : Int32)] C I J R (fun o C2 I3 J4 R5 =>
      (o = .inl none ∧
      (C2 x0).1 = 1 ∧
      ∃ q8 : Nat, R5 x0 0 = some q8 ∧
      (25 ≤ (C2 q8).1 ∧ (C2 q8).1 < 30) ∧
      vp_in x1 (C2 q8).2 ∧
      ((R5 q8 x1.toNatClampNeg = none →
      Q34 x0 x1 x0 (0 : Int32) C2 I3 J4 R5) ∧
      (¬ R5 q8 x1.toNatClampNeg = none →
      Q34 x0 x1 x0 (1 : Int32) C2 I3 J4 R5))) ∨
      (∃ q12 : Nat, o = .inr q12 ∧
      ((C2 q12).1 = 2 ∧
      gK Γ (.inr q12) C2 I3 J4 R5)))) :
    AW Γ 0 0 C I J R 15 [(0, aR (some x0)), (1, aI x1)] [aI s1, aR (some s0)] := by
  have G0 := G.1
  refine aw_iconst (v := (1 : Int32)) G0 dX0_on_15 (by decide) ?_
  obtain ⟨k1, h⟩ := h
  refine aw_callV (k1 := 0) (n1 := 0) (k2 := 0) (n2 := 0) (st := []) G0 S_X0_want gi_X0_87 (Or.inl (by rw [k1]; decide)) (by rw [k1]; rfl) md_X0_want (Nat.le_of_ble_eq_true rfl) (by decide) (by rw [G.2.1]; decide) (by rw [G.2.1]; decide) [aI s1, aI (1 : Int32)] rfl rfl dX0_on_16 h (fun o C2 I3 J4 R5 h => ?_)
  rcases h with ⟨rfl, h⟩ | ⟨q12, rfl, h⟩
  · show AW Γ 0 0 C2 I3 J4 R5 (16 + 3) [(0, aR (some x0)), (1, aI x1)] []
    refine aw_aload_n G0 0 rfl dX0_on_19 ?_
    refine aw_aload_n G0 0 rfl dX0_on_20 ?_
    obtain ⟨k7, h⟩ := h
    refine aw_getR (f := 0) G0 (by rw [k7]; exact fb_X0_40) dX0_on_21 ?_
    refine aw_iload_n G0 1 rfl dX0_on_24 ?_
    obtain ⟨q8, e8, h⟩ := h
    refine aw_dr1 e8 ?_
    obtain ⟨k9, h⟩ := h
    obtain ⟨k10, h⟩ := h
    refine aw_aald G0 k9 k10 dX0_on_25 ?_
    refine aw_ifnull G0 33 dX0_on_26 (by decide) (fun c11 => ?_) (fun c11 => ?_)
    · have h := h.1 c11
      refine aw_iconst (v := (0 : Int32)) G0 dX0_on_33 (by decide) ?_
      exact (w34 x0 x1 x0 (0 : Int32) C2 I3 J4 R5 h)
    · have h := h.2 c11
      refine aw_iconst (v := (1 : Int32)) G0 dX0_on_29 (by decide) ?_
      refine aw_goto G0 34 dX0_on_30 (by decide) ?_
      exact (w34 x0 x1 x0 (1 : Int32) C2 I3 J4 R5 h)
  · show AX Γ 0 0 C2 I3 J4 R5 16 [(0, aR (some x0)), (1, aI x1)] q12
    obtain ⟨k13, h⟩ := h
    exact ax_out G0 rfl (Or.inl k13) (by rw [G.2.2]; decide) (by rw [G.2.1]; decide) h
theorem bX0_on_34 (G : Gb Γ yX0_on cX0_on 2 (some (.object "java/lang/Object")) [] rmX0_on bdX0_on) {F_X0_want : SPF} (S_X0_want : SpX0_want (gL Γ) F_X0_want) {x0 : Nat} {x1 : Int32} {s0 : Nat} {s1 : Int32}
    (h : (C s0).1 = 1 ∧
      F_X0_want [aR (some s0), aI s1, aI (2 : Int32)] C I J R (fun o C2 I3 J4 R5 =>
      (o = .inl none ∧
      (C2 x0).1 = 1 ∧
      ∃ q8 : Nat, R5 x0 0 = some q8 ∧
      (25 ≤ (C2 q8).1 ∧ (C2 q8).1 < 30) ∧
      vp_in x1 (C2 q8).2 ∧
      gK Γ (.inl (some (aR (R5 q8 x1.toNatClampNeg)))) C2 I3 J4 R5) ∨
      (∃ q11 : Nat, o = .inr q11 ∧
      ((C2 q11).1 = 2 ∧
      gK Γ (.inr q11) C2 I3 J4 R5)))) :
    AW Γ 0 0 C I J R 34 [(0, aR (some x0)), (1, aI x1)] [aI s1, aR (some s0)] := by
  have G0 := G.1
  refine aw_iconst (v := (2 : Int32)) G0 dX0_on_34 (by decide) ?_
  obtain ⟨k1, h⟩ := h
  refine aw_callV (k1 := 0) (n1 := 0) (k2 := 0) (n2 := 0) (st := []) G0 S_X0_want gi_X0_87 (Or.inl (by rw [k1]; decide)) (by rw [k1]; rfl) md_X0_want (Nat.le_of_ble_eq_true rfl) (by decide) (by rw [G.2.1]; decide) (by rw [G.2.1]; decide) [aI s1, aI (2 : Int32)] rfl rfl dX0_on_35 h (fun o C2 I3 J4 R5 h => ?_)
  rcases h with ⟨rfl, h⟩ | ⟨q11, rfl, h⟩
  · show AW Γ 0 0 C2 I3 J4 R5 (35 + 3) [(0, aR (some x0)), (1, aI x1)] []
    refine aw_aload_n G0 0 rfl dX0_on_38 ?_
    obtain ⟨k7, h⟩ := h
    refine aw_getR (f := 0) G0 (by rw [k7]; exact fb_X0_40) dX0_on_39 ?_
    refine aw_iload_n G0 1 rfl dX0_on_42 ?_
    obtain ⟨q8, e8, h⟩ := h
    refine aw_dr1 e8 ?_
    obtain ⟨k9, h⟩ := h
    obtain ⟨k10, h⟩ := h
    refine aw_aald G0 k9 k10 dX0_on_43 ?_
    exact aw_areturn G0 ⟨_, rfl, rfl⟩ (by rw [G.2.2]; decide) (by rw [G.2.1]; decide) dX0_on_44 h
  · show AX Γ 0 0 C2 I3 J4 R5 35 [(0, aR (some x0)), (1, aI x1)] q11
    obtain ⟨k12, h⟩ := h
    exact ax_out G0 rfl (Or.inl k12) (by rw [G.2.2]; decide) (by rw [G.2.1]; decide) h
theorem bX0_put_0 (G : Gb Γ yX0_put cX0_put 7 (none) [] rmX0_put bdX0_put) {x0 : Nat} {x1 : Int32} {x2 : Int64}
    (h : kPr (C x0).1 ∧
      (((C x0).1 = 22 →
      ((vp_in x1 (C x0).2 →
      ∀ I4 : MI, I4 = va_up I x0 (va_up (I x0) x1.toNatClampNeg x2.toInt32.toInt8.toInt32.toInt8.toInt32) →
      gK Γ (.inl none) C I4 J R) ∧
      (¬ vp_in x1 (C x0).2 →
      (C x0).2 ≤ 1000 ∧
      ∃ q6 : Nat, (C q6).1 = 0 ∧
      ∀ (C9 : MC) (I10 : MI) (J11 : MJ) (R12 : MR), C9 = va_up C q6 (12, 0) → I10 = va_up I q6 (fun _ => 0) → J11 = va_up J q6 (fun _ => 0) → R12 = va_up R q6 (fun _ => none) → 
      gK Γ (.inr q6) C9 I10 J11 R12))) ∧
      (¬ (C x0).1 = 22 →
      (((C x0).1 = 23 →
      ((vp_in x1 (C x0).2 →
      ∀ I15 : MI, I15 = va_up I x0 (va_up (I x0) x1.toNatClampNeg x2.toInt32.toInt16.toInt32.toInt16.toInt32) →
      gK Γ (.inl none) C I15 J R) ∧
      (¬ vp_in x1 (C x0).2 →
      (C x0).2 ≤ 1000 ∧
      ∃ q17 : Nat, (C q17).1 = 0 ∧
      ∀ (C20 : MC) (I21 : MI) (J22 : MJ) (R23 : MR), C20 = va_up C q17 (12, 0) → I21 = va_up I q17 (fun _ => 0) → J22 = va_up J q17 (fun _ => 0) → R23 = va_up R q17 (fun _ => none) → 
      gK Γ (.inr q17) C20 I21 J22 R23))) ∧
      (¬ (C x0).1 = 23 →
      (((C x0).1 = 20 →
      ((vp_in x1 (C x0).2 →
      ∀ I26 : MI, I26 = va_up I x0 (va_up (I x0) x1.toNatClampNeg x2.toInt32) →
      gK Γ (.inl none) C I26 J R) ∧
      (¬ vp_in x1 (C x0).2 →
      (C x0).2 ≤ 1000 ∧
      ∃ q28 : Nat, (C q28).1 = 0 ∧
      ∀ (C31 : MC) (I32 : MI) (J33 : MJ) (R34 : MR), C31 = va_up C q28 (12, 0) → I32 = va_up I q28 (fun _ => 0) → J33 = va_up J q28 (fun _ => 0) → R34 = va_up R q28 (fun _ => none) → 
      gK Γ (.inr q28) C31 I32 J33 R34))) ∧
      (¬ (C x0).1 = 20 →
      (C x0).1 = 21 ∧
      ((vp_in x1 (C x0).2 →
      ∀ J37 : MJ, J37 = va_up J x0 (va_up (J x0) x1.toNatClampNeg x2) →
      gK Γ (.inl none) C I J37 R) ∧
      (¬ vp_in x1 (C x0).2 →
      (C x0).2 ≤ 1000 ∧
      ∃ q39 : Nat, (C q39).1 = 0 ∧
      ∀ (C42 : MC) (I43 : MI) (J44 : MJ) (R45 : MR), C42 = va_up C q39 (12, 0) → I43 = va_up I q39 (fun _ => 0) → J44 = va_up J q39 (fun _ => 0) → R45 = va_up R q39 (fun _ => none) → 
      gK Γ (.inr q39) C42 I43 J44 R45))))))))) :
    AW Γ 0 0 C I J R 0 [(0, aR (some x0)), (1, aI x1), (2, aJ x2)] [] := by
  have G0 := G.1
  refine aw_aload_n G0 0 rfl dX0_put_0 ?_
  obtain ⟨k1, h⟩ := h
  by_cases c2 : (C x0).1 = 22
  · have h := h.1 c2
    refine aw_inst1 G0 q269 (ki_22r k1) (by rw [c2]; rfl) dX0_put_1 ?_
    refine aw_if_eq G0 23 dX0_put_4 (by decide) (fun z => absurd z (by decide)) (fun _ => ?_)
    refine aw_aload_n G0 0 rfl dX0_put_7 ?_
    refine aw_cast G0 q269 (Or.inr (by rw [c2]; decide)) (by rw [c2]; rfl) dX0_put_8 ?_
    refine aw_astore (lv' := [(4, aR (some x0)), (0, aR (some x0)), (1, aI x1), (2, aJ x2)]) G0 (by decide) rfl dX0_put_11 ?_
    refine aw_aload G0 0 rfl dX0_put_13 ?_
    refine aw_iload_n G0 2 rfl dX0_put_15 ?_
    refine aw_lload_n G0 3 rfl dX0_put_16 ?_
    refine aw_l2i G0 dX0_put_17 ?_
    refine aw_i2b G0 dX0_put_18 ?_
    rcases Classical.em (vp_in x1 (C x0).2) with c3 | c3
    · have h := h.1 c3
      refine aw_bast G0 c2 c3 dX0_put_19 ?_
      generalize gI4 : va_up I x0 (va_up (I x0) x1.toNatClampNeg x2.toInt32.toInt8.toInt32.toInt8.toInt32) = I4
      have h := h I4 gI4.symm
      refine aw_goto G0 75 dX0_put_20 (by decide) ?_
      exact aw_return G0 (by rw [G.2.2]; decide) (by rw [G.2.1]; decide) dX0_put_75 h
    · have h := h.2 c3
      obtain ⟨k5, h⟩ := h
      obtain ⟨q6, k7, h⟩ := h
      refine aw_bastZ (k' := 3) (n' := 222) G0 c2 c3 k5 (Nat.le_of_ble_eq_true rfl) (by decide) (by decide) (by rw [G.2.1]; exact ⟨by decide, by decide⟩) (by rw [G.2.1]; exact ⟨by decide, by decide⟩) k7 dX0_put_19 ?_
      have k8 : (va_up C q6 (12, 0) q6).1 = 12 := by rw [va_up_self]
      generalize gC9 : va_up C q6 (12, 0) = C9 at k8 ⊢
      generalize gI10 : va_up I q6 (fun _ => 0) = I10
      generalize gJ11 : va_up J q6 (fun _ => 0) = J11
      generalize gR12 : va_up R q6 (fun _ => none) = R12
      have h := h C9 I10 J11 R12 gC9.symm gI10.symm gJ11.symm gR12.symm
      exact ax_out G0 rfl (Or.inr (Or.inr (Or.inl k8))) (by rw [G.2.2]; decide) (by rw [G.2.1]; decide) h
  · have h := h.2 c2
    refine aw_inst0 G0 q269 (ki_22r k1) (ki_22n k1 c2) dX0_put_1 ?_
    refine aw_if_eq G0 23 dX0_put_4 (by decide) (fun _ => ?_) (fun z => absurd z (by decide))
    refine aw_aload_n G0 0 rfl dX0_put_23 ?_
    by_cases c13 : (C x0).1 = 23
    · have h := h.1 c13
      refine aw_inst1 G0 q270 (ki_23r k1) (by rw [c13]; rfl) dX0_put_24 ?_
      refine aw_if_eq G0 46 dX0_put_27 (by decide) (fun z => absurd z (by decide)) (fun _ => ?_)
      refine aw_aload_n G0 0 rfl dX0_put_30 ?_
      refine aw_cast G0 q270 (Or.inr (by rw [c13]; decide)) (by rw [c13]; rfl) dX0_put_31 ?_
      refine aw_astore (lv' := [(5, aR (some x0)), (0, aR (some x0)), (1, aI x1), (2, aJ x2)]) G0 (by decide) rfl dX0_put_34 ?_
      refine aw_aload G0 0 rfl dX0_put_36 ?_
      refine aw_iload_n G0 2 rfl dX0_put_38 ?_
      refine aw_lload_n G0 3 rfl dX0_put_39 ?_
      refine aw_l2i G0 dX0_put_40 ?_
      refine aw_i2s G0 dX0_put_41 ?_
      rcases Classical.em (vp_in x1 (C x0).2) with c14 | c14
      · have h := h.1 c14
        refine aw_sast G0 c13 c14 dX0_put_42 ?_
        generalize gI15 : va_up I x0 (va_up (I x0) x1.toNatClampNeg x2.toInt32.toInt16.toInt32.toInt16.toInt32) = I15
        have h := h I15 gI15.symm
        refine aw_goto G0 75 dX0_put_43 (by decide) ?_
        exact aw_return G0 (by rw [G.2.2]; decide) (by rw [G.2.1]; decide) dX0_put_75 h
      · have h := h.2 c14
        obtain ⟨k16, h⟩ := h
        obtain ⟨q17, k18, h⟩ := h
        refine aw_sastZ (k' := 3) (n' := 222) G0 c13 c14 k16 (Nat.le_of_ble_eq_true rfl) (by decide) (by decide) (by rw [G.2.1]; exact ⟨by decide, by decide⟩) (by rw [G.2.1]; exact ⟨by decide, by decide⟩) k18 dX0_put_42 ?_
        have k19 : (va_up C q17 (12, 0) q17).1 = 12 := by rw [va_up_self]
        generalize gC20 : va_up C q17 (12, 0) = C20 at k19 ⊢
        generalize gI21 : va_up I q17 (fun _ => 0) = I21
        generalize gJ22 : va_up J q17 (fun _ => 0) = J22
        generalize gR23 : va_up R q17 (fun _ => none) = R23
        have h := h C20 I21 J22 R23 gC20.symm gI21.symm gJ22.symm gR23.symm
        exact ax_out G0 rfl (Or.inr (Or.inr (Or.inl k19))) (by rw [G.2.2]; decide) (by rw [G.2.1]; decide) h
    · have h := h.2 c13
      refine aw_inst0 G0 q270 (ki_23r k1) (ki_23n k1 c2 c13) dX0_put_24 ?_
      refine aw_if_eq G0 46 dX0_put_27 (by decide) (fun _ => ?_) (fun z => absurd z (by decide))
      refine aw_aload_n G0 0 rfl dX0_put_46 ?_
      by_cases c24 : (C x0).1 = 20
      · have h := h.1 c24
        refine aw_inst1 G0 q271 (ki_20r k1) (by rw [c24]; rfl) dX0_put_47 ?_
        refine aw_if_eq G0 68 dX0_put_50 (by decide) (fun z => absurd z (by decide)) (fun _ => ?_)
        refine aw_aload_n G0 0 rfl dX0_put_53 ?_
        refine aw_cast G0 q271 (Or.inr (by rw [c24]; decide)) (by rw [c24]; rfl) dX0_put_54 ?_
        refine aw_astore (lv' := [(6, aR (some x0)), (0, aR (some x0)), (1, aI x1), (2, aJ x2)]) G0 (by decide) rfl dX0_put_57 ?_
        refine aw_aload G0 0 rfl dX0_put_59 ?_
        refine aw_iload_n G0 2 rfl dX0_put_61 ?_
        refine aw_lload_n G0 3 rfl dX0_put_62 ?_
        refine aw_l2i G0 dX0_put_63 ?_
        rcases Classical.em (vp_in x1 (C x0).2) with c25 | c25
        · have h := h.1 c25
          refine aw_iast G0 c24 c25 dX0_put_64 ?_
          generalize gI26 : va_up I x0 (va_up (I x0) x1.toNatClampNeg x2.toInt32) = I26
          have h := h I26 gI26.symm
          refine aw_goto G0 75 dX0_put_65 (by decide) ?_
          exact aw_return G0 (by rw [G.2.2]; decide) (by rw [G.2.1]; decide) dX0_put_75 h
        · have h := h.2 c25
          obtain ⟨k27, h⟩ := h
          obtain ⟨q28, k29, h⟩ := h
          refine aw_iastZ (k' := 3) (n' := 222) G0 c24 c25 k27 (Nat.le_of_ble_eq_true rfl) (by decide) (by decide) (by rw [G.2.1]; exact ⟨by decide, by decide⟩) (by rw [G.2.1]; exact ⟨by decide, by decide⟩) k29 dX0_put_64 ?_
          have k30 : (va_up C q28 (12, 0) q28).1 = 12 := by rw [va_up_self]
          generalize gC31 : va_up C q28 (12, 0) = C31 at k30 ⊢
          generalize gI32 : va_up I q28 (fun _ => 0) = I32
          generalize gJ33 : va_up J q28 (fun _ => 0) = J33
          generalize gR34 : va_up R q28 (fun _ => none) = R34
          have h := h C31 I32 J33 R34 gC31.symm gI32.symm gJ33.symm gR34.symm
          exact ax_out G0 rfl (Or.inr (Or.inr (Or.inl k30))) (by rw [G.2.2]; decide) (by rw [G.2.1]; decide) h
      · have h := h.2 c24
        refine aw_inst0 G0 q271 (ki_20r k1) (ki_20n k1 c2 c13 c24) dX0_put_47 ?_
        refine aw_if_eq G0 68 dX0_put_50 (by decide) (fun _ => ?_) (fun z => absurd z (by decide))
        refine aw_aload_n G0 0 rfl dX0_put_68 ?_
        obtain ⟨k35, h⟩ := h
        refine aw_cast G0 q272 (Or.inr (by rw [k35]; decide)) (by rw [k35]; rfl) dX0_put_69 ?_
        refine aw_iload_n G0 1 rfl dX0_put_72 ?_
        refine aw_lload_n G0 2 rfl dX0_put_73 ?_
        rcases Classical.em (vp_in x1 (C x0).2) with c36 | c36
        · have h := h.1 c36
          refine aw_last G0 k35 c36 dX0_put_74 ?_
          generalize gJ37 : va_up J x0 (va_up (J x0) x1.toNatClampNeg x2) = J37
          have h := h J37 gJ37.symm
          exact aw_return G0 (by rw [G.2.2]; decide) (by rw [G.2.1]; decide) dX0_put_75 h
        · have h := h.2 c36
          obtain ⟨k38, h⟩ := h
          obtain ⟨q39, k40, h⟩ := h
          refine aw_lastZ (k' := 3) (n' := 222) G0 k35 c36 k38 (Nat.le_of_ble_eq_true rfl) (by decide) (by decide) (by rw [G.2.1]; exact ⟨by decide, by decide⟩) (by rw [G.2.1]; exact ⟨by decide, by decide⟩) k40 dX0_put_74 ?_
          have k41 : (va_up C q39 (12, 0) q39).1 = 12 := by rw [va_up_self]
          generalize gC42 : va_up C q39 (12, 0) = C42 at k41 ⊢
          generalize gI43 : va_up I q39 (fun _ => 0) = I43
          generalize gJ44 : va_up J q39 (fun _ => 0) = J44
          generalize gR45 : va_up R q39 (fun _ => none) = R45
          have h := h C42 I43 J44 R45 gC42.symm gI43.symm gJ44.symm gR45.symm
          exact ax_out G0 rfl (Or.inr (Or.inr (Or.inl k41))) (by rw [G.2.2]; decide) (by rw [G.2.1]; decide) h
theorem bX0_read_0 (G : Gb Γ yX0_read cX0_read 4 (some .long) [(5, 14, 15, 109), (5, 14, 25, 53)] rmX0_read bdX0_read) {F_X0_on : SPF} (S_X0_on : SpX0_on (gL Γ) F_X0_on) {F_X0_number : SPF} (S_X0_number : SpX0_number (gL Γ) F_X0_number)
    {Q15 : Nat → Nat → MC → MI → MJ → MR → Prop} (w15 : ∀ (x0 : Nat) (s0 : Nat) (C : MC) (I : MI) (J : MJ) (R : MR), Q15 x0 s0 C I J R → AW Γ 3 222 C I J R 15 [(0, aR (some x0))] [aR (some s0)])
    {Q25 : Nat → Nat → MC → MI → MJ → MR → Prop} (w25 : ∀ (x0 : Nat) (s0 : Nat) (C : MC) (I : MI) (J : MJ) (R : MR), Q25 x0 s0 C I J R → AW Γ 0 0 C I J R 25 [(0, aR (some x0))] [aR (some s0)]) {x0 : Nat} {x1 : Int32} {x2 : Int32}
    (h : (C x0).1 = 1 ∧
      ∀ I2 : MI, I2 = va_up I x0 (va_up (I x0) 5 (0 : Int32)) →
      F_X0_on [aR (some x0), aI x1] C I2 J R (fun o C3 I4 J5 R6 =>
      (∃ r7 : Nat, o = .inl (some (aR (some r7))) ∧
      F_X0_number [aR (some r7), aI x2] C3 I4 J5 R6 (fun o C8 I9 J10 R11 =>
      (∃ r12 : Int64, o = .inl (some (aJ r12)) ∧
      gK Γ (.inl (some (aJ r12))) C8 I9 J10 R11) ∨
      (∃ q13 : Nat, o = .inr q13 ∧
      ((C8 q13).1 = 12 ∧
      Q15 x0 q13 C8 I9 J10 R11)))) ∨
      (∃ q15 : Nat, o = .inr q15 ∧
      ((C3 q15).1 = 2 ∧
      Q25 x0 q15 C3 I4 J5 R6)))) :
    AW Γ 0 0 C I J R 0 [(0, aR (some x0)), (1, aI x1), (2, aI x2)] [] := by
  have G0 := G.1
  refine aw_aload_n G0 0 rfl dX0_read_0 ?_
  refine aw_iconst (v := (0 : Int32)) G0 dX0_read_1 (by decide) ?_
  obtain ⟨k1, h⟩ := h
  refine aw_putI (f := 5) G0 (by rw [k1]; exact fp_X0_63 _) dX0_read_2 ?_
  generalize gI2 : va_up I x0 (va_up (I x0) 5 (0 : Int32)) = I2
  have h := h I2 gI2.symm
  refine aw_aload_n G0 0 rfl dX0_read_5 ?_
  refine aw_iload_n G0 1 rfl dX0_read_6 ?_
  refine aw_callV (k1 := 0) (n1 := 0) (k2 := 0) (n2 := 0) (st := []) G0 S_X0_on gi_X0_101 (Or.inl (by rw [k1]; decide)) (by rw [k1]; rfl) md_X0_on (Nat.le_of_ble_eq_true rfl) (by decide) (by rw [G.2.1]; decide) (by rw [G.2.1]; decide) [aI x1] rfl rfl dX0_read_7 h (fun o C3 I4 J5 R6 h => ?_)
  rcases h with ⟨r7, rfl, h⟩ | ⟨q15, rfl, h⟩
  · show AW Γ 0 0 C3 I4 J5 R6 (7 + 3) [(0, aR (some x0)), (1, aI x1), (2, aI x2)] [aR (some r7)]
    refine aw_iload_n G0 2 rfl dX0_read_10 ?_
    refine aw_callS (k1 := 0) (n1 := 0) (k2 := 3) (n2 := 222) (st := []) G0 S_X0_number gi_X0_111 md_X0_number (Nat.le_of_ble_eq_true rfl) (by decide) (by rw [G.2.1]; decide) (by rw [G.2.1]; decide) [aR (some r7), aI x2] rfl rfl dX0_read_11 h (fun o C8 I9 J10 R11 h => ?_)
    rcases h with ⟨r12, rfl, h⟩ | ⟨q13, rfl, h⟩
    · show AW Γ 0 0 C8 I9 J10 R11 (11 + 3) [(0, aR (some x0)), (1, aI x1), (2, aI x2)] [aJ r12]
      exact aw_lreturn G0 (by rw [G.2.2]; decide) (by rw [G.2.1]; decide) dX0_read_14 h
    · show AX Γ 3 222 C8 I9 J10 R11 11 [(0, aR (some x0)), (1, aI x1), (2, aI x2)] q13
      obtain ⟨k14, h⟩ := h
      refine ax_catch G0 0 rfl (fun j hj _ _ _ _ _ => absurd hj (Nat.not_lt_zero j)) rfl (by decide) q243 (Or.inr (Or.inr (Or.inl k14))) (by rw [k14]; exact q258) ?_
      exact (aw_lv [0] rfl (w15 x0 q13 C8 I9 J10 R11 h))
  · show AX Γ 0 0 C3 I4 J5 R6 7 [(0, aR (some x0)), (1, aI x1), (2, aI x2)] q15
    obtain ⟨k16, h⟩ := h
    refine ax_catch G0 1 rfl (fun j hj a9 b9 h9 t9 ee => by
        match j, hj, ee with
        | 0, _, ee => cases ee; exact Or.inr ⟨by decide, _, q243, by rw [k16]; decide⟩
        | j + 1, hj, _ => exact absurd hj (by omega)) rfl (by decide) q84 (Or.inl k16) (by rw [k16]; exact q86) ?_
    exact (aw_lv [0] rfl (w25 x0 q15 C3 I4 J5 R6 h))
theorem bX0_read_15 (G : Gb Γ yX0_read cX0_read 4 (some .long) [(5, 14, 15, 109), (5, 14, 25, 53)] rmX0_read bdX0_read) {x0 : Nat} {s0 : Nat}
    (h : (C x0).1 = 1 ∧
      ∀ I2 : MI, I2 = va_up I x0 (va_up (I x0) 5 (3 : Int32)) →
      gK Γ (.inl (some (aJ (-1 : Int64)))) C I2 J R) :
    AW Γ 3 222 C I J R 15 [(0, aR (some x0))] [aR (some s0)] := by
  have G0 := G.1
  refine aw_astore_n (lv' := [(3, aR (some s0)), (0, aR (some x0))]) G0 (by decide) rfl dX0_read_15 ?_
  refine aw_aload_n G0 1 rfl dX0_read_16 ?_
  refine aw_iconst (v := (3 : Int32)) G0 dX0_read_17 (by decide) ?_
  obtain ⟨k1, h⟩ := h
  refine aw_putI (f := 5) G0 (by rw [k1]; exact fp_X0_63 _) dX0_read_18 ?_
  generalize gI2 : va_up I x0 (va_up (I x0) 5 (3 : Int32)) = I2
  have h := h I2 gI2.symm
  refine aw_ldc2 (v := (-1 : Int64)) G0 q280 dX0_read_21 ?_
  exact aw_lreturn G0 (by rw [G.2.2]; decide) (by rw [G.2.1]; decide) dX0_read_24 h
theorem bX0_read_25 (G : Gb Γ yX0_read cX0_read 4 (some .long) [(5, 14, 15, 109), (5, 14, 25, 53)] rmX0_read bdX0_read) {F_X0_none : SPF} (S_X0_none : SpX0_none (gL Γ) F_X0_none) {x0 : Nat} {s0 : Nat}
    (h : (C x0).1 = 1 ∧
      F_X0_none [aR (some x0), aR (some s0)] C I J R (fun o C2 I3 J4 R5 =>
      ∃ r6 : Int32, o = .inl (some (aI r6)) ∧
      gK Γ (.inl (some (aJ r6.toInt64))) C2 I3 J4 R5)) :
    AW Γ 0 0 C I J R 25 [(0, aR (some x0))] [aR (some s0)] := by
  have G0 := G.1
  refine aw_astore_n (lv' := [(3, aR (some s0)), (0, aR (some x0))]) G0 (by decide) rfl dX0_read_25 ?_
  refine aw_aload_n G0 1 rfl dX0_read_26 ?_
  refine aw_aload_n G0 0 rfl dX0_read_27 ?_
  obtain ⟨k1, h⟩ := h
  refine aw_callV (k1 := 0) (n1 := 0) (k2 := 0) (n2 := 0) (st := []) G0 S_X0_none gi_X0_117 (Or.inl (by rw [k1]; decide)) (by rw [k1]; rfl) md_X0_none (Nat.le_of_ble_eq_true rfl) (by decide) (by rw [G.2.1]; decide) (by rw [G.2.1]; decide) [aR (some s0)] rfl rfl dX0_read_28 h (fun o C2 I3 J4 R5 h => ?_)
  obtain ⟨r6, rfl, h⟩ := h
  show AW Γ 0 0 C2 I3 J4 R5 (28 + 3) [(3, aR (some s0)), (0, aR (some x0))] [aI r6]
  refine aw_i2l G0 dX0_read_31 ?_
  exact aw_lreturn G0 (by rw [G.2.2]; decide) (by rw [G.2.1]; decide) dX0_read_32 h
theorem bX0_number_0 (G : Gb Γ yX0_number cX0_number 3 (some .long) [] rmX0_number bdX0_number) {x0 : Nat} {x1 : Int32}
    (h : kPr (C x0).1 ∧
      (((C x0).1 = 22 →
      ((vp_in x1 (C x0).2 →
      gK Γ (.inl (some (aJ ((I x0 x1.toNatClampNeg).toInt64)))) C I J R) ∧
      (¬ vp_in x1 (C x0).2 →
      (C x0).2 ≤ 1000 ∧
      ∃ q5 : Nat, (C q5).1 = 0 ∧
      ∀ (C8 : MC) (I9 : MI) (J10 : MJ) (R11 : MR), C8 = va_up C q5 (12, 0) → I9 = va_up I q5 (fun _ => 0) → J10 = va_up J q5 (fun _ => 0) → R11 = va_up R q5 (fun _ => none) → 
      gK Γ (.inr q5) C8 I9 J10 R11))) ∧
      (¬ (C x0).1 = 22 →
      (((C x0).1 = 23 →
      ((vp_in x1 (C x0).2 →
      gK Γ (.inl (some (aJ ((I x0 x1.toNatClampNeg).toInt64)))) C I J R) ∧
      (¬ vp_in x1 (C x0).2 →
      (C x0).2 ≤ 1000 ∧
      ∃ q15 : Nat, (C q15).1 = 0 ∧
      ∀ (C18 : MC) (I19 : MI) (J20 : MJ) (R21 : MR), C18 = va_up C q15 (12, 0) → I19 = va_up I q15 (fun _ => 0) → J20 = va_up J q15 (fun _ => 0) → R21 = va_up R q15 (fun _ => none) → 
      gK Γ (.inr q15) C18 I19 J20 R21))) ∧
      (¬ (C x0).1 = 23 →
      (((C x0).1 = 20 →
      ((vp_in x1 (C x0).2 →
      gK Γ (.inl (some (aJ ((I x0 x1.toNatClampNeg).toInt64)))) C I J R) ∧
      (¬ vp_in x1 (C x0).2 →
      (C x0).2 ≤ 1000 ∧
      ∃ q25 : Nat, (C q25).1 = 0 ∧
      ∀ (C28 : MC) (I29 : MI) (J30 : MJ) (R31 : MR), C28 = va_up C q25 (12, 0) → I29 = va_up I q25 (fun _ => 0) → J30 = va_up J q25 (fun _ => 0) → R31 = va_up R q25 (fun _ => none) → 
      gK Γ (.inr q25) C28 I29 J30 R31))) ∧
      (¬ (C x0).1 = 20 →
      (C x0).1 = 21 ∧
      ((vp_in x1 (C x0).2 →
      gK Γ (.inl (some (aJ (J x0 x1.toNatClampNeg)))) C I J R) ∧
      (¬ vp_in x1 (C x0).2 →
      (C x0).2 ≤ 1000 ∧
      ∃ q35 : Nat, (C q35).1 = 0 ∧
      ∀ (C38 : MC) (I39 : MI) (J40 : MJ) (R41 : MR), C38 = va_up C q35 (12, 0) → I39 = va_up I q35 (fun _ => 0) → J40 = va_up J q35 (fun _ => 0) → R41 = va_up R q35 (fun _ => none) → 
      gK Γ (.inr q35) C38 I39 J40 R41))))))))) :
    AW Γ 0 0 C I J R 0 [(0, aR (some x0)), (1, aI x1)] [] := by
  have G0 := G.1
  refine aw_aload_n G0 0 rfl dX0_number_0 ?_
  obtain ⟨k1, h⟩ := h
  by_cases c2 : (C x0).1 = 22
  · have h := h.1 c2
    refine aw_inst1 G0 q269 (ki_22r k1) (by rw [c2]; rfl) dX0_number_1 ?_
    refine aw_if_eq G0 17 dX0_number_4 (by decide) (fun z => absurd z (by decide)) (fun _ => ?_)
    refine aw_aload_n G0 0 rfl dX0_number_7 ?_
    refine aw_cast G0 q269 (Or.inr (by rw [c2]; decide)) (by rw [c2]; rfl) dX0_number_8 ?_
    refine aw_astore_n (lv' := [(2, aR (some x0)), (0, aR (some x0)), (1, aI x1)]) G0 (by decide) rfl dX0_number_11 ?_
    refine aw_aload_n G0 0 rfl dX0_number_12 ?_
    refine aw_iload_n G0 2 rfl dX0_number_13 ?_
    rcases Classical.em (vp_in x1 (C x0).2) with c3 | c3
    · have h := h.1 c3
      refine aw_bald G0 c2 c3 dX0_number_14 ?_
      refine aw_i2l G0 dX0_number_15 ?_
      exact aw_lreturn G0 (by rw [G.2.2]; decide) (by rw [G.2.1]; decide) dX0_number_16 h
    · have h := h.2 c3
      obtain ⟨k4, h⟩ := h
      obtain ⟨q5, k6, h⟩ := h
      refine aw_baldZ (k' := 3) (n' := 222) G0 c2 c3 k4 (Nat.le_of_ble_eq_true rfl) (by decide) (by decide) (by rw [G.2.1]; exact ⟨by decide, by decide⟩) (by rw [G.2.1]; exact ⟨by decide, by decide⟩) k6 dX0_number_14 ?_
      have k7 : (va_up C q5 (12, 0) q5).1 = 12 := by rw [va_up_self]
      generalize gC8 : va_up C q5 (12, 0) = C8 at k7 ⊢
      generalize gI9 : va_up I q5 (fun _ => 0) = I9
      generalize gJ10 : va_up J q5 (fun _ => 0) = J10
      generalize gR11 : va_up R q5 (fun _ => none) = R11
      have h := h C8 I9 J10 R11 gC8.symm gI9.symm gJ10.symm gR11.symm
      exact ax_out G0 rfl (Or.inr (Or.inr (Or.inl k7))) (by rw [G.2.2]; decide) (by rw [G.2.1]; decide) h
  · have h := h.2 c2
    refine aw_inst0 G0 q269 (ki_22r k1) (ki_22n k1 c2) dX0_number_1 ?_
    refine aw_if_eq G0 17 dX0_number_4 (by decide) (fun _ => ?_) (fun z => absurd z (by decide))
    refine aw_aload_n G0 0 rfl dX0_number_17 ?_
    by_cases c12 : (C x0).1 = 23
    · have h := h.1 c12
      refine aw_inst1 G0 q270 (ki_23r k1) (by rw [c12]; rfl) dX0_number_18 ?_
      refine aw_if_eq G0 34 dX0_number_21 (by decide) (fun z => absurd z (by decide)) (fun _ => ?_)
      refine aw_aload_n G0 0 rfl dX0_number_24 ?_
      refine aw_cast G0 q270 (Or.inr (by rw [c12]; decide)) (by rw [c12]; rfl) dX0_number_25 ?_
      refine aw_astore_n (lv' := [(2, aR (some x0)), (0, aR (some x0)), (1, aI x1)]) G0 (by decide) rfl dX0_number_28 ?_
      refine aw_aload_n G0 0 rfl dX0_number_29 ?_
      refine aw_iload_n G0 2 rfl dX0_number_30 ?_
      rcases Classical.em (vp_in x1 (C x0).2) with c13 | c13
      · have h := h.1 c13
        refine aw_sald G0 c12 c13 dX0_number_31 ?_
        refine aw_i2l G0 dX0_number_32 ?_
        exact aw_lreturn G0 (by rw [G.2.2]; decide) (by rw [G.2.1]; decide) dX0_number_33 h
      · have h := h.2 c13
        obtain ⟨k14, h⟩ := h
        obtain ⟨q15, k16, h⟩ := h
        refine aw_saldZ (k' := 3) (n' := 222) G0 c12 c13 k14 (Nat.le_of_ble_eq_true rfl) (by decide) (by decide) (by rw [G.2.1]; exact ⟨by decide, by decide⟩) (by rw [G.2.1]; exact ⟨by decide, by decide⟩) k16 dX0_number_31 ?_
        have k17 : (va_up C q15 (12, 0) q15).1 = 12 := by rw [va_up_self]
        generalize gC18 : va_up C q15 (12, 0) = C18 at k17 ⊢
        generalize gI19 : va_up I q15 (fun _ => 0) = I19
        generalize gJ20 : va_up J q15 (fun _ => 0) = J20
        generalize gR21 : va_up R q15 (fun _ => none) = R21
        have h := h C18 I19 J20 R21 gC18.symm gI19.symm gJ20.symm gR21.symm
        exact ax_out G0 rfl (Or.inr (Or.inr (Or.inl k17))) (by rw [G.2.2]; decide) (by rw [G.2.1]; decide) h
    · have h := h.2 c12
      refine aw_inst0 G0 q270 (ki_23r k1) (ki_23n k1 c2 c12) dX0_number_18 ?_
      refine aw_if_eq G0 34 dX0_number_21 (by decide) (fun _ => ?_) (fun z => absurd z (by decide))
      refine aw_aload_n G0 0 rfl dX0_number_34 ?_
      by_cases c22 : (C x0).1 = 20
      · have h := h.1 c22
        refine aw_inst1 G0 q271 (ki_20r k1) (by rw [c22]; rfl) dX0_number_35 ?_
        refine aw_if_eq G0 53 dX0_number_38 (by decide) (fun z => absurd z (by decide)) (fun _ => ?_)
        refine aw_aload_n G0 0 rfl dX0_number_41 ?_
        refine aw_cast G0 q271 (Or.inr (by rw [c22]; decide)) (by rw [c22]; rfl) dX0_number_42 ?_
        refine aw_astore_n (lv' := [(2, aR (some x0)), (0, aR (some x0)), (1, aI x1)]) G0 (by decide) rfl dX0_number_45 ?_
        refine aw_aload_n G0 0 rfl dX0_number_46 ?_
        refine aw_iload_n G0 2 rfl dX0_number_47 ?_
        rcases Classical.em (vp_in x1 (C x0).2) with c23 | c23
        · have h := h.1 c23
          refine aw_iald G0 (Or.inl c22) c23 dX0_number_48 ?_
          refine aw_i2l G0 dX0_number_49 ?_
          refine aw_goto G0 59 dX0_number_50 (by decide) ?_
          exact aw_lreturn G0 (by rw [G.2.2]; decide) (by rw [G.2.1]; decide) dX0_number_59 h
        · have h := h.2 c23
          obtain ⟨k24, h⟩ := h
          obtain ⟨q25, k26, h⟩ := h
          refine aw_ialdZ (k' := 3) (n' := 222) G0 c22 c23 k24 (Nat.le_of_ble_eq_true rfl) (by decide) (by decide) (by rw [G.2.1]; exact ⟨by decide, by decide⟩) (by rw [G.2.1]; exact ⟨by decide, by decide⟩) k26 dX0_number_48 ?_
          have k27 : (va_up C q25 (12, 0) q25).1 = 12 := by rw [va_up_self]
          generalize gC28 : va_up C q25 (12, 0) = C28 at k27 ⊢
          generalize gI29 : va_up I q25 (fun _ => 0) = I29
          generalize gJ30 : va_up J q25 (fun _ => 0) = J30
          generalize gR31 : va_up R q25 (fun _ => none) = R31
          have h := h C28 I29 J30 R31 gC28.symm gI29.symm gJ30.symm gR31.symm
          exact ax_out G0 rfl (Or.inr (Or.inr (Or.inl k27))) (by rw [G.2.2]; decide) (by rw [G.2.1]; decide) h
      · have h := h.2 c22
        refine aw_inst0 G0 q271 (ki_20r k1) (ki_20n k1 c2 c12 c22) dX0_number_35 ?_
        refine aw_if_eq G0 53 dX0_number_38 (by decide) (fun _ => ?_) (fun z => absurd z (by decide))
        refine aw_aload_n G0 0 rfl dX0_number_53 ?_
        obtain ⟨k32, h⟩ := h
        refine aw_cast G0 q272 (Or.inr (by rw [k32]; decide)) (by rw [k32]; rfl) dX0_number_54 ?_
        refine aw_iload_n G0 1 rfl dX0_number_57 ?_
        rcases Classical.em (vp_in x1 (C x0).2) with c33 | c33
        · have h := h.1 c33
          refine aw_lald G0 k32 c33 dX0_number_58 ?_
          exact aw_lreturn G0 (by rw [G.2.2]; decide) (by rw [G.2.1]; decide) dX0_number_59 h
        · have h := h.2 c33
          obtain ⟨k34, h⟩ := h
          obtain ⟨q35, k36, h⟩ := h
          refine aw_laldZ (k' := 3) (n' := 222) G0 k32 c33 k34 (Nat.le_of_ble_eq_true rfl) (by decide) (by decide) (by rw [G.2.1]; exact ⟨by decide, by decide⟩) (by rw [G.2.1]; exact ⟨by decide, by decide⟩) k36 dX0_number_58 ?_
          have k37 : (va_up C q35 (12, 0) q35).1 = 12 := by rw [va_up_self]
          generalize gC38 : va_up C q35 (12, 0) = C38 at k37 ⊢
          generalize gI39 : va_up I q35 (fun _ => 0) = I39
          generalize gJ40 : va_up J q35 (fun _ => 0) = J40
          generalize gR41 : va_up R q35 (fun _ => none) = R41
          have h := h C38 I39 J40 R41 gC38.symm gI39.symm gJ40.symm gR41.symm
          exact ax_out G0 rfl (Or.inr (Or.inr (Or.inl k37))) (by rw [G.2.2]; decide) (by rw [G.2.1]; decide) h
theorem bX0_none_0 (G : Gb Γ yX0_none cX0_none 2 (some .int) [] rmX0_none bdX0_none) {x0 : Nat} {x1 : Nat}
    (h : (C x1).1 = 2 ∧
      (C x0).1 = 1 ∧
      ∀ I3 : MI, I3 = va_up I x0 (va_up (I x0) 5 (I x1 6)) →
      gK Γ (.inl (some (aI (-1 : Int32)))) C I3 J R) :
    AW Γ 0 0 C I J R 0 [(0, aR (some x0)), (1, aR (some x1))] [] := by
  have G0 := G.1
  refine aw_aload_n G0 0 rfl dX0_none_0 ?_
  refine aw_aload_n G0 1 rfl dX0_none_1 ?_
  obtain ⟨k1, h⟩ := h
  refine aw_getI (f := 6) G0 (by rw [k1]; exact fb_X0_74) dX0_none_2 ?_
  obtain ⟨k2, h⟩ := h
  refine aw_putI (f := 5) G0 (by rw [k2]; exact fp_X0_63 _) dX0_none_5 ?_
  generalize gI3 : va_up I x0 (va_up (I x0) 5 (I x1 6)) = I3
  have h := h I3 gI3.symm
  refine aw_iconst (v := (-1 : Int32)) G0 dX0_none_8 (by decide) ?_
  exact aw_ireturn G0 (Or.inl rfl) (by rw [G.2.2]; decide) (by rw [G.2.1]; decide) dX0_none_9 h
theorem bX0_pour_0 (G : Gb Γ yX0_pour cX0_pour 9 (some .boolean) [(85, 97, 100, 131), (5, 112, 113, 53)] rmX0_pour bdX0_pour)
    {Q42 : Nat → Int32 → Int32 → Int32 → Int32 → Int32 → Nat → MC → MI → MJ → MR → Prop} (w42 : ∀ (x0 : Nat) (x1 : Int32) (x2 : Int32) (x3 : Int32) (x4 : Int32) (x5 : Int32) (s0 : Nat) (C : MC) (I : MI) (J : MJ) (R : MR), Q42 x0 x1 x2 x3 x4 x5 s0 C I J R → AW Γ 0 0 C I J R 42 [(0, aR (some x0)), (1, aI x1), (2, aI x2), (3, aI x3), (4, aI x4), (5, aI x5)] [aR (some s0)])
    {Q43 : Nat → Int32 → Int32 → Int32 → Int32 → Int32 → Nat → Int32 → MC → MI → MJ → MR → Prop} (w43 : ∀ (x0 : Nat) (x1 : Int32) (x2 : Int32) (x3 : Int32) (x4 : Int32) (x5 : Int32) (s0 : Nat) (s1 : Int32) (C : MC) (I : MI) (J : MJ) (R : MR), Q43 x0 x1 x2 x3 x4 x5 s0 s1 C I J R → AW Γ 0 0 C I J R 43 [(0, aR (some x0)), (1, aI x1), (2, aI x2), (3, aI x3), (4, aI x4), (5, aI x5)] [aI s1, aR (some s0)]) {x0 : Nat} {x1 : Int32} {x2 : Int32} {x3 : Int32} {x4 : Int32} {x5 : Int32}
    (h : (C x0).1 = 1 ∧
      ∀ I2 : MI, I2 = va_up I x0 (va_up (I x0) 5 (0 : Int32)) →
      ((x1 < 0 →
      Q42 x0 x1 x2 x3 x4 x5 x0 C I2 J R) ∧
      (¬ x1 < 0 →
      (((4 : Int32) ≤ x1 →
      Q42 x0 x1 x2 x3 x4 x5 x0 C I2 J R) ∧
      (¬ (4 : Int32) ≤ x1 →
      ((x3 < 0 →
      Q42 x0 x1 x2 x3 x4 x5 x0 C I2 J R) ∧
      (¬ x3 < 0 →
      (((4 : Int32) ≤ x3 →
      Q42 x0 x1 x2 x3 x4 x5 x0 C I2 J R) ∧
      (¬ (4 : Int32) ≤ x3 →
      ((x2 < 0 →
      Q42 x0 x1 x2 x3 x4 x5 x0 C I2 J R) ∧
      (¬ x2 < 0 →
      ((x4 < 0 →
      Q42 x0 x1 x2 x3 x4 x5 x0 C I2 J R) ∧
      (¬ x4 < 0 →
      ((x5 < 0 →
      Q42 x0 x1 x2 x3 x4 x5 x0 C I2 J R) ∧
      (¬ x5 < 0 →
      Q43 x0 x1 x2 x3 x4 x5 x0 (1 : Int32) C I2 J R))))))))))))))) :
    AW Γ 0 0 C I J R 0 [(0, aR (some x0)), (1, aI x1), (2, aI x2), (3, aI x3), (4, aI x4), (5, aI x5)] [] := by
  have G0 := G.1
  refine aw_aload_n G0 0 rfl dX0_pour_0 ?_
  refine aw_iconst (v := (0 : Int32)) G0 dX0_pour_1 (by decide) ?_
  obtain ⟨k1, h⟩ := h
  refine aw_putI (f := 5) G0 (by rw [k1]; exact fp_X0_63 _) dX0_pour_2 ?_
  generalize gI2 : va_up I x0 (va_up (I x0) 5 (0 : Int32)) = I2
  have h := h I2 gI2.symm
  refine aw_aload_n G0 0 rfl dX0_pour_5 ?_
  refine aw_iload_n G0 1 rfl dX0_pour_6 ?_
  refine aw_if_lt G0 42 dX0_pour_7 (by decide) (fun c3 => ?_) (fun c3 => ?_)
  · have h := h.1 c3
    exact (w42 x0 x1 x2 x3 x4 x5 x0 C I2 J R h)
  · have h := h.2 c3
    refine aw_iload_n G0 1 rfl dX0_pour_10 ?_
    refine aw_iconst (v := (4 : Int32)) G0 dX0_pour_11 (by decide) ?_
    refine aw_icmp_ge G0 42 dX0_pour_12 (by decide) (fun c4 => ?_) (fun c4 => ?_)
    · have h := h.1 c4
      exact (w42 x0 x1 x2 x3 x4 x5 x0 C I2 J R h)
    · have h := h.2 c4
      refine aw_iload_n G0 3 rfl dX0_pour_15 ?_
      refine aw_if_lt G0 42 dX0_pour_16 (by decide) (fun c5 => ?_) (fun c5 => ?_)
      · have h := h.1 c5
        exact (w42 x0 x1 x2 x3 x4 x5 x0 C I2 J R h)
      · have h := h.2 c5
        refine aw_iload_n G0 3 rfl dX0_pour_19 ?_
        refine aw_iconst (v := (4 : Int32)) G0 dX0_pour_20 (by decide) ?_
        refine aw_icmp_ge G0 42 dX0_pour_21 (by decide) (fun c6 => ?_) (fun c6 => ?_)
        · have h := h.1 c6
          exact (w42 x0 x1 x2 x3 x4 x5 x0 C I2 J R h)
        · have h := h.2 c6
          refine aw_iload_n G0 2 rfl dX0_pour_24 ?_
          refine aw_if_lt G0 42 dX0_pour_25 (by decide) (fun c7 => ?_) (fun c7 => ?_)
          · have h := h.1 c7
            exact (w42 x0 x1 x2 x3 x4 x5 x0 C I2 J R h)
          · have h := h.2 c7
            refine aw_iload G0 4 rfl dX0_pour_28 ?_
            refine aw_if_lt G0 42 dX0_pour_30 (by decide) (fun c8 => ?_) (fun c8 => ?_)
            · have h := h.1 c8
              exact (w42 x0 x1 x2 x3 x4 x5 x0 C I2 J R h)
            · have h := h.2 c8
              refine aw_iload G0 5 rfl dX0_pour_33 ?_
              refine aw_if_lt G0 42 dX0_pour_35 (by decide) (fun c9 => ?_) (fun c9 => ?_)
              · have h := h.1 c9
                exact (w42 x0 x1 x2 x3 x4 x5 x0 C I2 J R h)
              · have h := h.2 c9
                refine aw_iconst (v := (1 : Int32)) G0 dX0_pour_38 (by decide) ?_
                refine aw_goto G0 43 dX0_pour_39 (by decide) ?_
                exact (w43 x0 x1 x2 x3 x4 x5 x0 (1 : Int32) C I2 J R h)
theorem bX0_pour_42 (G : Gb Γ yX0_pour cX0_pour 9 (some .boolean) [(85, 97, 100, 131), (5, 112, 113, 53)] rmX0_pour bdX0_pour)
    {Q43 : Nat → Int32 → Int32 → Int32 → Int32 → Int32 → Nat → Int32 → MC → MI → MJ → MR → Prop} (w43 : ∀ (x0 : Nat) (x1 : Int32) (x2 : Int32) (x3 : Int32) (x4 : Int32) (x5 : Int32) (s0 : Nat) (s1 : Int32) (C : MC) (I : MI) (J : MJ) (R : MR), Q43 x0 x1 x2 x3 x4 x5 s0 s1 C I J R → AW Γ 0 0 C I J R 43 [(0, aR (some x0)), (1, aI x1), (2, aI x2), (3, aI x3), (4, aI x4), (5, aI x5)] [aI s1, aR (some s0)]) {x0 : Nat} {x1 : Int32} {x2 : Int32} {x3 : Int32} {x4 : Int32} {x5 : Int32} {s0 : Nat}
    (h : Q43 x0 x1 x2 x3 x4 x5 s0 (0 : Int32) C I J R) :
    AW Γ 0 0 C I J R 42 [(0, aR (some x0)), (1, aI x1), (2, aI x2), (3, aI x3), (4, aI x4), (5, aI x5)] [aR (some s0)] := by
  have G0 := G.1
  refine aw_iconst (v := (0 : Int32)) G0 dX0_pour_42 (by decide) ?_
  exact (w43 x0 x1 x2 x3 x4 x5 s0 (0 : Int32) C I J R h)
theorem bX0_pour_43 (G : Gb Γ yX0_pour cX0_pour 9 (some .boolean) [(85, 97, 100, 131), (5, 112, 113, 53)] rmX0_pour bdX0_pour) {F_X0_want : SPF} (S_X0_want : SpX0_want (gL Γ) F_X0_want) {F_X0_on : SPF} (S_X0_on : SpX0_on (gL Γ) F_X0_on) {F_X0_sortOf : SPF} (S_X0_sortOf : SpX0_sortOf (gL Γ) F_X0_sortOf)
    {Q80 : Nat → Int32 → Int32 → Int32 → Nat → Nat → Nat → Int32 → MC → MI → MJ → MR → Prop} (w80 : ∀ (x0 : Nat) (x2 : Int32) (x4 : Int32) (x5 : Int32) (x6 : Nat) (x7 : Nat) (s0 : Nat) (s1 : Int32) (C : MC) (I : MI) (J : MJ) (R : MR), Q80 x0 x2 x4 x5 x6 x7 s0 s1 C I J R → AW Γ 0 0 C I J R 80 [(0, aR (some x0)), (2, aI x2), (4, aI x4), (5, aI x5), (6, aR (some x6)), (7, aR (some x7))] [aI s1, aR (some s0)])
    {Q113 : Nat → Nat → MC → MI → MJ → MR → Prop} (w113 : ∀ (x0 : Nat) (s0 : Nat) (C : MC) (I : MI) (J : MJ) (R : MR), Q113 x0 s0 C I J R → AW Γ 3 600 C I J R 113 [(0, aR (some x0))] [aR (some s0)]) {x0 : Nat} {x1 : Int32} {x2 : Int32} {x3 : Int32} {x4 : Int32} {x5 : Int32} {s0 : Nat} {s1 : Int32}
    (h : (C s0).1 = 1 ∧
      F_X0_want [aR (some s0), aI s1, aI (1 : Int32)] C I J R (fun o C2 I3 J4 R5 =>
      (o = .inl none ∧
      (C2 x0).1 = 1 ∧
      F_X0_on [aR (some x0), aI x1] C2 I3 J4 R5 (fun o C8 I9 J10 R11 =>
      (∃ r12 : Nat, o = .inl (some (aR (some r12))) ∧
      (C8 x0).1 = 1 ∧
      F_X0_on [aR (some x0), aI x3] C8 I9 J10 R11 (fun o C14 I15 J16 R17 =>
      (∃ r18 : Nat, o = .inl (some (aR (some r18))) ∧
      F_X0_sortOf [aR (some r12)] C14 I15 J16 R17 (fun o C19 I20 J21 R22 =>
      ∃ r23 : Int32, o = .inl (some (aI r23)) ∧
      F_X0_sortOf [aR (some r18)] C19 I20 J21 R22 (fun o C24 I25 J26 R27 =>
      ∃ r28 : Int32, o = .inl (some (aI r28)) ∧
      ((¬ r23 = r28 →
      Q80 x0 x2 x4 x5 r12 r18 x0 (0 : Int32) C24 I25 J26 R27) ∧
      (r23 = r28 →
      Q80 x0 x2 x4 x5 r12 r18 x0 (1 : Int32) C24 I25 J26 R27))))) ∨
      (∃ q30 : Nat, o = .inr q30 ∧
      ((C14 q30).1 = 2 ∧
      Q113 x0 q30 C14 I15 J16 R17)))) ∨
      (∃ q32 : Nat, o = .inr q32 ∧
      ((C8 q32).1 = 2 ∧
      Q113 x0 q32 C8 I9 J10 R11)))) ∨
      (∃ q34 : Nat, o = .inr q34 ∧
      ((C2 q34).1 = 2 ∧
      Q113 x0 q34 C2 I3 J4 R5)))) :
    AW Γ 0 0 C I J R 43 [(0, aR (some x0)), (1, aI x1), (2, aI x2), (3, aI x3), (4, aI x4), (5, aI x5)] [aI s1, aR (some s0)] := by
  have G0 := G.1
  refine aw_iconst (v := (1 : Int32)) G0 dX0_pour_43 (by decide) ?_
  obtain ⟨k1, h⟩ := h
  refine aw_callV (k1 := 0) (n1 := 0) (k2 := 0) (n2 := 0) (st := []) G0 S_X0_want gi_X0_87 (Or.inl (by rw [k1]; decide)) (by rw [k1]; rfl) md_X0_want (Nat.le_of_ble_eq_true rfl) (by decide) (by rw [G.2.1]; decide) (by rw [G.2.1]; decide) [aI s1, aI (1 : Int32)] rfl rfl dX0_pour_44 h (fun o C2 I3 J4 R5 h => ?_)
  rcases h with ⟨rfl, h⟩ | ⟨q34, rfl, h⟩
  · show AW Γ 0 0 C2 I3 J4 R5 (44 + 3) [(0, aR (some x0)), (1, aI x1), (2, aI x2), (3, aI x3), (4, aI x4), (5, aI x5)] []
    refine aw_aload_n G0 0 rfl dX0_pour_47 ?_
    refine aw_iload_n G0 1 rfl dX0_pour_48 ?_
    obtain ⟨k7, h⟩ := h
    refine aw_callV (k1 := 0) (n1 := 0) (k2 := 0) (n2 := 0) (st := []) G0 S_X0_on gi_X0_101 (Or.inl (by rw [k7]; decide)) (by rw [k7]; rfl) md_X0_on (Nat.le_of_ble_eq_true rfl) (by decide) (by rw [G.2.1]; decide) (by rw [G.2.1]; decide) [aI x1] rfl rfl dX0_pour_49 h (fun o C8 I9 J10 R11 h => ?_)
    rcases h with ⟨r12, rfl, h⟩ | ⟨q32, rfl, h⟩
    · show AW Γ 0 0 C8 I9 J10 R11 (49 + 3) [(0, aR (some x0)), (1, aI x1), (2, aI x2), (3, aI x3), (4, aI x4), (5, aI x5)] [aR (some r12)]
      refine aw_astore (lv' := [(6, aR (some r12)), (0, aR (some x0)), (1, aI x1), (2, aI x2), (3, aI x3), (4, aI x4), (5, aI x5)]) G0 (by decide) rfl dX0_pour_52 ?_
      refine aw_aload_n G0 1 rfl dX0_pour_54 ?_
      refine aw_iload_n G0 4 rfl dX0_pour_55 ?_
      obtain ⟨k13, h⟩ := h
      refine aw_callV (k1 := 0) (n1 := 0) (k2 := 0) (n2 := 0) (st := []) G0 S_X0_on gi_X0_101 (Or.inl (by rw [k13]; decide)) (by rw [k13]; rfl) md_X0_on (Nat.le_of_ble_eq_true rfl) (by decide) (by rw [G.2.1]; decide) (by rw [G.2.1]; decide) [aI x3] rfl rfl dX0_pour_56 h (fun o C14 I15 J16 R17 h => ?_)
      rcases h with ⟨r18, rfl, h⟩ | ⟨q30, rfl, h⟩
      · show AW Γ 0 0 C14 I15 J16 R17 (56 + 3) [(6, aR (some r12)), (0, aR (some x0)), (1, aI x1), (2, aI x2), (3, aI x3), (4, aI x4), (5, aI x5)] [aR (some r18)]
        refine aw_astore (lv' := [(7, aR (some r18)), (6, aR (some r12)), (0, aR (some x0)), (1, aI x1), (2, aI x2), (3, aI x3), (4, aI x4), (5, aI x5)]) G0 (by decide) rfl dX0_pour_59 ?_
        refine aw_aload_n G0 2 rfl dX0_pour_61 ?_
        refine aw_aload G0 1 rfl dX0_pour_62 ?_
        refine aw_callS (k1 := 0) (n1 := 0) (k2 := 0) (n2 := 0) (st := [aR (some x0)]) G0 S_X0_sortOf gi_X0_121 md_X0_sortOf (Nat.le_of_ble_eq_true rfl) (by decide) (by rw [G.2.1]; decide) (by rw [G.2.1]; decide) [aR (some r12)] rfl rfl dX0_pour_64 h (fun o C19 I20 J21 R22 h => ?_)
        obtain ⟨r23, rfl, h⟩ := h
        show AW Γ 0 0 C19 I20 J21 R22 (64 + 3) [(7, aR (some r18)), (6, aR (some r12)), (0, aR (some x0)), (1, aI x1), (2, aI x2), (3, aI x3), (4, aI x4), (5, aI x5)] [aI r23, aR (some x0)]
        refine aw_aload G0 0 rfl dX0_pour_67 ?_
        refine aw_callS (k1 := 0) (n1 := 0) (k2 := 0) (n2 := 0) (st := [aI r23, aR (some x0)]) G0 S_X0_sortOf gi_X0_121 md_X0_sortOf (Nat.le_of_ble_eq_true rfl) (by decide) (by rw [G.2.1]; decide) (by rw [G.2.1]; decide) [aR (some r18)] rfl rfl dX0_pour_69 h (fun o C24 I25 J26 R27 h => ?_)
        obtain ⟨r28, rfl, h⟩ := h
        show AW Γ 0 0 C24 I25 J26 R27 (69 + 3) [(7, aR (some r18)), (6, aR (some r12)), (0, aR (some x0)), (1, aI x1), (2, aI x2), (3, aI x3), (4, aI x4), (5, aI x5)] [aI r28, aI r23, aR (some x0)]
        refine aw_icmp_ne G0 79 dX0_pour_72 (by decide) (fun c29 => ?_) (fun c29 => ?_)
        · have h := h.1 c29
          refine aw_iconst (v := (0 : Int32)) G0 dX0_pour_79 (by decide) ?_
          exact (aw_lv [2, 4, 6, 7, 1, 0] rfl (w80 x0 x2 x4 x5 r12 r18 x0 (0 : Int32) C24 I25 J26 R27 h))
        · have h := h.2 c29
          refine aw_iconst (v := (1 : Int32)) G0 dX0_pour_75 (by decide) ?_
          refine aw_goto G0 80 dX0_pour_76 (by decide) ?_
          exact (aw_lv [2, 4, 6, 7, 1, 0] rfl (w80 x0 x2 x4 x5 r12 r18 x0 (1 : Int32) C24 I25 J26 R27 h))
      · show AX Γ 0 0 C14 I15 J16 R17 56 [(6, aR (some r12)), (0, aR (some x0)), (1, aI x1), (2, aI x2), (3, aI x3), (4, aI x4), (5, aI x5)] q30
        obtain ⟨k31, h⟩ := h
        refine ax_catch G0 1 rfl (fun j hj a9 b9 h9 t9 ee => by
            match j, hj, ee with
            | 0, _, ee => cases ee; exact Or.inl rfl
            | j + 1, hj, _ => exact absurd hj (by omega)) rfl (by decide) q84 (Or.inl k31) (by rw [k31]; exact q86) ?_
        exact (aw_wide (by decide) (by decide) (aw_lv [1] rfl (w113 x0 q30 C14 I15 J16 R17 h)))
    · show AX Γ 0 0 C8 I9 J10 R11 49 [(0, aR (some x0)), (1, aI x1), (2, aI x2), (3, aI x3), (4, aI x4), (5, aI x5)] q32
      obtain ⟨k33, h⟩ := h
      refine ax_catch G0 1 rfl (fun j hj a9 b9 h9 t9 ee => by
          match j, hj, ee with
          | 0, _, ee => cases ee; exact Or.inl rfl
          | j + 1, hj, _ => exact absurd hj (by omega)) rfl (by decide) q84 (Or.inl k33) (by rw [k33]; exact q86) ?_
      exact (aw_wide (by decide) (by decide) (aw_lv [0] rfl (w113 x0 q32 C8 I9 J10 R11 h)))
  · show AX Γ 0 0 C2 I3 J4 R5 44 [(0, aR (some x0)), (1, aI x1), (2, aI x2), (3, aI x3), (4, aI x4), (5, aI x5)] q34
    obtain ⟨k35, h⟩ := h
    refine ax_catch G0 1 rfl (fun j hj a9 b9 h9 t9 ee => by
        match j, hj, ee with
        | 0, _, ee => cases ee; exact Or.inl rfl
        | j + 1, hj, _ => exact absurd hj (by omega)) rfl (by decide) q84 (Or.inl k35) (by rw [k35]; exact q86) ?_
    exact (aw_wide (by decide) (by decide) (aw_lv [0] rfl (w113 x0 q34 C2 I3 J4 R5 h)))
theorem bX0_pour_80 (G : Gb Γ yX0_pour cX0_pour 9 (some .boolean) [(85, 97, 100, 131), (5, 112, 113, 53)] rmX0_pour bdX0_pour) {F_X0_want : SPF} (S_X0_want : SpX0_want (gL Γ) F_X0_want)
    {Q113 : Nat → Nat → MC → MI → MJ → MR → Prop} (w113 : ∀ (x0 : Nat) (s0 : Nat) (C : MC) (I : MI) (J : MJ) (R : MR), Q113 x0 s0 C I J R → AW Γ 3 600 C I J R 113 [(0, aR (some x0))] [aR (some s0)]) {x0 : Nat} {x2 : Int32} {x4 : Int32} {x5 : Int32} {x6 : Nat} {x7 : Nat} {s0 : Nat} {s1 : Int32}
    (h : (C s0).1 = 1 ∧
      F_X0_want [aR (some s0), aI s1, aI (7 : Int32)] C I J R (fun o C2 I3 J4 R5 =>
      (o = .inl none ∧
      AW Γ 0 0 C2 I3 J4 R5 94 [(0, aR (some x0)), (2, aI x2), (4, aI x4), (5, aI x5), (6, aR (some x6)), (7, aR (some x7))] [aI x5, aI x4, aR (some x7), aI x2, aR (some x6)]) ∨
      (∃ q7 : Nat, o = .inr q7 ∧
      ((C2 q7).1 = 2 ∧
      Q113 x0 q7 C2 I3 J4 R5)))) :
    AW Γ 0 0 C I J R 80 [(0, aR (some x0)), (2, aI x2), (4, aI x4), (5, aI x5), (6, aR (some x6)), (7, aR (some x7))] [aI s1, aR (some s0)] := by
  have G0 := G.1
  refine aw_bipush (v := (7 : Int32)) G0 dX0_pour_80 (by decide) ?_
  obtain ⟨k1, h⟩ := h
  refine aw_callV (k1 := 0) (n1 := 0) (k2 := 0) (n2 := 0) (st := []) G0 S_X0_want gi_X0_87 (Or.inl (by rw [k1]; decide)) (by rw [k1]; rfl) md_X0_want (Nat.le_of_ble_eq_true rfl) (by decide) (by rw [G.2.1]; decide) (by rw [G.2.1]; decide) [aI s1, aI (7 : Int32)] rfl rfl dX0_pour_82 h (fun o C2 I3 J4 R5 h => ?_)
  rcases h with ⟨rfl, h⟩ | ⟨q7, rfl, h⟩
  · show AW Γ 0 0 C2 I3 J4 R5 (82 + 3) [(0, aR (some x0)), (2, aI x2), (4, aI x4), (5, aI x5), (6, aR (some x6)), (7, aR (some x7))] []
    refine aw_aload G0 4 rfl dX0_pour_85 ?_
    refine aw_iload_n G0 1 rfl dX0_pour_87 ?_
    refine aw_aload G0 5 rfl dX0_pour_88 ?_
    refine aw_iload G0 2 rfl dX0_pour_90 ?_
    refine aw_iload G0 3 rfl dX0_pour_92 ?_
    exact h
  · show AX Γ 0 0 C2 I3 J4 R5 82 [(0, aR (some x0)), (2, aI x2), (4, aI x4), (5, aI x5), (6, aR (some x6)), (7, aR (some x7))] q7
    obtain ⟨k8, h⟩ := h
    refine ax_catch G0 1 rfl (fun j hj a9 b9 h9 t9 ee => by
        match j, hj, ee with
        | 0, _, ee => cases ee; exact Or.inl rfl
        | j + 1, hj, _ => exact absurd hj (by omega)) rfl (by decide) q84 (Or.inl k8) (by rw [k8]; exact q86) ?_
    exact (aw_wide (by decide) (by decide) (aw_lv [0] rfl (w113 x0 q7 C2 I3 J4 R5 h)))
theorem bX0_pour_100 (G : Gb Γ yX0_pour cX0_pour 9 (some .boolean) [(85, 97, 100, 131), (5, 112, 113, 53)] rmX0_pour bdX0_pour) {F_X1_by : SPF} (S_X1_by : SpX1_by (gL Γ) F_X1_by)
    {Q113 : Nat → Nat → MC → MI → MJ → MR → Prop} (w113 : ∀ (x0 : Nat) (s0 : Nat) (C : MC) (I : MI) (J : MJ) (R : MR), Q113 x0 s0 C I J R → AW Γ 3 600 C I J R 113 [(0, aR (some x0))] [aR (some s0)]) {x0 : Nat} {s0 : Nat}
    (h : (C x0).1 = 1 ∧
      ∃ q2 : Nat, R x0 4 = some q2 ∧
      (C q2).1 = 2 ∧
      F_X1_by [aR (some q2), aI (3 : Int32)] C I J R (fun o C4 I5 J6 R7 =>
      ∃ r8 : Nat, o = .inl (some (aR (some r8))) ∧
      (C4 r8).1 = 2 ∧
      Q113 x0 r8 C4 I5 J6 R7)) :
    AW Γ 3 600 C I J R 100 [(0, aR (some x0))] [aR (some s0)] := by
  have G0 := G.1
  refine aw_astore (lv' := [(8, aR (some s0)), (0, aR (some x0))]) G0 (by decide) rfl dX0_pour_100 ?_
  refine aw_aload_n G0 1 rfl dX0_pour_102 ?_
  obtain ⟨k1, h⟩ := h
  refine aw_getR (f := 4) G0 (by rw [k1]; exact fb_X0_56) dX0_pour_103 ?_
  refine aw_iconst (v := (3 : Int32)) G0 dX0_pour_106 (by decide) ?_
  obtain ⟨q2, e2, h⟩ := h
  refine aw_dr1 e2 ?_
  obtain ⟨k3, h⟩ := h
  refine aw_callV (k1 := 3) (n1 := 600) (k2 := 3) (n2 := 600) (st := []) G0 S_X1_by gi_X0_70 (Or.inl (by rw [k3]; decide)) (by rw [k3]; rfl) md_X1_by (Nat.le_of_ble_eq_true rfl) (by decide) (by rw [G.2.1]; decide) (by rw [G.2.1]; decide) [aI (3 : Int32)] rfl rfl dX0_pour_107 h (fun o C4 I5 J6 R7 h => ?_)
  obtain ⟨r8, rfl, h⟩ := h
  show AW Γ 3 600 C4 I5 J6 R7 (107 + 3) [(8, aR (some s0)), (0, aR (some x0))] [aR (some r8)]
  obtain ⟨k9, h⟩ := h
  refine aw_athrow G0 dX0_pour_110 ?_
  refine ax_catch G0 1 rfl (fun j hj a9 b9 h9 t9 ee => by
      match j, hj, ee with
      | 0, _, ee => cases ee; exact Or.inl rfl
      | j + 1, hj, _ => exact absurd hj (by omega)) rfl (by decide) q84 (Or.inl k9) (by rw [k9]; exact q86) ?_
  exact (aw_lv [1] rfl (w113 x0 r8 C4 I5 J6 R7 h))
theorem bX0_pour_113 (G : Gb Γ yX0_pour cX0_pour 9 (some .boolean) [(85, 97, 100, 131), (5, 112, 113, 53)] rmX0_pour bdX0_pour) {F_X0_no : SPF} (S_X0_no : SpX0_no (gL Γ) F_X0_no) {x0 : Nat} {s0 : Nat}
    (h : (C x0).1 = 1 ∧
      F_X0_no [aR (some x0), aR (some s0)] C I J R (fun o C2 I3 J4 R5 =>
      ∃ r6 : Int32, o = .inl (some (aI r6)) ∧
      (r6 = 0 ∨ r6 = 1) ∧ gK Γ (.inl (some (aI r6))) C2 I3 J4 R5)) :
    AW Γ 3 600 C I J R 113 [(0, aR (some x0))] [aR (some s0)] := by
  have G0 := G.1
  refine aw_astore (lv' := [(6, aR (some s0)), (0, aR (some x0))]) G0 (by decide) rfl dX0_pour_113 ?_
  refine aw_aload_n G0 1 rfl dX0_pour_115 ?_
  refine aw_aload G0 0 rfl dX0_pour_116 ?_
  obtain ⟨k1, h⟩ := h
  refine aw_callV (k1 := 3) (n1 := 600) (k2 := 3) (n2 := 600) (st := []) G0 S_X0_no gi_X0_97 (Or.inl (by rw [k1]; decide)) (by rw [k1]; rfl) md_X0_no (Nat.le_of_ble_eq_true rfl) (by decide) (by rw [G.2.1]; decide) (by rw [G.2.1]; decide) [aR (some s0)] rfl rfl dX0_pour_118 h (fun o C2 I3 J4 R5 h => ?_)
  obtain ⟨r6, rfl, h⟩ := h
  show AW Γ 3 600 C2 I3 J4 R5 (118 + 3) [(6, aR (some s0)), (0, aR (some x0))] [aI r6]
  obtain ⟨k7, h⟩ := h
  exact aw_ireturn G0 (Or.inr ⟨rfl, k7⟩) (by rw [G.2.2]; decide) (by rw [G.2.1]; decide) dX0_pour_121 h
theorem bX0_sortOf_0 (G : Gb Γ yX0_sortOf cX0_sortOf 1 (some .int) [] rmX0_sortOf bdX0_sortOf) {x0 : Nat}
    (h : kPr (C x0).1 ∧
      (((C x0).1 = 22 →
      gK Γ (.inl (some (aI (0 : Int32)))) C I J R) ∧
      (¬ (C x0).1 = 22 →
      (((C x0).1 = 23 →
      gK Γ (.inl (some (aI (1 : Int32)))) C I J R) ∧
      (¬ (C x0).1 = 23 →
      (((C x0).1 = 20 →
      gK Γ (.inl (some (aI (2 : Int32)))) C I J R) ∧
      (¬ (C x0).1 = 20 →
      gK Γ (.inl (some (aI (3 : Int32)))) C I J R))))))) :
    AW Γ 0 0 C I J R 0 [(0, aR (some x0))] [] := by
  have G0 := G.1
  refine aw_aload_n G0 0 rfl dX0_sortOf_0 ?_
  obtain ⟨k1, h⟩ := h
  by_cases c2 : (C x0).1 = 22
  · have h := h.1 c2
    refine aw_inst1 G0 q269 (ki_22r k1) (by rw [c2]; rfl) dX0_sortOf_1 ?_
    refine aw_if_eq G0 11 dX0_sortOf_4 (by decide) (fun z => absurd z (by decide)) (fun _ => ?_)
    refine aw_iconst (v := (0 : Int32)) G0 dX0_sortOf_7 (by decide) ?_
    refine aw_goto G0 34 dX0_sortOf_8 (by decide) ?_
    exact aw_ireturn G0 (Or.inl rfl) (by rw [G.2.2]; decide) (by rw [G.2.1]; decide) dX0_sortOf_34 h
  · have h := h.2 c2
    refine aw_inst0 G0 q269 (ki_22r k1) (ki_22n k1 c2) dX0_sortOf_1 ?_
    refine aw_if_eq G0 11 dX0_sortOf_4 (by decide) (fun _ => ?_) (fun z => absurd z (by decide))
    refine aw_aload_n G0 0 rfl dX0_sortOf_11 ?_
    by_cases c3 : (C x0).1 = 23
    · have h := h.1 c3
      refine aw_inst1 G0 q270 (ki_23r k1) (by rw [c3]; rfl) dX0_sortOf_12 ?_
      refine aw_if_eq G0 22 dX0_sortOf_15 (by decide) (fun z => absurd z (by decide)) (fun _ => ?_)
      refine aw_iconst (v := (1 : Int32)) G0 dX0_sortOf_18 (by decide) ?_
      refine aw_goto G0 34 dX0_sortOf_19 (by decide) ?_
      exact aw_ireturn G0 (Or.inl rfl) (by rw [G.2.2]; decide) (by rw [G.2.1]; decide) dX0_sortOf_34 h
    · have h := h.2 c3
      refine aw_inst0 G0 q270 (ki_23r k1) (ki_23n k1 c2 c3) dX0_sortOf_12 ?_
      refine aw_if_eq G0 22 dX0_sortOf_15 (by decide) (fun _ => ?_) (fun z => absurd z (by decide))
      refine aw_aload_n G0 0 rfl dX0_sortOf_22 ?_
      by_cases c4 : (C x0).1 = 20
      · have h := h.1 c4
        refine aw_inst1 G0 q271 (ki_20r k1) (by rw [c4]; rfl) dX0_sortOf_23 ?_
        refine aw_if_eq G0 33 dX0_sortOf_26 (by decide) (fun z => absurd z (by decide)) (fun _ => ?_)
        refine aw_iconst (v := (2 : Int32)) G0 dX0_sortOf_29 (by decide) ?_
        refine aw_goto G0 34 dX0_sortOf_30 (by decide) ?_
        exact aw_ireturn G0 (Or.inl rfl) (by rw [G.2.2]; decide) (by rw [G.2.1]; decide) dX0_sortOf_34 h
      · have h := h.2 c4
        refine aw_inst0 G0 q271 (ki_20r k1) (ki_20n k1 c2 c3 c4) dX0_sortOf_23 ?_
        refine aw_if_eq G0 33 dX0_sortOf_26 (by decide) (fun _ => ?_) (fun z => absurd z (by decide))
        refine aw_iconst (v := (3 : Int32)) G0 dX0_sortOf_33 (by decide) ?_
        exact aw_ireturn G0 (Or.inl rfl) (by rw [G.2.2]; decide) (by rw [G.2.1]; decide) dX0_sortOf_34 h
theorem bX0_leaf_0 (G : Gb Γ yX0_leaf cX0_leaf 4 (some .int) [(5, 67, 68, 53)] rmX0_leaf bdX0_leaf)
    {Q19 : Nat → Int32 → Int32 → Nat → MC → MI → MJ → MR → Prop} (w19 : ∀ (x0 : Nat) (x1 : Int32) (x2 : Int32) (s0 : Nat) (C : MC) (I : MI) (J : MJ) (R : MR), Q19 x0 x1 x2 s0 C I J R → AW Γ 0 0 C I J R 19 [(0, aR (some x0)), (1, aI x1), (2, aI x2)] [aR (some s0)])
    {Q20 : Nat → Int32 → Int32 → Nat → Int32 → MC → MI → MJ → MR → Prop} (w20 : ∀ (x0 : Nat) (x1 : Int32) (x2 : Int32) (s0 : Nat) (s1 : Int32) (C : MC) (I : MI) (J : MJ) (R : MR), Q20 x0 x1 x2 s0 s1 C I J R → AW Γ 0 0 C I J R 20 [(0, aR (some x0)), (1, aI x1), (2, aI x2)] [aI s1, aR (some s0)]) {x0 : Nat} {x1 : Int32} {x2 : Int32}
    (h : (C x0).1 = 1 ∧
      ∀ I2 : MI, I2 = va_up I x0 (va_up (I x0) 5 (0 : Int32)) →
      ((x1 < 0 →
      Q19 x0 x1 x2 x0 C I2 J R) ∧
      (¬ x1 < 0 →
      (((4 : Int32) ≤ x1 →
      Q19 x0 x1 x2 x0 C I2 J R) ∧
      (¬ (4 : Int32) ≤ x1 →
      Q20 x0 x1 x2 x0 (1 : Int32) C I2 J R))))) :
    AW Γ 0 0 C I J R 0 [(0, aR (some x0)), (1, aI x1), (2, aI x2)] [] := by
  have G0 := G.1
  refine aw_aload_n G0 0 rfl dX0_leaf_0 ?_
  refine aw_iconst (v := (0 : Int32)) G0 dX0_leaf_1 (by decide) ?_
  obtain ⟨k1, h⟩ := h
  refine aw_putI (f := 5) G0 (by rw [k1]; exact fp_X0_63 _) dX0_leaf_2 ?_
  generalize gI2 : va_up I x0 (va_up (I x0) 5 (0 : Int32)) = I2
  have h := h I2 gI2.symm
  refine aw_aload_n G0 0 rfl dX0_leaf_5 ?_
  refine aw_iload_n G0 1 rfl dX0_leaf_6 ?_
  refine aw_if_lt G0 19 dX0_leaf_7 (by decide) (fun c3 => ?_) (fun c3 => ?_)
  · have h := h.1 c3
    exact (w19 x0 x1 x2 x0 C I2 J R h)
  · have h := h.2 c3
    refine aw_iload_n G0 1 rfl dX0_leaf_10 ?_
    refine aw_iconst (v := (4 : Int32)) G0 dX0_leaf_11 (by decide) ?_
    refine aw_icmp_ge G0 19 dX0_leaf_12 (by decide) (fun c4 => ?_) (fun c4 => ?_)
    · have h := h.1 c4
      exact (w19 x0 x1 x2 x0 C I2 J R h)
    · have h := h.2 c4
      refine aw_iconst (v := (1 : Int32)) G0 dX0_leaf_15 (by decide) ?_
      refine aw_goto G0 20 dX0_leaf_16 (by decide) ?_
      exact (w20 x0 x1 x2 x0 (1 : Int32) C I2 J R h)
theorem bX0_leaf_19 (G : Gb Γ yX0_leaf cX0_leaf 4 (some .int) [(5, 67, 68, 53)] rmX0_leaf bdX0_leaf)
    {Q20 : Nat → Int32 → Int32 → Nat → Int32 → MC → MI → MJ → MR → Prop} (w20 : ∀ (x0 : Nat) (x1 : Int32) (x2 : Int32) (s0 : Nat) (s1 : Int32) (C : MC) (I : MI) (J : MJ) (R : MR), Q20 x0 x1 x2 s0 s1 C I J R → AW Γ 0 0 C I J R 20 [(0, aR (some x0)), (1, aI x1), (2, aI x2)] [aI s1, aR (some s0)]) {x0 : Nat} {x1 : Int32} {x2 : Int32} {s0 : Nat}
    (h : Q20 x0 x1 x2 s0 (0 : Int32) C I J R) :
    AW Γ 0 0 C I J R 19 [(0, aR (some x0)), (1, aI x1), (2, aI x2)] [aR (some s0)] := by
  have G0 := G.1
  refine aw_iconst (v := (0 : Int32)) G0 dX0_leaf_19 (by decide) ?_
  exact (w20 x0 x1 x2 s0 (0 : Int32) C I J R h)
theorem bX0_leaf_20 (G : Gb Γ yX0_leaf cX0_leaf 4 (some .int) [(5, 67, 68, 53)] rmX0_leaf bdX0_leaf) {F_X0_want : SPF} (S_X0_want : SpX0_want (gL Γ) F_X0_want) {F_X0_wantMany : SPF} (S_X0_wantMany : SpX0_wantMany (gL Γ) F_X0_wantMany) {F_X0_weights : SPF} (S_X0_weights : SpX0_weights (gL Γ) F_X0_weights)
    {Q51 : Nat → Nat → Nat → Int32 → MC → MI → MJ → MR → Prop} (w51 : ∀ (x0 : Nat) (x3 : Nat) (s0 : Nat) (s1 : Int32) (C : MC) (I : MI) (J : MJ) (R : MR), Q51 x0 x3 s0 s1 C I J R → AW Γ 3 245 C I J R 51 [(0, aR (some x0)), (3, aR (some x3))] [aI s1, aR (some s0)])
    {Q68 : Nat → Nat → MC → MI → MJ → MR → Prop} (w68 : ∀ (x0 : Nat) (s0 : Nat) (C : MC) (I : MI) (J : MJ) (R : MR), Q68 x0 s0 C I J R → AW Γ 3 245 C I J R 68 [(0, aR (some x0))] [aR (some s0)]) {x0 : Nat} {x1 : Int32} {x2 : Int32} {s0 : Nat} {s1 : Int32}
    (h : (C s0).1 = 1 ∧
      F_X0_want [aR (some s0), aI s1, aI (1 : Int32)] C I J R (fun o C2 I3 J4 R5 =>
      (o = .inl none ∧
      (C2 x0).1 = 1 ∧
      F_X0_wantMany [aR (some x0), aI x2] C2 I3 J4 R5 (fun o C8 I9 J10 R11 =>
      (o = .inl none ∧
      (C8 x0).1 = 1 ∧
      F_X0_weights [aR (some x0), aI x1, aI x2] C8 I9 J10 R11 (fun o C14 I15 J16 R17 =>
      (∃ r18 : Nat, o = .inl (some (aR (some r18))) ∧
      (C14 x0).1 = 1 ∧
      (((20 : Int32) ≤ (I15 x0 3) →
      Q51 x0 r18 x0 (0 : Int32) C14 I15 J16 R17) ∧
      (¬ (20 : Int32) ≤ (I15 x0 3) →
      Q51 x0 r18 x0 (1 : Int32) C14 I15 J16 R17))) ∨
      (∃ q21 : Nat, o = .inr q21 ∧
      ((C14 q21).1 = 2 ∧
      Q68 x0 q21 C14 I15 J16 R17)))) ∨
      (∃ q23 : Nat, o = .inr q23 ∧
      ((C8 q23).1 = 2 ∧
      Q68 x0 q23 C8 I9 J10 R11)))) ∨
      (∃ q25 : Nat, o = .inr q25 ∧
      ((C2 q25).1 = 2 ∧
      Q68 x0 q25 C2 I3 J4 R5)))) :
    AW Γ 0 0 C I J R 20 [(0, aR (some x0)), (1, aI x1), (2, aI x2)] [aI s1, aR (some s0)] := by
  have G0 := G.1
  refine aw_iconst (v := (1 : Int32)) G0 dX0_leaf_20 (by decide) ?_
  obtain ⟨k1, h⟩ := h
  refine aw_callV (k1 := 0) (n1 := 0) (k2 := 0) (n2 := 0) (st := []) G0 S_X0_want gi_X0_87 (Or.inl (by rw [k1]; decide)) (by rw [k1]; rfl) md_X0_want (Nat.le_of_ble_eq_true rfl) (by decide) (by rw [G.2.1]; decide) (by rw [G.2.1]; decide) [aI s1, aI (1 : Int32)] rfl rfl dX0_leaf_21 h (fun o C2 I3 J4 R5 h => ?_)
  rcases h with ⟨rfl, h⟩ | ⟨q25, rfl, h⟩
  · show AW Γ 0 0 C2 I3 J4 R5 (21 + 3) [(0, aR (some x0)), (1, aI x1), (2, aI x2)] []
    refine aw_aload_n G0 0 rfl dX0_leaf_24 ?_
    refine aw_iload_n G0 2 rfl dX0_leaf_25 ?_
    obtain ⟨k7, h⟩ := h
    refine aw_callV (k1 := 0) (n1 := 0) (k2 := 0) (n2 := 0) (st := []) G0 S_X0_wantMany gi_X0_148 (Or.inl (by rw [k7]; decide)) (by rw [k7]; rfl) md_X0_wantMany (Nat.le_of_ble_eq_true rfl) (by decide) (by rw [G.2.1]; decide) (by rw [G.2.1]; decide) [aI x2] rfl rfl dX0_leaf_26 h (fun o C8 I9 J10 R11 h => ?_)
    rcases h with ⟨rfl, h⟩ | ⟨q23, rfl, h⟩
    · show AW Γ 0 0 C8 I9 J10 R11 (26 + 3) [(0, aR (some x0)), (1, aI x1), (2, aI x2)] []
      refine aw_aload_n G0 0 rfl dX0_leaf_29 ?_
      refine aw_iload_n G0 1 rfl dX0_leaf_30 ?_
      refine aw_iload_n G0 2 rfl dX0_leaf_31 ?_
      obtain ⟨k13, h⟩ := h
      refine aw_callV (k1 := 3) (n1 := 245) (k2 := 3) (n2 := 245) (st := []) G0 S_X0_weights gi_X0_152 (Or.inl (by rw [k13]; decide)) (by rw [k13]; rfl) md_X0_weights (Nat.le_of_ble_eq_true rfl) (by decide) (by rw [G.2.1]; decide) (by rw [G.2.1]; decide) [aI x1, aI x2] rfl rfl dX0_leaf_32 h (fun o C14 I15 J16 R17 h => ?_)
      rcases h with ⟨r18, rfl, h⟩ | ⟨q21, rfl, h⟩
      · show AW Γ 3 245 C14 I15 J16 R17 (32 + 3) [(0, aR (some x0)), (1, aI x1), (2, aI x2)] [aR (some r18)]
        refine aw_astore_n (lv' := [(3, aR (some r18)), (0, aR (some x0)), (1, aI x1), (2, aI x2)]) G0 (by decide) rfl dX0_leaf_35 ?_
        refine aw_aload_n G0 1 rfl dX0_leaf_36 ?_
        refine aw_aload_n G0 1 rfl dX0_leaf_37 ?_
        obtain ⟨k19, h⟩ := h
        refine aw_getI (f := 3) G0 (by rw [k19]; exact fb_X0_133) dX0_leaf_38 ?_
        refine aw_bipush (v := (20 : Int32)) G0 dX0_leaf_41 (by decide) ?_
        refine aw_icmp_ge G0 50 dX0_leaf_43 (by decide) (fun c20 => ?_) (fun c20 => ?_)
        · have h := h.1 c20
          refine aw_iconst (v := (0 : Int32)) G0 dX0_leaf_50 (by decide) ?_
          exact (aw_lv [1, 0] rfl (w51 x0 r18 x0 (0 : Int32) C14 I15 J16 R17 h))
        · have h := h.2 c20
          refine aw_iconst (v := (1 : Int32)) G0 dX0_leaf_46 (by decide) ?_
          refine aw_goto G0 51 dX0_leaf_47 (by decide) ?_
          exact (aw_lv [1, 0] rfl (w51 x0 r18 x0 (1 : Int32) C14 I15 J16 R17 h))
      · show AX Γ 3 245 C14 I15 J16 R17 32 [(0, aR (some x0)), (1, aI x1), (2, aI x2)] q21
        obtain ⟨k22, h⟩ := h
        refine ax_catch G0 0 rfl (fun j hj _ _ _ _ _ => absurd hj (Nat.not_lt_zero j)) rfl (by decide) q84 (Or.inl k22) (by rw [k22]; exact q86) ?_
        exact (aw_lv [0] rfl (w68 x0 q21 C14 I15 J16 R17 h))
    · show AX Γ 0 0 C8 I9 J10 R11 26 [(0, aR (some x0)), (1, aI x1), (2, aI x2)] q23
      obtain ⟨k24, h⟩ := h
      refine ax_catch G0 0 rfl (fun j hj _ _ _ _ _ => absurd hj (Nat.not_lt_zero j)) rfl (by decide) q84 (Or.inl k24) (by rw [k24]; exact q86) ?_
      exact (aw_wide (by decide) (by decide) (aw_lv [0] rfl (w68 x0 q23 C8 I9 J10 R11 h)))
  · show AX Γ 0 0 C2 I3 J4 R5 21 [(0, aR (some x0)), (1, aI x1), (2, aI x2)] q25
    obtain ⟨k26, h⟩ := h
    refine ax_catch G0 0 rfl (fun j hj _ _ _ _ _ => absurd hj (Nat.not_lt_zero j)) rfl (by decide) q84 (Or.inl k26) (by rw [k26]; exact q86) ?_
    exact (aw_wide (by decide) (by decide) (aw_lv [0] rfl (w68 x0 q25 C2 I3 J4 R5 h)))
theorem bX0_leaf_51 (G : Gb Γ yX0_leaf cX0_leaf 4 (some .int) [(5, 67, 68, 53)] rmX0_leaf bdX0_leaf) {F_X0_want : SPF} (S_X0_want : SpX0_want (gL Γ) F_X0_want) {F_X5_init : SPF} (S_X5_init : SpX5_init (gL Γ) F_X5_init) {F_X0_adds : SPF} (S_X0_adds : SpX0_adds (gL Γ) F_X0_adds)
    {Q68 : Nat → Nat → MC → MI → MJ → MR → Prop} (w68 : ∀ (x0 : Nat) (s0 : Nat) (C : MC) (I : MI) (J : MJ) (R : MR), Q68 x0 s0 C I J R → AW Γ 3 245 C I J R 68 [(0, aR (some x0))] [aR (some s0)]) {x0 : Nat} {x3 : Nat} {s0 : Nat} {s1 : Int32}
    (h : (C s0).1 = 1 ∧
      F_X0_want [aR (some s0), aI s1, aI (4 : Int32)] C I J R (fun o C2 I3 J4 R5 =>
      (o = .inl none ∧
      ∃ q7 : Nat, (C2 q7).1 = 0 ∧
      ∀ (C9 : MC) (I10 : MI) (J11 : MJ) (R12 : MR), C9 = va_up C2 q7 (5, 0) → I10 = va_up I3 q7 (fun _ => 0) → J11 = va_up J4 q7 (fun _ => 0) → R12 = va_up R5 q7 (fun _ => none) → 
      F_X5_init [aR (some q7), aR (some x3)] C9 I10 J11 R12 (fun o C13 I14 J15 R16 =>
      o = .inl none ∧
      (C13 x0).1 = 1 ∧
      F_X0_adds [aR (some x0), aR (some q7)] C13 I14 J15 R16 (fun o C19 I20 J21 R22 =>
      ∃ r23 : Int32, o = .inl (some (aI r23)) ∧
      gK Γ (.inl (some (aI r23))) C19 I20 J21 R22))) ∨
      (∃ q24 : Nat, o = .inr q24 ∧
      ((C2 q24).1 = 2 ∧
      Q68 x0 q24 C2 I3 J4 R5)))) :
    AW Γ 3 245 C I J R 51 [(0, aR (some x0)), (3, aR (some x3))] [aI s1, aR (some s0)] := by
  have G0 := G.1
  refine aw_iconst (v := (4 : Int32)) G0 dX0_leaf_51 (by decide) ?_
  obtain ⟨k1, h⟩ := h
  refine aw_callV (k1 := 3) (n1 := 245) (k2 := 3) (n2 := 245) (st := []) G0 S_X0_want gi_X0_87 (Or.inl (by rw [k1]; decide)) (by rw [k1]; rfl) md_X0_want (Nat.le_of_ble_eq_true rfl) (by decide) (by rw [G.2.1]; decide) (by rw [G.2.1]; decide) [aI s1, aI (4 : Int32)] rfl rfl dX0_leaf_52 h (fun o C2 I3 J4 R5 h => ?_)
  rcases h with ⟨rfl, h⟩ | ⟨q24, rfl, h⟩
  · show AW Γ 3 245 C2 I3 J4 R5 (52 + 3) [(0, aR (some x0)), (3, aR (some x3))] []
    refine aw_aload_n G0 0 rfl dX0_leaf_55 ?_
    obtain ⟨q7, z8, h⟩ := h
    refine aw_new (q := q7) (k' := 4) (n' := 258) G0 cl_4 (by decide) q355 q356 q64 nt_4 (by decide) (by decide) (by rw [G.2.1]; exact Nat.le_of_ble_eq_true rfl) (by rw [G.2.1]; exact Nat.le_of_ble_eq_true rfl) z8 dX0_leaf_56 ?_
    generalize gC9 : va_up C2 q7 (5, 0) = C9
    generalize gI10 : va_up I3 q7 (fun _ => 0) = I10
    generalize gJ11 : va_up J4 q7 (fun _ => 0) = J11
    generalize gR12 : va_up R5 q7 (fun _ => none) = R12
    have h := h C9 I10 J11 R12 gC9.symm gI10.symm gJ11.symm gR12.symm
    refine aw_dupR G0 dX0_leaf_59 ?_
    refine aw_aload_n G0 1 rfl dX0_leaf_60 ?_
    refine aw_callI (k1 := 13) (n1 := 754) (k2 := 4) (n2 := 258) (st := [aR (some q7), aR (some x0)]) G0 S_X5_init gw_X5_init q64 q357 q358 rfl md_X5_init (Nat.le_of_ble_eq_true rfl) (by decide) (by rw [G.2.1]; decide) (by rw [G.2.1]; decide) [aR (some x3)] rfl rfl dX0_leaf_61 h (fun o C13 I14 J15 R16 h => ?_)
    obtain ⟨rfl, h⟩ := h
    show AW Γ 13 754 C13 I14 J15 R16 (61 + 3) [(0, aR (some x0)), (3, aR (some x3))] [aR (some q7), aR (some x0)]
    obtain ⟨k18, h⟩ := h
    refine aw_callV (k1 := 13) (n1 := 754) (k2 := 13) (n2 := 754) (st := []) G0 S_X0_adds gi_X0_159 (Or.inl (by rw [k18]; decide)) (by rw [k18]; rfl) md_X0_adds (Nat.le_of_ble_eq_true rfl) (by decide) (by rw [G.2.1]; decide) (by rw [G.2.1]; decide) [aR (some q7)] rfl rfl dX0_leaf_64 h (fun o C19 I20 J21 R22 h => ?_)
    obtain ⟨r23, rfl, h⟩ := h
    show AW Γ 13 754 C19 I20 J21 R22 (64 + 3) [(0, aR (some x0)), (3, aR (some x3))] [aI r23]
    exact aw_ireturn G0 (Or.inl rfl) (by rw [G.2.2]; decide) (by rw [G.2.1]; decide) dX0_leaf_67 h
  · show AX Γ 3 245 C2 I3 J4 R5 52 [(0, aR (some x0)), (3, aR (some x3))] q24
    obtain ⟨k25, h⟩ := h
    refine ax_catch G0 0 rfl (fun j hj _ _ _ _ _ => absurd hj (Nat.not_lt_zero j)) rfl (by decide) q84 (Or.inl k25) (by rw [k25]; exact q86) ?_
    exact (aw_lv [0] rfl (w68 x0 q24 C2 I3 J4 R5 h))
theorem bX0_leaf_68 (G : Gb Γ yX0_leaf cX0_leaf 4 (some .int) [(5, 67, 68, 53)] rmX0_leaf bdX0_leaf) {F_X0_none : SPF} (S_X0_none : SpX0_none (gL Γ) F_X0_none) {x0 : Nat} {s0 : Nat}
    (h : (C x0).1 = 1 ∧
      F_X0_none [aR (some x0), aR (some s0)] C I J R (fun o C2 I3 J4 R5 =>
      ∃ r6 : Int32, o = .inl (some (aI r6)) ∧
      gK Γ (.inl (some (aI r6))) C2 I3 J4 R5)) :
    AW Γ 3 245 C I J R 68 [(0, aR (some x0))] [aR (some s0)] := by
  have G0 := G.1
  refine aw_astore_n (lv' := [(3, aR (some s0)), (0, aR (some x0))]) G0 (by decide) rfl dX0_leaf_68 ?_
  refine aw_aload_n G0 1 rfl dX0_leaf_69 ?_
  refine aw_aload_n G0 0 rfl dX0_leaf_70 ?_
  obtain ⟨k1, h⟩ := h
  refine aw_callV (k1 := 3) (n1 := 245) (k2 := 3) (n2 := 245) (st := []) G0 S_X0_none gi_X0_117 (Or.inl (by rw [k1]; decide)) (by rw [k1]; rfl) md_X0_none (Nat.le_of_ble_eq_true rfl) (by decide) (by rw [G.2.1]; decide) (by rw [G.2.1]; decide) [aR (some s0)] rfl rfl dX0_leaf_71 h (fun o C2 I3 J4 R5 h => ?_)
  obtain ⟨r6, rfl, h⟩ := h
  show AW Γ 3 245 C2 I3 J4 R5 (71 + 3) [(3, aR (some s0)), (0, aR (some x0))] [aI r6]
  exact aw_ireturn G0 (Or.inl rfl) (by rw [G.2.2]; decide) (by rw [G.2.1]; decide) dX0_leaf_74 h
theorem bX0_wantMany_0 (G : Gb Γ yX0_wantMany cX0_wantMany 2 (none) [] rmX0_wantMany bdX0_wantMany) {F_X0_want : SPF} (S_X0_want : SpX0_want (gL Γ) F_X0_want) {x0 : Nat} {x1 : Int32}
    (h : ((x1 < (1 : Int32) →
      (C x0).1 = 1 ∧
      F_X0_want [aR (some x0), aI (0 : Int32), aI (1 : Int32)] C I J R (fun o C3 I4 J5 R6 =>
      (o = .inl none ∧
      gK Γ (.inl none) C3 I4 J5 R6) ∨
      (∃ q8 : Nat, o = .inr q8 ∧
      ((C3 q8).1 = 2 ∧
      gK Γ (.inr q8) C3 I4 J5 R6)))) ∧
      (¬ x1 < (1 : Int32) →
      (((60 : Int32) < x1 →
      (C x0).1 = 1 ∧
      F_X0_want [aR (some x0), aI (0 : Int32), aI (1 : Int32)] C I J R (fun o C12 I13 J14 R15 =>
      (o = .inl none ∧
      gK Γ (.inl none) C12 I13 J14 R15) ∨
      (∃ q17 : Nat, o = .inr q17 ∧
      ((C12 q17).1 = 2 ∧
      gK Γ (.inr q17) C12 I13 J14 R15)))) ∧
      (¬ (60 : Int32) < x1 →
      (C x0).1 = 1 ∧
      F_X0_want [aR (some x0), aI (1 : Int32), aI (1 : Int32)] C I J R (fun o C20 I21 J22 R23 =>
      (o = .inl none ∧
      gK Γ (.inl none) C20 I21 J22 R23) ∨
      (∃ q25 : Nat, o = .inr q25 ∧
      ((C20 q25).1 = 2 ∧
      gK Γ (.inr q25) C20 I21 J22 R23)))))))) :
    AW Γ 0 0 C I J R 0 [(0, aR (some x0)), (1, aI x1)] [] := by
  have G0 := G.1
  refine aw_aload_n G0 0 rfl dX0_wantMany_0 ?_
  refine aw_iload_n G0 1 rfl dX0_wantMany_1 ?_
  refine aw_iconst (v := (1 : Int32)) G0 dX0_wantMany_2 (by decide) ?_
  refine aw_icmp_lt G0 16 dX0_wantMany_3 (by decide) (fun c1 => ?_) (fun c1 => ?_)
  · have h := h.1 c1
    refine aw_iconst (v := (0 : Int32)) G0 dX0_wantMany_16 (by decide) ?_
    refine aw_iconst (v := (1 : Int32)) G0 dX0_wantMany_17 (by decide) ?_
    obtain ⟨k2, h⟩ := h
    refine aw_callV (k1 := 0) (n1 := 0) (k2 := 0) (n2 := 0) (st := []) G0 S_X0_want gi_X0_87 (Or.inl (by rw [k2]; decide)) (by rw [k2]; rfl) md_X0_want (Nat.le_of_ble_eq_true rfl) (by decide) (by rw [G.2.1]; decide) (by rw [G.2.1]; decide) [aI (0 : Int32), aI (1 : Int32)] rfl rfl dX0_wantMany_18 h (fun o C3 I4 J5 R6 h => ?_)
    rcases h with ⟨rfl, h⟩ | ⟨q8, rfl, h⟩
    · show AW Γ 0 0 C3 I4 J5 R6 (18 + 3) [(0, aR (some x0)), (1, aI x1)] []
      exact aw_return G0 (by rw [G.2.2]; decide) (by rw [G.2.1]; decide) dX0_wantMany_21 h
    · show AX Γ 0 0 C3 I4 J5 R6 18 [(0, aR (some x0)), (1, aI x1)] q8
      obtain ⟨k9, h⟩ := h
      exact ax_out G0 rfl (Or.inl k9) (by rw [G.2.2]; decide) (by rw [G.2.1]; decide) h
  · have h := h.2 c1
    refine aw_iload_n G0 1 rfl dX0_wantMany_6 ?_
    refine aw_bipush (v := (60 : Int32)) G0 dX0_wantMany_7 (by decide) ?_
    refine aw_icmp_gt G0 16 dX0_wantMany_9 (by decide) (fun c10 => ?_) (fun c10 => ?_)
    · have h := h.1 c10
      refine aw_iconst (v := (0 : Int32)) G0 dX0_wantMany_16 (by decide) ?_
      refine aw_iconst (v := (1 : Int32)) G0 dX0_wantMany_17 (by decide) ?_
      obtain ⟨k11, h⟩ := h
      refine aw_callV (k1 := 0) (n1 := 0) (k2 := 0) (n2 := 0) (st := []) G0 S_X0_want gi_X0_87 (Or.inl (by rw [k11]; decide)) (by rw [k11]; rfl) md_X0_want (Nat.le_of_ble_eq_true rfl) (by decide) (by rw [G.2.1]; decide) (by rw [G.2.1]; decide) [aI (0 : Int32), aI (1 : Int32)] rfl rfl dX0_wantMany_18 h (fun o C12 I13 J14 R15 h => ?_)
      rcases h with ⟨rfl, h⟩ | ⟨q17, rfl, h⟩
      · show AW Γ 0 0 C12 I13 J14 R15 (18 + 3) [(0, aR (some x0)), (1, aI x1)] []
        exact aw_return G0 (by rw [G.2.2]; decide) (by rw [G.2.1]; decide) dX0_wantMany_21 h
      · show AX Γ 0 0 C12 I13 J14 R15 18 [(0, aR (some x0)), (1, aI x1)] q17
        obtain ⟨k18, h⟩ := h
        exact ax_out G0 rfl (Or.inl k18) (by rw [G.2.2]; decide) (by rw [G.2.1]; decide) h
    · have h := h.2 c10
      refine aw_iconst (v := (1 : Int32)) G0 dX0_wantMany_12 (by decide) ?_
      refine aw_goto G0 17 dX0_wantMany_13 (by decide) ?_
      refine aw_iconst (v := (1 : Int32)) G0 dX0_wantMany_17 (by decide) ?_
      obtain ⟨k19, h⟩ := h
      refine aw_callV (k1 := 0) (n1 := 0) (k2 := 0) (n2 := 0) (st := []) G0 S_X0_want gi_X0_87 (Or.inl (by rw [k19]; decide)) (by rw [k19]; rfl) md_X0_want (Nat.le_of_ble_eq_true rfl) (by decide) (by rw [G.2.1]; decide) (by rw [G.2.1]; decide) [aI (1 : Int32), aI (1 : Int32)] rfl rfl dX0_wantMany_18 h (fun o C20 I21 J22 R23 h => ?_)
      rcases h with ⟨rfl, h⟩ | ⟨q25, rfl, h⟩
      · show AW Γ 0 0 C20 I21 J22 R23 (18 + 3) [(0, aR (some x0)), (1, aI x1)] []
        exact aw_return G0 (by rw [G.2.2]; decide) (by rw [G.2.1]; decide) dX0_wantMany_21 h
      · show AX Γ 0 0 C20 I21 J22 R23 18 [(0, aR (some x0)), (1, aI x1)] q25
        obtain ⟨k26, h⟩ := h
        exact ax_out G0 rfl (Or.inl k26) (by rw [G.2.2]; decide) (by rw [G.2.1]; decide) h
theorem bX0_weights_0 (G : Gb Γ yX0_weights cX0_weights 6 (some (.object "TickShare$Table")) [] rmX0_weights bdX0_weights) {F_X0_on : SPF} (S_X0_on : SpX0_on (gL Γ) F_X0_on) {F_X0_sizeOf : SPF} (S_X0_sizeOf : SpX0_sizeOf (gL Γ) F_X0_sizeOf)
    {Q20 : Nat → Int32 → Nat → Nat → Int32 → MC → MI → MJ → MR → Prop} (w20 : ∀ (x0 : Nat) (x2 : Int32) (x3 : Nat) (s0 : Nat) (s1 : Int32) (C : MC) (I : MI) (J : MJ) (R : MR), Q20 x0 x2 x3 s0 s1 C I J R → AW Γ 0 0 C I J R 20 [(0, aR (some x0)), (2, aI x2), (3, aR (some x3))] [aI s1, aR (some s0)]) {x0 : Nat} {x1 : Int32} {x2 : Int32}
    (h : (C x0).1 = 1 ∧
      F_X0_on [aR (some x0), aI x1] C I J R (fun o C2 I3 J4 R5 =>
      (∃ r6 : Nat, o = .inl (some (aR (some r6))) ∧
      F_X0_sizeOf [aR (some r6)] C2 I3 J4 R5 (fun o C7 I8 J9 R10 =>
      ∃ r11 : Int32, o = .inl (some (aI r11)) ∧
      ((r11 < x2 →
      Q20 x0 x2 r6 x0 (0 : Int32) C7 I8 J9 R10) ∧
      (¬ r11 < x2 →
      Q20 x0 x2 r6 x0 (1 : Int32) C7 I8 J9 R10)))) ∨
      (∃ q13 : Nat, o = .inr q13 ∧
      ((C2 q13).1 = 2 ∧
      gK Γ (.inr q13) C2 I3 J4 R5)))) :
    AW Γ 0 0 C I J R 0 [(0, aR (some x0)), (1, aI x1), (2, aI x2)] [] := by
  have G0 := G.1
  refine aw_aload_n G0 0 rfl dX0_weights_0 ?_
  refine aw_iload_n G0 1 rfl dX0_weights_1 ?_
  obtain ⟨k1, h⟩ := h
  refine aw_callV (k1 := 0) (n1 := 0) (k2 := 0) (n2 := 0) (st := []) G0 S_X0_on gi_X0_101 (Or.inl (by rw [k1]; decide)) (by rw [k1]; rfl) md_X0_on (Nat.le_of_ble_eq_true rfl) (by decide) (by rw [G.2.1]; decide) (by rw [G.2.1]; decide) [aI x1] rfl rfl dX0_weights_2 h (fun o C2 I3 J4 R5 h => ?_)
  rcases h with ⟨r6, rfl, h⟩ | ⟨q13, rfl, h⟩
  · show AW Γ 0 0 C2 I3 J4 R5 (2 + 3) [(0, aR (some x0)), (1, aI x1), (2, aI x2)] [aR (some r6)]
    refine aw_astore_n (lv' := [(3, aR (some r6)), (0, aR (some x0)), (1, aI x1), (2, aI x2)]) G0 (by decide) rfl dX0_weights_5 ?_
    refine aw_aload_n G0 1 rfl dX0_weights_6 ?_
    refine aw_iload_n G0 3 rfl dX0_weights_7 ?_
    refine aw_aload_n G0 0 rfl dX0_weights_8 ?_
    refine aw_callS (k1 := 0) (n1 := 0) (k2 := 0) (n2 := 0) (st := [aI x2, aR (some x0)]) G0 S_X0_sizeOf gi_X0_138 md_X0_sizeOf (Nat.le_of_ble_eq_true rfl) (by decide) (by rw [G.2.1]; decide) (by rw [G.2.1]; decide) [aR (some r6)] rfl rfl dX0_weights_9 h (fun o C7 I8 J9 R10 h => ?_)
    obtain ⟨r11, rfl, h⟩ := h
    show AW Γ 0 0 C7 I8 J9 R10 (9 + 3) [(3, aR (some r6)), (0, aR (some x0)), (1, aI x1), (2, aI x2)] [aI r11, aI x2, aR (some x0)]
    refine aw_icmp_gt G0 19 dX0_weights_12 (by decide) (fun c12 => ?_) (fun c12 => ?_)
    · have h := h.1 c12
      refine aw_iconst (v := (0 : Int32)) G0 dX0_weights_19 (by decide) ?_
      exact (aw_lv [1, 3, 0] rfl (w20 x0 x2 r6 x0 (0 : Int32) C7 I8 J9 R10 h))
    · have h := h.2 c12
      refine aw_iconst (v := (1 : Int32)) G0 dX0_weights_15 (by decide) ?_
      refine aw_goto G0 20 dX0_weights_16 (by decide) ?_
      exact (aw_lv [1, 3, 0] rfl (w20 x0 x2 r6 x0 (1 : Int32) C7 I8 J9 R10 h))
  · show AX Γ 0 0 C2 I3 J4 R5 2 [(0, aR (some x0)), (1, aI x1), (2, aI x2)] q13
    obtain ⟨k14, h⟩ := h
    exact ax_out G0 rfl (Or.inl k14) (by rw [G.2.2]; decide) (by rw [G.2.1]; decide) h
theorem bX0_weights_20 (G : Gb Γ yX0_weights cX0_weights 6 (some (.object "TickShare$Table")) [] rmX0_weights bdX0_weights) {F_X0_want : SPF} (S_X0_want : SpX0_want (gL Γ) F_X0_want) {F_X3_init : SPF} (S_X3_init : SpX3_init (gL Γ) F_X3_init)
    {Q36 : Nat → Int32 → Nat → Nat → Int32 → MC → MI → MJ → MR → Prop} (w36 : ∀ (x0 : Nat) (x2 : Int32) (x3 : Nat) (x4 : Nat) (x5 : Int32) (C : MC) (I : MI) (J : MJ) (R : MR), Q36 x0 x2 x3 x4 x5 C I J R → AW Γ 3 245 C I J R 36 [(0, aR (some x0)), (2, aI x2), (3, aR (some x3)), (4, aR (some x4)), (5, aI x5)] []) {x0 : Nat} {x2 : Int32} {x3 : Nat} {s0 : Nat} {s1 : Int32}
    (h : (C s0).1 = 1 ∧
      F_X0_want [aR (some s0), aI s1, aI (3 : Int32)] C I J R (fun o C2 I3 J4 R5 =>
      (o = .inl none ∧
      ∃ q7 : Nat, (C2 q7).1 = 0 ∧
      ∀ (C9 : MC) (I10 : MI) (J11 : MJ) (R12 : MR), C9 = va_up C2 q7 (4, 0) → I10 = va_up I3 q7 (fun _ => 0) → J11 = va_up J4 q7 (fun _ => 0) → R12 = va_up R5 q7 (fun _ => none) → 
      F_X3_init [aR (some q7)] C9 I10 J11 R12 (fun o C13 I14 J15 R16 =>
      o = .inl none ∧
      Q36 x0 x2 x3 q7 (0 : Int32) C13 I14 J15 R16)) ∨
      (∃ q18 : Nat, o = .inr q18 ∧
      ((C2 q18).1 = 2 ∧
      gK Γ (.inr q18) C2 I3 J4 R5)))) :
    AW Γ 0 0 C I J R 20 [(0, aR (some x0)), (2, aI x2), (3, aR (some x3))] [aI s1, aR (some s0)] := by
  have G0 := G.1
  refine aw_iconst (v := (3 : Int32)) G0 dX0_weights_20 (by decide) ?_
  obtain ⟨k1, h⟩ := h
  refine aw_callV (k1 := 0) (n1 := 0) (k2 := 0) (n2 := 0) (st := []) G0 S_X0_want gi_X0_87 (Or.inl (by rw [k1]; decide)) (by rw [k1]; rfl) md_X0_want (Nat.le_of_ble_eq_true rfl) (by decide) (by rw [G.2.1]; decide) (by rw [G.2.1]; decide) [aI s1, aI (3 : Int32)] rfl rfl dX0_weights_21 h (fun o C2 I3 J4 R5 h => ?_)
  rcases h with ⟨rfl, h⟩ | ⟨q18, rfl, h⟩
  · show AW Γ 0 0 C2 I3 J4 R5 (21 + 3) [(0, aR (some x0)), (2, aI x2), (3, aR (some x3))] []
    obtain ⟨q7, z8, h⟩ := h
    refine aw_new (q := q7) (k' := 1) (n' := 3) G0 cl_3 (by decide) q311 q312 q61 nt_3 (by decide) (by decide) (by rw [G.2.1]; exact Nat.le_of_ble_eq_true rfl) (by rw [G.2.1]; exact Nat.le_of_ble_eq_true rfl) z8 dX0_weights_24 ?_
    generalize gC9 : va_up C2 q7 (4, 0) = C9
    generalize gI10 : va_up I3 q7 (fun _ => 0) = I10
    generalize gJ11 : va_up J4 q7 (fun _ => 0) = J11
    generalize gR12 : va_up R5 q7 (fun _ => none) = R12
    have h := h C9 I10 J11 R12 gC9.symm gI10.symm gJ11.symm gR12.symm
    refine aw_dupR G0 dX0_weights_27 ?_
    refine aw_callIN (k1 := 3) (n1 := 245) (k2 := 1) (n2 := 3) (st := [aR (some q7)]) G0 S_X3_init q313 gw_X3_init q61 q314 rfl md_X3_init (Nat.le_of_ble_eq_true rfl) (by decide) (by rw [G.2.1]; decide) (by rw [G.2.1]; decide) [] rfl rfl dX0_weights_28 h (fun o C13 I14 J15 R16 h => ?_)
    obtain ⟨rfl, h⟩ := h
    show AW Γ 3 245 C13 I14 J15 R16 (28 + 3) [(0, aR (some x0)), (2, aI x2), (3, aR (some x3))] [aR (some q7)]
    refine aw_astore (lv' := [(4, aR (some q7)), (0, aR (some x0)), (2, aI x2), (3, aR (some x3))]) G0 (by decide) rfl dX0_weights_31 ?_
    refine aw_iconst (v := (0 : Int32)) G0 dX0_weights_33 (by decide) ?_
    refine aw_istore (lv' := [(5, aI (0 : Int32)), (4, aR (some q7)), (0, aR (some x0)), (2, aI x2), (3, aR (some x3))]) G0 (by decide) rfl dX0_weights_34 ?_
    exact (aw_lv [2, 3, 4, 1, 0] rfl (w36 x0 x2 x3 q7 (0 : Int32) C13 I14 J15 R16 h))
  · show AX Γ 0 0 C2 I3 J4 R5 21 [(0, aR (some x0)), (2, aI x2), (3, aR (some x3))] q18
    obtain ⟨k19, h⟩ := h
    exact ax_out G0 rfl (Or.inl k19) (by rw [G.2.2]; decide) (by rw [G.2.1]; decide) h
theorem bX0_weights_36 (G : Gb Γ yX0_weights cX0_weights 6 (some (.object "TickShare$Table")) [] rmX0_weights bdX0_weights) {F_X0_number : SPF} (S_X0_number : SpX0_number (gL Γ) F_X0_number)
    {Q71 : Nat → Int32 → Nat → Nat → Int32 → Nat → MC → MI → MJ → MR → Prop} (w71 : ∀ (x0 : Nat) (x2 : Int32) (x3 : Nat) (x4 : Nat) (x5 : Int32) (s0 : Nat) (C : MC) (I : MI) (J : MJ) (R : MR), Q71 x0 x2 x3 x4 x5 s0 C I J R → AW Γ 3 245 C I J R 71 [(0, aR (some x0)), (2, aI x2), (3, aR (some x3)), (4, aR (some x4)), (5, aI x5)] [aR (some s0)])
    {Q72 : Nat → Int32 → Nat → Nat → Int32 → Nat → Int32 → MC → MI → MJ → MR → Prop} (w72 : ∀ (x0 : Nat) (x2 : Int32) (x3 : Nat) (x4 : Nat) (x5 : Int32) (s0 : Nat) (s1 : Int32) (C : MC) (I : MI) (J : MJ) (R : MR), Q72 x0 x2 x3 x4 x5 s0 s1 C I J R → AW Γ 3 245 C I J R 72 [(0, aR (some x0)), (2, aI x2), (3, aR (some x3)), (4, aR (some x4)), (5, aI x5)] [aI s1, aR (some s0)])
    {Q141 : Nat → Nat → MC → MI → MJ → MR → Prop} (w141 : ∀ (x4 : Nat) (s0 : Nat) (C : MC) (I : MI) (J : MJ) (R : MR), Q141 x4 s0 C I J R → AW Γ 3 245 C I J R 141 [(4, aR (some x4))] [aR (some s0)])
    {Q142 : Nat → Nat → Int32 → MC → MI → MJ → MR → Prop} (w142 : ∀ (x4 : Nat) (s0 : Nat) (s1 : Int32) (C : MC) (I : MI) (J : MJ) (R : MR), Q142 x4 s0 s1 C I J R → AW Γ 3 245 C I J R 142 [(4, aR (some x4))] [aI s1, aR (some s0)]) {x0 : Nat} {x2 : Int32} {x3 : Nat} {x4 : Nat} {x5 : Int32}
    (h : ((x2 ≤ x5 →
      (C x4).1 = 4 ∧
      (((J x4 2) < (1 : Int64) →
      Q141 x4 x0 C I J R) ∧
      (¬ (J x4 2) < (1 : Int64) →
      (((1000 : Int64) < (J x4 2) →
      Q141 x4 x0 C I J R) ∧
      (¬ (1000 : Int64) < (J x4 2) →
      Q142 x4 x0 (1 : Int32) C I J R))))) ∧
      (¬ x2 ≤ x5 →
      F_X0_number [aR (some x3), aI x5] C I J R (fun o C5 I6 J7 R8 =>
      ∃ r9 : Int64, o = .inl (some (aJ r9)) ∧
      ((r9 < (0 : Int64) →
      Q71 x0 x2 x3 x4 x5 x0 C5 I6 J7 R8) ∧
      (¬ r9 < (0 : Int64) →
      F_X0_number [aR (some x3), aI x5] C5 I6 J7 R8 (fun o C11 I12 J13 R14 =>
      ∃ r15 : Int64, o = .inl (some (aJ r15)) ∧
      (((1000 : Int64) < r15 →
      Q71 x0 x2 x3 x4 x5 x0 C11 I12 J13 R14) ∧
      (¬ (1000 : Int64) < r15 →
      Q72 x0 x2 x3 x4 x5 x0 (1 : Int32) C11 I12 J13 R14))))))))) :
    AW Γ 3 245 C I J R 36 [(0, aR (some x0)), (2, aI x2), (3, aR (some x3)), (4, aR (some x4)), (5, aI x5)] [] := by
  have G0 := G.1
  refine aw_iload G0 4 rfl dX0_weights_36 ?_
  refine aw_iload_n G0 1 rfl dX0_weights_38 ?_
  refine aw_icmp_ge G0 114 dX0_weights_39 (by decide) (fun c1 => ?_) (fun c1 => ?_)
  · have h := h.1 c1
    refine aw_aload_n G0 0 rfl dX0_weights_114 ?_
    refine aw_aload G0 3 rfl dX0_weights_115 ?_
    obtain ⟨k2, h⟩ := h
    refine aw_getJ (f := 2) G0 (by rw [k2]; exact fb_X0_24) dX0_weights_117 ?_
    refine aw_lconst (v := (1 : Int64)) G0 dX0_weights_120 (by decide) ?_
    refine aw_lif_lt G0 141 dX0_weights_121 dX0_weights_122 (by decide) (fun c3 => ?_) (fun c3 => ?_)
    · have h := h.1 c3
      exact (aw_lv [3] rfl (w141 x4 x0 C I J R h))
    · have h := h.2 c3
      refine aw_aload G0 3 rfl dX0_weights_125 ?_
      refine aw_getJ (f := 2) G0 (by rw [k2]; exact fb_X0_24) dX0_weights_127 ?_
      refine aw_ldc2 (v := (1000 : Int64)) G0 q344 dX0_weights_130 ?_
      refine aw_lif_gt G0 141 dX0_weights_133 dX0_weights_134 (by decide) (fun c4 => ?_) (fun c4 => ?_)
      · have h := h.1 c4
        exact (aw_lv [3] rfl (w141 x4 x0 C I J R h))
      · have h := h.2 c4
        refine aw_iconst (v := (1 : Int32)) G0 dX0_weights_137 (by decide) ?_
        refine aw_goto G0 142 dX0_weights_138 (by decide) ?_
        exact (aw_lv [3] rfl (w142 x4 x0 (1 : Int32) C I J R h))
  · have h := h.2 c1
    refine aw_aload_n G0 0 rfl dX0_weights_42 ?_
    refine aw_aload_n G0 2 rfl dX0_weights_43 ?_
    refine aw_iload G0 4 rfl dX0_weights_44 ?_
    refine aw_callS (k1 := 3) (n1 := 245) (k2 := 6) (n2 := 467) (st := [aR (some x0)]) G0 S_X0_number gi_X0_111 md_X0_number (Nat.le_of_ble_eq_true rfl) (by decide) (by rw [G.2.1]; decide) (by rw [G.2.1]; decide) [aR (some x3), aI x5] rfl rfl dX0_weights_46 h (fun o C5 I6 J7 R8 h => ?_)
    obtain ⟨r9, rfl, h⟩ := h
    show AW Γ 3 245 C5 I6 J7 R8 (46 + 3) [(0, aR (some x0)), (2, aI x2), (3, aR (some x3)), (4, aR (some x4)), (5, aI x5)] [aJ r9, aR (some x0)]
    refine aw_lconst (v := (0 : Int64)) G0 dX0_weights_49 (by decide) ?_
    refine aw_lif_lt G0 71 dX0_weights_50 dX0_weights_51 (by decide) (fun c10 => ?_) (fun c10 => ?_)
    · have h := h.1 c10
      exact (w71 x0 x2 x3 x4 x5 x0 C5 I6 J7 R8 h)
    · have h := h.2 c10
      refine aw_aload_n G0 2 rfl dX0_weights_54 ?_
      refine aw_iload G0 4 rfl dX0_weights_55 ?_
      refine aw_callS (k1 := 3) (n1 := 245) (k2 := 6) (n2 := 467) (st := [aR (some x0)]) G0 S_X0_number gi_X0_111 md_X0_number (Nat.le_of_ble_eq_true rfl) (by decide) (by rw [G.2.1]; decide) (by rw [G.2.1]; decide) [aR (some x3), aI x5] rfl rfl dX0_weights_57 h (fun o C11 I12 J13 R14 h => ?_)
      obtain ⟨r15, rfl, h⟩ := h
      show AW Γ 3 245 C11 I12 J13 R14 (57 + 3) [(0, aR (some x0)), (2, aI x2), (3, aR (some x3)), (4, aR (some x4)), (5, aI x5)] [aJ r15, aR (some x0)]
      refine aw_ldc2 (v := (1000 : Int64)) G0 q344 dX0_weights_60 ?_
      refine aw_lif_gt G0 71 dX0_weights_63 dX0_weights_64 (by decide) (fun c16 => ?_) (fun c16 => ?_)
      · have h := h.1 c16
        exact (w71 x0 x2 x3 x4 x5 x0 C11 I12 J13 R14 h)
      · have h := h.2 c16
        refine aw_iconst (v := (1 : Int32)) G0 dX0_weights_67 (by decide) ?_
        refine aw_goto G0 72 dX0_weights_68 (by decide) ?_
        exact (w72 x0 x2 x3 x4 x5 x0 (1 : Int32) C11 I12 J13 R14 h)
theorem bX0_weights_71 (G : Gb Γ yX0_weights cX0_weights 6 (some (.object "TickShare$Table")) [] rmX0_weights bdX0_weights)
    {Q72 : Nat → Int32 → Nat → Nat → Int32 → Nat → Int32 → MC → MI → MJ → MR → Prop} (w72 : ∀ (x0 : Nat) (x2 : Int32) (x3 : Nat) (x4 : Nat) (x5 : Int32) (s0 : Nat) (s1 : Int32) (C : MC) (I : MI) (J : MJ) (R : MR), Q72 x0 x2 x3 x4 x5 s0 s1 C I J R → AW Γ 3 245 C I J R 72 [(0, aR (some x0)), (2, aI x2), (3, aR (some x3)), (4, aR (some x4)), (5, aI x5)] [aI s1, aR (some s0)]) {x0 : Nat} {x2 : Int32} {x3 : Nat} {x4 : Nat} {x5 : Int32} {s0 : Nat}
    (h : Q72 x0 x2 x3 x4 x5 s0 (0 : Int32) C I J R) :
    AW Γ 3 245 C I J R 71 [(0, aR (some x0)), (2, aI x2), (3, aR (some x3)), (4, aR (some x4)), (5, aI x5)] [aR (some s0)] := by
  have G0 := G.1
  refine aw_iconst (v := (0 : Int32)) G0 dX0_weights_71 (by decide) ?_
  exact (w72 x0 x2 x3 x4 x5 s0 (0 : Int32) C I J R h)
theorem bX0_weights_72 (G : Gb Γ yX0_weights cX0_weights 6 (some (.object "TickShare$Table")) [] rmX0_weights bdX0_weights) {F_X0_want : SPF} (S_X0_want : SpX0_want (gL Γ) F_X0_want) {F_X0_number : SPF} (S_X0_number : SpX0_number (gL Γ) F_X0_number)
    {Q36 : Nat → Int32 → Nat → Nat → Int32 → MC → MI → MJ → MR → Prop} (w36 : ∀ (x0 : Nat) (x2 : Int32) (x3 : Nat) (x4 : Nat) (x5 : Int32) (C : MC) (I : MI) (J : MJ) (R : MR), Q36 x0 x2 x3 x4 x5 C I J R → AW Γ 3 245 C I J R 36 [(0, aR (some x0)), (2, aI x2), (3, aR (some x3)), (4, aR (some x4)), (5, aI x5)] []) {x0 : Nat} {x2 : Int32} {x3 : Nat} {x4 : Nat} {x5 : Int32} {s0 : Nat} {s1 : Int32}
    (h : (C s0).1 = 1 ∧
      F_X0_want [aR (some s0), aI s1, aI (1 : Int32)] C I J R (fun o C2 I3 J4 R5 =>
      (o = .inl none ∧
      (C2 x4).1 = 4 ∧
      F_X0_number [aR (some x3), aI x5] C2 I3 J4 R5 (fun o C8 I9 J10 R11 =>
      ∃ r12 : Int64, o = .inl (some (aJ r12)) ∧
      ∃ q13 : Nat, R5 x4 0 = some q13 ∧
      (C8 q13).1 = 21 ∧
      vp_in x5 (C8 q13).2 ∧
      ∀ J16 : MJ, J16 = va_up J10 q13 (va_up (J10 q13) x5.toNatClampNeg r12) →
      (C8 x4).1 = 4 ∧
      ∃ q18 : Nat, R11 x4 0 = some q18 ∧
      (C8 q18).1 = 21 ∧
      vp_in x5 (C8 q18).2 ∧
      ∀ J21 : MJ, J21 = va_up J16 x4 (va_up (J16 x4) 2 ((J16 x4 2) + (J16 q18 x5.toNatClampNeg))) →
      Q36 x0 x2 x3 x4 (x5 + 1) C8 I9 J21 R11)) ∨
      (∃ q22 : Nat, o = .inr q22 ∧
      ((C2 q22).1 = 2 ∧
      gK Γ (.inr q22) C2 I3 J4 R5)))) :
    AW Γ 3 245 C I J R 72 [(0, aR (some x0)), (2, aI x2), (3, aR (some x3)), (4, aR (some x4)), (5, aI x5)] [aI s1, aR (some s0)] := by
  have G0 := G.1
  refine aw_iconst (v := (1 : Int32)) G0 dX0_weights_72 (by decide) ?_
  obtain ⟨k1, h⟩ := h
  refine aw_callV (k1 := 3) (n1 := 245) (k2 := 3) (n2 := 245) (st := []) G0 S_X0_want gi_X0_87 (Or.inl (by rw [k1]; decide)) (by rw [k1]; rfl) md_X0_want (Nat.le_of_ble_eq_true rfl) (by decide) (by rw [G.2.1]; decide) (by rw [G.2.1]; decide) [aI s1, aI (1 : Int32)] rfl rfl dX0_weights_73 h (fun o C2 I3 J4 R5 h => ?_)
  rcases h with ⟨rfl, h⟩ | ⟨q22, rfl, h⟩
  · show AW Γ 3 245 C2 I3 J4 R5 (73 + 3) [(0, aR (some x0)), (2, aI x2), (3, aR (some x3)), (4, aR (some x4)), (5, aI x5)] []
    refine aw_aload G0 3 rfl dX0_weights_76 ?_
    obtain ⟨k7, h⟩ := h
    refine aw_getR (f := 0) G0 (by rw [k7]; exact fb_X0_32) dX0_weights_78 ?_
    refine aw_iload G0 4 rfl dX0_weights_81 ?_
    refine aw_aload_n G0 2 rfl dX0_weights_83 ?_
    refine aw_iload G0 4 rfl dX0_weights_84 ?_
    refine aw_callS (k1 := 3) (n1 := 245) (k2 := 6) (n2 := 467) (st := [aI x5, aR (R5 x4 0)]) G0 S_X0_number gi_X0_111 md_X0_number (Nat.le_of_ble_eq_true rfl) (by decide) (by rw [G.2.1]; decide) (by rw [G.2.1]; decide) [aR (some x3), aI x5] rfl rfl dX0_weights_86 h (fun o C8 I9 J10 R11 h => ?_)
    obtain ⟨r12, rfl, h⟩ := h
    show AW Γ 3 245 C8 I9 J10 R11 (86 + 3) [(0, aR (some x0)), (2, aI x2), (3, aR (some x3)), (4, aR (some x4)), (5, aI x5)] [aJ r12, aI x5, aR (R5 x4 0)]
    obtain ⟨q13, e13, h⟩ := h
    refine aw_dr2 e13 ?_
    obtain ⟨k14, h⟩ := h
    obtain ⟨k15, h⟩ := h
    refine aw_last G0 k14 k15 dX0_weights_89 ?_
    generalize gJ16 : va_up J10 q13 (va_up (J10 q13) x5.toNatClampNeg r12) = J16
    have h := h J16 gJ16.symm
    refine aw_aload G0 3 rfl dX0_weights_90 ?_
    refine aw_dupR G0 dX0_weights_92 ?_
    obtain ⟨k17, h⟩ := h
    refine aw_getJ (f := 2) G0 (by rw [k17]; exact fb_X0_24) dX0_weights_93 ?_
    refine aw_aload G0 3 rfl dX0_weights_96 ?_
    refine aw_getR (f := 0) G0 (by rw [k17]; exact fb_X0_32) dX0_weights_98 ?_
    refine aw_iload G0 4 rfl dX0_weights_101 ?_
    obtain ⟨q18, e18, h⟩ := h
    refine aw_dr1 e18 ?_
    obtain ⟨k19, h⟩ := h
    obtain ⟨k20, h⟩ := h
    refine aw_lald G0 k19 k20 dX0_weights_103 ?_
    refine aw_ladd G0 dX0_weights_104 ?_
    refine aw_putJ (f := 2) G0 (by rw [k17]; exact fp_X0_24 _) dX0_weights_105 ?_
    generalize gJ21 : va_up J16 x4 (va_up (J16 x4) 2 ((J16 x4 2) + (J16 q18 x5.toNatClampNeg))) = J21
    have h := h J21 gJ21.symm
    refine aw_iinc (v := x5 + 1) (lv' := [(5, aI (x5 + 1)), (0, aR (some x0)), (2, aI x2), (3, aR (some x3)), (4, aR (some x4))]) G0 4 rfl rfl (by decide) rfl dX0_weights_108 ?_
    refine aw_goto G0 36 dX0_weights_111 (by decide) ?_
    exact (aw_lv [1, 2, 3, 4, 0] rfl (w36 x0 x2 x3 x4 (x5 + 1) C8 I9 J21 R11 h))
  · show AX Γ 3 245 C2 I3 J4 R5 73 [(0, aR (some x0)), (2, aI x2), (3, aR (some x3)), (4, aR (some x4)), (5, aI x5)] q22
    obtain ⟨k23, h⟩ := h
    exact ax_out G0 rfl (Or.inl k23) (by rw [G.2.2]; decide) (by rw [G.2.1]; decide) h
theorem bX0_weights_141 (G : Gb Γ yX0_weights cX0_weights 6 (some (.object "TickShare$Table")) [] rmX0_weights bdX0_weights)
    {Q142 : Nat → Nat → Int32 → MC → MI → MJ → MR → Prop} (w142 : ∀ (x4 : Nat) (s0 : Nat) (s1 : Int32) (C : MC) (I : MI) (J : MJ) (R : MR), Q142 x4 s0 s1 C I J R → AW Γ 3 245 C I J R 142 [(4, aR (some x4))] [aI s1, aR (some s0)]) {x4 : Nat} {s0 : Nat}
    (h : Q142 x4 s0 (0 : Int32) C I J R) :
    AW Γ 3 245 C I J R 141 [(4, aR (some x4))] [aR (some s0)] := by
  have G0 := G.1
  refine aw_iconst (v := (0 : Int32)) G0 dX0_weights_141 (by decide) ?_
  exact (w142 x4 s0 (0 : Int32) C I J R h)
theorem bX0_weights_142 (G : Gb Γ yX0_weights cX0_weights 6 (some (.object "TickShare$Table")) [] rmX0_weights bdX0_weights) {F_X0_want : SPF} (S_X0_want : SpX0_want (gL Γ) F_X0_want) {F_X3_less : SPF} (S_X3_less : SpX3_less (gL Γ) F_X3_less) {x4 : Nat} {s0 : Nat} {s1 : Int32}
    (h : (C s0).1 = 1 ∧
      F_X0_want [aR (some s0), aI s1, aI (1 : Int32)] C I J R (fun o C2 I3 J4 R5 =>
      (o = .inl none ∧
      (C2 x4).1 = 4 ∧
      F_X3_less [aR (some x4)] C2 I3 J4 R5 (fun o C8 I9 J10 R11 =>
      ∃ r12 : Nat, o = .inl (some (aR (some r12))) ∧
      gK Γ (.inl (some (aR (some r12)))) C8 I9 J10 R11)) ∨
      (∃ q13 : Nat, o = .inr q13 ∧
      ((C2 q13).1 = 2 ∧
      gK Γ (.inr q13) C2 I3 J4 R5)))) :
    AW Γ 3 245 C I J R 142 [(4, aR (some x4))] [aI s1, aR (some s0)] := by
  have G0 := G.1
  refine aw_iconst (v := (1 : Int32)) G0 dX0_weights_142 (by decide) ?_
  obtain ⟨k1, h⟩ := h
  refine aw_callV (k1 := 3) (n1 := 245) (k2 := 3) (n2 := 245) (st := []) G0 S_X0_want gi_X0_87 (Or.inl (by rw [k1]; decide)) (by rw [k1]; rfl) md_X0_want (Nat.le_of_ble_eq_true rfl) (by decide) (by rw [G.2.1]; decide) (by rw [G.2.1]; decide) [aI s1, aI (1 : Int32)] rfl rfl dX0_weights_143 h (fun o C2 I3 J4 R5 h => ?_)
  rcases h with ⟨rfl, h⟩ | ⟨q13, rfl, h⟩
  · show AW Γ 3 245 C2 I3 J4 R5 (143 + 3) [(4, aR (some x4))] []
    refine aw_aload G0 0 rfl dX0_weights_146 ?_
    obtain ⟨k7, h⟩ := h
    refine aw_callV (k1 := 3) (n1 := 245) (k2 := 3) (n2 := 245) (st := []) G0 S_X3_less gi_X0_144 (Or.inl (by rw [k7]; decide)) (by rw [k7]; rfl) md_X3_less (Nat.le_of_ble_eq_true rfl) (by decide) (by rw [G.2.1]; decide) (by rw [G.2.1]; decide) [] rfl rfl dX0_weights_148 h (fun o C8 I9 J10 R11 h => ?_)
    obtain ⟨r12, rfl, h⟩ := h
    show AW Γ 3 245 C8 I9 J10 R11 (148 + 3) [(4, aR (some x4))] [aR (some r12)]
    exact aw_areturn G0 ⟨_, rfl, rfl⟩ (by rw [G.2.2]; decide) (by rw [G.2.1]; decide) dX0_weights_151 h
  · show AX Γ 3 245 C2 I3 J4 R5 143 [(4, aR (some x4))] q13
    obtain ⟨k14, h⟩ := h
    exact ax_out G0 rfl (Or.inl k14) (by rw [G.2.2]; decide) (by rw [G.2.1]; decide) h
theorem bX0_sizeOf_0 (G : Gb Γ yX0_sizeOf cX0_sizeOf 2 (some .int) [] rmX0_sizeOf bdX0_sizeOf) {x0 : Nat}
    (h : kPr (C x0).1 ∧
      (((C x0).1 = 22 →
      (20 ≤ (C x0).1 ∧ (C x0).1 ≤ 30) ∧
      gK Γ (.inl (some (aI (nI (C x0).2)))) C I J R) ∧
      (¬ (C x0).1 = 22 →
      (((C x0).1 = 23 →
      (20 ≤ (C x0).1 ∧ (C x0).1 ≤ 30) ∧
      gK Γ (.inl (some (aI (nI (C x0).2)))) C I J R) ∧
      (¬ (C x0).1 = 23 →
      (((C x0).1 = 20 →
      (20 ≤ (C x0).1 ∧ (C x0).1 ≤ 30) ∧
      gK Γ (.inl (some (aI (nI (C x0).2)))) C I J R) ∧
      (¬ (C x0).1 = 20 →
      (C x0).1 = 21 ∧
      (20 ≤ (C x0).1 ∧ (C x0).1 ≤ 30) ∧
      gK Γ (.inl (some (aI (nI (C x0).2)))) C I J R))))))) :
    AW Γ 0 0 C I J R 0 [(0, aR (some x0))] [] := by
  have G0 := G.1
  refine aw_aload_n G0 0 rfl dX0_sizeOf_0 ?_
  obtain ⟨k1, h⟩ := h
  by_cases c2 : (C x0).1 = 22
  · have h := h.1 c2
    refine aw_inst1 G0 q269 (ki_22r k1) (by rw [c2]; rfl) dX0_sizeOf_1 ?_
    refine aw_if_eq G0 15 dX0_sizeOf_4 (by decide) (fun z => absurd z (by decide)) (fun _ => ?_)
    refine aw_aload_n G0 0 rfl dX0_sizeOf_7 ?_
    refine aw_cast G0 q269 (Or.inr (by rw [c2]; decide)) (by rw [c2]; rfl) dX0_sizeOf_8 ?_
    refine aw_astore_n (lv' := [(1, aR (some x0)), (0, aR (some x0))]) G0 (by decide) rfl dX0_sizeOf_11 ?_
    refine aw_aload_n G0 0 rfl dX0_sizeOf_12 ?_
    obtain ⟨k3, h⟩ := h
    refine aw_alen (v := nI (C x0).2) G0 k3 rfl dX0_sizeOf_13 ?_
    exact aw_ireturn G0 (Or.inl rfl) (by rw [G.2.2]; decide) (by rw [G.2.1]; decide) dX0_sizeOf_14 h
  · have h := h.2 c2
    refine aw_inst0 G0 q269 (ki_22r k1) (ki_22n k1 c2) dX0_sizeOf_1 ?_
    refine aw_if_eq G0 15 dX0_sizeOf_4 (by decide) (fun _ => ?_) (fun z => absurd z (by decide))
    refine aw_aload_n G0 0 rfl dX0_sizeOf_15 ?_
    by_cases c4 : (C x0).1 = 23
    · have h := h.1 c4
      refine aw_inst1 G0 q270 (ki_23r k1) (by rw [c4]; rfl) dX0_sizeOf_16 ?_
      refine aw_if_eq G0 30 dX0_sizeOf_19 (by decide) (fun z => absurd z (by decide)) (fun _ => ?_)
      refine aw_aload_n G0 0 rfl dX0_sizeOf_22 ?_
      refine aw_cast G0 q270 (Or.inr (by rw [c4]; decide)) (by rw [c4]; rfl) dX0_sizeOf_23 ?_
      refine aw_astore_n (lv' := [(1, aR (some x0)), (0, aR (some x0))]) G0 (by decide) rfl dX0_sizeOf_26 ?_
      refine aw_aload_n G0 0 rfl dX0_sizeOf_27 ?_
      obtain ⟨k5, h⟩ := h
      refine aw_alen (v := nI (C x0).2) G0 k5 rfl dX0_sizeOf_28 ?_
      exact aw_ireturn G0 (Or.inl rfl) (by rw [G.2.2]; decide) (by rw [G.2.1]; decide) dX0_sizeOf_29 h
    · have h := h.2 c4
      refine aw_inst0 G0 q270 (ki_23r k1) (ki_23n k1 c2 c4) dX0_sizeOf_16 ?_
      refine aw_if_eq G0 30 dX0_sizeOf_19 (by decide) (fun _ => ?_) (fun z => absurd z (by decide))
      refine aw_aload_n G0 0 rfl dX0_sizeOf_30 ?_
      by_cases c6 : (C x0).1 = 20
      · have h := h.1 c6
        refine aw_inst1 G0 q271 (ki_20r k1) (by rw [c6]; rfl) dX0_sizeOf_31 ?_
        refine aw_if_eq G0 47 dX0_sizeOf_34 (by decide) (fun z => absurd z (by decide)) (fun _ => ?_)
        refine aw_aload_n G0 0 rfl dX0_sizeOf_37 ?_
        refine aw_cast G0 q271 (Or.inr (by rw [c6]; decide)) (by rw [c6]; rfl) dX0_sizeOf_38 ?_
        refine aw_astore_n (lv' := [(1, aR (some x0)), (0, aR (some x0))]) G0 (by decide) rfl dX0_sizeOf_41 ?_
        refine aw_aload_n G0 0 rfl dX0_sizeOf_42 ?_
        obtain ⟨k7, h⟩ := h
        refine aw_alen (v := nI (C x0).2) G0 k7 rfl dX0_sizeOf_43 ?_
        refine aw_goto G0 52 dX0_sizeOf_44 (by decide) ?_
        exact aw_ireturn G0 (Or.inl rfl) (by rw [G.2.2]; decide) (by rw [G.2.1]; decide) dX0_sizeOf_52 h
      · have h := h.2 c6
        refine aw_inst0 G0 q271 (ki_20r k1) (ki_20n k1 c2 c4 c6) dX0_sizeOf_31 ?_
        refine aw_if_eq G0 47 dX0_sizeOf_34 (by decide) (fun _ => ?_) (fun z => absurd z (by decide))
        refine aw_aload_n G0 0 rfl dX0_sizeOf_47 ?_
        obtain ⟨k8, h⟩ := h
        refine aw_cast G0 q272 (Or.inr (by rw [k8]; decide)) (by rw [k8]; rfl) dX0_sizeOf_48 ?_
        obtain ⟨k9, h⟩ := h
        refine aw_alen (v := nI (C x0).2) G0 k9 rfl dX0_sizeOf_51 ?_
        exact aw_ireturn G0 (Or.inl rfl) (by rw [G.2.2]; decide) (by rw [G.2.1]; decide) dX0_sizeOf_52 h
theorem bX0_adds_0 (G : Gb Γ yX0_adds cX0_adds 2 (some .int) [] rmX0_adds bdX0_adds) {x0 : Nat} {x1 : Nat}
    (h : (C x0).1 = 1 ∧
      ∃ q2 : Nat, R x0 2 = some q2 ∧
      (25 ≤ (C q2).1 ∧ (C q2).1 < 29) ∧
      kFit (C q2).1 (C x1).1 ∧
      vp_in (I x0 3) (C q2).2 ∧
      ∀ R6 : MR, R6 = va_up R q2 (va_up (R q2) (I x0 3).toNatClampNeg (some x1)) →
      ∀ I7 : MI, I7 = va_up I x0 (va_up (I x0) 3 ((I x0 3) + (1 : Int32))) →
      gK Γ (.inl (some (aI ((I7 x0 3) - (1 : Int32))))) C I7 J R6) :
    AW Γ 0 0 C I J R 0 [(0, aR (some x0)), (1, aR (some x1))] [] := by
  have G0 := G.1
  refine aw_aload_n G0 0 rfl dX0_adds_0 ?_
  obtain ⟨k1, h⟩ := h
  refine aw_getR (f := 2) G0 (by rw [k1]; exact fb_X0_49) dX0_adds_1 ?_
  refine aw_aload_n G0 0 rfl dX0_adds_4 ?_
  refine aw_getI (f := 3) G0 (by rw [k1]; exact fb_X0_133) dX0_adds_5 ?_
  refine aw_aload_n G0 1 rfl dX0_adds_8 ?_
  obtain ⟨q2, e2, h⟩ := h
  refine aw_dr2 e2 ?_
  obtain ⟨k3, h⟩ := h
  obtain ⟨k4, h⟩ := h
  obtain ⟨k5, h⟩ := h
  refine aw_aast G0 k3 (kFit_1 k4) (kFit_2 k4) k5 dX0_adds_9 ?_
  generalize gR6 : va_up R q2 (va_up (R q2) (I x0 3).toNatClampNeg (some x1)) = R6
  have h := h R6 gR6.symm
  refine aw_aload_n G0 0 rfl dX0_adds_10 ?_
  refine aw_dupR G0 dX0_adds_11 ?_
  refine aw_getI (f := 3) G0 (by rw [k1]; exact fb_X0_133) dX0_adds_12 ?_
  refine aw_iconst (v := (1 : Int32)) G0 dX0_adds_15 (by decide) ?_
  refine aw_iadd G0 dX0_adds_16 ?_
  refine aw_putI (f := 3) G0 (by rw [k1]; exact fp_X0_133 _) dX0_adds_17 ?_
  generalize gI7 : va_up I x0 (va_up (I x0) 3 ((I x0 3) + (1 : Int32))) = I7
  have h := h I7 gI7.symm
  refine aw_aload_n G0 0 rfl dX0_adds_20 ?_
  refine aw_getI (f := 3) G0 (by rw [k1]; exact fb_X0_133) dX0_adds_21 ?_
  refine aw_iconst (v := (1 : Int32)) G0 dX0_adds_24 (by decide) ?_
  refine aw_isub G0 dX0_adds_25 ?_
  exact aw_ireturn G0 (Or.inl rfl) (by rw [G.2.2]; decide) (by rw [G.2.1]; decide) dX0_adds_26 h
theorem bX0_row_2_0 (G : Gb Γ yX0_row_2 cX0_row_2 6 (some .int) [(5, 67, 68, 53)] rmX0_row_2 bdX0_row_2) {F_X0_free : SPF} (S_X0_free : SpX0_free (gL Γ) F_X0_free)
    {Q44 : Nat → Nat → Nat → Int32 → MC → MI → MJ → MR → Prop} (w44 : ∀ (x0 : Nat) (x5 : Nat) (s0 : Nat) (s1 : Int32) (C : MC) (I : MI) (J : MJ) (R : MR), Q44 x0 x5 s0 s1 C I J R → AW Γ 2 8 C I J R 44 [(0, aR (some x0)), (5, aR (some x5))] [aI s1, aR (some s0)])
    {Q68 : Nat → Nat → MC → MI → MJ → MR → Prop} (w68 : ∀ (x0 : Nat) (s0 : Nat) (C : MC) (I : MI) (J : MJ) (R : MR), Q68 x0 s0 C I J R → AW Γ 2 8 C I J R 68 [(0, aR (some x0))] [aR (some s0)]) {x0 : Nat} {x1 : Int32} {x2 : Int32} {x3 : Int32} {x4 : Int32}
    (h : (C x0).1 = 1 ∧
      ∀ I2 : MI, I2 = va_up I x0 (va_up (I x0) 5 (0 : Int32)) →
      ∃ q3 : Nat, (C q3).1 = 0 ∧
      ∀ (C5 : MC) (I6 : MI) (J7 : MJ) (R8 : MR), C5 = va_up C q3 (20, 4) → I6 = va_up I2 q3 (fun _ => 0) → J7 = va_up J q3 (fun _ => 0) → R8 = va_up R q3 (fun _ => none) → 
      (C5 q3).1 = 20 ∧
      vp_in (0 : Int32) (C5 q3).2 ∧
      ∀ I11 : MI, I11 = va_up I6 q3 (va_up (I6 q3) (0 : Int32).toNatClampNeg x1) →
      vp_in (1 : Int32) (C5 q3).2 ∧
      ∀ I13 : MI, I13 = va_up I11 q3 (va_up (I11 q3) (1 : Int32).toNatClampNeg x2) →
      vp_in (2 : Int32) (C5 q3).2 ∧
      ∀ I15 : MI, I15 = va_up I13 q3 (va_up (I13 q3) (2 : Int32).toNatClampNeg x3) →
      vp_in (3 : Int32) (C5 q3).2 ∧
      ∀ I17 : MI, I17 = va_up I15 q3 (va_up (I15 q3) (3 : Int32).toNatClampNeg x4) →
      (C5 x0).1 = 1 ∧
      F_X0_free [aR (some x0), aR (some q3)] C5 I17 J7 R8 (fun o C19 I20 J21 R22 =>
      (∃ r23 : Nat, o = .inl (some (aR (some r23))) ∧
      (20 ≤ (C19 r23).1 ∧ (C19 r23).1 ≤ 30) ∧
      (((nI (C19 r23).2) < (2 : Int32) →
      Q44 x0 r23 x0 (0 : Int32) C19 I20 J21 R22) ∧
      (¬ (nI (C19 r23).2) < (2 : Int32) →
      Q44 x0 r23 x0 (1 : Int32) C19 I20 J21 R22))) ∨
      (∃ q26 : Nat, o = .inr q26 ∧
      ((C19 q26).1 = 2 ∧
      Q68 x0 q26 C19 I20 J21 R22)))) :
    AW Γ 0 0 C I J R 0 [(0, aR (some x0)), (1, aI x1), (2, aI x2), (3, aI x3), (4, aI x4)] [] := by
  have G0 := G.1
  refine aw_aload_n G0 0 rfl dX0_row_2_0 ?_
  refine aw_iconst (v := (0 : Int32)) G0 dX0_row_2_1 (by decide) ?_
  obtain ⟨k1, h⟩ := h
  refine aw_putI (f := 5) G0 (by rw [k1]; exact fp_X0_63 _) dX0_row_2_2 ?_
  generalize gI2 : va_up I x0 (va_up (I x0) 5 (0 : Int32)) = I2
  have h := h I2 gI2.symm
  refine aw_aload_n G0 0 rfl dX0_row_2_5 ?_
  refine aw_iconst (v := (4 : Int32)) G0 dX0_row_2_6 (by decide) ?_
  obtain ⟨q3, z4, h⟩ := h
  refine aw_newaI (q := q3) (k' := 1) (n' := 4) (N := 4) G0 (by decide) (by decide) (by decide) (by decide) (by decide) (by rw [G.2.1]; decide) (by rw [G.2.1]; decide) z4 dX0_row_2_7 ?_
  generalize gC5 : va_up C q3 (20, 4) = C5
  generalize gI6 : va_up I2 q3 (fun _ => 0) = I6
  generalize gJ7 : va_up J q3 (fun _ => 0) = J7
  generalize gR8 : va_up R q3 (fun _ => none) = R8
  have h := h C5 I6 J7 R8 gC5.symm gI6.symm gJ7.symm gR8.symm
  refine aw_dupR G0 dX0_row_2_9 ?_
  refine aw_iconst (v := (0 : Int32)) G0 dX0_row_2_10 (by decide) ?_
  refine aw_iload_n G0 1 rfl dX0_row_2_11 ?_
  obtain ⟨k9, h⟩ := h
  obtain ⟨k10, h⟩ := h
  refine aw_iast G0 k9 k10 dX0_row_2_12 ?_
  generalize gI11 : va_up I6 q3 (va_up (I6 q3) (0 : Int32).toNatClampNeg x1) = I11
  have h := h I11 gI11.symm
  refine aw_dupR G0 dX0_row_2_13 ?_
  refine aw_iconst (v := (1 : Int32)) G0 dX0_row_2_14 (by decide) ?_
  refine aw_iload_n G0 2 rfl dX0_row_2_15 ?_
  obtain ⟨k12, h⟩ := h
  refine aw_iast G0 k9 k12 dX0_row_2_16 ?_
  generalize gI13 : va_up I11 q3 (va_up (I11 q3) (1 : Int32).toNatClampNeg x2) = I13
  have h := h I13 gI13.symm
  refine aw_dupR G0 dX0_row_2_17 ?_
  refine aw_iconst (v := (2 : Int32)) G0 dX0_row_2_18 (by decide) ?_
  refine aw_iload_n G0 3 rfl dX0_row_2_19 ?_
  obtain ⟨k14, h⟩ := h
  refine aw_iast G0 k9 k14 dX0_row_2_20 ?_
  generalize gI15 : va_up I13 q3 (va_up (I13 q3) (2 : Int32).toNatClampNeg x3) = I15
  have h := h I15 gI15.symm
  refine aw_dupR G0 dX0_row_2_21 ?_
  refine aw_iconst (v := (3 : Int32)) G0 dX0_row_2_22 (by decide) ?_
  refine aw_iload G0 4 rfl dX0_row_2_23 ?_
  obtain ⟨k16, h⟩ := h
  refine aw_iast G0 k9 k16 dX0_row_2_25 ?_
  generalize gI17 : va_up I15 q3 (va_up (I15 q3) (3 : Int32).toNatClampNeg x4) = I17
  have h := h I17 gI17.symm
  obtain ⟨k18, h⟩ := h
  refine aw_callV (k1 := 2) (n1 := 8) (k2 := 2) (n2 := 8) (st := []) G0 S_X0_free gi_X0_171 (Or.inl (by rw [k18]; decide)) (by rw [k18]; rfl) md_X0_free (Nat.le_of_ble_eq_true rfl) (by decide) (by rw [G.2.1]; decide) (by rw [G.2.1]; decide) [aR (some q3)] rfl rfl dX0_row_2_26 h (fun o C19 I20 J21 R22 h => ?_)
  rcases h with ⟨r23, rfl, h⟩ | ⟨q26, rfl, h⟩
  · show AW Γ 2 8 C19 I20 J21 R22 (26 + 3) [(0, aR (some x0)), (1, aI x1), (2, aI x2), (3, aI x3), (4, aI x4)] [aR (some r23)]
    refine aw_astore (lv' := [(5, aR (some r23)), (0, aR (some x0)), (1, aI x1), (2, aI x2), (3, aI x3), (4, aI x4)]) G0 (by decide) rfl dX0_row_2_29 ?_
    refine aw_aload_n G0 1 rfl dX0_row_2_31 ?_
    refine aw_aload G0 0 rfl dX0_row_2_32 ?_
    obtain ⟨k24, h⟩ := h
    refine aw_alen (v := nI (C19 r23).2) G0 k24 rfl dX0_row_2_34 ?_
    refine aw_iconst (v := (2 : Int32)) G0 dX0_row_2_35 (by decide) ?_
    refine aw_icmp_lt G0 43 dX0_row_2_36 (by decide) (fun c25 => ?_) (fun c25 => ?_)
    · have h := h.1 c25
      refine aw_iconst (v := (0 : Int32)) G0 dX0_row_2_43 (by decide) ?_
      exact (aw_lv [1, 0] rfl (w44 x0 r23 x0 (0 : Int32) C19 I20 J21 R22 h))
    · have h := h.2 c25
      refine aw_iconst (v := (1 : Int32)) G0 dX0_row_2_39 (by decide) ?_
      refine aw_goto G0 44 dX0_row_2_40 (by decide) ?_
      exact (aw_lv [1, 0] rfl (w44 x0 r23 x0 (1 : Int32) C19 I20 J21 R22 h))
  · show AX Γ 2 8 C19 I20 J21 R22 26 [(0, aR (some x0)), (1, aI x1), (2, aI x2), (3, aI x3), (4, aI x4)] q26
    obtain ⟨k27, h⟩ := h
    refine ax_catch G0 0 rfl (fun j hj _ _ _ _ _ => absurd hj (Nat.not_lt_zero j)) rfl (by decide) q84 (Or.inl k27) (by rw [k27]; exact q86) ?_
    exact (aw_lv [0] rfl (w68 x0 q26 C19 I20 J21 R22 h))
theorem bX0_row_2_44 (G : Gb Γ yX0_row_2 cX0_row_2 6 (some .int) [(5, 67, 68, 53)] rmX0_row_2 bdX0_row_2) {F_X0_want : SPF} (S_X0_want : SpX0_want (gL Γ) F_X0_want) {F_X0_wantFree : SPF} (S_X0_wantFree : SpX0_wantFree (gL Γ) F_X0_wantFree) {F_X6_init : SPF} (S_X6_init : SpX6_init (gL Γ) F_X6_init) {F_X0_adds : SPF} (S_X0_adds : SpX0_adds (gL Γ) F_X0_adds)
    {Q68 : Nat → Nat → MC → MI → MJ → MR → Prop} (w68 : ∀ (x0 : Nat) (s0 : Nat) (C : MC) (I : MI) (J : MJ) (R : MR), Q68 x0 s0 C I J R → AW Γ 2 8 C I J R 68 [(0, aR (some x0))] [aR (some s0)]) {x0 : Nat} {x5 : Nat} {s0 : Nat} {s1 : Int32}
    (h : (C s0).1 = 1 ∧
      F_X0_want [aR (some s0), aI s1, aI (1 : Int32)] C I J R (fun o C2 I3 J4 R5 =>
      (o = .inl none ∧
      (C2 x0).1 = 1 ∧
      F_X0_wantFree [aR (some x0), aR (some x5)] C2 I3 J4 R5 (fun o C8 I9 J10 R11 =>
      (o = .inl none ∧
      ∃ q13 : Nat, (C8 q13).1 = 0 ∧
      ∀ (C15 : MC) (I16 : MI) (J17 : MJ) (R18 : MR), C15 = va_up C8 q13 (6, 0) → I16 = va_up I9 q13 (fun _ => 0) → J17 = va_up J10 q13 (fun _ => 0) → R18 = va_up R11 q13 (fun _ => none) → 
      F_X6_init [aR (some q13), aR (some x5)] C15 I16 J17 R18 (fun o C19 I20 J21 R22 =>
      o = .inl none ∧
      (C19 x0).1 = 1 ∧
      F_X0_adds [aR (some x0), aR (some q13)] C19 I20 J21 R22 (fun o C25 I26 J27 R28 =>
      ∃ r29 : Int32, o = .inl (some (aI r29)) ∧
      gK Γ (.inl (some (aI r29))) C25 I26 J27 R28))) ∨
      (∃ q30 : Nat, o = .inr q30 ∧
      ((C8 q30).1 = 2 ∧
      Q68 x0 q30 C8 I9 J10 R11)))) ∨
      (∃ q32 : Nat, o = .inr q32 ∧
      ((C2 q32).1 = 2 ∧
      Q68 x0 q32 C2 I3 J4 R5)))) :
    AW Γ 2 8 C I J R 44 [(0, aR (some x0)), (5, aR (some x5))] [aI s1, aR (some s0)] := by
  have G0 := G.1
  refine aw_iconst (v := (1 : Int32)) G0 dX0_row_2_44 (by decide) ?_
  obtain ⟨k1, h⟩ := h
  refine aw_callV (k1 := 2) (n1 := 8) (k2 := 2) (n2 := 8) (st := []) G0 S_X0_want gi_X0_87 (Or.inl (by rw [k1]; decide)) (by rw [k1]; rfl) md_X0_want (Nat.le_of_ble_eq_true rfl) (by decide) (by rw [G.2.1]; decide) (by rw [G.2.1]; decide) [aI s1, aI (1 : Int32)] rfl rfl dX0_row_2_45 h (fun o C2 I3 J4 R5 h => ?_)
  rcases h with ⟨rfl, h⟩ | ⟨q32, rfl, h⟩
  · show AW Γ 2 8 C2 I3 J4 R5 (45 + 3) [(0, aR (some x0)), (5, aR (some x5))] []
    refine aw_aload_n G0 0 rfl dX0_row_2_48 ?_
    refine aw_aload G0 1 rfl dX0_row_2_49 ?_
    obtain ⟨k7, h⟩ := h
    refine aw_callV (k1 := 2) (n1 := 8) (k2 := 2) (n2 := 8) (st := []) G0 S_X0_wantFree gi_X0_175 (Or.inl (by rw [k7]; decide)) (by rw [k7]; rfl) md_X0_wantFree (Nat.le_of_ble_eq_true rfl) (by decide) (by rw [G.2.1]; decide) (by rw [G.2.1]; decide) [aR (some x5)] rfl rfl dX0_row_2_51 h (fun o C8 I9 J10 R11 h => ?_)
    rcases h with ⟨rfl, h⟩ | ⟨q30, rfl, h⟩
    · show AW Γ 2 8 C8 I9 J10 R11 (51 + 3) [(0, aR (some x0)), (5, aR (some x5))] []
      refine aw_aload_n G0 0 rfl dX0_row_2_54 ?_
      obtain ⟨q13, z14, h⟩ := h
      refine aw_new (q := q13) (k' := 3) (n' := 16) G0 cl_5 (by decide) q461 q462 q65 nt_5 (by decide) (by decide) (by rw [G.2.1]; exact Nat.le_of_ble_eq_true rfl) (by rw [G.2.1]; exact Nat.le_of_ble_eq_true rfl) z14 dX0_row_2_55 ?_
      generalize gC15 : va_up C8 q13 (6, 0) = C15
      generalize gI16 : va_up I9 q13 (fun _ => 0) = I16
      generalize gJ17 : va_up J10 q13 (fun _ => 0) = J17
      generalize gR18 : va_up R11 q13 (fun _ => none) = R18
      have h := h C15 I16 J17 R18 gC15.symm gI16.symm gJ17.symm gR18.symm
      refine aw_dupR G0 dX0_row_2_58 ?_
      refine aw_aload G0 1 rfl dX0_row_2_59 ?_
      refine aw_callI (k1 := 16) (n1 := 1120) (k2 := 3) (n2 := 16) (st := [aR (some q13), aR (some x0)]) G0 S_X6_init gw_X6_init q65 q463 q464 rfl md_X6_init (Nat.le_of_ble_eq_true rfl) (by decide) (by rw [G.2.1]; decide) (by rw [G.2.1]; decide) [aR (some x5)] rfl rfl dX0_row_2_61 h (fun o C19 I20 J21 R22 h => ?_)
      obtain ⟨rfl, h⟩ := h
      show AW Γ 16 1120 C19 I20 J21 R22 (61 + 3) [(0, aR (some x0)), (5, aR (some x5))] [aR (some q13), aR (some x0)]
      obtain ⟨k24, h⟩ := h
      refine aw_callV (k1 := 16) (n1 := 1120) (k2 := 16) (n2 := 1120) (st := []) G0 S_X0_adds gi_X0_159 (Or.inl (by rw [k24]; decide)) (by rw [k24]; rfl) md_X0_adds (Nat.le_of_ble_eq_true rfl) (by decide) (by rw [G.2.1]; decide) (by rw [G.2.1]; decide) [aR (some q13)] rfl rfl dX0_row_2_64 h (fun o C25 I26 J27 R28 h => ?_)
      obtain ⟨r29, rfl, h⟩ := h
      show AW Γ 16 1120 C25 I26 J27 R28 (64 + 3) [(0, aR (some x0)), (5, aR (some x5))] [aI r29]
      exact aw_ireturn G0 (Or.inl rfl) (by rw [G.2.2]; decide) (by rw [G.2.1]; decide) dX0_row_2_67 h
    · show AX Γ 2 8 C8 I9 J10 R11 51 [(0, aR (some x0)), (5, aR (some x5))] q30
      obtain ⟨k31, h⟩ := h
      refine ax_catch G0 0 rfl (fun j hj _ _ _ _ _ => absurd hj (Nat.not_lt_zero j)) rfl (by decide) q84 (Or.inl k31) (by rw [k31]; exact q86) ?_
      exact (aw_lv [0] rfl (w68 x0 q30 C8 I9 J10 R11 h))
  · show AX Γ 2 8 C2 I3 J4 R5 45 [(0, aR (some x0)), (5, aR (some x5))] q32
    obtain ⟨k33, h⟩ := h
    refine ax_catch G0 0 rfl (fun j hj _ _ _ _ _ => absurd hj (Nat.not_lt_zero j)) rfl (by decide) q84 (Or.inl k33) (by rw [k33]; exact q86) ?_
    exact (aw_lv [0] rfl (w68 x0 q32 C2 I3 J4 R5 h))
theorem bX0_row_2_68 (G : Gb Γ yX0_row_2 cX0_row_2 6 (some .int) [(5, 67, 68, 53)] rmX0_row_2 bdX0_row_2) {F_X0_none : SPF} (S_X0_none : SpX0_none (gL Γ) F_X0_none) {x0 : Nat} {s0 : Nat}
    (h : (C x0).1 = 1 ∧
      F_X0_none [aR (some x0), aR (some s0)] C I J R (fun o C2 I3 J4 R5 =>
      ∃ r6 : Int32, o = .inl (some (aI r6)) ∧
      gK Γ (.inl (some (aI r6))) C2 I3 J4 R5)) :
    AW Γ 2 8 C I J R 68 [(0, aR (some x0))] [aR (some s0)] := by
  have G0 := G.1
  refine aw_astore (lv' := [(5, aR (some s0)), (0, aR (some x0))]) G0 (by decide) rfl dX0_row_2_68 ?_
  refine aw_aload_n G0 1 rfl dX0_row_2_70 ?_
  refine aw_aload G0 0 rfl dX0_row_2_71 ?_
  obtain ⟨k1, h⟩ := h
  refine aw_callV (k1 := 2) (n1 := 8) (k2 := 2) (n2 := 8) (st := []) G0 S_X0_none gi_X0_117 (Or.inl (by rw [k1]; decide)) (by rw [k1]; rfl) md_X0_none (Nat.le_of_ble_eq_true rfl) (by decide) (by rw [G.2.1]; decide) (by rw [G.2.1]; decide) [aR (some s0)] rfl rfl dX0_row_2_73 h (fun o C2 I3 J4 R5 h => ?_)
  obtain ⟨r6, rfl, h⟩ := h
  show AW Γ 2 8 C2 I3 J4 R5 (73 + 3) [(5, aR (some s0)), (0, aR (some x0))] [aI r6]
  exact aw_ireturn G0 (Or.inl rfl) (by rw [G.2.2]; decide) (by rw [G.2.1]; decide) dX0_row_2_76 h
theorem bX0_free_0 (G : Gb Γ yX0_free cX0_free 5 (some (.array (.object "TickShare$Thing"))) [] rmX0_free bdX0_free)
    {Q2 : Nat → Nat → Int32 → MC → MI → MJ → MR → Prop} (w2 : ∀ (x0 : Nat) (x1 : Nat) (x2 : Int32) (C : MC) (I : MI) (J : MJ) (R : MR), Q2 x0 x1 x2 C I J R → AW Γ 0 0 C I J R 2 [(0, aR (some x0)), (1, aR (some x1)), (2, aI x2)] []) {x0 : Nat} {x1 : Nat}
    (h : Q2 x0 x1 (0 : Int32) C I J R) :
    AW Γ 0 0 C I J R 0 [(0, aR (some x0)), (1, aR (some x1))] [] := by
  have G0 := G.1
  refine aw_iconst (v := (0 : Int32)) G0 dX0_free_0 (by decide) ?_
  refine aw_istore_n (lv' := [(2, aI (0 : Int32)), (0, aR (some x0)), (1, aR (some x1))]) G0 (by decide) rfl dX0_free_1 ?_
  exact (aw_lv [1, 2, 0] rfl (w2 x0 x1 (0 : Int32) C I J R h))
theorem bX0_free_2 (G : Gb Γ yX0_free cX0_free 5 (some (.array (.object "TickShare$Thing"))) [] rmX0_free bdX0_free)
    {Q2 : Nat → Nat → Int32 → MC → MI → MJ → MR → Prop} (w2 : ∀ (x0 : Nat) (x1 : Nat) (x2 : Int32) (C : MC) (I : MI) (J : MJ) (R : MR), Q2 x0 x1 x2 C I J R → AW Γ 0 0 C I J R 2 [(0, aR (some x0)), (1, aR (some x1)), (2, aI x2)] [])
    {Q21 : Nat → Nat → Int32 → MC → MI → MJ → MR → Prop} (w21 : ∀ (x0 : Nat) (x1 : Nat) (x2 : Int32) (C : MC) (I : MI) (J : MJ) (R : MR), Q21 x0 x1 x2 C I J R → AW Γ 0 0 C I J R 21 [(0, aR (some x0)), (1, aR (some x1)), (2, aI x2)] []) {x0 : Nat} {x1 : Nat} {x2 : Int32}
    (h : (20 ≤ (C x1).1 ∧ (C x1).1 ≤ 30) ∧
      (((nI (C x1).2) ≤ x2 →
      Q21 x0 x1 x2 C I J R) ∧
      (¬ (nI (C x1).2) ≤ x2 →
      (C x1).1 = 20 ∧
      vp_in x2 (C x1).2 ∧
      (((I x1 x2.toNatClampNeg) = (-1 : Int32) →
      Q21 x0 x1 x2 C I J R) ∧
      (¬ (I x1 x2.toNatClampNeg) = (-1 : Int32) →
      Q2 x0 x1 (x2 + 1) C I J R))))) :
    AW Γ 0 0 C I J R 2 [(0, aR (some x0)), (1, aR (some x1)), (2, aI x2)] [] := by
  have G0 := G.1
  refine aw_iload_n G0 2 rfl dX0_free_2 ?_
  refine aw_aload_n G0 1 rfl dX0_free_3 ?_
  obtain ⟨k1, h⟩ := h
  refine aw_alen (v := nI (C x1).2) G0 k1 rfl dX0_free_4 ?_
  refine aw_icmp_ge G0 21 dX0_free_5 (by decide) (fun c2 => ?_) (fun c2 => ?_)
  · have h := h.1 c2
    exact (w21 x0 x1 x2 C I J R h)
  · have h := h.2 c2
    refine aw_aload_n G0 1 rfl dX0_free_8 ?_
    refine aw_iload_n G0 2 rfl dX0_free_9 ?_
    obtain ⟨k3, h⟩ := h
    obtain ⟨k4, h⟩ := h
    refine aw_iald G0 (Or.inl k3) k4 dX0_free_10 ?_
    refine aw_iconst (v := (-1 : Int32)) G0 dX0_free_11 (by decide) ?_
    refine aw_icmp_eq G0 21 dX0_free_12 (by decide) (fun c5 => ?_) (fun c5 => ?_)
    · have h := h.1 c5
      exact (w21 x0 x1 x2 C I J R h)
    · have h := h.2 c5
      refine aw_iinc (v := x2 + 1) (lv' := [(2, aI (x2 + 1)), (0, aR (some x0)), (1, aR (some x1))]) G0 2 rfl rfl (by decide) rfl dX0_free_15 ?_
      refine aw_goto G0 2 dX0_free_18 (by decide) ?_
      exact (aw_lv [1, 2, 0] rfl (w2 x0 x1 (x2 + 1) C I J R h))
theorem bX0_free_21 (G : Gb Γ yX0_free cX0_free 5 (some (.array (.object "TickShare$Thing"))) [] rmX0_free bdX0_free)
    {Q23 : Nat → Nat → Int32 → Int32 → MC → MI → MJ → MR → Prop} (w23 : ∀ (x0 : Nat) (x1 : Nat) (x2 : Int32) (x3 : Int32) (C : MC) (I : MI) (J : MJ) (R : MR), Q23 x0 x1 x2 x3 C I J R → AW Γ 0 0 C I J R 23 [(0, aR (some x0)), (1, aR (some x1)), (2, aI x2), (3, aI x3)] []) {x0 : Nat} {x1 : Nat} {x2 : Int32}
    (h : Q23 x0 x1 x2 x2 C I J R) :
    AW Γ 0 0 C I J R 21 [(0, aR (some x0)), (1, aR (some x1)), (2, aI x2)] [] := by
  have G0 := G.1
  refine aw_iload_n G0 2 rfl dX0_free_21 ?_
  refine aw_istore_n (lv' := [(3, aI x2), (0, aR (some x0)), (1, aR (some x1)), (2, aI x2)]) G0 (by decide) rfl dX0_free_22 ?_
  exact (aw_lv [1, 2, 3, 0] rfl (w23 x0 x1 x2 x2 C I J R h))
theorem bX0_free_23 (G : Gb Γ yX0_free cX0_free 5 (some (.array (.object "TickShare$Thing"))) [] rmX0_free bdX0_free)
    {Q42 : Nat → Nat → Int32 → Int32 → Nat → Int32 → MC → MI → MJ → MR → Prop} (w42 : ∀ (x0 : Nat) (x1 : Nat) (x2 : Int32) (x3 : Int32) (s0 : Nat) (s1 : Int32) (C : MC) (I : MI) (J : MJ) (R : MR), Q42 x0 x1 x2 x3 s0 s1 C I J R → AW Γ 0 0 C I J R 42 [(0, aR (some x0)), (1, aR (some x1)), (2, aI x2), (3, aI x3)] [aI s1, aR (some s0)])
    {Q60 : Nat → Nat → Int32 → Nat → Int32 → MC → MI → MJ → MR → Prop} (w60 : ∀ (x0 : Nat) (x1 : Nat) (x2 : Int32) (x3 : Nat) (x4 : Int32) (C : MC) (I : MI) (J : MJ) (R : MR), Q60 x0 x1 x2 x3 x4 C I J R → AW Γ 1 4 C I J R 60 [(0, aR (some x0)), (1, aR (some x1)), (2, aI x2), (3, aR (some x3)), (4, aI x4)] []) {x0 : Nat} {x1 : Nat} {x2 : Int32} {x3 : Int32}
    (h : (20 ≤ (C x1).1 ∧ (C x1).1 ≤ 30) ∧
      (((nI (C x1).2) ≤ x3 →
      ¬ x2 < 0 ∧
      x2.toNatClampNeg ≤ 4 ∧
      ∃ q3 : Nat, (C q3).1 = 0 ∧
      ∀ (C7 : MC) (I8 : MI) (J9 : MJ) (R10 : MR), C7 = va_up C q3 (26, x2.toNatClampNeg) → I8 = va_up I q3 (fun _ => 0) → J9 = va_up J q3 (fun _ => 0) → R10 = va_up R q3 (fun _ => none) → 
      Q60 x0 x1 x2 q3 (0 : Int32) C7 I8 J9 R10) ∧
      (¬ (nI (C x1).2) ≤ x3 →
      (C x1).1 = 20 ∧
      vp_in x3 (C x1).2 ∧
      ((¬ (I x1 x3.toNatClampNeg) = (-1 : Int32) →
      Q42 x0 x1 x2 x3 x0 (0 : Int32) C I J R) ∧
      ((I x1 x3.toNatClampNeg) = (-1 : Int32) →
      Q42 x0 x1 x2 x3 x0 (1 : Int32) C I J R))))) :
    AW Γ 0 0 C I J R 23 [(0, aR (some x0)), (1, aR (some x1)), (2, aI x2), (3, aI x3)] [] := by
  have G0 := G.1
  refine aw_iload_n G0 3 rfl dX0_free_23 ?_
  refine aw_aload_n G0 1 rfl dX0_free_24 ?_
  obtain ⟨k1, h⟩ := h
  refine aw_alen (v := nI (C x1).2) G0 k1 rfl dX0_free_25 ?_
  refine aw_icmp_ge G0 52 dX0_free_26 (by decide) (fun c2 => ?_) (fun c2 => ?_)
  · have h := h.1 c2
    refine aw_iload_n G0 2 rfl dX0_free_52 ?_
    obtain ⟨k5, h⟩ := h
    obtain ⟨k6, h⟩ := h
    obtain ⟨q3, z4, h⟩ := h
    refine aw_newqT (q := q3) (k' := 1) (n' := 4) (N := x2.toNatClampNeg) G0 q82 k5 rfl (Nat.le_trans k6 (by decide)) (by decide) (by omega) (by rw [G.2.1]; decide) (by rw [G.2.1]; decide) z4 dX0_free_53 ?_
    generalize gC7 : va_up C q3 (26, x2.toNatClampNeg) = C7
    generalize gI8 : va_up I q3 (fun _ => 0) = I8
    generalize gJ9 : va_up J q3 (fun _ => 0) = J9
    generalize gR10 : va_up R q3 (fun _ => none) = R10
    have h := h C7 I8 J9 R10 gC7.symm gI8.symm gJ9.symm gR10.symm
    refine aw_astore_n (lv' := [(3, aR (some q3)), (0, aR (some x0)), (1, aR (some x1)), (2, aI x2)]) G0 (by decide) rfl dX0_free_56 ?_
    refine aw_iconst (v := (0 : Int32)) G0 dX0_free_57 (by decide) ?_
    refine aw_istore (lv' := [(4, aI (0 : Int32)), (3, aR (some q3)), (0, aR (some x0)), (1, aR (some x1)), (2, aI x2)]) G0 (by decide) rfl dX0_free_58 ?_
    exact (aw_lv [2, 3, 4, 1, 0] rfl (w60 x0 x1 x2 q3 (0 : Int32) C7 I8 J9 R10 h))
  · have h := h.2 c2
    refine aw_aload_n G0 0 rfl dX0_free_29 ?_
    refine aw_aload_n G0 1 rfl dX0_free_30 ?_
    refine aw_iload_n G0 3 rfl dX0_free_31 ?_
    obtain ⟨k11, h⟩ := h
    obtain ⟨k12, h⟩ := h
    refine aw_iald G0 (Or.inl k11) k12 dX0_free_32 ?_
    refine aw_iconst (v := (-1 : Int32)) G0 dX0_free_33 (by decide) ?_
    refine aw_icmp_ne G0 41 dX0_free_34 (by decide) (fun c13 => ?_) (fun c13 => ?_)
    · have h := h.1 c13
      refine aw_iconst (v := (0 : Int32)) G0 dX0_free_41 (by decide) ?_
      exact (w42 x0 x1 x2 x3 x0 (0 : Int32) C I J R h)
    · have h := h.2 c13
      refine aw_iconst (v := (1 : Int32)) G0 dX0_free_37 (by decide) ?_
      refine aw_goto G0 42 dX0_free_38 (by decide) ?_
      exact (w42 x0 x1 x2 x3 x0 (1 : Int32) C I J R h)
theorem bX0_free_42 (G : Gb Γ yX0_free cX0_free 5 (some (.array (.object "TickShare$Thing"))) [] rmX0_free bdX0_free) {F_X0_want : SPF} (S_X0_want : SpX0_want (gL Γ) F_X0_want)
    {Q23 : Nat → Nat → Int32 → Int32 → MC → MI → MJ → MR → Prop} (w23 : ∀ (x0 : Nat) (x1 : Nat) (x2 : Int32) (x3 : Int32) (C : MC) (I : MI) (J : MJ) (R : MR), Q23 x0 x1 x2 x3 C I J R → AW Γ 0 0 C I J R 23 [(0, aR (some x0)), (1, aR (some x1)), (2, aI x2), (3, aI x3)] []) {x0 : Nat} {x1 : Nat} {x2 : Int32} {x3 : Int32} {s0 : Nat} {s1 : Int32}
    (h : (C s0).1 = 1 ∧
      F_X0_want [aR (some s0), aI s1, aI (1 : Int32)] C I J R (fun o C2 I3 J4 R5 =>
      (o = .inl none ∧
      Q23 x0 x1 x2 (x3 + 1) C2 I3 J4 R5) ∨
      (∃ q7 : Nat, o = .inr q7 ∧
      ((C2 q7).1 = 2 ∧
      gK Γ (.inr q7) C2 I3 J4 R5)))) :
    AW Γ 0 0 C I J R 42 [(0, aR (some x0)), (1, aR (some x1)), (2, aI x2), (3, aI x3)] [aI s1, aR (some s0)] := by
  have G0 := G.1
  refine aw_iconst (v := (1 : Int32)) G0 dX0_free_42 (by decide) ?_
  obtain ⟨k1, h⟩ := h
  refine aw_callV (k1 := 0) (n1 := 0) (k2 := 0) (n2 := 0) (st := []) G0 S_X0_want gi_X0_87 (Or.inl (by rw [k1]; decide)) (by rw [k1]; rfl) md_X0_want (Nat.le_of_ble_eq_true rfl) (by decide) (by rw [G.2.1]; decide) (by rw [G.2.1]; decide) [aI s1, aI (1 : Int32)] rfl rfl dX0_free_43 h (fun o C2 I3 J4 R5 h => ?_)
  rcases h with ⟨rfl, h⟩ | ⟨q7, rfl, h⟩
  · show AW Γ 0 0 C2 I3 J4 R5 (43 + 3) [(0, aR (some x0)), (1, aR (some x1)), (2, aI x2), (3, aI x3)] []
    refine aw_iinc (v := x3 + 1) (lv' := [(3, aI (x3 + 1)), (0, aR (some x0)), (1, aR (some x1)), (2, aI x2)]) G0 3 rfl rfl (by decide) rfl dX0_free_46 ?_
    refine aw_goto G0 23 dX0_free_49 (by decide) ?_
    exact (aw_lv [1, 2, 3, 0] rfl (w23 x0 x1 x2 (x3 + 1) C2 I3 J4 R5 h))
  · show AX Γ 0 0 C2 I3 J4 R5 43 [(0, aR (some x0)), (1, aR (some x1)), (2, aI x2), (3, aI x3)] q7
    obtain ⟨k8, h⟩ := h
    exact ax_out G0 rfl (Or.inl k8) (by rw [G.2.2]; decide) (by rw [G.2.1]; decide) h
theorem bX0_free_60 (G : Gb Γ yX0_free cX0_free 5 (some (.array (.object "TickShare$Thing"))) [] rmX0_free bdX0_free) {F_X0_thing : SPF} (S_X0_thing : SpX0_thing (gL Γ) F_X0_thing)
    {Q60 : Nat → Nat → Int32 → Nat → Int32 → MC → MI → MJ → MR → Prop} (w60 : ∀ (x0 : Nat) (x1 : Nat) (x2 : Int32) (x3 : Nat) (x4 : Int32) (C : MC) (I : MI) (J : MJ) (R : MR), Q60 x0 x1 x2 x3 x4 C I J R → AW Γ 1 4 C I J R 60 [(0, aR (some x0)), (1, aR (some x1)), (2, aI x2), (3, aR (some x3)), (4, aI x4)] []) {x0 : Nat} {x1 : Nat} {x2 : Int32} {x3 : Nat} {x4 : Int32}
    (h : ((x2 ≤ x4 →
      gK Γ (.inl (some (aR (some x3)))) C I J R) ∧
      (¬ x2 ≤ x4 →
      (C x1).1 = 20 ∧
      vp_in x4 (C x1).2 ∧
      (C x0).1 = 1 ∧
      F_X0_thing [aR (some x0), aI (I x1 x4.toNatClampNeg)] C I J R (fun o C5 I6 J7 R8 =>
      (∃ r9 : Nat, o = .inl (some (aR (some r9))) ∧
      (25 ≤ (C5 x3).1 ∧ (C5 x3).1 < 29) ∧
      kFit (C5 x3).1 (C5 r9).1 ∧
      vp_in x4 (C5 x3).2 ∧
      ∀ R13 : MR, R13 = va_up R8 x3 (va_up (R8 x3) x4.toNatClampNeg (some r9)) →
      Q60 x0 x1 x2 x3 (x4 + 1) C5 I6 J7 R13) ∨
      (∃ q14 : Nat, o = .inr q14 ∧
      ((C5 q14).1 = 2 ∧
      gK Γ (.inr q14) C5 I6 J7 R8)))))) :
    AW Γ 1 4 C I J R 60 [(0, aR (some x0)), (1, aR (some x1)), (2, aI x2), (3, aR (some x3)), (4, aI x4)] [] := by
  have G0 := G.1
  refine aw_iload G0 4 rfl dX0_free_60 ?_
  refine aw_iload_n G0 2 rfl dX0_free_62 ?_
  refine aw_icmp_ge G0 84 dX0_free_63 (by decide) (fun c1 => ?_) (fun c1 => ?_)
  · have h := h.1 c1
    refine aw_aload_n G0 3 rfl dX0_free_84 ?_
    exact aw_areturn G0 ⟨_, rfl, rfl⟩ (by rw [G.2.2]; decide) (by rw [G.2.1]; decide) dX0_free_85 h
  · have h := h.2 c1
    refine aw_aload_n G0 3 rfl dX0_free_66 ?_
    refine aw_iload G0 4 rfl dX0_free_67 ?_
    refine aw_aload_n G0 0 rfl dX0_free_69 ?_
    refine aw_aload_n G0 1 rfl dX0_free_70 ?_
    refine aw_iload G0 4 rfl dX0_free_71 ?_
    obtain ⟨k2, h⟩ := h
    obtain ⟨k3, h⟩ := h
    refine aw_iald G0 (Or.inl k2) k3 dX0_free_73 ?_
    obtain ⟨k4, h⟩ := h
    refine aw_callV (k1 := 1) (n1 := 4) (k2 := 1) (n2 := 4) (st := [aI x4, aR (some x3)]) G0 S_X0_thing gi_X0_163 (Or.inl (by rw [k4]; decide)) (by rw [k4]; rfl) md_X0_thing (Nat.le_of_ble_eq_true rfl) (by decide) (by rw [G.2.1]; decide) (by rw [G.2.1]; decide) [aI (I x1 x4.toNatClampNeg)] rfl rfl dX0_free_74 h (fun o C5 I6 J7 R8 h => ?_)
    rcases h with ⟨r9, rfl, h⟩ | ⟨q14, rfl, h⟩
    · show AW Γ 1 4 C5 I6 J7 R8 (74 + 3) [(0, aR (some x0)), (1, aR (some x1)), (2, aI x2), (3, aR (some x3)), (4, aI x4)] [aR (some r9), aI x4, aR (some x3)]
      obtain ⟨k10, h⟩ := h
      obtain ⟨k11, h⟩ := h
      obtain ⟨k12, h⟩ := h
      refine aw_aast G0 k10 (kFit_1 k11) (kFit_2 k11) k12 dX0_free_77 ?_
      generalize gR13 : va_up R8 x3 (va_up (R8 x3) x4.toNatClampNeg (some r9)) = R13
      have h := h R13 gR13.symm
      refine aw_iinc (v := x4 + 1) (lv' := [(4, aI (x4 + 1)), (0, aR (some x0)), (1, aR (some x1)), (2, aI x2), (3, aR (some x3))]) G0 4 rfl rfl (by decide) rfl dX0_free_78 ?_
      refine aw_goto G0 60 dX0_free_81 (by decide) ?_
      exact (aw_lv [1, 2, 3, 4, 0] rfl (w60 x0 x1 x2 x3 (x4 + 1) C5 I6 J7 R13 h))
    · show AX Γ 1 4 C5 I6 J7 R8 74 [(0, aR (some x0)), (1, aR (some x1)), (2, aI x2), (3, aR (some x3)), (4, aI x4)] q14
      obtain ⟨k15, h⟩ := h
      exact ax_out G0 rfl (Or.inl k15) (by rw [G.2.2]; decide) (by rw [G.2.1]; decide) h
theorem bX0_thing_0 (G : Gb Γ yX0_thing cX0_thing 2 (some (.object "TickShare$Thing")) [] rmX0_thing bdX0_thing)
    {Q17 : Nat → Int32 → Nat → MC → MI → MJ → MR → Prop} (w17 : ∀ (x0 : Nat) (x1 : Int32) (s0 : Nat) (C : MC) (I : MI) (J : MJ) (R : MR), Q17 x0 x1 s0 C I J R → AW Γ 0 0 C I J R 17 [(0, aR (some x0)), (1, aI x1)] [aR (some s0)])
    {Q18 : Nat → Int32 → Nat → Int32 → MC → MI → MJ → MR → Prop} (w18 : ∀ (x0 : Nat) (x1 : Int32) (s0 : Nat) (s1 : Int32) (C : MC) (I : MI) (J : MJ) (R : MR), Q18 x0 x1 s0 s1 C I J R → AW Γ 0 0 C I J R 18 [(0, aR (some x0)), (1, aI x1)] [aI s1, aR (some s0)]) {x0 : Nat} {x1 : Int32}
    (h : ((x1 < 0 →
      Q17 x0 x1 x0 C I J R) ∧
      (¬ x1 < 0 →
      (C x0).1 = 1 ∧
      (((I x0 3) ≤ x1 →
      Q17 x0 x1 x0 C I J R) ∧
      (¬ (I x0 3) ≤ x1 →
      Q18 x0 x1 x0 (1 : Int32) C I J R))))) :
    AW Γ 0 0 C I J R 0 [(0, aR (some x0)), (1, aI x1)] [] := by
  have G0 := G.1
  refine aw_aload_n G0 0 rfl dX0_thing_0 ?_
  refine aw_iload_n G0 1 rfl dX0_thing_1 ?_
  refine aw_if_lt G0 17 dX0_thing_2 (by decide) (fun c1 => ?_) (fun c1 => ?_)
  · have h := h.1 c1
    exact (w17 x0 x1 x0 C I J R h)
  · have h := h.2 c1
    refine aw_iload_n G0 1 rfl dX0_thing_5 ?_
    refine aw_aload_n G0 0 rfl dX0_thing_6 ?_
    obtain ⟨k2, h⟩ := h
    refine aw_getI (f := 3) G0 (by rw [k2]; exact fb_X0_133) dX0_thing_7 ?_
    refine aw_icmp_ge G0 17 dX0_thing_10 (by decide) (fun c3 => ?_) (fun c3 => ?_)
    · have h := h.1 c3
      exact (w17 x0 x1 x0 C I J R h)
    · have h := h.2 c3
      refine aw_iconst (v := (1 : Int32)) G0 dX0_thing_13 (by decide) ?_
      refine aw_goto G0 18 dX0_thing_14 (by decide) ?_
      exact (w18 x0 x1 x0 (1 : Int32) C I J R h)
theorem bX0_thing_17 (G : Gb Γ yX0_thing cX0_thing 2 (some (.object "TickShare$Thing")) [] rmX0_thing bdX0_thing)
    {Q18 : Nat → Int32 → Nat → Int32 → MC → MI → MJ → MR → Prop} (w18 : ∀ (x0 : Nat) (x1 : Int32) (s0 : Nat) (s1 : Int32) (C : MC) (I : MI) (J : MJ) (R : MR), Q18 x0 x1 s0 s1 C I J R → AW Γ 0 0 C I J R 18 [(0, aR (some x0)), (1, aI x1)] [aI s1, aR (some s0)]) {x0 : Nat} {x1 : Int32} {s0 : Nat}
    (h : Q18 x0 x1 s0 (0 : Int32) C I J R) :
    AW Γ 0 0 C I J R 17 [(0, aR (some x0)), (1, aI x1)] [aR (some s0)] := by
  have G0 := G.1
  refine aw_iconst (v := (0 : Int32)) G0 dX0_thing_17 (by decide) ?_
  exact (w18 x0 x1 s0 (0 : Int32) C I J R h)
theorem bX0_thing_18 (G : Gb Γ yX0_thing cX0_thing 2 (some (.object "TickShare$Thing")) [] rmX0_thing bdX0_thing) {F_X0_want : SPF} (S_X0_want : SpX0_want (gL Γ) F_X0_want) {x0 : Nat} {x1 : Int32} {s0 : Nat} {s1 : Int32}
    (h : (C s0).1 = 1 ∧
      F_X0_want [aR (some s0), aI s1, aI (1 : Int32)] C I J R (fun o C2 I3 J4 R5 =>
      (o = .inl none ∧
      (C2 x0).1 = 1 ∧
      ∃ q8 : Nat, R5 x0 2 = some q8 ∧
      (25 ≤ (C2 q8).1 ∧ (C2 q8).1 < 30) ∧
      vp_in x1 (C2 q8).2 ∧
      gK Γ (.inl (some (aR (R5 q8 x1.toNatClampNeg)))) C2 I3 J4 R5) ∨
      (∃ q11 : Nat, o = .inr q11 ∧
      ((C2 q11).1 = 2 ∧
      gK Γ (.inr q11) C2 I3 J4 R5)))) :
    AW Γ 0 0 C I J R 18 [(0, aR (some x0)), (1, aI x1)] [aI s1, aR (some s0)] := by
  have G0 := G.1
  refine aw_iconst (v := (1 : Int32)) G0 dX0_thing_18 (by decide) ?_
  obtain ⟨k1, h⟩ := h
  refine aw_callV (k1 := 0) (n1 := 0) (k2 := 0) (n2 := 0) (st := []) G0 S_X0_want gi_X0_87 (Or.inl (by rw [k1]; decide)) (by rw [k1]; rfl) md_X0_want (Nat.le_of_ble_eq_true rfl) (by decide) (by rw [G.2.1]; decide) (by rw [G.2.1]; decide) [aI s1, aI (1 : Int32)] rfl rfl dX0_thing_19 h (fun o C2 I3 J4 R5 h => ?_)
  rcases h with ⟨rfl, h⟩ | ⟨q11, rfl, h⟩
  · show AW Γ 0 0 C2 I3 J4 R5 (19 + 3) [(0, aR (some x0)), (1, aI x1)] []
    refine aw_aload_n G0 0 rfl dX0_thing_22 ?_
    obtain ⟨k7, h⟩ := h
    refine aw_getR (f := 2) G0 (by rw [k7]; exact fb_X0_49) dX0_thing_23 ?_
    refine aw_iload_n G0 1 rfl dX0_thing_26 ?_
    obtain ⟨q8, e8, h⟩ := h
    refine aw_dr1 e8 ?_
    obtain ⟨k9, h⟩ := h
    obtain ⟨k10, h⟩ := h
    refine aw_aald G0 k9 k10 dX0_thing_27 ?_
    exact aw_areturn G0 ⟨_, rfl, rfl⟩ (by rw [G.2.2]; decide) (by rw [G.2.1]; decide) dX0_thing_28 h
  · show AX Γ 0 0 C2 I3 J4 R5 19 [(0, aR (some x0)), (1, aI x1)] q11
    obtain ⟨k12, h⟩ := h
    exact ax_out G0 rfl (Or.inl k12) (by rw [G.2.2]; decide) (by rw [G.2.1]; decide) h
theorem bX0_wantFree_0 (G : Gb Γ yX0_wantFree cX0_wantFree 4 (none) [] rmX0_wantFree bdX0_wantFree)
    {Q15 : Nat → Nat → Nat → Int32 → MC → MI → MJ → MR → Prop} (w15 : ∀ (x0 : Nat) (x1 : Nat) (s0 : Nat) (s1 : Int32) (C : MC) (I : MI) (J : MJ) (R : MR), Q15 x0 x1 s0 s1 C I J R → AW Γ 0 0 C I J R 15 [(0, aR (some x0)), (1, aR (some x1))] [aI s1, aR (some s0)]) {x0 : Nat} {x1 : Nat}
    (h : (C x0).1 = 1 ∧
      (((20 : Int32) ≤ (I x0 3) →
      Q15 x0 x1 x0 (0 : Int32) C I J R) ∧
      (¬ (20 : Int32) ≤ (I x0 3) →
      Q15 x0 x1 x0 (1 : Int32) C I J R))) :
    AW Γ 0 0 C I J R 0 [(0, aR (some x0)), (1, aR (some x1))] [] := by
  have G0 := G.1
  refine aw_aload_n G0 0 rfl dX0_wantFree_0 ?_
  refine aw_aload_n G0 0 rfl dX0_wantFree_1 ?_
  obtain ⟨k1, h⟩ := h
  refine aw_getI (f := 3) G0 (by rw [k1]; exact fb_X0_133) dX0_wantFree_2 ?_
  refine aw_bipush (v := (20 : Int32)) G0 dX0_wantFree_5 (by decide) ?_
  refine aw_icmp_ge G0 14 dX0_wantFree_7 (by decide) (fun c2 => ?_) (fun c2 => ?_)
  · have h := h.1 c2
    refine aw_iconst (v := (0 : Int32)) G0 dX0_wantFree_14 (by decide) ?_
    exact (w15 x0 x1 x0 (0 : Int32) C I J R h)
  · have h := h.2 c2
    refine aw_iconst (v := (1 : Int32)) G0 dX0_wantFree_10 (by decide) ?_
    refine aw_goto G0 15 dX0_wantFree_11 (by decide) ?_
    exact (w15 x0 x1 x0 (1 : Int32) C I J R h)
theorem bX0_wantFree_15 (G : Gb Γ yX0_wantFree cX0_wantFree 4 (none) [] rmX0_wantFree bdX0_wantFree) {F_X0_want : SPF} (S_X0_want : SpX0_want (gL Γ) F_X0_want)
    {Q21 : Nat → Nat → Int32 → MC → MI → MJ → MR → Prop} (w21 : ∀ (x0 : Nat) (x1 : Nat) (x2 : Int32) (C : MC) (I : MI) (J : MJ) (R : MR), Q21 x0 x1 x2 C I J R → AW Γ 0 0 C I J R 21 [(0, aR (some x0)), (1, aR (some x1)), (2, aI x2)] []) {x0 : Nat} {x1 : Nat} {s0 : Nat} {s1 : Int32}
    (h : (C s0).1 = 1 ∧
      F_X0_want [aR (some s0), aI s1, aI (4 : Int32)] C I J R (fun o C2 I3 J4 R5 =>
      (o = .inl none ∧
      Q21 x0 x1 (0 : Int32) C2 I3 J4 R5) ∨
      (∃ q7 : Nat, o = .inr q7 ∧
      ((C2 q7).1 = 2 ∧
      gK Γ (.inr q7) C2 I3 J4 R5)))) :
    AW Γ 0 0 C I J R 15 [(0, aR (some x0)), (1, aR (some x1))] [aI s1, aR (some s0)] := by
  have G0 := G.1
  refine aw_iconst (v := (4 : Int32)) G0 dX0_wantFree_15 (by decide) ?_
  obtain ⟨k1, h⟩ := h
  refine aw_callV (k1 := 0) (n1 := 0) (k2 := 0) (n2 := 0) (st := []) G0 S_X0_want gi_X0_87 (Or.inl (by rw [k1]; decide)) (by rw [k1]; rfl) md_X0_want (Nat.le_of_ble_eq_true rfl) (by decide) (by rw [G.2.1]; decide) (by rw [G.2.1]; decide) [aI s1, aI (4 : Int32)] rfl rfl dX0_wantFree_16 h (fun o C2 I3 J4 R5 h => ?_)
  rcases h with ⟨rfl, h⟩ | ⟨q7, rfl, h⟩
  · show AW Γ 0 0 C2 I3 J4 R5 (16 + 3) [(0, aR (some x0)), (1, aR (some x1))] []
    refine aw_iconst (v := (0 : Int32)) G0 dX0_wantFree_19 (by decide) ?_
    refine aw_istore_n (lv' := [(2, aI (0 : Int32)), (0, aR (some x0)), (1, aR (some x1))]) G0 (by decide) rfl dX0_wantFree_20 ?_
    exact (aw_lv [1, 2, 0] rfl (w21 x0 x1 (0 : Int32) C2 I3 J4 R5 h))
  · show AX Γ 0 0 C2 I3 J4 R5 16 [(0, aR (some x0)), (1, aR (some x1))] q7
    obtain ⟨k8, h⟩ := h
    exact ax_out G0 rfl (Or.inl k8) (by rw [G.2.2]; decide) (by rw [G.2.1]; decide) h
theorem bX0_wantFree_21 (G : Gb Γ yX0_wantFree cX0_wantFree 4 (none) [] rmX0_wantFree bdX0_wantFree)
    {Q42 : Nat → Nat → Int32 → Nat → Int32 → MC → MI → MJ → MR → Prop} (w42 : ∀ (x0 : Nat) (x1 : Nat) (x2 : Int32) (s0 : Nat) (s1 : Int32) (C : MC) (I : MI) (J : MJ) (R : MR), Q42 x0 x1 x2 s0 s1 C I J R → AW Γ 0 0 C I J R 42 [(0, aR (some x0)), (1, aR (some x1)), (2, aI x2)] [aI s1, aR (some s0)]) {x0 : Nat} {x1 : Nat} {x2 : Int32}
    (h : (20 ≤ (C x1).1 ∧ (C x1).1 ≤ 30) ∧
      (((nI (C x1).2) ≤ x2 →
      gK Γ (.inl none) C I J R) ∧
      (¬ (nI (C x1).2) ≤ x2 →
      (25 ≤ (C x1).1 ∧ (C x1).1 < 30) ∧
      vp_in x2 (C x1).2 ∧
      ∃ q5 : Nat, R x1 x2.toNatClampNeg = some q5 ∧
      kTh (C q5).1 ∧
      ((¬ R q5 3 = none →
      Q42 x0 x1 x2 x0 (0 : Int32) C I J R) ∧
      (R q5 3 = none →
      Q42 x0 x1 x2 x0 (1 : Int32) C I J R))))) :
    AW Γ 0 0 C I J R 21 [(0, aR (some x0)), (1, aR (some x1)), (2, aI x2)] [] := by
  have G0 := G.1
  refine aw_iload_n G0 2 rfl dX0_wantFree_21 ?_
  refine aw_aload_n G0 1 rfl dX0_wantFree_22 ?_
  obtain ⟨k1, h⟩ := h
  refine aw_alen (v := nI (C x1).2) G0 k1 rfl dX0_wantFree_23 ?_
  refine aw_icmp_ge G0 84 dX0_wantFree_24 (by decide) (fun c2 => ?_) (fun c2 => ?_)
  · have h := h.1 c2
    exact aw_return G0 (by rw [G.2.2]; decide) (by rw [G.2.1]; decide) dX0_wantFree_84 h
  · have h := h.2 c2
    refine aw_aload_n G0 0 rfl dX0_wantFree_27 ?_
    refine aw_aload_n G0 1 rfl dX0_wantFree_28 ?_
    refine aw_iload_n G0 2 rfl dX0_wantFree_29 ?_
    obtain ⟨k3, h⟩ := h
    obtain ⟨k4, h⟩ := h
    refine aw_aald G0 k3 k4 dX0_wantFree_30 ?_
    obtain ⟨q5, e5, h⟩ := h
    refine aw_dr0 e5 ?_
    obtain ⟨k6, h⟩ := h
    refine aw_getR (f := 3) G0 (fb_X0_167 _ k6) dX0_wantFree_31 ?_
    refine aw_ifnonnull G0 41 dX0_wantFree_34 (by decide) (fun c7 => ?_) (fun c7 => ?_)
    · have h := h.1 c7
      refine aw_iconst (v := (0 : Int32)) G0 dX0_wantFree_41 (by decide) ?_
      exact (w42 x0 x1 x2 x0 (0 : Int32) C I J R h)
    · have h := h.2 c7
      refine aw_iconst (v := (1 : Int32)) G0 dX0_wantFree_37 (by decide) ?_
      refine aw_goto G0 42 dX0_wantFree_38 (by decide) ?_
      exact (w42 x0 x1 x2 x0 (1 : Int32) C I J R h)
theorem bX0_wantFree_42 (G : Gb Γ yX0_wantFree cX0_wantFree 4 (none) [] rmX0_wantFree bdX0_wantFree) {F_X0_want : SPF} (S_X0_want : SpX0_want (gL Γ) F_X0_want)
    {Q48 : Nat → Nat → Int32 → Int32 → MC → MI → MJ → MR → Prop} (w48 : ∀ (x0 : Nat) (x1 : Nat) (x2 : Int32) (x3 : Int32) (C : MC) (I : MI) (J : MJ) (R : MR), Q48 x0 x1 x2 x3 C I J R → AW Γ 0 0 C I J R 48 [(0, aR (some x0)), (1, aR (some x1)), (2, aI x2), (3, aI x3)] []) {x0 : Nat} {x1 : Nat} {x2 : Int32} {s0 : Nat} {s1 : Int32}
    (h : (C s0).1 = 1 ∧
      F_X0_want [aR (some s0), aI s1, aI (5 : Int32)] C I J R (fun o C2 I3 J4 R5 =>
      (o = .inl none ∧
      Q48 x0 x1 x2 (0 : Int32) C2 I3 J4 R5) ∨
      (∃ q7 : Nat, o = .inr q7 ∧
      ((C2 q7).1 = 2 ∧
      gK Γ (.inr q7) C2 I3 J4 R5)))) :
    AW Γ 0 0 C I J R 42 [(0, aR (some x0)), (1, aR (some x1)), (2, aI x2)] [aI s1, aR (some s0)] := by
  have G0 := G.1
  refine aw_iconst (v := (5 : Int32)) G0 dX0_wantFree_42 (by decide) ?_
  obtain ⟨k1, h⟩ := h
  refine aw_callV (k1 := 0) (n1 := 0) (k2 := 0) (n2 := 0) (st := []) G0 S_X0_want gi_X0_87 (Or.inl (by rw [k1]; decide)) (by rw [k1]; rfl) md_X0_want (Nat.le_of_ble_eq_true rfl) (by decide) (by rw [G.2.1]; decide) (by rw [G.2.1]; decide) [aI s1, aI (5 : Int32)] rfl rfl dX0_wantFree_43 h (fun o C2 I3 J4 R5 h => ?_)
  rcases h with ⟨rfl, h⟩ | ⟨q7, rfl, h⟩
  · show AW Γ 0 0 C2 I3 J4 R5 (43 + 3) [(0, aR (some x0)), (1, aR (some x1)), (2, aI x2)] []
    refine aw_iconst (v := (0 : Int32)) G0 dX0_wantFree_46 (by decide) ?_
    refine aw_istore_n (lv' := [(3, aI (0 : Int32)), (0, aR (some x0)), (1, aR (some x1)), (2, aI x2)]) G0 (by decide) rfl dX0_wantFree_47 ?_
    exact (aw_lv [1, 2, 3, 0] rfl (w48 x0 x1 x2 (0 : Int32) C2 I3 J4 R5 h))
  · show AX Γ 0 0 C2 I3 J4 R5 43 [(0, aR (some x0)), (1, aR (some x1)), (2, aI x2)] q7
    obtain ⟨k8, h⟩ := h
    exact ax_out G0 rfl (Or.inl k8) (by rw [G.2.2]; decide) (by rw [G.2.1]; decide) h
theorem bX0_wantFree_48 (G : Gb Γ yX0_wantFree cX0_wantFree 4 (none) [] rmX0_wantFree bdX0_wantFree)
    {Q21 : Nat → Nat → Int32 → MC → MI → MJ → MR → Prop} (w21 : ∀ (x0 : Nat) (x1 : Nat) (x2 : Int32) (C : MC) (I : MI) (J : MJ) (R : MR), Q21 x0 x1 x2 C I J R → AW Γ 0 0 C I J R 21 [(0, aR (some x0)), (1, aR (some x1)), (2, aI x2)] [])
    {Q68 : Nat → Nat → Int32 → Int32 → Nat → Int32 → MC → MI → MJ → MR → Prop} (w68 : ∀ (x0 : Nat) (x1 : Nat) (x2 : Int32) (x3 : Int32) (s0 : Nat) (s1 : Int32) (C : MC) (I : MI) (J : MJ) (R : MR), Q68 x0 x1 x2 x3 s0 s1 C I J R → AW Γ 0 0 C I J R 68 [(0, aR (some x0)), (1, aR (some x1)), (2, aI x2), (3, aI x3)] [aI s1, aR (some s0)]) {x0 : Nat} {x1 : Nat} {x2 : Int32} {x3 : Int32}
    (h : ((x2 ≤ x3 →
      Q21 x0 x1 (x2 + 1) C I J R) ∧
      (¬ x2 ≤ x3 →
      (25 ≤ (C x1).1 ∧ (C x1).1 < 30) ∧
      vp_in x3 (C x1).2 ∧
      vp_in x2 (C x1).2 ∧
      ((R x1 x3.toNatClampNeg = R x1 x2.toNatClampNeg →
      Q68 x0 x1 x2 x3 x0 (0 : Int32) C I J R) ∧
      (¬ R x1 x3.toNatClampNeg = R x1 x2.toNatClampNeg →
      Q68 x0 x1 x2 x3 x0 (1 : Int32) C I J R))))) :
    AW Γ 0 0 C I J R 48 [(0, aR (some x0)), (1, aR (some x1)), (2, aI x2), (3, aI x3)] [] := by
  have G0 := G.1
  refine aw_iload_n G0 3 rfl dX0_wantFree_48 ?_
  refine aw_iload_n G0 2 rfl dX0_wantFree_49 ?_
  refine aw_icmp_ge G0 78 dX0_wantFree_50 (by decide) (fun c1 => ?_) (fun c1 => ?_)
  · have h := h.1 c1
    refine aw_iinc (v := x2 + 1) (lv' := [(2, aI (x2 + 1)), (0, aR (some x0)), (1, aR (some x1)), (3, aI x3)]) G0 2 rfl rfl (by decide) rfl dX0_wantFree_78 ?_
    refine aw_goto G0 21 dX0_wantFree_81 (by decide) ?_
    exact (aw_lv [1, 2, 0] rfl (w21 x0 x1 (x2 + 1) C I J R h))
  · have h := h.2 c1
    refine aw_aload_n G0 0 rfl dX0_wantFree_53 ?_
    refine aw_aload_n G0 1 rfl dX0_wantFree_54 ?_
    refine aw_iload_n G0 3 rfl dX0_wantFree_55 ?_
    obtain ⟨k2, h⟩ := h
    obtain ⟨k3, h⟩ := h
    refine aw_aald G0 k2 k3 dX0_wantFree_56 ?_
    refine aw_aload_n G0 1 rfl dX0_wantFree_57 ?_
    refine aw_iload_n G0 2 rfl dX0_wantFree_58 ?_
    obtain ⟨k4, h⟩ := h
    refine aw_aald G0 k2 k4 dX0_wantFree_59 ?_
    refine aw_acmp_eq G0 67 dX0_wantFree_60 (by decide) (fun c5 => ?_) (fun c5 => ?_)
    · have h := h.1 c5
      refine aw_iconst (v := (0 : Int32)) G0 dX0_wantFree_67 (by decide) ?_
      exact (w68 x0 x1 x2 x3 x0 (0 : Int32) C I J R h)
    · have h := h.2 c5
      refine aw_iconst (v := (1 : Int32)) G0 dX0_wantFree_63 (by decide) ?_
      refine aw_goto G0 68 dX0_wantFree_64 (by decide) ?_
      exact (w68 x0 x1 x2 x3 x0 (1 : Int32) C I J R h)
theorem bX0_wantFree_68 (G : Gb Γ yX0_wantFree cX0_wantFree 4 (none) [] rmX0_wantFree bdX0_wantFree) {F_X0_want : SPF} (S_X0_want : SpX0_want (gL Γ) F_X0_want)
    {Q48 : Nat → Nat → Int32 → Int32 → MC → MI → MJ → MR → Prop} (w48 : ∀ (x0 : Nat) (x1 : Nat) (x2 : Int32) (x3 : Int32) (C : MC) (I : MI) (J : MJ) (R : MR), Q48 x0 x1 x2 x3 C I J R → AW Γ 0 0 C I J R 48 [(0, aR (some x0)), (1, aR (some x1)), (2, aI x2), (3, aI x3)] []) {x0 : Nat} {x1 : Nat} {x2 : Int32} {x3 : Int32} {s0 : Nat} {s1 : Int32}
    (h : (C s0).1 = 1 ∧
      F_X0_want [aR (some s0), aI s1, aI (5 : Int32)] C I J R (fun o C2 I3 J4 R5 =>
      (o = .inl none ∧
      Q48 x0 x1 x2 (x3 + 1) C2 I3 J4 R5) ∨
      (∃ q7 : Nat, o = .inr q7 ∧
      ((C2 q7).1 = 2 ∧
      gK Γ (.inr q7) C2 I3 J4 R5)))) :
    AW Γ 0 0 C I J R 68 [(0, aR (some x0)), (1, aR (some x1)), (2, aI x2), (3, aI x3)] [aI s1, aR (some s0)] := by
  have G0 := G.1
  refine aw_iconst (v := (5 : Int32)) G0 dX0_wantFree_68 (by decide) ?_
  obtain ⟨k1, h⟩ := h
  refine aw_callV (k1 := 0) (n1 := 0) (k2 := 0) (n2 := 0) (st := []) G0 S_X0_want gi_X0_87 (Or.inl (by rw [k1]; decide)) (by rw [k1]; rfl) md_X0_want (Nat.le_of_ble_eq_true rfl) (by decide) (by rw [G.2.1]; decide) (by rw [G.2.1]; decide) [aI s1, aI (5 : Int32)] rfl rfl dX0_wantFree_69 h (fun o C2 I3 J4 R5 h => ?_)
  rcases h with ⟨rfl, h⟩ | ⟨q7, rfl, h⟩
  · show AW Γ 0 0 C2 I3 J4 R5 (69 + 3) [(0, aR (some x0)), (1, aR (some x1)), (2, aI x2), (3, aI x3)] []
    refine aw_iinc (v := x3 + 1) (lv' := [(3, aI (x3 + 1)), (0, aR (some x0)), (1, aR (some x1)), (2, aI x2)]) G0 3 rfl rfl (by decide) rfl dX0_wantFree_72 ?_
    refine aw_goto G0 48 dX0_wantFree_75 (by decide) ?_
    exact (aw_lv [1, 2, 3, 0] rfl (w48 x0 x1 x2 (x3 + 1) C2 I3 J4 R5 h))
  · show AX Γ 0 0 C2 I3 J4 R5 69 [(0, aR (some x0)), (1, aR (some x1)), (2, aI x2), (3, aI x3)] q7
    obtain ⟨k8, h⟩ := h
    exact ax_out G0 rfl (Or.inl k8) (by rw [G.2.2]; decide) (by rw [G.2.1]; decide) h
theorem bX0_fan_0 (G : Gb Γ yX0_fan cX0_fan 7 (some .int) [(5, 81, 82, 53)] rmX0_fan bdX0_fan) {F_X0_free : SPF} (S_X0_free : SpX0_free (gL Γ) F_X0_free)
    {Q56 : Nat → Int32 → Nat → Nat → MC → MI → MJ → MR → Prop} (w56 : ∀ (x0 : Nat) (x1 : Int32) (x6 : Nat) (s0 : Nat) (C : MC) (I : MI) (J : MJ) (R : MR), Q56 x0 x1 x6 s0 C I J R → AW Γ 2 8 C I J R 56 [(0, aR (some x0)), (1, aI x1), (6, aR (some x6))] [aR (some s0)])
    {Q57 : Nat → Int32 → Nat → Nat → Int32 → MC → MI → MJ → MR → Prop} (w57 : ∀ (x0 : Nat) (x1 : Int32) (x6 : Nat) (s0 : Nat) (s1 : Int32) (C : MC) (I : MI) (J : MJ) (R : MR), Q57 x0 x1 x6 s0 s1 C I J R → AW Γ 2 8 C I J R 57 [(0, aR (some x0)), (1, aI x1), (6, aR (some x6))] [aI s1, aR (some s0)])
    {Q82 : Nat → Nat → MC → MI → MJ → MR → Prop} (w82 : ∀ (x0 : Nat) (s0 : Nat) (C : MC) (I : MI) (J : MJ) (R : MR), Q82 x0 s0 C I J R → AW Γ 2 8 C I J R 82 [(0, aR (some x0))] [aR (some s0)]) {x0 : Nat} {x1 : Int32} {x2 : Int32} {x3 : Int32} {x4 : Int32} {x5 : Int32}
    (h : (C x0).1 = 1 ∧
      ∀ I2 : MI, I2 = va_up I x0 (va_up (I x0) 5 (0 : Int32)) →
      ∃ q3 : Nat, (C q3).1 = 0 ∧
      ∀ (C5 : MC) (I6 : MI) (J7 : MJ) (R8 : MR), C5 = va_up C q3 (20, 4) → I6 = va_up I2 q3 (fun _ => 0) → J7 = va_up J q3 (fun _ => 0) → R8 = va_up R q3 (fun _ => none) → 
      (C5 q3).1 = 20 ∧
      vp_in (0 : Int32) (C5 q3).2 ∧
      ∀ I11 : MI, I11 = va_up I6 q3 (va_up (I6 q3) (0 : Int32).toNatClampNeg x2) →
      vp_in (1 : Int32) (C5 q3).2 ∧
      ∀ I13 : MI, I13 = va_up I11 q3 (va_up (I11 q3) (1 : Int32).toNatClampNeg x3) →
      vp_in (2 : Int32) (C5 q3).2 ∧
      ∀ I15 : MI, I15 = va_up I13 q3 (va_up (I13 q3) (2 : Int32).toNatClampNeg x4) →
      vp_in (3 : Int32) (C5 q3).2 ∧
      ∀ I17 : MI, I17 = va_up I15 q3 (va_up (I15 q3) (3 : Int32).toNatClampNeg x5) →
      (C5 x0).1 = 1 ∧
      F_X0_free [aR (some x0), aR (some q3)] C5 I17 J7 R8 (fun o C19 I20 J21 R22 =>
      (∃ r23 : Nat, o = .inl (some (aR (some r23))) ∧
      (20 ≤ (C19 r23).1 ∧ (C19 r23).1 ≤ 30) ∧
      (((nI (C19 r23).2) < (1 : Int32) →
      Q56 x0 x1 r23 x0 C19 I20 J21 R22) ∧
      (¬ (nI (C19 r23).2) < (1 : Int32) →
      ((x1 < (1 : Int32) →
      Q56 x0 x1 r23 x0 C19 I20 J21 R22) ∧
      (¬ x1 < (1 : Int32) →
      (((nI (C19 r23).2) < x1 →
      Q56 x0 x1 r23 x0 C19 I20 J21 R22) ∧
      (¬ (nI (C19 r23).2) < x1 →
      Q57 x0 x1 r23 x0 (1 : Int32) C19 I20 J21 R22))))))) ∨
      (∃ q28 : Nat, o = .inr q28 ∧
      ((C19 q28).1 = 2 ∧
      Q82 x0 q28 C19 I20 J21 R22)))) :
    AW Γ 0 0 C I J R 0 [(0, aR (some x0)), (1, aI x1), (2, aI x2), (3, aI x3), (4, aI x4), (5, aI x5)] [] := by
  have G0 := G.1
  refine aw_aload_n G0 0 rfl dX0_fan_0 ?_
  refine aw_iconst (v := (0 : Int32)) G0 dX0_fan_1 (by decide) ?_
  obtain ⟨k1, h⟩ := h
  refine aw_putI (f := 5) G0 (by rw [k1]; exact fp_X0_63 _) dX0_fan_2 ?_
  generalize gI2 : va_up I x0 (va_up (I x0) 5 (0 : Int32)) = I2
  have h := h I2 gI2.symm
  refine aw_aload_n G0 0 rfl dX0_fan_5 ?_
  refine aw_iconst (v := (4 : Int32)) G0 dX0_fan_6 (by decide) ?_
  obtain ⟨q3, z4, h⟩ := h
  refine aw_newaI (q := q3) (k' := 1) (n' := 4) (N := 4) G0 (by decide) (by decide) (by decide) (by decide) (by decide) (by rw [G.2.1]; decide) (by rw [G.2.1]; decide) z4 dX0_fan_7 ?_
  generalize gC5 : va_up C q3 (20, 4) = C5
  generalize gI6 : va_up I2 q3 (fun _ => 0) = I6
  generalize gJ7 : va_up J q3 (fun _ => 0) = J7
  generalize gR8 : va_up R q3 (fun _ => none) = R8
  have h := h C5 I6 J7 R8 gC5.symm gI6.symm gJ7.symm gR8.symm
  refine aw_dupR G0 dX0_fan_9 ?_
  refine aw_iconst (v := (0 : Int32)) G0 dX0_fan_10 (by decide) ?_
  refine aw_iload_n G0 2 rfl dX0_fan_11 ?_
  obtain ⟨k9, h⟩ := h
  obtain ⟨k10, h⟩ := h
  refine aw_iast G0 k9 k10 dX0_fan_12 ?_
  generalize gI11 : va_up I6 q3 (va_up (I6 q3) (0 : Int32).toNatClampNeg x2) = I11
  have h := h I11 gI11.symm
  refine aw_dupR G0 dX0_fan_13 ?_
  refine aw_iconst (v := (1 : Int32)) G0 dX0_fan_14 (by decide) ?_
  refine aw_iload_n G0 3 rfl dX0_fan_15 ?_
  obtain ⟨k12, h⟩ := h
  refine aw_iast G0 k9 k12 dX0_fan_16 ?_
  generalize gI13 : va_up I11 q3 (va_up (I11 q3) (1 : Int32).toNatClampNeg x3) = I13
  have h := h I13 gI13.symm
  refine aw_dupR G0 dX0_fan_17 ?_
  refine aw_iconst (v := (2 : Int32)) G0 dX0_fan_18 (by decide) ?_
  refine aw_iload G0 4 rfl dX0_fan_19 ?_
  obtain ⟨k14, h⟩ := h
  refine aw_iast G0 k9 k14 dX0_fan_21 ?_
  generalize gI15 : va_up I13 q3 (va_up (I13 q3) (2 : Int32).toNatClampNeg x4) = I15
  have h := h I15 gI15.symm
  refine aw_dupR G0 dX0_fan_22 ?_
  refine aw_iconst (v := (3 : Int32)) G0 dX0_fan_23 (by decide) ?_
  refine aw_iload G0 5 rfl dX0_fan_24 ?_
  obtain ⟨k16, h⟩ := h
  refine aw_iast G0 k9 k16 dX0_fan_26 ?_
  generalize gI17 : va_up I15 q3 (va_up (I15 q3) (3 : Int32).toNatClampNeg x5) = I17
  have h := h I17 gI17.symm
  obtain ⟨k18, h⟩ := h
  refine aw_callV (k1 := 2) (n1 := 8) (k2 := 2) (n2 := 8) (st := []) G0 S_X0_free gi_X0_171 (Or.inl (by rw [k18]; decide)) (by rw [k18]; rfl) md_X0_free (Nat.le_of_ble_eq_true rfl) (by decide) (by rw [G.2.1]; decide) (by rw [G.2.1]; decide) [aR (some q3)] rfl rfl dX0_fan_27 h (fun o C19 I20 J21 R22 h => ?_)
  rcases h with ⟨r23, rfl, h⟩ | ⟨q28, rfl, h⟩
  · show AW Γ 2 8 C19 I20 J21 R22 (27 + 3) [(0, aR (some x0)), (1, aI x1), (2, aI x2), (3, aI x3), (4, aI x4), (5, aI x5)] [aR (some r23)]
    refine aw_astore (lv' := [(6, aR (some r23)), (0, aR (some x0)), (1, aI x1), (2, aI x2), (3, aI x3), (4, aI x4), (5, aI x5)]) G0 (by decide) rfl dX0_fan_30 ?_
    refine aw_aload_n G0 1 rfl dX0_fan_32 ?_
    refine aw_aload G0 0 rfl dX0_fan_33 ?_
    obtain ⟨k24, h⟩ := h
    refine aw_alen (v := nI (C19 r23).2) G0 k24 rfl dX0_fan_35 ?_
    refine aw_iconst (v := (1 : Int32)) G0 dX0_fan_36 (by decide) ?_
    refine aw_icmp_lt G0 56 dX0_fan_37 (by decide) (fun c25 => ?_) (fun c25 => ?_)
    · have h := h.1 c25
      exact (aw_lv [1, 2, 0] rfl (w56 x0 x1 r23 x0 C19 I20 J21 R22 h))
    · have h := h.2 c25
      refine aw_iload_n G0 2 rfl dX0_fan_40 ?_
      refine aw_iconst (v := (1 : Int32)) G0 dX0_fan_41 (by decide) ?_
      refine aw_icmp_lt G0 56 dX0_fan_42 (by decide) (fun c26 => ?_) (fun c26 => ?_)
      · have h := h.1 c26
        exact (aw_lv [1, 2, 0] rfl (w56 x0 x1 r23 x0 C19 I20 J21 R22 h))
      · have h := h.2 c26
        refine aw_iload_n G0 2 rfl dX0_fan_45 ?_
        refine aw_aload G0 0 rfl dX0_fan_46 ?_
        refine aw_alen (v := nI (C19 r23).2) G0 k24 rfl dX0_fan_48 ?_
        refine aw_icmp_gt G0 56 dX0_fan_49 (by decide) (fun c27 => ?_) (fun c27 => ?_)
        · have h := h.1 c27
          exact (aw_lv [1, 2, 0] rfl (w56 x0 x1 r23 x0 C19 I20 J21 R22 h))
        · have h := h.2 c27
          refine aw_iconst (v := (1 : Int32)) G0 dX0_fan_52 (by decide) ?_
          refine aw_goto G0 57 dX0_fan_53 (by decide) ?_
          exact (aw_lv [1, 2, 0] rfl (w57 x0 x1 r23 x0 (1 : Int32) C19 I20 J21 R22 h))
  · show AX Γ 2 8 C19 I20 J21 R22 27 [(0, aR (some x0)), (1, aI x1), (2, aI x2), (3, aI x3), (4, aI x4), (5, aI x5)] q28
    obtain ⟨k29, h⟩ := h
    refine ax_catch G0 0 rfl (fun j hj _ _ _ _ _ => absurd hj (Nat.not_lt_zero j)) rfl (by decide) q84 (Or.inl k29) (by rw [k29]; exact q86) ?_
    exact (aw_lv [0] rfl (w82 x0 q28 C19 I20 J21 R22 h))
theorem bX0_fan_56 (G : Gb Γ yX0_fan cX0_fan 7 (some .int) [(5, 81, 82, 53)] rmX0_fan bdX0_fan)
    {Q57 : Nat → Int32 → Nat → Nat → Int32 → MC → MI → MJ → MR → Prop} (w57 : ∀ (x0 : Nat) (x1 : Int32) (x6 : Nat) (s0 : Nat) (s1 : Int32) (C : MC) (I : MI) (J : MJ) (R : MR), Q57 x0 x1 x6 s0 s1 C I J R → AW Γ 2 8 C I J R 57 [(0, aR (some x0)), (1, aI x1), (6, aR (some x6))] [aI s1, aR (some s0)]) {x0 : Nat} {x1 : Int32} {x6 : Nat} {s0 : Nat}
    (h : Q57 x0 x1 x6 s0 (0 : Int32) C I J R) :
    AW Γ 2 8 C I J R 56 [(0, aR (some x0)), (1, aI x1), (6, aR (some x6))] [aR (some s0)] := by
  have G0 := G.1
  refine aw_iconst (v := (0 : Int32)) G0 dX0_fan_56 (by decide) ?_
  exact (w57 x0 x1 x6 s0 (0 : Int32) C I J R h)
theorem bX0_fan_57 (G : Gb Γ yX0_fan cX0_fan 7 (some .int) [(5, 81, 82, 53)] rmX0_fan bdX0_fan) {F_X0_want : SPF} (S_X0_want : SpX0_want (gL Γ) F_X0_want) {F_X0_wantFree : SPF} (S_X0_wantFree : SpX0_wantFree (gL Γ) F_X0_wantFree) {F_X7_init : SPF} (S_X7_init : SpX7_init (gL Γ) F_X7_init) {F_X0_adds : SPF} (S_X0_adds : SpX0_adds (gL Γ) F_X0_adds)
    {Q82 : Nat → Nat → MC → MI → MJ → MR → Prop} (w82 : ∀ (x0 : Nat) (s0 : Nat) (C : MC) (I : MI) (J : MJ) (R : MR), Q82 x0 s0 C I J R → AW Γ 2 8 C I J R 82 [(0, aR (some x0))] [aR (some s0)]) {x0 : Nat} {x1 : Int32} {x6 : Nat} {s0 : Nat} {s1 : Int32}
    (h : (C s0).1 = 1 ∧
      F_X0_want [aR (some s0), aI s1, aI (1 : Int32)] C I J R (fun o C2 I3 J4 R5 =>
      (o = .inl none ∧
      (C2 x0).1 = 1 ∧
      F_X0_wantFree [aR (some x0), aR (some x6)] C2 I3 J4 R5 (fun o C8 I9 J10 R11 =>
      (o = .inl none ∧
      ∃ q13 : Nat, (C8 q13).1 = 0 ∧
      ∀ (C15 : MC) (I16 : MI) (J17 : MJ) (R18 : MR), C15 = va_up C8 q13 (7, 0) → I16 = va_up I9 q13 (fun _ => 0) → J17 = va_up J10 q13 (fun _ => 0) → R18 = va_up R11 q13 (fun _ => none) → 
      F_X7_init [aR (some q13), aI x1, aR (some x6)] C15 I16 J17 R18 (fun o C19 I20 J21 R22 =>
      o = .inl none ∧
      (C19 x0).1 = 1 ∧
      F_X0_adds [aR (some x0), aR (some q13)] C19 I20 J21 R22 (fun o C25 I26 J27 R28 =>
      ∃ r29 : Int32, o = .inl (some (aI r29)) ∧
      gK Γ (.inl (some (aI r29))) C25 I26 J27 R28))) ∨
      (∃ q30 : Nat, o = .inr q30 ∧
      ((C8 q30).1 = 2 ∧
      Q82 x0 q30 C8 I9 J10 R11)))) ∨
      (∃ q32 : Nat, o = .inr q32 ∧
      ((C2 q32).1 = 2 ∧
      Q82 x0 q32 C2 I3 J4 R5)))) :
    AW Γ 2 8 C I J R 57 [(0, aR (some x0)), (1, aI x1), (6, aR (some x6))] [aI s1, aR (some s0)] := by
  have G0 := G.1
  refine aw_iconst (v := (1 : Int32)) G0 dX0_fan_57 (by decide) ?_
  obtain ⟨k1, h⟩ := h
  refine aw_callV (k1 := 2) (n1 := 8) (k2 := 2) (n2 := 8) (st := []) G0 S_X0_want gi_X0_87 (Or.inl (by rw [k1]; decide)) (by rw [k1]; rfl) md_X0_want (Nat.le_of_ble_eq_true rfl) (by decide) (by rw [G.2.1]; decide) (by rw [G.2.1]; decide) [aI s1, aI (1 : Int32)] rfl rfl dX0_fan_58 h (fun o C2 I3 J4 R5 h => ?_)
  rcases h with ⟨rfl, h⟩ | ⟨q32, rfl, h⟩
  · show AW Γ 2 8 C2 I3 J4 R5 (58 + 3) [(0, aR (some x0)), (1, aI x1), (6, aR (some x6))] []
    refine aw_aload_n G0 0 rfl dX0_fan_61 ?_
    refine aw_aload G0 2 rfl dX0_fan_62 ?_
    obtain ⟨k7, h⟩ := h
    refine aw_callV (k1 := 2) (n1 := 8) (k2 := 2) (n2 := 8) (st := []) G0 S_X0_wantFree gi_X0_175 (Or.inl (by rw [k7]; decide)) (by rw [k7]; rfl) md_X0_wantFree (Nat.le_of_ble_eq_true rfl) (by decide) (by rw [G.2.1]; decide) (by rw [G.2.1]; decide) [aR (some x6)] rfl rfl dX0_fan_64 h (fun o C8 I9 J10 R11 h => ?_)
    rcases h with ⟨rfl, h⟩ | ⟨q30, rfl, h⟩
    · show AW Γ 2 8 C8 I9 J10 R11 (64 + 3) [(0, aR (some x0)), (1, aI x1), (6, aR (some x6))] []
      refine aw_aload_n G0 0 rfl dX0_fan_67 ?_
      obtain ⟨q13, z14, h⟩ := h
      refine aw_new (q := q13) (k' := 3) (n' := 20) G0 cl_6 (by decide) q486 q487 q66 nt_6 (by decide) (by decide) (by rw [G.2.1]; exact Nat.le_of_ble_eq_true rfl) (by rw [G.2.1]; exact Nat.le_of_ble_eq_true rfl) z14 dX0_fan_68 ?_
      generalize gC15 : va_up C8 q13 (7, 0) = C15
      generalize gI16 : va_up I9 q13 (fun _ => 0) = I16
      generalize gJ17 : va_up J10 q13 (fun _ => 0) = J17
      generalize gR18 : va_up R11 q13 (fun _ => none) = R18
      have h := h C15 I16 J17 R18 gC15.symm gI16.symm gJ17.symm gR18.symm
      refine aw_dupR G0 dX0_fan_71 ?_
      refine aw_iload_n G0 1 rfl dX0_fan_72 ?_
      refine aw_aload G0 2 rfl dX0_fan_73 ?_
      refine aw_callI (k1 := 19) (n1 := 1136) (k2 := 3) (n2 := 20) (st := [aR (some q13), aR (some x0)]) G0 S_X7_init gw_X7_init q66 q488 q489 rfl md_X7_init (Nat.le_of_ble_eq_true rfl) (by decide) (by rw [G.2.1]; decide) (by rw [G.2.1]; decide) [aI x1, aR (some x6)] rfl rfl dX0_fan_75 h (fun o C19 I20 J21 R22 h => ?_)
      obtain ⟨rfl, h⟩ := h
      show AW Γ 19 1136 C19 I20 J21 R22 (75 + 3) [(0, aR (some x0)), (1, aI x1), (6, aR (some x6))] [aR (some q13), aR (some x0)]
      obtain ⟨k24, h⟩ := h
      refine aw_callV (k1 := 19) (n1 := 1136) (k2 := 19) (n2 := 1136) (st := []) G0 S_X0_adds gi_X0_159 (Or.inl (by rw [k24]; decide)) (by rw [k24]; rfl) md_X0_adds (Nat.le_of_ble_eq_true rfl) (by decide) (by rw [G.2.1]; decide) (by rw [G.2.1]; decide) [aR (some q13)] rfl rfl dX0_fan_78 h (fun o C25 I26 J27 R28 h => ?_)
      obtain ⟨r29, rfl, h⟩ := h
      show AW Γ 19 1136 C25 I26 J27 R28 (78 + 3) [(0, aR (some x0)), (1, aI x1), (6, aR (some x6))] [aI r29]
      exact aw_ireturn G0 (Or.inl rfl) (by rw [G.2.2]; decide) (by rw [G.2.1]; decide) dX0_fan_81 h
    · show AX Γ 2 8 C8 I9 J10 R11 64 [(0, aR (some x0)), (1, aI x1), (6, aR (some x6))] q30
      obtain ⟨k31, h⟩ := h
      refine ax_catch G0 0 rfl (fun j hj _ _ _ _ _ => absurd hj (Nat.not_lt_zero j)) rfl (by decide) q84 (Or.inl k31) (by rw [k31]; exact q86) ?_
      exact (aw_lv [0] rfl (w82 x0 q30 C8 I9 J10 R11 h))
  · show AX Γ 2 8 C2 I3 J4 R5 58 [(0, aR (some x0)), (1, aI x1), (6, aR (some x6))] q32
    obtain ⟨k33, h⟩ := h
    refine ax_catch G0 0 rfl (fun j hj _ _ _ _ _ => absurd hj (Nat.not_lt_zero j)) rfl (by decide) q84 (Or.inl k33) (by rw [k33]; exact q86) ?_
    exact (aw_lv [0] rfl (w82 x0 q32 C2 I3 J4 R5 h))
theorem bX0_fan_82 (G : Gb Γ yX0_fan cX0_fan 7 (some .int) [(5, 81, 82, 53)] rmX0_fan bdX0_fan) {F_X0_none : SPF} (S_X0_none : SpX0_none (gL Γ) F_X0_none) {x0 : Nat} {s0 : Nat}
    (h : (C x0).1 = 1 ∧
      F_X0_none [aR (some x0), aR (some s0)] C I J R (fun o C2 I3 J4 R5 =>
      ∃ r6 : Int32, o = .inl (some (aI r6)) ∧
      gK Γ (.inl (some (aI r6))) C2 I3 J4 R5)) :
    AW Γ 2 8 C I J R 82 [(0, aR (some x0))] [aR (some s0)] := by
  have G0 := G.1
  refine aw_astore (lv' := [(6, aR (some s0)), (0, aR (some x0))]) G0 (by decide) rfl dX0_fan_82 ?_
  refine aw_aload_n G0 1 rfl dX0_fan_84 ?_
  refine aw_aload G0 0 rfl dX0_fan_85 ?_
  obtain ⟨k1, h⟩ := h
  refine aw_callV (k1 := 2) (n1 := 8) (k2 := 2) (n2 := 8) (st := []) G0 S_X0_none gi_X0_117 (Or.inl (by rw [k1]; decide)) (by rw [k1]; rfl) md_X0_none (Nat.le_of_ble_eq_true rfl) (by decide) (by rw [G.2.1]; decide) (by rw [G.2.1]; decide) [aR (some s0)] rfl rfl dX0_fan_87 h (fun o C2 I3 J4 R5 h => ?_)
  obtain ⟨r6, rfl, h⟩ := h
  show AW Γ 2 8 C2 I3 J4 R5 (87 + 3) [(6, aR (some s0)), (0, aR (some x0))] [aI r6]
  exact aw_ireturn G0 (Or.inl rfl) (by rw [G.2.2]; decide) (by rw [G.2.1]; decide) dX0_fan_90 h
theorem bX0_cache_0 (G : Gb Γ yX0_cache cX0_cache 7 (some .int) [(5, 88, 89, 53)] rmX0_cache bdX0_cache) {F_X0_thing : SPF} (S_X0_thing : SpX0_thing (gL Γ) F_X0_thing)
    {Q47 : Nat → Int32 → Int32 → Nat → Nat → Nat → MC → MI → MJ → MR → Prop} (w47 : ∀ (x0 : Nat) (x3 : Int32) (x4 : Int32) (x5 : Nat) (x6 : Nat) (s0 : Nat) (C : MC) (I : MI) (J : MJ) (R : MR), Q47 x0 x3 x4 x5 x6 s0 C I J R → AW Γ 0 0 C I J R 47 [(0, aR (some x0)), (3, aI x3), (4, aI x4), (5, aR (some x5)), (6, aR (some x6))] [aR (some s0)])
    {Q48 : Nat → Int32 → Int32 → Nat → Nat → Nat → Int32 → MC → MI → MJ → MR → Prop} (w48 : ∀ (x0 : Nat) (x3 : Int32) (x4 : Int32) (x5 : Nat) (x6 : Nat) (s0 : Nat) (s1 : Int32) (C : MC) (I : MI) (J : MJ) (R : MR), Q48 x0 x3 x4 x5 x6 s0 s1 C I J R → AW Γ 0 0 C I J R 48 [(0, aR (some x0)), (3, aI x3), (4, aI x4), (5, aR (some x5)), (6, aR (some x6))] [aI s1, aR (some s0)])
    {Q89 : Nat → Nat → MC → MI → MJ → MR → Prop} (w89 : ∀ (x0 : Nat) (s0 : Nat) (C : MC) (I : MI) (J : MJ) (R : MR), Q89 x0 s0 C I J R → AW Γ 1 2 C I J R 89 [(0, aR (some x0))] [aR (some s0)]) {x0 : Nat} {x1 : Int32} {x2 : Int32} {x3 : Int32} {x4 : Int32}
    (h : (C x0).1 = 1 ∧
      ∀ I2 : MI, I2 = va_up I x0 (va_up (I x0) 5 (0 : Int32)) →
      F_X0_thing [aR (some x0), aI x1] C I2 J R (fun o C3 I4 J5 R6 =>
      (∃ r7 : Nat, o = .inl (some (aR (some r7))) ∧
      (C3 x0).1 = 1 ∧
      F_X0_thing [aR (some x0), aI x2] C3 I4 J5 R6 (fun o C9 I10 J11 R12 =>
      (∃ r13 : Nat, o = .inl (some (aR (some r13))) ∧
      ((x4 < (1 : Int32) →
      Q47 x0 x3 x4 r7 r13 x0 C9 I10 J11 R12) ∧
      (¬ x4 < (1 : Int32) →
      (((100 : Int32) < x4 →
      Q47 x0 x3 x4 r7 r13 x0 C9 I10 J11 R12) ∧
      (¬ (100 : Int32) < x4 →
      ((x3 < 0 →
      Q47 x0 x3 x4 r7 r13 x0 C9 I10 J11 R12) ∧
      (¬ x3 < 0 →
      ((x4 < x3 →
      Q47 x0 x3 x4 r7 r13 x0 C9 I10 J11 R12) ∧
      (¬ x4 < x3 →
      Q48 x0 x3 x4 r7 r13 x0 (1 : Int32) C9 I10 J11 R12))))))))) ∨
      (∃ q18 : Nat, o = .inr q18 ∧
      ((C9 q18).1 = 2 ∧
      Q89 x0 q18 C9 I10 J11 R12)))) ∨
      (∃ q20 : Nat, o = .inr q20 ∧
      ((C3 q20).1 = 2 ∧
      Q89 x0 q20 C3 I4 J5 R6)))) :
    AW Γ 0 0 C I J R 0 [(0, aR (some x0)), (1, aI x1), (2, aI x2), (3, aI x3), (4, aI x4)] [] := by
  have G0 := G.1
  refine aw_aload_n G0 0 rfl dX0_cache_0 ?_
  refine aw_iconst (v := (0 : Int32)) G0 dX0_cache_1 (by decide) ?_
  obtain ⟨k1, h⟩ := h
  refine aw_putI (f := 5) G0 (by rw [k1]; exact fp_X0_63 _) dX0_cache_2 ?_
  generalize gI2 : va_up I x0 (va_up (I x0) 5 (0 : Int32)) = I2
  have h := h I2 gI2.symm
  refine aw_aload_n G0 0 rfl dX0_cache_5 ?_
  refine aw_iload_n G0 1 rfl dX0_cache_6 ?_
  refine aw_callV (k1 := 0) (n1 := 0) (k2 := 0) (n2 := 0) (st := []) G0 S_X0_thing gi_X0_163 (Or.inl (by rw [k1]; decide)) (by rw [k1]; rfl) md_X0_thing (Nat.le_of_ble_eq_true rfl) (by decide) (by rw [G.2.1]; decide) (by rw [G.2.1]; decide) [aI x1] rfl rfl dX0_cache_7 h (fun o C3 I4 J5 R6 h => ?_)
  rcases h with ⟨r7, rfl, h⟩ | ⟨q20, rfl, h⟩
  · show AW Γ 0 0 C3 I4 J5 R6 (7 + 3) [(0, aR (some x0)), (1, aI x1), (2, aI x2), (3, aI x3), (4, aI x4)] [aR (some r7)]
    refine aw_astore (lv' := [(5, aR (some r7)), (0, aR (some x0)), (1, aI x1), (2, aI x2), (3, aI x3), (4, aI x4)]) G0 (by decide) rfl dX0_cache_10 ?_
    refine aw_aload_n G0 1 rfl dX0_cache_12 ?_
    refine aw_iload_n G0 3 rfl dX0_cache_13 ?_
    obtain ⟨k8, h⟩ := h
    refine aw_callV (k1 := 0) (n1 := 0) (k2 := 0) (n2 := 0) (st := []) G0 S_X0_thing gi_X0_163 (Or.inl (by rw [k8]; decide)) (by rw [k8]; rfl) md_X0_thing (Nat.le_of_ble_eq_true rfl) (by decide) (by rw [G.2.1]; decide) (by rw [G.2.1]; decide) [aI x2] rfl rfl dX0_cache_14 h (fun o C9 I10 J11 R12 h => ?_)
    rcases h with ⟨r13, rfl, h⟩ | ⟨q18, rfl, h⟩
    · show AW Γ 0 0 C9 I10 J11 R12 (14 + 3) [(5, aR (some r7)), (0, aR (some x0)), (1, aI x1), (2, aI x2), (3, aI x3), (4, aI x4)] [aR (some r13)]
      refine aw_astore (lv' := [(6, aR (some r13)), (5, aR (some r7)), (0, aR (some x0)), (1, aI x1), (2, aI x2), (3, aI x3), (4, aI x4)]) G0 (by decide) rfl dX0_cache_17 ?_
      refine aw_aload_n G0 2 rfl dX0_cache_19 ?_
      refine aw_iload G0 6 rfl dX0_cache_20 ?_
      refine aw_iconst (v := (1 : Int32)) G0 dX0_cache_22 (by decide) ?_
      refine aw_icmp_lt G0 47 dX0_cache_23 (by decide) (fun c14 => ?_) (fun c14 => ?_)
      · have h := h.1 c14
        exact (aw_lv [2, 5, 6, 1, 0] rfl (w47 x0 x3 x4 r7 r13 x0 C9 I10 J11 R12 h))
      · have h := h.2 c14
        refine aw_iload G0 6 rfl dX0_cache_26 ?_
        refine aw_bipush (v := (100 : Int32)) G0 dX0_cache_28 (by decide) ?_
        refine aw_icmp_gt G0 47 dX0_cache_30 (by decide) (fun c15 => ?_) (fun c15 => ?_)
        · have h := h.1 c15
          exact (aw_lv [2, 5, 6, 1, 0] rfl (w47 x0 x3 x4 r7 r13 x0 C9 I10 J11 R12 h))
        · have h := h.2 c15
          refine aw_iload_n G0 5 rfl dX0_cache_33 ?_
          refine aw_if_lt G0 47 dX0_cache_34 (by decide) (fun c16 => ?_) (fun c16 => ?_)
          · have h := h.1 c16
            exact (aw_lv [2, 5, 6, 1, 0] rfl (w47 x0 x3 x4 r7 r13 x0 C9 I10 J11 R12 h))
          · have h := h.2 c16
            refine aw_iload_n G0 5 rfl dX0_cache_37 ?_
            refine aw_iload G0 6 rfl dX0_cache_38 ?_
            refine aw_icmp_gt G0 47 dX0_cache_40 (by decide) (fun c17 => ?_) (fun c17 => ?_)
            · have h := h.1 c17
              exact (aw_lv [2, 5, 6, 1, 0] rfl (w47 x0 x3 x4 r7 r13 x0 C9 I10 J11 R12 h))
            · have h := h.2 c17
              refine aw_iconst (v := (1 : Int32)) G0 dX0_cache_43 (by decide) ?_
              refine aw_goto G0 48 dX0_cache_44 (by decide) ?_
              exact (aw_lv [2, 5, 6, 1, 0] rfl (w48 x0 x3 x4 r7 r13 x0 (1 : Int32) C9 I10 J11 R12 h))
    · show AX Γ 0 0 C9 I10 J11 R12 14 [(5, aR (some r7)), (0, aR (some x0)), (1, aI x1), (2, aI x2), (3, aI x3), (4, aI x4)] q18
      obtain ⟨k19, h⟩ := h
      refine ax_catch G0 0 rfl (fun j hj _ _ _ _ _ => absurd hj (Nat.not_lt_zero j)) rfl (by decide) q84 (Or.inl k19) (by rw [k19]; exact q86) ?_
      exact (aw_wide (by decide) (by decide) (aw_lv [1] rfl (w89 x0 q18 C9 I10 J11 R12 h)))
  · show AX Γ 0 0 C3 I4 J5 R6 7 [(0, aR (some x0)), (1, aI x1), (2, aI x2), (3, aI x3), (4, aI x4)] q20
    obtain ⟨k21, h⟩ := h
    refine ax_catch G0 0 rfl (fun j hj _ _ _ _ _ => absurd hj (Nat.not_lt_zero j)) rfl (by decide) q84 (Or.inl k21) (by rw [k21]; exact q86) ?_
    exact (aw_wide (by decide) (by decide) (aw_lv [0] rfl (w89 x0 q20 C3 I4 J5 R6 h)))
theorem bX0_cache_47 (G : Gb Γ yX0_cache cX0_cache 7 (some .int) [(5, 88, 89, 53)] rmX0_cache bdX0_cache)
    {Q48 : Nat → Int32 → Int32 → Nat → Nat → Nat → Int32 → MC → MI → MJ → MR → Prop} (w48 : ∀ (x0 : Nat) (x3 : Int32) (x4 : Int32) (x5 : Nat) (x6 : Nat) (s0 : Nat) (s1 : Int32) (C : MC) (I : MI) (J : MJ) (R : MR), Q48 x0 x3 x4 x5 x6 s0 s1 C I J R → AW Γ 0 0 C I J R 48 [(0, aR (some x0)), (3, aI x3), (4, aI x4), (5, aR (some x5)), (6, aR (some x6))] [aI s1, aR (some s0)]) {x0 : Nat} {x3 : Int32} {x4 : Int32} {x5 : Nat} {x6 : Nat} {s0 : Nat}
    (h : Q48 x0 x3 x4 x5 x6 s0 (0 : Int32) C I J R) :
    AW Γ 0 0 C I J R 47 [(0, aR (some x0)), (3, aI x3), (4, aI x4), (5, aR (some x5)), (6, aR (some x6))] [aR (some s0)] := by
  have G0 := G.1
  refine aw_iconst (v := (0 : Int32)) G0 dX0_cache_47 (by decide) ?_
  exact (w48 x0 x3 x4 x5 x6 s0 (0 : Int32) C I J R h)
theorem bX0_cache_48 (G : Gb Γ yX0_cache cX0_cache 7 (some .int) [(5, 88, 89, 53)] rmX0_cache bdX0_cache) {F_X0_want : SPF} (S_X0_want : SpX0_want (gL Γ) F_X0_want) {F_X0_wantFree : SPF} (S_X0_wantFree : SpX0_wantFree (gL Γ) F_X0_wantFree) {F_X8_init : SPF} (S_X8_init : SpX8_init (gL Γ) F_X8_init) {F_X0_adds : SPF} (S_X0_adds : SpX0_adds (gL Γ) F_X0_adds)
    {Q89 : Nat → Nat → MC → MI → MJ → MR → Prop} (w89 : ∀ (x0 : Nat) (s0 : Nat) (C : MC) (I : MI) (J : MJ) (R : MR), Q89 x0 s0 C I J R → AW Γ 1 2 C I J R 89 [(0, aR (some x0))] [aR (some s0)]) {x0 : Nat} {x3 : Int32} {x4 : Int32} {x5 : Nat} {x6 : Nat} {s0 : Nat} {s1 : Int32}
    (h : (C s0).1 = 1 ∧
      F_X0_want [aR (some s0), aI s1, aI (1 : Int32)] C I J R (fun o C2 I3 J4 R5 =>
      (o = .inl none ∧
      ∃ q7 : Nat, (C2 q7).1 = 0 ∧
      ∀ (C9 : MC) (I10 : MI) (J11 : MJ) (R12 : MR), C9 = va_up C2 q7 (26, 2) → I10 = va_up I3 q7 (fun _ => 0) → J11 = va_up J4 q7 (fun _ => 0) → R12 = va_up R5 q7 (fun _ => none) → 
      (25 ≤ (C9 q7).1 ∧ (C9 q7).1 < 29) ∧
      kFit (C9 q7).1 (C9 x5).1 ∧
      vp_in (0 : Int32) (C9 q7).2 ∧
      ∀ R16 : MR, R16 = va_up R12 q7 (va_up (R12 q7) (0 : Int32).toNatClampNeg (some x5)) →
      kFit (C9 q7).1 (C9 x6).1 ∧
      vp_in (1 : Int32) (C9 q7).2 ∧
      ∀ R19 : MR, R19 = va_up R16 q7 (va_up (R16 q7) (1 : Int32).toNatClampNeg (some x6)) →
      (C9 x0).1 = 1 ∧
      F_X0_wantFree [aR (some x0), aR (some q7)] C9 I10 J11 R19 (fun o C21 I22 J23 R24 =>
      (o = .inl none ∧
      ∃ q26 : Nat, (C21 q26).1 = 0 ∧
      ∀ (C28 : MC) (I29 : MI) (J30 : MJ) (R31 : MR), C28 = va_up C21 q26 (8, 0) → I29 = va_up I22 q26 (fun _ => 0) → J30 = va_up J23 q26 (fun _ => 0) → R31 = va_up R24 q26 (fun _ => none) → 
      F_X8_init [aR (some q26), aR (some x5), aR (some x6), aI x3, aI x4] C28 I29 J30 R31 (fun o C32 I33 J34 R35 =>
      o = .inl none ∧
      (C32 x0).1 = 1 ∧
      F_X0_adds [aR (some x0), aR (some q26)] C32 I33 J34 R35 (fun o C38 I39 J40 R41 =>
      ∃ r42 : Int32, o = .inl (some (aI r42)) ∧
      gK Γ (.inl (some (aI r42))) C38 I39 J40 R41))) ∨
      (∃ q43 : Nat, o = .inr q43 ∧
      ((C21 q43).1 = 2 ∧
      Q89 x0 q43 C21 I22 J23 R24)))) ∨
      (∃ q45 : Nat, o = .inr q45 ∧
      ((C2 q45).1 = 2 ∧
      Q89 x0 q45 C2 I3 J4 R5)))) :
    AW Γ 0 0 C I J R 48 [(0, aR (some x0)), (3, aI x3), (4, aI x4), (5, aR (some x5)), (6, aR (some x6))] [aI s1, aR (some s0)] := by
  have G0 := G.1
  refine aw_iconst (v := (1 : Int32)) G0 dX0_cache_48 (by decide) ?_
  obtain ⟨k1, h⟩ := h
  refine aw_callV (k1 := 0) (n1 := 0) (k2 := 0) (n2 := 0) (st := []) G0 S_X0_want gi_X0_87 (Or.inl (by rw [k1]; decide)) (by rw [k1]; rfl) md_X0_want (Nat.le_of_ble_eq_true rfl) (by decide) (by rw [G.2.1]; decide) (by rw [G.2.1]; decide) [aI s1, aI (1 : Int32)] rfl rfl dX0_cache_49 h (fun o C2 I3 J4 R5 h => ?_)
  rcases h with ⟨rfl, h⟩ | ⟨q45, rfl, h⟩
  · show AW Γ 0 0 C2 I3 J4 R5 (49 + 3) [(0, aR (some x0)), (3, aI x3), (4, aI x4), (5, aR (some x5)), (6, aR (some x6))] []
    refine aw_aload_n G0 0 rfl dX0_cache_52 ?_
    refine aw_iconst (v := (2 : Int32)) G0 dX0_cache_53 (by decide) ?_
    obtain ⟨q7, z8, h⟩ := h
    refine aw_newqT (q := q7) (k' := 1) (n' := 2) (N := 2) G0 q82 (by decide) (by decide) (by decide) (by decide) (by decide) (by rw [G.2.1]; decide) (by rw [G.2.1]; decide) z8 dX0_cache_54 ?_
    generalize gC9 : va_up C2 q7 (26, 2) = C9
    generalize gI10 : va_up I3 q7 (fun _ => 0) = I10
    generalize gJ11 : va_up J4 q7 (fun _ => 0) = J11
    generalize gR12 : va_up R5 q7 (fun _ => none) = R12
    have h := h C9 I10 J11 R12 gC9.symm gI10.symm gJ11.symm gR12.symm
    refine aw_dupR G0 dX0_cache_57 ?_
    refine aw_iconst (v := (0 : Int32)) G0 dX0_cache_58 (by decide) ?_
    refine aw_aload G0 3 rfl dX0_cache_59 ?_
    obtain ⟨k13, h⟩ := h
    obtain ⟨k14, h⟩ := h
    obtain ⟨k15, h⟩ := h
    refine aw_aast G0 k13 (kFit_1 k14) (kFit_2 k14) k15 dX0_cache_61 ?_
    generalize gR16 : va_up R12 q7 (va_up (R12 q7) (0 : Int32).toNatClampNeg (some x5)) = R16
    have h := h R16 gR16.symm
    refine aw_dupR G0 dX0_cache_62 ?_
    refine aw_iconst (v := (1 : Int32)) G0 dX0_cache_63 (by decide) ?_
    refine aw_aload G0 4 rfl dX0_cache_64 ?_
    obtain ⟨k17, h⟩ := h
    obtain ⟨k18, h⟩ := h
    refine aw_aast G0 k13 (kFit_1 k17) (kFit_2 k17) k18 dX0_cache_66 ?_
    generalize gR19 : va_up R16 q7 (va_up (R16 q7) (1 : Int32).toNatClampNeg (some x6)) = R19
    have h := h R19 gR19.symm
    obtain ⟨k20, h⟩ := h
    refine aw_callV (k1 := 1) (n1 := 2) (k2 := 1) (n2 := 2) (st := []) G0 S_X0_wantFree gi_X0_175 (Or.inl (by rw [k20]; decide)) (by rw [k20]; rfl) md_X0_wantFree (Nat.le_of_ble_eq_true rfl) (by decide) (by rw [G.2.1]; decide) (by rw [G.2.1]; decide) [aR (some q7)] rfl rfl dX0_cache_67 h (fun o C21 I22 J23 R24 h => ?_)
    rcases h with ⟨rfl, h⟩ | ⟨q43, rfl, h⟩
    · show AW Γ 1 2 C21 I22 J23 R24 (67 + 3) [(0, aR (some x0)), (3, aI x3), (4, aI x4), (5, aR (some x5)), (6, aR (some x6))] []
      refine aw_aload_n G0 0 rfl dX0_cache_70 ?_
      obtain ⟨q26, z27, h⟩ := h
      refine aw_new (q := q26) (k' := 2) (n' := 10) G0 cl_7 (by decide) q518 q519 q67 nt_7 (by decide) (by decide) (by rw [G.2.1]; exact Nat.le_of_ble_eq_true rfl) (by rw [G.2.1]; exact Nat.le_of_ble_eq_true rfl) z27 dX0_cache_71 ?_
      generalize gC28 : va_up C21 q26 (8, 0) = C28
      generalize gI29 : va_up I22 q26 (fun _ => 0) = I29
      generalize gJ30 : va_up J23 q26 (fun _ => 0) = J30
      generalize gR31 : va_up R24 q26 (fun _ => none) = R31
      have h := h C28 I29 J30 R31 gC28.symm gI29.symm gJ30.symm gR31.symm
      refine aw_dupR G0 dX0_cache_74 ?_
      refine aw_aload G0 3 rfl dX0_cache_75 ?_
      refine aw_aload G0 4 rfl dX0_cache_77 ?_
      refine aw_iload_n G0 1 rfl dX0_cache_79 ?_
      refine aw_iload G0 2 rfl dX0_cache_80 ?_
      refine aw_callI (k1 := 9) (n1 := 502) (k2 := 2) (n2 := 10) (st := [aR (some q26), aR (some x0)]) G0 S_X8_init gw_X8_init q67 q520 q521 rfl md_X8_init (Nat.le_of_ble_eq_true rfl) (by decide) (by rw [G.2.1]; decide) (by rw [G.2.1]; decide) [aR (some x5), aR (some x6), aI x3, aI x4] rfl rfl dX0_cache_82 h (fun o C32 I33 J34 R35 h => ?_)
      obtain ⟨rfl, h⟩ := h
      show AW Γ 9 502 C32 I33 J34 R35 (82 + 3) [(0, aR (some x0)), (3, aI x3), (4, aI x4), (5, aR (some x5)), (6, aR (some x6))] [aR (some q26), aR (some x0)]
      obtain ⟨k37, h⟩ := h
      refine aw_callV (k1 := 9) (n1 := 502) (k2 := 9) (n2 := 502) (st := []) G0 S_X0_adds gi_X0_159 (Or.inl (by rw [k37]; decide)) (by rw [k37]; rfl) md_X0_adds (Nat.le_of_ble_eq_true rfl) (by decide) (by rw [G.2.1]; decide) (by rw [G.2.1]; decide) [aR (some q26)] rfl rfl dX0_cache_85 h (fun o C38 I39 J40 R41 h => ?_)
      obtain ⟨r42, rfl, h⟩ := h
      show AW Γ 9 502 C38 I39 J40 R41 (85 + 3) [(0, aR (some x0)), (3, aI x3), (4, aI x4), (5, aR (some x5)), (6, aR (some x6))] [aI r42]
      exact aw_ireturn G0 (Or.inl rfl) (by rw [G.2.2]; decide) (by rw [G.2.1]; decide) dX0_cache_88 h
    · show AX Γ 1 2 C21 I22 J23 R24 67 [(0, aR (some x0)), (3, aI x3), (4, aI x4), (5, aR (some x5)), (6, aR (some x6))] q43
      obtain ⟨k44, h⟩ := h
      refine ax_catch G0 0 rfl (fun j hj _ _ _ _ _ => absurd hj (Nat.not_lt_zero j)) rfl (by decide) q84 (Or.inl k44) (by rw [k44]; exact q86) ?_
      exact (aw_lv [0] rfl (w89 x0 q43 C21 I22 J23 R24 h))
  · show AX Γ 0 0 C2 I3 J4 R5 49 [(0, aR (some x0)), (3, aI x3), (4, aI x4), (5, aR (some x5)), (6, aR (some x6))] q45
    obtain ⟨k46, h⟩ := h
    refine ax_catch G0 0 rfl (fun j hj _ _ _ _ _ => absurd hj (Nat.not_lt_zero j)) rfl (by decide) q84 (Or.inl k46) (by rw [k46]; exact q86) ?_
    exact (aw_wide (by decide) (by decide) (aw_lv [0] rfl (w89 x0 q45 C2 I3 J4 R5 h)))
theorem bX0_cache_89 (G : Gb Γ yX0_cache cX0_cache 7 (some .int) [(5, 88, 89, 53)] rmX0_cache bdX0_cache) {F_X0_none : SPF} (S_X0_none : SpX0_none (gL Γ) F_X0_none) {x0 : Nat} {s0 : Nat}
    (h : (C x0).1 = 1 ∧
      F_X0_none [aR (some x0), aR (some s0)] C I J R (fun o C2 I3 J4 R5 =>
      ∃ r6 : Int32, o = .inl (some (aI r6)) ∧
      gK Γ (.inl (some (aI r6))) C2 I3 J4 R5)) :
    AW Γ 1 2 C I J R 89 [(0, aR (some x0))] [aR (some s0)] := by
  have G0 := G.1
  refine aw_astore (lv' := [(5, aR (some s0)), (0, aR (some x0))]) G0 (by decide) rfl dX0_cache_89 ?_
  refine aw_aload_n G0 1 rfl dX0_cache_91 ?_
  refine aw_aload G0 0 rfl dX0_cache_92 ?_
  obtain ⟨k1, h⟩ := h
  refine aw_callV (k1 := 1) (n1 := 2) (k2 := 1) (n2 := 2) (st := []) G0 S_X0_none gi_X0_117 (Or.inl (by rw [k1]; decide)) (by rw [k1]; rfl) md_X0_none (Nat.le_of_ble_eq_true rfl) (by decide) (by rw [G.2.1]; decide) (by rw [G.2.1]; decide) [aR (some s0)] rfl rfl dX0_cache_94 h (fun o C2 I3 J4 R5 h => ?_)
  obtain ⟨r6, rfl, h⟩ := h
  show AW Γ 1 2 C2 I3 J4 R5 (94 + 3) [(5, aR (some s0)), (0, aR (some x0))] [aI r6]
  exact aw_ireturn G0 (Or.inl rfl) (by rw [G.2.2]; decide) (by rw [G.2.1]; decide) dX0_cache_97 h
theorem bX0_retry_0 (G : Gb Γ yX0_retry cX0_retry 5 (some .int) [(5, 71, 72, 53)] rmX0_retry bdX0_retry) {F_X0_thing : SPF} (S_X0_thing : SpX0_thing (gL Γ) F_X0_thing)
    {Q38 : Nat → Int32 → Int32 → Nat → Nat → MC → MI → MJ → MR → Prop} (w38 : ∀ (x0 : Nat) (x2 : Int32) (x3 : Int32) (x4 : Nat) (s0 : Nat) (C : MC) (I : MI) (J : MJ) (R : MR), Q38 x0 x2 x3 x4 s0 C I J R → AW Γ 0 0 C I J R 38 [(0, aR (some x0)), (2, aI x2), (3, aI x3), (4, aR (some x4))] [aR (some s0)])
    {Q39 : Nat → Int32 → Int32 → Nat → Nat → Int32 → MC → MI → MJ → MR → Prop} (w39 : ∀ (x0 : Nat) (x2 : Int32) (x3 : Int32) (x4 : Nat) (s0 : Nat) (s1 : Int32) (C : MC) (I : MI) (J : MJ) (R : MR), Q39 x0 x2 x3 x4 s0 s1 C I J R → AW Γ 0 0 C I J R 39 [(0, aR (some x0)), (2, aI x2), (3, aI x3), (4, aR (some x4))] [aI s1, aR (some s0)])
    {Q72 : Nat → Nat → MC → MI → MJ → MR → Prop} (w72 : ∀ (x0 : Nat) (s0 : Nat) (C : MC) (I : MI) (J : MJ) (R : MR), Q72 x0 s0 C I J R → AW Γ 1 1 C I J R 72 [(0, aR (some x0))] [aR (some s0)]) {x0 : Nat} {x1 : Int32} {x2 : Int32} {x3 : Int32}
    (h : (C x0).1 = 1 ∧
      ∀ I2 : MI, I2 = va_up I x0 (va_up (I x0) 5 (0 : Int32)) →
      F_X0_thing [aR (some x0), aI x1] C I2 J R (fun o C3 I4 J5 R6 =>
      (∃ r7 : Nat, o = .inl (some (aR (some r7))) ∧
      ((x2 < (1 : Int32) →
      Q38 x0 x2 x3 r7 x0 C3 I4 J5 R6) ∧
      (¬ x2 < (1 : Int32) →
      (((60 : Int32) < x2 →
      Q38 x0 x2 x3 r7 x0 C3 I4 J5 R6) ∧
      (¬ (60 : Int32) < x2 →
      ((x3 < (1 : Int32) →
      Q38 x0 x2 x3 r7 x0 C3 I4 J5 R6) ∧
      (¬ x3 < (1 : Int32) →
      (((3 : Int32) < x3 →
      Q38 x0 x2 x3 r7 x0 C3 I4 J5 R6) ∧
      (¬ (3 : Int32) < x3 →
      Q39 x0 x2 x3 r7 x0 (1 : Int32) C3 I4 J5 R6))))))))) ∨
      (∃ q12 : Nat, o = .inr q12 ∧
      ((C3 q12).1 = 2 ∧
      Q72 x0 q12 C3 I4 J5 R6)))) :
    AW Γ 0 0 C I J R 0 [(0, aR (some x0)), (1, aI x1), (2, aI x2), (3, aI x3)] [] := by
  have G0 := G.1
  refine aw_aload_n G0 0 rfl dX0_retry_0 ?_
  refine aw_iconst (v := (0 : Int32)) G0 dX0_retry_1 (by decide) ?_
  obtain ⟨k1, h⟩ := h
  refine aw_putI (f := 5) G0 (by rw [k1]; exact fp_X0_63 _) dX0_retry_2 ?_
  generalize gI2 : va_up I x0 (va_up (I x0) 5 (0 : Int32)) = I2
  have h := h I2 gI2.symm
  refine aw_aload_n G0 0 rfl dX0_retry_5 ?_
  refine aw_iload_n G0 1 rfl dX0_retry_6 ?_
  refine aw_callV (k1 := 0) (n1 := 0) (k2 := 0) (n2 := 0) (st := []) G0 S_X0_thing gi_X0_163 (Or.inl (by rw [k1]; decide)) (by rw [k1]; rfl) md_X0_thing (Nat.le_of_ble_eq_true rfl) (by decide) (by rw [G.2.1]; decide) (by rw [G.2.1]; decide) [aI x1] rfl rfl dX0_retry_7 h (fun o C3 I4 J5 R6 h => ?_)
  rcases h with ⟨r7, rfl, h⟩ | ⟨q12, rfl, h⟩
  · show AW Γ 0 0 C3 I4 J5 R6 (7 + 3) [(0, aR (some x0)), (1, aI x1), (2, aI x2), (3, aI x3)] [aR (some r7)]
    refine aw_astore (lv' := [(4, aR (some r7)), (0, aR (some x0)), (1, aI x1), (2, aI x2), (3, aI x3)]) G0 (by decide) rfl dX0_retry_10 ?_
    refine aw_aload_n G0 1 rfl dX0_retry_12 ?_
    refine aw_iload_n G0 3 rfl dX0_retry_13 ?_
    refine aw_iconst (v := (1 : Int32)) G0 dX0_retry_14 (by decide) ?_
    refine aw_icmp_lt G0 38 dX0_retry_15 (by decide) (fun c8 => ?_) (fun c8 => ?_)
    · have h := h.1 c8
      exact (aw_lv [1, 3, 4, 0] rfl (w38 x0 x2 x3 r7 x0 C3 I4 J5 R6 h))
    · have h := h.2 c8
      refine aw_iload_n G0 3 rfl dX0_retry_18 ?_
      refine aw_bipush (v := (60 : Int32)) G0 dX0_retry_19 (by decide) ?_
      refine aw_icmp_gt G0 38 dX0_retry_21 (by decide) (fun c9 => ?_) (fun c9 => ?_)
      · have h := h.1 c9
        exact (aw_lv [1, 3, 4, 0] rfl (w38 x0 x2 x3 r7 x0 C3 I4 J5 R6 h))
      · have h := h.2 c9
        refine aw_iload_n G0 4 rfl dX0_retry_24 ?_
        refine aw_iconst (v := (1 : Int32)) G0 dX0_retry_25 (by decide) ?_
        refine aw_icmp_lt G0 38 dX0_retry_26 (by decide) (fun c10 => ?_) (fun c10 => ?_)
        · have h := h.1 c10
          exact (aw_lv [1, 3, 4, 0] rfl (w38 x0 x2 x3 r7 x0 C3 I4 J5 R6 h))
        · have h := h.2 c10
          refine aw_iload_n G0 4 rfl dX0_retry_29 ?_
          refine aw_iconst (v := (3 : Int32)) G0 dX0_retry_30 (by decide) ?_
          refine aw_icmp_gt G0 38 dX0_retry_31 (by decide) (fun c11 => ?_) (fun c11 => ?_)
          · have h := h.1 c11
            exact (aw_lv [1, 3, 4, 0] rfl (w38 x0 x2 x3 r7 x0 C3 I4 J5 R6 h))
          · have h := h.2 c11
            refine aw_iconst (v := (1 : Int32)) G0 dX0_retry_34 (by decide) ?_
            refine aw_goto G0 39 dX0_retry_35 (by decide) ?_
            exact (aw_lv [1, 3, 4, 0] rfl (w39 x0 x2 x3 r7 x0 (1 : Int32) C3 I4 J5 R6 h))
  · show AX Γ 0 0 C3 I4 J5 R6 7 [(0, aR (some x0)), (1, aI x1), (2, aI x2), (3, aI x3)] q12
    obtain ⟨k13, h⟩ := h
    refine ax_catch G0 0 rfl (fun j hj _ _ _ _ _ => absurd hj (Nat.not_lt_zero j)) rfl (by decide) q84 (Or.inl k13) (by rw [k13]; exact q86) ?_
    exact (aw_wide (by decide) (by decide) (aw_lv [0] rfl (w72 x0 q12 C3 I4 J5 R6 h)))
theorem bX0_retry_38 (G : Gb Γ yX0_retry cX0_retry 5 (some .int) [(5, 71, 72, 53)] rmX0_retry bdX0_retry)
    {Q39 : Nat → Int32 → Int32 → Nat → Nat → Int32 → MC → MI → MJ → MR → Prop} (w39 : ∀ (x0 : Nat) (x2 : Int32) (x3 : Int32) (x4 : Nat) (s0 : Nat) (s1 : Int32) (C : MC) (I : MI) (J : MJ) (R : MR), Q39 x0 x2 x3 x4 s0 s1 C I J R → AW Γ 0 0 C I J R 39 [(0, aR (some x0)), (2, aI x2), (3, aI x3), (4, aR (some x4))] [aI s1, aR (some s0)]) {x0 : Nat} {x2 : Int32} {x3 : Int32} {x4 : Nat} {s0 : Nat}
    (h : Q39 x0 x2 x3 x4 s0 (0 : Int32) C I J R) :
    AW Γ 0 0 C I J R 38 [(0, aR (some x0)), (2, aI x2), (3, aI x3), (4, aR (some x4))] [aR (some s0)] := by
  have G0 := G.1
  refine aw_iconst (v := (0 : Int32)) G0 dX0_retry_38 (by decide) ?_
  exact (w39 x0 x2 x3 x4 s0 (0 : Int32) C I J R h)
theorem bX0_retry_39 (G : Gb Γ yX0_retry cX0_retry 5 (some .int) [(5, 71, 72, 53)] rmX0_retry bdX0_retry) {F_X0_want : SPF} (S_X0_want : SpX0_want (gL Γ) F_X0_want) {F_X0_wantFree : SPF} (S_X0_wantFree : SpX0_wantFree (gL Γ) F_X0_wantFree) {F_X9_init : SPF} (S_X9_init : SpX9_init (gL Γ) F_X9_init) {F_X0_adds : SPF} (S_X0_adds : SpX0_adds (gL Γ) F_X0_adds)
    {Q72 : Nat → Nat → MC → MI → MJ → MR → Prop} (w72 : ∀ (x0 : Nat) (s0 : Nat) (C : MC) (I : MI) (J : MJ) (R : MR), Q72 x0 s0 C I J R → AW Γ 1 1 C I J R 72 [(0, aR (some x0))] [aR (some s0)]) {x0 : Nat} {x2 : Int32} {x3 : Int32} {x4 : Nat} {s0 : Nat} {s1 : Int32}
    (h : (C s0).1 = 1 ∧
      F_X0_want [aR (some s0), aI s1, aI (1 : Int32)] C I J R (fun o C2 I3 J4 R5 =>
      (o = .inl none ∧
      ∃ q7 : Nat, (C2 q7).1 = 0 ∧
      ∀ (C9 : MC) (I10 : MI) (J11 : MJ) (R12 : MR), C9 = va_up C2 q7 (26, 1) → I10 = va_up I3 q7 (fun _ => 0) → J11 = va_up J4 q7 (fun _ => 0) → R12 = va_up R5 q7 (fun _ => none) → 
      (25 ≤ (C9 q7).1 ∧ (C9 q7).1 < 29) ∧
      kFit (C9 q7).1 (C9 x4).1 ∧
      vp_in (0 : Int32) (C9 q7).2 ∧
      ∀ R16 : MR, R16 = va_up R12 q7 (va_up (R12 q7) (0 : Int32).toNatClampNeg (some x4)) →
      (C9 x0).1 = 1 ∧
      F_X0_wantFree [aR (some x0), aR (some q7)] C9 I10 J11 R16 (fun o C18 I19 J20 R21 =>
      (o = .inl none ∧
      ∃ q23 : Nat, (C18 q23).1 = 0 ∧
      ∀ (C25 : MC) (I26 : MI) (J27 : MJ) (R28 : MR), C25 = va_up C18 q23 (9, 0) → I26 = va_up I19 q23 (fun _ => 0) → J27 = va_up J20 q23 (fun _ => 0) → R28 = va_up R21 q23 (fun _ => none) → 
      F_X9_init [aR (some q23), aR (some x4), aI x2, aI x3] C25 I26 J27 R28 (fun o C29 I30 J31 R32 =>
      o = .inl none ∧
      (C29 x0).1 = 1 ∧
      F_X0_adds [aR (some x0), aR (some q23)] C29 I30 J31 R32 (fun o C35 I36 J37 R38 =>
      ∃ r39 : Int32, o = .inl (some (aI r39)) ∧
      gK Γ (.inl (some (aI r39))) C35 I36 J37 R38))) ∨
      (∃ q40 : Nat, o = .inr q40 ∧
      ((C18 q40).1 = 2 ∧
      Q72 x0 q40 C18 I19 J20 R21)))) ∨
      (∃ q42 : Nat, o = .inr q42 ∧
      ((C2 q42).1 = 2 ∧
      Q72 x0 q42 C2 I3 J4 R5)))) :
    AW Γ 0 0 C I J R 39 [(0, aR (some x0)), (2, aI x2), (3, aI x3), (4, aR (some x4))] [aI s1, aR (some s0)] := by
  have G0 := G.1
  refine aw_iconst (v := (1 : Int32)) G0 dX0_retry_39 (by decide) ?_
  obtain ⟨k1, h⟩ := h
  refine aw_callV (k1 := 0) (n1 := 0) (k2 := 0) (n2 := 0) (st := []) G0 S_X0_want gi_X0_87 (Or.inl (by rw [k1]; decide)) (by rw [k1]; rfl) md_X0_want (Nat.le_of_ble_eq_true rfl) (by decide) (by rw [G.2.1]; decide) (by rw [G.2.1]; decide) [aI s1, aI (1 : Int32)] rfl rfl dX0_retry_40 h (fun o C2 I3 J4 R5 h => ?_)
  rcases h with ⟨rfl, h⟩ | ⟨q42, rfl, h⟩
  · show AW Γ 0 0 C2 I3 J4 R5 (40 + 3) [(0, aR (some x0)), (2, aI x2), (3, aI x3), (4, aR (some x4))] []
    refine aw_aload_n G0 0 rfl dX0_retry_43 ?_
    refine aw_iconst (v := (1 : Int32)) G0 dX0_retry_44 (by decide) ?_
    obtain ⟨q7, z8, h⟩ := h
    refine aw_newqT (q := q7) (k' := 1) (n' := 1) (N := 1) G0 q82 (by decide) (by decide) (by decide) (by decide) (by decide) (by rw [G.2.1]; decide) (by rw [G.2.1]; decide) z8 dX0_retry_45 ?_
    generalize gC9 : va_up C2 q7 (26, 1) = C9
    generalize gI10 : va_up I3 q7 (fun _ => 0) = I10
    generalize gJ11 : va_up J4 q7 (fun _ => 0) = J11
    generalize gR12 : va_up R5 q7 (fun _ => none) = R12
    have h := h C9 I10 J11 R12 gC9.symm gI10.symm gJ11.symm gR12.symm
    refine aw_dupR G0 dX0_retry_48 ?_
    refine aw_iconst (v := (0 : Int32)) G0 dX0_retry_49 (by decide) ?_
    refine aw_aload G0 3 rfl dX0_retry_50 ?_
    obtain ⟨k13, h⟩ := h
    obtain ⟨k14, h⟩ := h
    obtain ⟨k15, h⟩ := h
    refine aw_aast G0 k13 (kFit_1 k14) (kFit_2 k14) k15 dX0_retry_52 ?_
    generalize gR16 : va_up R12 q7 (va_up (R12 q7) (0 : Int32).toNatClampNeg (some x4)) = R16
    have h := h R16 gR16.symm
    obtain ⟨k17, h⟩ := h
    refine aw_callV (k1 := 1) (n1 := 1) (k2 := 1) (n2 := 1) (st := []) G0 S_X0_wantFree gi_X0_175 (Or.inl (by rw [k17]; decide)) (by rw [k17]; rfl) md_X0_wantFree (Nat.le_of_ble_eq_true rfl) (by decide) (by rw [G.2.1]; decide) (by rw [G.2.1]; decide) [aR (some q7)] rfl rfl dX0_retry_53 h (fun o C18 I19 J20 R21 h => ?_)
    rcases h with ⟨rfl, h⟩ | ⟨q40, rfl, h⟩
    · show AW Γ 1 1 C18 I19 J20 R21 (53 + 3) [(0, aR (some x0)), (2, aI x2), (3, aI x3), (4, aR (some x4))] []
      refine aw_aload_n G0 0 rfl dX0_retry_56 ?_
      obtain ⟨q23, z24, h⟩ := h
      refine aw_new (q := q23) (k' := 2) (n' := 11) G0 cl_8 (by decide) q542 q543 q68 nt_8 (by decide) (by decide) (by rw [G.2.1]; exact Nat.le_of_ble_eq_true rfl) (by rw [G.2.1]; exact Nat.le_of_ble_eq_true rfl) z24 dX0_retry_57 ?_
      generalize gC25 : va_up C18 q23 (9, 0) = C25
      generalize gI26 : va_up I19 q23 (fun _ => 0) = I26
      generalize gJ27 : va_up J20 q23 (fun _ => 0) = J27
      generalize gR28 : va_up R21 q23 (fun _ => none) = R28
      have h := h C25 I26 J27 R28 gC25.symm gI26.symm gJ27.symm gR28.symm
      refine aw_dupR G0 dX0_retry_60 ?_
      refine aw_aload G0 3 rfl dX0_retry_61 ?_
      refine aw_iload_n G0 1 rfl dX0_retry_63 ?_
      refine aw_iload_n G0 2 rfl dX0_retry_64 ?_
      refine aw_callI (k1 := 11) (n1 := 744) (k2 := 2) (n2 := 11) (st := [aR (some q23), aR (some x0)]) G0 S_X9_init gw_X9_init q68 q544 q545 rfl md_X9_init (Nat.le_of_ble_eq_true rfl) (by decide) (by rw [G.2.1]; decide) (by rw [G.2.1]; decide) [aR (some x4), aI x2, aI x3] rfl rfl dX0_retry_65 h (fun o C29 I30 J31 R32 h => ?_)
      obtain ⟨rfl, h⟩ := h
      show AW Γ 11 744 C29 I30 J31 R32 (65 + 3) [(0, aR (some x0)), (2, aI x2), (3, aI x3), (4, aR (some x4))] [aR (some q23), aR (some x0)]
      obtain ⟨k34, h⟩ := h
      refine aw_callV (k1 := 11) (n1 := 744) (k2 := 11) (n2 := 744) (st := []) G0 S_X0_adds gi_X0_159 (Or.inl (by rw [k34]; decide)) (by rw [k34]; rfl) md_X0_adds (Nat.le_of_ble_eq_true rfl) (by decide) (by rw [G.2.1]; decide) (by rw [G.2.1]; decide) [aR (some q23)] rfl rfl dX0_retry_68 h (fun o C35 I36 J37 R38 h => ?_)
      obtain ⟨r39, rfl, h⟩ := h
      show AW Γ 11 744 C35 I36 J37 R38 (68 + 3) [(0, aR (some x0)), (2, aI x2), (3, aI x3), (4, aR (some x4))] [aI r39]
      exact aw_ireturn G0 (Or.inl rfl) (by rw [G.2.2]; decide) (by rw [G.2.1]; decide) dX0_retry_71 h
    · show AX Γ 1 1 C18 I19 J20 R21 53 [(0, aR (some x0)), (2, aI x2), (3, aI x3), (4, aR (some x4))] q40
      obtain ⟨k41, h⟩ := h
      refine ax_catch G0 0 rfl (fun j hj _ _ _ _ _ => absurd hj (Nat.not_lt_zero j)) rfl (by decide) q84 (Or.inl k41) (by rw [k41]; exact q86) ?_
      exact (aw_lv [0] rfl (w72 x0 q40 C18 I19 J20 R21 h))
  · show AX Γ 0 0 C2 I3 J4 R5 40 [(0, aR (some x0)), (2, aI x2), (3, aI x3), (4, aR (some x4))] q42
    obtain ⟨k43, h⟩ := h
    refine ax_catch G0 0 rfl (fun j hj _ _ _ _ _ => absurd hj (Nat.not_lt_zero j)) rfl (by decide) q84 (Or.inl k43) (by rw [k43]; exact q86) ?_
    exact (aw_wide (by decide) (by decide) (aw_lv [0] rfl (w72 x0 q42 C2 I3 J4 R5 h)))
theorem bX0_retry_72 (G : Gb Γ yX0_retry cX0_retry 5 (some .int) [(5, 71, 72, 53)] rmX0_retry bdX0_retry) {F_X0_none : SPF} (S_X0_none : SpX0_none (gL Γ) F_X0_none) {x0 : Nat} {s0 : Nat}
    (h : (C x0).1 = 1 ∧
      F_X0_none [aR (some x0), aR (some s0)] C I J R (fun o C2 I3 J4 R5 =>
      ∃ r6 : Int32, o = .inl (some (aI r6)) ∧
      gK Γ (.inl (some (aI r6))) C2 I3 J4 R5)) :
    AW Γ 1 1 C I J R 72 [(0, aR (some x0))] [aR (some s0)] := by
  have G0 := G.1
  refine aw_astore (lv' := [(4, aR (some s0)), (0, aR (some x0))]) G0 (by decide) rfl dX0_retry_72 ?_
  refine aw_aload_n G0 1 rfl dX0_retry_74 ?_
  refine aw_aload G0 0 rfl dX0_retry_75 ?_
  obtain ⟨k1, h⟩ := h
  refine aw_callV (k1 := 1) (n1 := 1) (k2 := 1) (n2 := 1) (st := []) G0 S_X0_none gi_X0_117 (Or.inl (by rw [k1]; decide)) (by rw [k1]; rfl) md_X0_none (Nat.le_of_ble_eq_true rfl) (by decide) (by rw [G.2.1]; decide) (by rw [G.2.1]; decide) [aR (some s0)] rfl rfl dX0_retry_77 h (fun o C2 I3 J4 R5 h => ?_)
  obtain ⟨r6, rfl, h⟩ := h
  show AW Γ 1 1 C2 I3 J4 R5 (77 + 3) [(4, aR (some s0)), (0, aR (some x0))] [aI r6]
  exact aw_ireturn G0 (Or.inl rfl) (by rw [G.2.2]; decide) (by rw [G.2.1]; decide) dX0_retry_80 h
theorem bX0_hedge_0 (G : Gb Γ yX0_hedge cX0_hedge 4 (some .int) [(5, 56, 57, 53)] rmX0_hedge bdX0_hedge) {F_X0_thing : SPF} (S_X0_thing : SpX0_thing (gL Γ) F_X0_thing)
    {Q26 : Nat → Int32 → Nat → Nat → MC → MI → MJ → MR → Prop} (w26 : ∀ (x0 : Nat) (x2 : Int32) (x3 : Nat) (s0 : Nat) (C : MC) (I : MI) (J : MJ) (R : MR), Q26 x0 x2 x3 s0 C I J R → AW Γ 0 0 C I J R 26 [(0, aR (some x0)), (2, aI x2), (3, aR (some x3))] [aR (some s0)])
    {Q27 : Nat → Int32 → Nat → Nat → Int32 → MC → MI → MJ → MR → Prop} (w27 : ∀ (x0 : Nat) (x2 : Int32) (x3 : Nat) (s0 : Nat) (s1 : Int32) (C : MC) (I : MI) (J : MJ) (R : MR), Q27 x0 x2 x3 s0 s1 C I J R → AW Γ 0 0 C I J R 27 [(0, aR (some x0)), (2, aI x2), (3, aR (some x3))] [aI s1, aR (some s0)])
    {Q57 : Nat → Nat → MC → MI → MJ → MR → Prop} (w57 : ∀ (x0 : Nat) (s0 : Nat) (C : MC) (I : MI) (J : MJ) (R : MR), Q57 x0 s0 C I J R → AW Γ 1 1 C I J R 57 [(0, aR (some x0))] [aR (some s0)]) {x0 : Nat} {x1 : Int32} {x2 : Int32}
    (h : (C x0).1 = 1 ∧
      ∀ I2 : MI, I2 = va_up I x0 (va_up (I x0) 5 (0 : Int32)) →
      F_X0_thing [aR (some x0), aI x1] C I2 J R (fun o C3 I4 J5 R6 =>
      (∃ r7 : Nat, o = .inl (some (aR (some r7))) ∧
      ((x2 < 0 →
      Q26 x0 x2 r7 x0 C3 I4 J5 R6) ∧
      (¬ x2 < 0 →
      (((60 : Int32) < x2 →
      Q26 x0 x2 r7 x0 C3 I4 J5 R6) ∧
      (¬ (60 : Int32) < x2 →
      Q27 x0 x2 r7 x0 (1 : Int32) C3 I4 J5 R6))))) ∨
      (∃ q10 : Nat, o = .inr q10 ∧
      ((C3 q10).1 = 2 ∧
      Q57 x0 q10 C3 I4 J5 R6)))) :
    AW Γ 0 0 C I J R 0 [(0, aR (some x0)), (1, aI x1), (2, aI x2)] [] := by
  have G0 := G.1
  refine aw_aload_n G0 0 rfl dX0_hedge_0 ?_
  refine aw_iconst (v := (0 : Int32)) G0 dX0_hedge_1 (by decide) ?_
  obtain ⟨k1, h⟩ := h
  refine aw_putI (f := 5) G0 (by rw [k1]; exact fp_X0_63 _) dX0_hedge_2 ?_
  generalize gI2 : va_up I x0 (va_up (I x0) 5 (0 : Int32)) = I2
  have h := h I2 gI2.symm
  refine aw_aload_n G0 0 rfl dX0_hedge_5 ?_
  refine aw_iload_n G0 1 rfl dX0_hedge_6 ?_
  refine aw_callV (k1 := 0) (n1 := 0) (k2 := 0) (n2 := 0) (st := []) G0 S_X0_thing gi_X0_163 (Or.inl (by rw [k1]; decide)) (by rw [k1]; rfl) md_X0_thing (Nat.le_of_ble_eq_true rfl) (by decide) (by rw [G.2.1]; decide) (by rw [G.2.1]; decide) [aI x1] rfl rfl dX0_hedge_7 h (fun o C3 I4 J5 R6 h => ?_)
  rcases h with ⟨r7, rfl, h⟩ | ⟨q10, rfl, h⟩
  · show AW Γ 0 0 C3 I4 J5 R6 (7 + 3) [(0, aR (some x0)), (1, aI x1), (2, aI x2)] [aR (some r7)]
    refine aw_astore_n (lv' := [(3, aR (some r7)), (0, aR (some x0)), (1, aI x1), (2, aI x2)]) G0 (by decide) rfl dX0_hedge_10 ?_
    refine aw_aload_n G0 1 rfl dX0_hedge_11 ?_
    refine aw_iload_n G0 3 rfl dX0_hedge_12 ?_
    refine aw_if_lt G0 26 dX0_hedge_13 (by decide) (fun c8 => ?_) (fun c8 => ?_)
    · have h := h.1 c8
      exact (aw_lv [1, 3, 0] rfl (w26 x0 x2 r7 x0 C3 I4 J5 R6 h))
    · have h := h.2 c8
      refine aw_iload_n G0 3 rfl dX0_hedge_16 ?_
      refine aw_bipush (v := (60 : Int32)) G0 dX0_hedge_17 (by decide) ?_
      refine aw_icmp_gt G0 26 dX0_hedge_19 (by decide) (fun c9 => ?_) (fun c9 => ?_)
      · have h := h.1 c9
        exact (aw_lv [1, 3, 0] rfl (w26 x0 x2 r7 x0 C3 I4 J5 R6 h))
      · have h := h.2 c9
        refine aw_iconst (v := (1 : Int32)) G0 dX0_hedge_22 (by decide) ?_
        refine aw_goto G0 27 dX0_hedge_23 (by decide) ?_
        exact (aw_lv [1, 3, 0] rfl (w27 x0 x2 r7 x0 (1 : Int32) C3 I4 J5 R6 h))
  · show AX Γ 0 0 C3 I4 J5 R6 7 [(0, aR (some x0)), (1, aI x1), (2, aI x2)] q10
    obtain ⟨k11, h⟩ := h
    refine ax_catch G0 0 rfl (fun j hj _ _ _ _ _ => absurd hj (Nat.not_lt_zero j)) rfl (by decide) q84 (Or.inl k11) (by rw [k11]; exact q86) ?_
    exact (aw_wide (by decide) (by decide) (aw_lv [0] rfl (w57 x0 q10 C3 I4 J5 R6 h)))
theorem bX0_hedge_26 (G : Gb Γ yX0_hedge cX0_hedge 4 (some .int) [(5, 56, 57, 53)] rmX0_hedge bdX0_hedge)
    {Q27 : Nat → Int32 → Nat → Nat → Int32 → MC → MI → MJ → MR → Prop} (w27 : ∀ (x0 : Nat) (x2 : Int32) (x3 : Nat) (s0 : Nat) (s1 : Int32) (C : MC) (I : MI) (J : MJ) (R : MR), Q27 x0 x2 x3 s0 s1 C I J R → AW Γ 0 0 C I J R 27 [(0, aR (some x0)), (2, aI x2), (3, aR (some x3))] [aI s1, aR (some s0)]) {x0 : Nat} {x2 : Int32} {x3 : Nat} {s0 : Nat}
    (h : Q27 x0 x2 x3 s0 (0 : Int32) C I J R) :
    AW Γ 0 0 C I J R 26 [(0, aR (some x0)), (2, aI x2), (3, aR (some x3))] [aR (some s0)] := by
  have G0 := G.1
  refine aw_iconst (v := (0 : Int32)) G0 dX0_hedge_26 (by decide) ?_
  exact (w27 x0 x2 x3 s0 (0 : Int32) C I J R h)
theorem bX0_hedge_27 (G : Gb Γ yX0_hedge cX0_hedge 4 (some .int) [(5, 56, 57, 53)] rmX0_hedge bdX0_hedge) {F_X0_want : SPF} (S_X0_want : SpX0_want (gL Γ) F_X0_want) {F_X0_wantFree : SPF} (S_X0_wantFree : SpX0_wantFree (gL Γ) F_X0_wantFree) {F_X10_init : SPF} (S_X10_init : SpX10_init (gL Γ) F_X10_init) {F_X0_adds : SPF} (S_X0_adds : SpX0_adds (gL Γ) F_X0_adds)
    {Q57 : Nat → Nat → MC → MI → MJ → MR → Prop} (w57 : ∀ (x0 : Nat) (s0 : Nat) (C : MC) (I : MI) (J : MJ) (R : MR), Q57 x0 s0 C I J R → AW Γ 1 1 C I J R 57 [(0, aR (some x0))] [aR (some s0)]) {x0 : Nat} {x2 : Int32} {x3 : Nat} {s0 : Nat} {s1 : Int32}
    (h : (C s0).1 = 1 ∧
      F_X0_want [aR (some s0), aI s1, aI (1 : Int32)] C I J R (fun o C2 I3 J4 R5 =>
      (o = .inl none ∧
      ∃ q7 : Nat, (C2 q7).1 = 0 ∧
      ∀ (C9 : MC) (I10 : MI) (J11 : MJ) (R12 : MR), C9 = va_up C2 q7 (26, 1) → I10 = va_up I3 q7 (fun _ => 0) → J11 = va_up J4 q7 (fun _ => 0) → R12 = va_up R5 q7 (fun _ => none) → 
      (25 ≤ (C9 q7).1 ∧ (C9 q7).1 < 29) ∧
      kFit (C9 q7).1 (C9 x3).1 ∧
      vp_in (0 : Int32) (C9 q7).2 ∧
      ∀ R16 : MR, R16 = va_up R12 q7 (va_up (R12 q7) (0 : Int32).toNatClampNeg (some x3)) →
      (C9 x0).1 = 1 ∧
      F_X0_wantFree [aR (some x0), aR (some q7)] C9 I10 J11 R16 (fun o C18 I19 J20 R21 =>
      (o = .inl none ∧
      ∃ q23 : Nat, (C18 q23).1 = 0 ∧
      ∀ (C25 : MC) (I26 : MI) (J27 : MJ) (R28 : MR), C25 = va_up C18 q23 (10, 0) → I26 = va_up I19 q23 (fun _ => 0) → J27 = va_up J20 q23 (fun _ => 0) → R28 = va_up R21 q23 (fun _ => none) → 
      F_X10_init [aR (some q23), aR (some x3), aI x2] C25 I26 J27 R28 (fun o C29 I30 J31 R32 =>
      o = .inl none ∧
      (C29 x0).1 = 1 ∧
      F_X0_adds [aR (some x0), aR (some q23)] C29 I30 J31 R32 (fun o C35 I36 J37 R38 =>
      ∃ r39 : Int32, o = .inl (some (aI r39)) ∧
      gK Γ (.inl (some (aI r39))) C35 I36 J37 R38))) ∨
      (∃ q40 : Nat, o = .inr q40 ∧
      ((C18 q40).1 = 2 ∧
      Q57 x0 q40 C18 I19 J20 R21)))) ∨
      (∃ q42 : Nat, o = .inr q42 ∧
      ((C2 q42).1 = 2 ∧
      Q57 x0 q42 C2 I3 J4 R5)))) :
    AW Γ 0 0 C I J R 27 [(0, aR (some x0)), (2, aI x2), (3, aR (some x3))] [aI s1, aR (some s0)] := by
  have G0 := G.1
  refine aw_iconst (v := (1 : Int32)) G0 dX0_hedge_27 (by decide) ?_
  obtain ⟨k1, h⟩ := h
  refine aw_callV (k1 := 0) (n1 := 0) (k2 := 0) (n2 := 0) (st := []) G0 S_X0_want gi_X0_87 (Or.inl (by rw [k1]; decide)) (by rw [k1]; rfl) md_X0_want (Nat.le_of_ble_eq_true rfl) (by decide) (by rw [G.2.1]; decide) (by rw [G.2.1]; decide) [aI s1, aI (1 : Int32)] rfl rfl dX0_hedge_28 h (fun o C2 I3 J4 R5 h => ?_)
  rcases h with ⟨rfl, h⟩ | ⟨q42, rfl, h⟩
  · show AW Γ 0 0 C2 I3 J4 R5 (28 + 3) [(0, aR (some x0)), (2, aI x2), (3, aR (some x3))] []
    refine aw_aload_n G0 0 rfl dX0_hedge_31 ?_
    refine aw_iconst (v := (1 : Int32)) G0 dX0_hedge_32 (by decide) ?_
    obtain ⟨q7, z8, h⟩ := h
    refine aw_newqT (q := q7) (k' := 1) (n' := 1) (N := 1) G0 q82 (by decide) (by decide) (by decide) (by decide) (by decide) (by rw [G.2.1]; decide) (by rw [G.2.1]; decide) z8 dX0_hedge_33 ?_
    generalize gC9 : va_up C2 q7 (26, 1) = C9
    generalize gI10 : va_up I3 q7 (fun _ => 0) = I10
    generalize gJ11 : va_up J4 q7 (fun _ => 0) = J11
    generalize gR12 : va_up R5 q7 (fun _ => none) = R12
    have h := h C9 I10 J11 R12 gC9.symm gI10.symm gJ11.symm gR12.symm
    refine aw_dupR G0 dX0_hedge_36 ?_
    refine aw_iconst (v := (0 : Int32)) G0 dX0_hedge_37 (by decide) ?_
    refine aw_aload_n G0 2 rfl dX0_hedge_38 ?_
    obtain ⟨k13, h⟩ := h
    obtain ⟨k14, h⟩ := h
    obtain ⟨k15, h⟩ := h
    refine aw_aast G0 k13 (kFit_1 k14) (kFit_2 k14) k15 dX0_hedge_39 ?_
    generalize gR16 : va_up R12 q7 (va_up (R12 q7) (0 : Int32).toNatClampNeg (some x3)) = R16
    have h := h R16 gR16.symm
    obtain ⟨k17, h⟩ := h
    refine aw_callV (k1 := 1) (n1 := 1) (k2 := 1) (n2 := 1) (st := []) G0 S_X0_wantFree gi_X0_175 (Or.inl (by rw [k17]; decide)) (by rw [k17]; rfl) md_X0_wantFree (Nat.le_of_ble_eq_true rfl) (by decide) (by rw [G.2.1]; decide) (by rw [G.2.1]; decide) [aR (some q7)] rfl rfl dX0_hedge_40 h (fun o C18 I19 J20 R21 h => ?_)
    rcases h with ⟨rfl, h⟩ | ⟨q40, rfl, h⟩
    · show AW Γ 1 1 C18 I19 J20 R21 (40 + 3) [(0, aR (some x0)), (2, aI x2), (3, aR (some x3))] []
      refine aw_aload_n G0 0 rfl dX0_hedge_43 ?_
      obtain ⟨q23, z24, h⟩ := h
      refine aw_new (q := q23) (k' := 2) (n' := 8) G0 cl_9 (by decide) q572 q573 q69 nt_9 (by decide) (by decide) (by rw [G.2.1]; exact Nat.le_of_ble_eq_true rfl) (by rw [G.2.1]; exact Nat.le_of_ble_eq_true rfl) z24 dX0_hedge_44 ?_
      generalize gC25 : va_up C18 q23 (10, 0) = C25
      generalize gI26 : va_up I19 q23 (fun _ => 0) = I26
      generalize gJ27 : va_up J20 q23 (fun _ => 0) = J27
      generalize gR28 : va_up R21 q23 (fun _ => none) = R28
      have h := h C25 I26 J27 R28 gC25.symm gI26.symm gJ27.symm gR28.symm
      refine aw_dupR G0 dX0_hedge_47 ?_
      refine aw_aload_n G0 2 rfl dX0_hedge_48 ?_
      refine aw_iload_n G0 1 rfl dX0_hedge_49 ?_
      refine aw_callI (k1 := 9) (n1 := 499) (k2 := 2) (n2 := 8) (st := [aR (some q23), aR (some x0)]) G0 S_X10_init gw_X10_init q69 q574 q575 rfl md_X10_init (Nat.le_of_ble_eq_true rfl) (by decide) (by rw [G.2.1]; decide) (by rw [G.2.1]; decide) [aR (some x3), aI x2] rfl rfl dX0_hedge_50 h (fun o C29 I30 J31 R32 h => ?_)
      obtain ⟨rfl, h⟩ := h
      show AW Γ 9 499 C29 I30 J31 R32 (50 + 3) [(0, aR (some x0)), (2, aI x2), (3, aR (some x3))] [aR (some q23), aR (some x0)]
      obtain ⟨k34, h⟩ := h
      refine aw_callV (k1 := 9) (n1 := 499) (k2 := 9) (n2 := 499) (st := []) G0 S_X0_adds gi_X0_159 (Or.inl (by rw [k34]; decide)) (by rw [k34]; rfl) md_X0_adds (Nat.le_of_ble_eq_true rfl) (by decide) (by rw [G.2.1]; decide) (by rw [G.2.1]; decide) [aR (some q23)] rfl rfl dX0_hedge_53 h (fun o C35 I36 J37 R38 h => ?_)
      obtain ⟨r39, rfl, h⟩ := h
      show AW Γ 9 499 C35 I36 J37 R38 (53 + 3) [(0, aR (some x0)), (2, aI x2), (3, aR (some x3))] [aI r39]
      exact aw_ireturn G0 (Or.inl rfl) (by rw [G.2.2]; decide) (by rw [G.2.1]; decide) dX0_hedge_56 h
    · show AX Γ 1 1 C18 I19 J20 R21 40 [(0, aR (some x0)), (2, aI x2), (3, aR (some x3))] q40
      obtain ⟨k41, h⟩ := h
      refine ax_catch G0 0 rfl (fun j hj _ _ _ _ _ => absurd hj (Nat.not_lt_zero j)) rfl (by decide) q84 (Or.inl k41) (by rw [k41]; exact q86) ?_
      exact (aw_lv [0] rfl (w57 x0 q40 C18 I19 J20 R21 h))
  · show AX Γ 0 0 C2 I3 J4 R5 28 [(0, aR (some x0)), (2, aI x2), (3, aR (some x3))] q42
    obtain ⟨k43, h⟩ := h
    refine ax_catch G0 0 rfl (fun j hj _ _ _ _ _ => absurd hj (Nat.not_lt_zero j)) rfl (by decide) q84 (Or.inl k43) (by rw [k43]; exact q86) ?_
    exact (aw_wide (by decide) (by decide) (aw_lv [0] rfl (w57 x0 q42 C2 I3 J4 R5 h)))
theorem bX0_hedge_57 (G : Gb Γ yX0_hedge cX0_hedge 4 (some .int) [(5, 56, 57, 53)] rmX0_hedge bdX0_hedge) {F_X0_none : SPF} (S_X0_none : SpX0_none (gL Γ) F_X0_none) {x0 : Nat} {s0 : Nat}
    (h : (C x0).1 = 1 ∧
      F_X0_none [aR (some x0), aR (some s0)] C I J R (fun o C2 I3 J4 R5 =>
      ∃ r6 : Int32, o = .inl (some (aI r6)) ∧
      gK Γ (.inl (some (aI r6))) C2 I3 J4 R5)) :
    AW Γ 1 1 C I J R 57 [(0, aR (some x0))] [aR (some s0)] := by
  have G0 := G.1
  refine aw_astore_n (lv' := [(3, aR (some s0)), (0, aR (some x0))]) G0 (by decide) rfl dX0_hedge_57 ?_
  refine aw_aload_n G0 1 rfl dX0_hedge_58 ?_
  refine aw_aload_n G0 0 rfl dX0_hedge_59 ?_
  obtain ⟨k1, h⟩ := h
  refine aw_callV (k1 := 1) (n1 := 1) (k2 := 1) (n2 := 1) (st := []) G0 S_X0_none gi_X0_117 (Or.inl (by rw [k1]; decide)) (by rw [k1]; rfl) md_X0_none (Nat.le_of_ble_eq_true rfl) (by decide) (by rw [G.2.1]; decide) (by rw [G.2.1]; decide) [aR (some s0)] rfl rfl dX0_hedge_60 h (fun o C2 I3 J4 R5 h => ?_)
  obtain ⟨r6, rfl, h⟩ := h
  show AW Γ 1 1 C2 I3 J4 R5 (60 + 3) [(3, aR (some s0)), (0, aR (some x0))] [aI r6]
  exact aw_ireturn G0 (Or.inl rfl) (by rw [G.2.2]; decide) (by rw [G.2.1]; decide) dX0_hedge_63 h
end BL
set_option linter.unusedVariables false
def PX0_init_0 (F_X1_init : SPF) (K : AK) (x0 : Nat) (C : MC) (I : MI) (J : MJ) (R : MR) : Prop :=
      ∃ q1 : Nat, (C q1).1 = 0 ∧
      ∀ (C3 : MC) (I4 : MI) (J5 : MJ) (R6 : MR), C3 = va_up C q1 (25, 4) → I4 = va_up I q1 (fun _ => 0) → J5 = va_up J q1 (fun _ => 0) → R6 = va_up R q1 (fun _ => none) → 
      (C3 x0).1 = 1 ∧
      ∀ R8 : MR, R8 = va_up R6 x0 (va_up (R6 x0) 0 (some q1)) →
      ∃ q9 : Nat, (C3 q9).1 = 0 ∧
      ∀ (C11 : MC) (I12 : MI) (J13 : MJ) (R14 : MR), C11 = va_up C3 q9 (21, 121) → I12 = va_up I4 q9 (fun _ => 0) → J13 = va_up J5 q9 (fun _ => 0) → R14 = va_up R8 q9 (fun _ => none) → 
      (C11 x0).1 = 1 ∧
      ∀ R16 : MR, R16 = va_up R14 x0 (va_up (R14 x0) 1 (some q9)) →
      ∃ q17 : Nat, (C11 q17).1 = 0 ∧
      ∀ (C19 : MC) (I20 : MI) (J21 : MJ) (R22 : MR), C19 = va_up C11 q17 (26, 20) → I20 = va_up I12 q17 (fun _ => 0) → J21 = va_up J13 q17 (fun _ => 0) → R22 = va_up R16 q17 (fun _ => none) → 
      (C19 x0).1 = 1 ∧
      ∀ R24 : MR, R24 = va_up R22 x0 (va_up (R22 x0) 2 (some q17)) →
      ∃ q25 : Nat, (C19 q25).1 = 0 ∧
      ∀ (C27 : MC) (I28 : MI) (J29 : MJ) (R30 : MR), C27 = va_up C19 q25 (2, 0) → I28 = va_up I20 q25 (fun _ => 0) → J29 = va_up J21 q25 (fun _ => 0) → R30 = va_up R24 q25 (fun _ => none) → 
      F_X1_init [aR (some q25)] C27 I28 J29 R30 (fun o C31 I32 J33 R34 =>
      o = .inl none ∧
      (C31 x0).1 = 1 ∧
      ∀ R37 : MR, R37 = va_up R34 x0 (va_up (R34 x0) 4 (some q25)) →
      ∀ J38 : MJ, J38 = va_up J33 x0 (va_up (J33 x0) 7 (1 : Int64)) →
      K (.inl none) C31 I32 J38 R37)
theorem wX0_init {l : Launch}  {F_X1_init : SPF} (S_X1_init : SpX1_init l F_X1_init) {F : SPF}
    (h0 : ∀ (As : List AV) (C : MC) (I : MI) (J : MJ) (R : MR) (K : AK), F As C I J R K → ∃ (x0 : Nat), As = [aR (some x0)] ∧ PX0_init_0 F_X1_init K x0 C I J R) : SpX0_init l F := by
  refine Spec.of (by rfl) ?_
  intro Γ C I J R As Gd gl gr _ _ gb hF
  subst gl
  have G : Gb Γ yX0_init cX0_init 1 (none) [] rmX0_init bdX0_init := ⟨Gd, gr, gb⟩
  obtain ⟨x0, rfl, h⟩ := h0 As C I J R (gK Γ) hF
  exact ⟨Nat.le_of_ble_eq_true rfl, bX0_init_0 G S_X1_init h⟩
def PX0_status_0 (K : AK) (x0 : Nat) (C : MC) (I : MI) (J : MJ) (R : MR) : Prop :=
      (C x0).1 = 1 ∧
      K (.inl (some (aI (I x0 5)))) C I J R
theorem wX0_status {l : Launch}  {F : SPF}
    (h0 : ∀ (As : List AV) (C : MC) (I : MI) (J : MJ) (R : MR) (K : AK), F As C I J R K → ∃ (x0 : Nat), As = [aR (some x0)] ∧ PX0_status_0 K x0 C I J R) : SpX0_status l F := by
  refine Spec.of (by rfl) ?_
  intro Γ C I J R As Gd gl gr _ _ gb hF
  subst gl
  have G : Gb Γ yX0_status cX0_status 1 (some .int) [] rmX0_status bdX0_status := ⟨Gd, gr, gb⟩
  obtain ⟨x0, rfl, h⟩ := h0 As C I J R (gK Γ) hF
  exact ⟨Nat.le_of_ble_eq_true rfl, bX0_status_0 G h⟩
def PX0_top_0 (K : AK) (x0 : Nat) (C : MC) (I : MI) (J : MJ) (R : MR) : Prop :=
      (C x0).1 = 1 ∧
      K (.inl (some (aJ (J x0 6)))) C I J R
theorem wX0_top {l : Launch}  {F : SPF}
    (h0 : ∀ (As : List AV) (C : MC) (I : MI) (J : MJ) (R : MR) (K : AK), F As C I J R K → ∃ (x0 : Nat), As = [aR (some x0)] ∧ PX0_top_0 K x0 C I J R) : SpX0_top l F := by
  refine Spec.of (by rfl) ?_
  intro Γ C I J R As Gd gl gr _ _ gb hF
  subst gl
  have G : Gb Γ yX0_top cX0_top 1 (some .long) [] rmX0_top bdX0_top := ⟨Gd, gr, gb⟩
  obtain ⟨x0, rfl, h⟩ := h0 As C I J R (gK Γ) hF
  exact ⟨Nat.le_of_ble_eq_true rfl, bX0_top_0 G h⟩
def PX0_bottom_0 (K : AK) (x0 : Nat) (C : MC) (I : MI) (J : MJ) (R : MR) : Prop :=
      (C x0).1 = 1 ∧
      K (.inl (some (aJ (J x0 7)))) C I J R
theorem wX0_bottom {l : Launch}  {F : SPF}
    (h0 : ∀ (As : List AV) (C : MC) (I : MI) (J : MJ) (R : MR) (K : AK), F As C I J R K → ∃ (x0 : Nat), As = [aR (some x0)] ∧ PX0_bottom_0 K x0 C I J R) : SpX0_bottom l F := by
  refine Spec.of (by rfl) ?_
  intro Γ C I J R As Gd gl gr _ _ gb hF
  subst gl
  have G : Gb Γ yX0_bottom cX0_bottom 1 (some .long) [] rmX0_bottom bdX0_bottom := ⟨Gd, gr, gb⟩
  obtain ⟨x0, rfl, h⟩ := h0 As C I J R (gK Γ) hF
  exact ⟨Nat.le_of_ble_eq_true rfl, bX0_bottom_0 G h⟩
def PX0_tray_61 (F_X0_want : SPF) (F_X0_row : SPF) (F_X0_no : SPF) (K : AK) (x0 : Nat) (s0 : Nat) (C : MC) (I : MI) (J : MJ) (R : MR) : Prop :=
      (C x0).1 = 1 ∧
      F_X0_no [aR (some x0), aR (some s0)] C I J R (fun o C2 I3 J4 R5 =>
      ∃ r6 : Int32, o = .inl (some (aI r6)) ∧
      (r6 = 0 ∨ r6 = 1) ∧ K (.inl (some (aI r6))) C2 I3 J4 R5)
def PX0_tray_52 (F_X0_want : SPF) (F_X0_row : SPF) (F_X0_no : SPF) (K : AK) (x0 : Nat) (s0 : Nat) (C : MC) (I : MI) (J : MJ) (R : MR) : Prop :=
      (C x0).1 = 1 ∧
      ∀ I2 : MI, I2 = va_up I x0 (va_up (I x0) 5 (1 : Int32)) →
      K (.inl (some (aI (0 : Int32)))) C I2 J R
def PX0_tray_35 (F_X0_want : SPF) (F_X0_row : SPF) (F_X0_no : SPF) (K : AK) (x0 : Nat) (x1 : Int32) (x2 : Int32) (x3 : Int32) (s0 : Nat) (s1 : Int32) (C : MC) (I : MI) (J : MJ) (R : MR) : Prop :=
      (C s0).1 = 1 ∧
      F_X0_want [aR (some s0), aI s1, aI (1 : Int32)] C I J R (fun o C2 I3 J4 R5 =>
      (o = .inl none ∧
      (C2 x0).1 = 1 ∧
      F_X0_row [aI x2, aI x3] C2 I3 J4 R5 (fun o C8 I9 J10 R11 =>
      (∃ r12 : Nat, o = .inl (some (aR (some r12))) ∧
      ∃ q13 : Nat, R5 x0 0 = some q13 ∧
      (25 ≤ (C8 q13).1 ∧ (C8 q13).1 < 29) ∧
      kFit (C8 q13).1 (C8 r12).1 ∧
      vp_in x1 (C8 q13).2 ∧
      ∀ R17 : MR, R17 = va_up R11 q13 (va_up (R11 q13) x1.toNatClampNeg (some r12)) →
      K (.inl (some (aI (1 : Int32)))) C8 I9 J10 R17) ∨
      (∃ q18 : Nat, o = .inr q18 ∧
      ((C8 q18).1 = 13 ∧
      PX0_tray_52 F_X0_want F_X0_row F_X0_no K x0 q18 C8 I9 J10 R11)))) ∨
      (∃ q20 : Nat, o = .inr q20 ∧
      ((C2 q20).1 = 2 ∧
      PX0_tray_61 F_X0_want F_X0_row F_X0_no K x0 q20 C2 I3 J4 R5)))
def PX0_tray_34 (F_X0_want : SPF) (F_X0_row : SPF) (F_X0_no : SPF) (K : AK) (x0 : Nat) (x1 : Int32) (x2 : Int32) (x3 : Int32) (s0 : Nat) (C : MC) (I : MI) (J : MJ) (R : MR) : Prop :=
      PX0_tray_35 F_X0_want F_X0_row F_X0_no K x0 x1 x2 x3 s0 (0 : Int32) C I J R
def PX0_tray_0 (F_X0_want : SPF) (F_X0_row : SPF) (F_X0_no : SPF) (K : AK) (x0 : Nat) (x1 : Int32) (x2 : Int32) (x3 : Int32) (C : MC) (I : MI) (J : MJ) (R : MR) : Prop :=
      (C x0).1 = 1 ∧
      ∀ I2 : MI, I2 = va_up I x0 (va_up (I x0) 5 (0 : Int32)) →
      ((x1 < 0 →
      PX0_tray_34 F_X0_want F_X0_row F_X0_no K x0 x1 x2 x3 x0 C I2 J R) ∧
      (¬ x1 < 0 →
      (((4 : Int32) ≤ x1 →
      PX0_tray_34 F_X0_want F_X0_row F_X0_no K x0 x1 x2 x3 x0 C I2 J R) ∧
      (¬ (4 : Int32) ≤ x1 →
      ((x2 < 0 →
      PX0_tray_34 F_X0_want F_X0_row F_X0_no K x0 x1 x2 x3 x0 C I2 J R) ∧
      (¬ x2 < 0 →
      (((3 : Int32) < x2 →
      PX0_tray_34 F_X0_want F_X0_row F_X0_no K x0 x1 x2 x3 x0 C I2 J R) ∧
      (¬ (3 : Int32) < x2 →
      (((60 : Int32) < x3 →
      PX0_tray_34 F_X0_want F_X0_row F_X0_no K x0 x1 x2 x3 x0 C I2 J R) ∧
      (¬ (60 : Int32) < x3 →
      PX0_tray_35 F_X0_want F_X0_row F_X0_no K x0 x1 x2 x3 x0 (1 : Int32) C I2 J R))))))))))
theorem wX0_tray {l : Launch}  {F_X0_want : SPF} (S_X0_want : SpX0_want l F_X0_want) {F_X0_row : SPF} (S_X0_row : SpX0_row l F_X0_row) {F_X0_no : SPF} (S_X0_no : SpX0_no l F_X0_no) {F : SPF}
    (h0 : ∀ (As : List AV) (C : MC) (I : MI) (J : MJ) (R : MR) (K : AK), F As C I J R K → ∃ (x0 : Nat) (x1 : Int32) (x2 : Int32) (x3 : Int32), As = [aR (some x0), aI x1, aI x2, aI x3] ∧ PX0_tray_0 F_X0_want F_X0_row F_X0_no K x0 x1 x2 x3 C I J R) : SpX0_tray l F := by
  refine Spec.ofH (by rfl) ?_
  intro Γ C I J R As Gd gl gr _ _ gb hF
  subst gl
  have G : Gb Γ yX0_tray cX0_tray 5 (some .boolean) [(5, 51, 52, 95), (5, 51, 61, 53)] rmX0_tray bdX0_tray := ⟨Gd, gr, gb⟩
  have w61 : ∀ (x0 : Nat) (s0 : Nat) (C : MC) (I : MI) (J : MJ) (R : MR), PX0_tray_61 F_X0_want F_X0_row F_X0_no (gK Γ) x0 s0 C I J R → AW Γ 0 0 C I J R 61 [(0, aR (some x0))] [aR (some s0)] := fun x0 s0 C I J R h => bX0_tray_61 G S_X0_no h
  have w52 : ∀ (x0 : Nat) (s0 : Nat) (C : MC) (I : MI) (J : MJ) (R : MR), PX0_tray_52 F_X0_want F_X0_row F_X0_no (gK Γ) x0 s0 C I J R → AW Γ 3 222 C I J R 52 [(0, aR (some x0))] [aR (some s0)] := fun x0 s0 C I J R h => bX0_tray_52 G h
  have w35 : ∀ (x0 : Nat) (x1 : Int32) (x2 : Int32) (x3 : Int32) (s0 : Nat) (s1 : Int32) (C : MC) (I : MI) (J : MJ) (R : MR), PX0_tray_35 F_X0_want F_X0_row F_X0_no (gK Γ) x0 x1 x2 x3 s0 s1 C I J R → AW Γ 0 0 C I J R 35 [(0, aR (some x0)), (1, aI x1), (2, aI x2), (3, aI x3)] [aI s1, aR (some s0)] := fun x0 x1 x2 x3 s0 s1 C I J R h => bX0_tray_35 G S_X0_want S_X0_row w52 w61 h
  have w34 : ∀ (x0 : Nat) (x1 : Int32) (x2 : Int32) (x3 : Int32) (s0 : Nat) (C : MC) (I : MI) (J : MJ) (R : MR), PX0_tray_34 F_X0_want F_X0_row F_X0_no (gK Γ) x0 x1 x2 x3 s0 C I J R → AW Γ 0 0 C I J R 34 [(0, aR (some x0)), (1, aI x1), (2, aI x2), (3, aI x3)] [aR (some s0)] := fun x0 x1 x2 x3 s0 C I J R h => bX0_tray_34 G w35 h
  obtain ⟨x0, x1, x2, x3, rfl, h⟩ := h0 As C I J R (gK Γ) hF
  exact ⟨Nat.le_of_ble_eq_true rfl, bX0_tray_0 G w34 w35 h⟩
def PX0_want_0 (F_X1_by : SPF) (K : AK) (x0 : Nat) (x1 : Int32) (x2 : Int32) (C : MC) (I : MI) (J : MJ) (R : MR) : Prop :=
      ((¬ x1 = 0 →
      K (.inl none) C I J R) ∧
      (x1 = 0 →
      (C x0).1 = 1 ∧
      ∃ q3 : Nat, R x0 4 = some q3 ∧
      (C q3).1 = 2 ∧
      F_X1_by [aR (some q3), aI x2] C I J R (fun o C5 I6 J7 R8 =>
      ∃ r9 : Nat, o = .inl (some (aR (some r9))) ∧
      (C5 r9).1 = 2 ∧
      K (.inr r9) C5 I6 J7 R8)))
theorem wX0_want {l : Launch}  {F_X1_by : SPF} (S_X1_by : SpX1_by l F_X1_by) {F : SPF}
    (h0 : ∀ (As : List AV) (C : MC) (I : MI) (J : MJ) (R : MR) (K : AK), F As C I J R K → ∃ (x0 : Nat) (x1 : Int32) (x2 : Int32), As = [aR (some x0), aI x1, aI x2] ∧ PX0_want_0 F_X1_by K x0 x1 x2 C I J R) : SpX0_want l F := by
  refine Spec.of (by rfl) ?_
  intro Γ C I J R As Gd gl gr _ _ gb hF
  subst gl
  have G : Gb Γ yX0_want cX0_want 3 (none) [] rmX0_want bdX0_want := ⟨Gd, gr, gb⟩
  obtain ⟨x0, x1, x2, rfl, h⟩ := h0 As C I J R (gK Γ) hF
  exact ⟨Nat.le_of_ble_eq_true rfl, bX0_want_0 G S_X1_by h⟩
def PX0_row_0 (K : AK) (x0 : Int32) (x1 : Int32) (C : MC) (I : MI) (J : MJ) (R : MR) : Prop :=
      ((¬ x0 = 0 →
      ((¬ x0 = (1 : Int32) →
      ((¬ x0 = (2 : Int32) →
      ((¬ x1 < 0 →
      x1.toNatClampNeg ≤ 60 ∧
      ∃ q7 : Nat, (C q7).1 = 0 ∧
      ∀ (C10 : MC) (I11 : MI) (J12 : MJ) (R13 : MR), C10 = va_up C q7 (21, x1.toNatClampNeg) → I11 = va_up I q7 (fun _ => 0) → J12 = va_up J q7 (fun _ => 0) → R13 = va_up R q7 (fun _ => none) → 
      K (.inl (some (aR (some q7)))) C10 I11 J12 R13) ∧
      (x1 < 0 →
      ∃ q14 : Nat, (C q14).1 = 0 ∧
      ∀ (C17 : MC) (I18 : MI) (J19 : MJ) (R20 : MR), C17 = va_up C q14 (13, 0) → I18 = va_up I q14 (fun _ => 0) → J19 = va_up J q14 (fun _ => 0) → R20 = va_up R q14 (fun _ => none) → 
      K (.inr q14) C17 I18 J19 R20))) ∧
      (x0 = (2 : Int32) →
      ((¬ x1 < 0 →
      x1.toNatClampNeg ≤ 60 ∧
      ∃ q24 : Nat, (C q24).1 = 0 ∧
      ∀ (C27 : MC) (I28 : MI) (J29 : MJ) (R30 : MR), C27 = va_up C q24 (20, x1.toNatClampNeg) → I28 = va_up I q24 (fun _ => 0) → J29 = va_up J q24 (fun _ => 0) → R30 = va_up R q24 (fun _ => none) → 
      K (.inl (some (aR (some q24)))) C27 I28 J29 R30) ∧
      (x1 < 0 →
      ∃ q31 : Nat, (C q31).1 = 0 ∧
      ∀ (C34 : MC) (I35 : MI) (J36 : MJ) (R37 : MR), C34 = va_up C q31 (13, 0) → I35 = va_up I q31 (fun _ => 0) → J36 = va_up J q31 (fun _ => 0) → R37 = va_up R q31 (fun _ => none) → 
      K (.inr q31) C34 I35 J36 R37))))) ∧
      (x0 = (1 : Int32) →
      ((¬ x1 < 0 →
      x1.toNatClampNeg ≤ 60 ∧
      ∃ q41 : Nat, (C q41).1 = 0 ∧
      ∀ (C44 : MC) (I45 : MI) (J46 : MJ) (R47 : MR), C44 = va_up C q41 (23, x1.toNatClampNeg) → I45 = va_up I q41 (fun _ => 0) → J46 = va_up J q41 (fun _ => 0) → R47 = va_up R q41 (fun _ => none) → 
      K (.inl (some (aR (some q41)))) C44 I45 J46 R47) ∧
      (x1 < 0 →
      ∃ q48 : Nat, (C q48).1 = 0 ∧
      ∀ (C51 : MC) (I52 : MI) (J53 : MJ) (R54 : MR), C51 = va_up C q48 (13, 0) → I52 = va_up I q48 (fun _ => 0) → J53 = va_up J q48 (fun _ => 0) → R54 = va_up R q48 (fun _ => none) → 
      K (.inr q48) C51 I52 J53 R54))))) ∧
      (x0 = 0 →
      ((¬ x1 < 0 →
      x1.toNatClampNeg ≤ 60 ∧
      ∃ q58 : Nat, (C q58).1 = 0 ∧
      ∀ (C61 : MC) (I62 : MI) (J63 : MJ) (R64 : MR), C61 = va_up C q58 (22, x1.toNatClampNeg) → I62 = va_up I q58 (fun _ => 0) → J63 = va_up J q58 (fun _ => 0) → R64 = va_up R q58 (fun _ => none) → 
      K (.inl (some (aR (some q58)))) C61 I62 J63 R64) ∧
      (x1 < 0 →
      ∃ q65 : Nat, (C q65).1 = 0 ∧
      ∀ (C68 : MC) (I69 : MI) (J70 : MJ) (R71 : MR), C68 = va_up C q65 (13, 0) → I69 = va_up I q65 (fun _ => 0) → J70 = va_up J q65 (fun _ => 0) → R71 = va_up R q65 (fun _ => none) → 
      K (.inr q65) C68 I69 J70 R71))))
theorem wX0_row {l : Launch}  {F : SPF}
    (h0 : ∀ (As : List AV) (C : MC) (I : MI) (J : MJ) (R : MR) (K : AK), F As C I J R K → ∃ (x0 : Int32) (x1 : Int32), As = [aI x0, aI x1] ∧ PX0_row_0 K x0 x1 C I J R) : SpX0_row l F := by
  refine Spec.of (by rfl) ?_
  intro Γ C I J R As Gd gl gr _ _ gb hF
  subst gl
  have G : Gb Γ yX0_row cX0_row 2 (some (.object "java/lang/Object")) [] rmX0_row bdX0_row := ⟨Gd, gr, gb⟩
  obtain ⟨x0, x1, rfl, h⟩ := h0 As C I J R (gK Γ) hF
  exact ⟨Nat.le_of_ble_eq_true rfl, bX0_row_0 G h⟩
def PX0_no_0 (K : AK) (x0 : Nat) (x1 : Nat) (C : MC) (I : MI) (J : MJ) (R : MR) : Prop :=
      (C x1).1 = 2 ∧
      (C x0).1 = 1 ∧
      ∀ I3 : MI, I3 = va_up I x0 (va_up (I x0) 5 (I x1 6)) →
      K (.inl (some (aI (0 : Int32)))) C I3 J R
theorem wX0_no {l : Launch}  {F : SPF}
    (h0 : ∀ (As : List AV) (C : MC) (I : MI) (J : MJ) (R : MR) (K : AK), F As C I J R K → ∃ (x0 : Nat) (x1 : Nat), As = [aR (some x0), aR (some x1)] ∧ PX0_no_0 K x0 x1 C I J R) : SpX0_no l F := by
  refine Spec.of (by rfl) ?_
  intro Γ C I J R As Gd gl gr _ _ gb hF
  subst gl
  have G : Gb Γ yX0_no cX0_no 2 (some .boolean) [] rmX0_no bdX0_no := ⟨Gd, gr, gb⟩
  obtain ⟨x0, x1, rfl, h⟩ := h0 As C I J R (gK Γ) hF
  exact ⟨Nat.le_of_ble_eq_true rfl, bX0_no_0 G h⟩
def PX0_write_26 (F_X0_on : SPF) (F_X0_put : SPF) (F_X0_no : SPF) (K : AK) (x0 : Nat) (s0 : Nat) (C : MC) (I : MI) (J : MJ) (R : MR) : Prop :=
      (C x0).1 = 1 ∧
      F_X0_no [aR (some x0), aR (some s0)] C I J R (fun o C2 I3 J4 R5 =>
      ∃ r6 : Int32, o = .inl (some (aI r6)) ∧
      (r6 = 0 ∨ r6 = 1) ∧ K (.inl (some (aI r6))) C2 I3 J4 R5)
def PX0_write_17 (F_X0_on : SPF) (F_X0_put : SPF) (F_X0_no : SPF) (K : AK) (x0 : Nat) (s0 : Nat) (C : MC) (I : MI) (J : MJ) (R : MR) : Prop :=
      (C x0).1 = 1 ∧
      ∀ I2 : MI, I2 = va_up I x0 (va_up (I x0) 5 (3 : Int32)) →
      K (.inl (some (aI (0 : Int32)))) C I2 J R
def PX0_write_0 (F_X0_on : SPF) (F_X0_put : SPF) (F_X0_no : SPF) (K : AK) (x0 : Nat) (x1 : Int32) (x2 : Int32) (x3 : Int64) (C : MC) (I : MI) (J : MJ) (R : MR) : Prop :=
      (C x0).1 = 1 ∧
      ∀ I2 : MI, I2 = va_up I x0 (va_up (I x0) 5 (0 : Int32)) →
      F_X0_on [aR (some x0), aI x1] C I2 J R (fun o C3 I4 J5 R6 =>
      (∃ r7 : Nat, o = .inl (some (aR (some r7))) ∧
      F_X0_put [aR (some r7), aI x2, aJ x3] C3 I4 J5 R6 (fun o C8 I9 J10 R11 =>
      (o = .inl none ∧
      K (.inl (some (aI (1 : Int32)))) C8 I9 J10 R11) ∨
      (∃ q13 : Nat, o = .inr q13 ∧
      ((C8 q13).1 = 12 ∧
      PX0_write_17 F_X0_on F_X0_put F_X0_no K x0 q13 C8 I9 J10 R11)))) ∨
      (∃ q15 : Nat, o = .inr q15 ∧
      ((C3 q15).1 = 2 ∧
      PX0_write_26 F_X0_on F_X0_put F_X0_no K x0 q15 C3 I4 J5 R6)))
theorem wX0_write {l : Launch}  {F_X0_on : SPF} (S_X0_on : SpX0_on l F_X0_on) {F_X0_put : SPF} (S_X0_put : SpX0_put l F_X0_put) {F_X0_no : SPF} (S_X0_no : SpX0_no l F_X0_no) {F : SPF}
    (h0 : ∀ (As : List AV) (C : MC) (I : MI) (J : MJ) (R : MR) (K : AK), F As C I J R K → ∃ (x0 : Nat) (x1 : Int32) (x2 : Int32) (x3 : Int64), As = [aR (some x0), aI x1, aI x2, aJ x3] ∧ PX0_write_0 F_X0_on F_X0_put F_X0_no K x0 x1 x2 x3 C I J R) : SpX0_write l F := by
  refine Spec.ofH (by rfl) ?_
  intro Γ C I J R As Gd gl gr _ _ gb hF
  subst gl
  have G : Gb Γ yX0_write cX0_write 6 (some .boolean) [(5, 16, 17, 109), (5, 16, 26, 53)] rmX0_write bdX0_write := ⟨Gd, gr, gb⟩
  have w26 : ∀ (x0 : Nat) (s0 : Nat) (C : MC) (I : MI) (J : MJ) (R : MR), PX0_write_26 F_X0_on F_X0_put F_X0_no (gK Γ) x0 s0 C I J R → AW Γ 0 0 C I J R 26 [(0, aR (some x0))] [aR (some s0)] := fun x0 s0 C I J R h => bX0_write_26 G S_X0_no h
  have w17 : ∀ (x0 : Nat) (s0 : Nat) (C : MC) (I : MI) (J : MJ) (R : MR), PX0_write_17 F_X0_on F_X0_put F_X0_no (gK Γ) x0 s0 C I J R → AW Γ 3 222 C I J R 17 [(0, aR (some x0))] [aR (some s0)] := fun x0 s0 C I J R h => bX0_write_17 G h
  obtain ⟨x0, x1, x2, x3, rfl, h⟩ := h0 As C I J R (gK Γ) hF
  exact ⟨Nat.le_of_ble_eq_true rfl, bX0_write_0 G S_X0_on S_X0_put w17 w26 h⟩
def PX0_on_34 (F_X0_want : SPF) (K : AK) (x0 : Nat) (x1 : Int32) (s0 : Nat) (s1 : Int32) (C : MC) (I : MI) (J : MJ) (R : MR) : Prop :=
      (C s0).1 = 1 ∧
      F_X0_want [aR (some s0), aI s1, aI (2 : Int32)] C I J R (fun o C2 I3 J4 R5 =>
      (o = .inl none ∧
      (C2 x0).1 = 1 ∧
      ∃ q8 : Nat, R5 x0 0 = some q8 ∧
      (25 ≤ (C2 q8).1 ∧ (C2 q8).1 < 30) ∧
      vp_in x1 (C2 q8).2 ∧
      K (.inl (some (aR (R5 q8 x1.toNatClampNeg)))) C2 I3 J4 R5) ∨
      (∃ q11 : Nat, o = .inr q11 ∧
      ((C2 q11).1 = 2 ∧
      K (.inr q11) C2 I3 J4 R5)))
def PX0_on_15 (F_X0_want : SPF) (K : AK) (x0 : Nat) (x1 : Int32) (s0 : Nat) (s1 : Int32) (C : MC) (I : MI) (J : MJ) (R : MR) : Prop :=
      (C s0).1 = 1 ∧
      F_X0_want [aR (some s0), aI s1, aI (1 : Int32)] C I J R (fun o C2 I3 J4 R5 =>
      (o = .inl none ∧
      (C2 x0).1 = 1 ∧
      ∃ q8 : Nat, R5 x0 0 = some q8 ∧
      (25 ≤ (C2 q8).1 ∧ (C2 q8).1 < 30) ∧
      vp_in x1 (C2 q8).2 ∧
      ((R5 q8 x1.toNatClampNeg = none →
      PX0_on_34 F_X0_want K x0 x1 x0 (0 : Int32) C2 I3 J4 R5) ∧
      (¬ R5 q8 x1.toNatClampNeg = none →
      PX0_on_34 F_X0_want K x0 x1 x0 (1 : Int32) C2 I3 J4 R5))) ∨
      (∃ q12 : Nat, o = .inr q12 ∧
      ((C2 q12).1 = 2 ∧
      K (.inr q12) C2 I3 J4 R5)))
def PX0_on_14 (F_X0_want : SPF) (K : AK) (x0 : Nat) (x1 : Int32) (s0 : Nat) (C : MC) (I : MI) (J : MJ) (R : MR) : Prop :=
      PX0_on_15 F_X0_want K x0 x1 s0 (0 : Int32) C I J R
def PX0_on_0 (F_X0_want : SPF) (K : AK) (x0 : Nat) (x1 : Int32) (C : MC) (I : MI) (J : MJ) (R : MR) : Prop :=
      ((x1 < 0 →
      PX0_on_14 F_X0_want K x0 x1 x0 C I J R) ∧
      (¬ x1 < 0 →
      (((4 : Int32) ≤ x1 →
      PX0_on_14 F_X0_want K x0 x1 x0 C I J R) ∧
      (¬ (4 : Int32) ≤ x1 →
      PX0_on_15 F_X0_want K x0 x1 x0 (1 : Int32) C I J R))))
theorem wX0_on {l : Launch}  {F_X0_want : SPF} (S_X0_want : SpX0_want l F_X0_want) {F : SPF}
    (h0 : ∀ (As : List AV) (C : MC) (I : MI) (J : MJ) (R : MR) (K : AK), F As C I J R K → ∃ (x0 : Nat) (x1 : Int32), As = [aR (some x0), aI x1] ∧ PX0_on_0 F_X0_want K x0 x1 C I J R) : SpX0_on l F := by
  refine Spec.of (by rfl) ?_
  intro Γ C I J R As Gd gl gr _ _ gb hF
  subst gl
  have G : Gb Γ yX0_on cX0_on 2 (some (.object "java/lang/Object")) [] rmX0_on bdX0_on := ⟨Gd, gr, gb⟩
  have w34 : ∀ (x0 : Nat) (x1 : Int32) (s0 : Nat) (s1 : Int32) (C : MC) (I : MI) (J : MJ) (R : MR), PX0_on_34 F_X0_want (gK Γ) x0 x1 s0 s1 C I J R → AW Γ 0 0 C I J R 34 [(0, aR (some x0)), (1, aI x1)] [aI s1, aR (some s0)] := fun x0 x1 s0 s1 C I J R h => bX0_on_34 G S_X0_want h
  have w15 : ∀ (x0 : Nat) (x1 : Int32) (s0 : Nat) (s1 : Int32) (C : MC) (I : MI) (J : MJ) (R : MR), PX0_on_15 F_X0_want (gK Γ) x0 x1 s0 s1 C I J R → AW Γ 0 0 C I J R 15 [(0, aR (some x0)), (1, aI x1)] [aI s1, aR (some s0)] := fun x0 x1 s0 s1 C I J R h => bX0_on_15 G S_X0_want w34 h
  have w14 : ∀ (x0 : Nat) (x1 : Int32) (s0 : Nat) (C : MC) (I : MI) (J : MJ) (R : MR), PX0_on_14 F_X0_want (gK Γ) x0 x1 s0 C I J R → AW Γ 0 0 C I J R 14 [(0, aR (some x0)), (1, aI x1)] [aR (some s0)] := fun x0 x1 s0 C I J R h => bX0_on_14 G w15 h
  obtain ⟨x0, x1, rfl, h⟩ := h0 As C I J R (gK Γ) hF
  exact ⟨Nat.le_of_ble_eq_true rfl, bX0_on_0 G w14 w15 h⟩
def PX0_put_0 (K : AK) (x0 : Nat) (x1 : Int32) (x2 : Int64) (C : MC) (I : MI) (J : MJ) (R : MR) : Prop :=
      kPr (C x0).1 ∧
      (((C x0).1 = 22 →
      ((vp_in x1 (C x0).2 →
      ∀ I4 : MI, I4 = va_up I x0 (va_up (I x0) x1.toNatClampNeg x2.toInt32.toInt8.toInt32.toInt8.toInt32) →
      K (.inl none) C I4 J R) ∧
      (¬ vp_in x1 (C x0).2 →
      (C x0).2 ≤ 1000 ∧
      ∃ q6 : Nat, (C q6).1 = 0 ∧
      ∀ (C9 : MC) (I10 : MI) (J11 : MJ) (R12 : MR), C9 = va_up C q6 (12, 0) → I10 = va_up I q6 (fun _ => 0) → J11 = va_up J q6 (fun _ => 0) → R12 = va_up R q6 (fun _ => none) → 
      K (.inr q6) C9 I10 J11 R12))) ∧
      (¬ (C x0).1 = 22 →
      (((C x0).1 = 23 →
      ((vp_in x1 (C x0).2 →
      ∀ I15 : MI, I15 = va_up I x0 (va_up (I x0) x1.toNatClampNeg x2.toInt32.toInt16.toInt32.toInt16.toInt32) →
      K (.inl none) C I15 J R) ∧
      (¬ vp_in x1 (C x0).2 →
      (C x0).2 ≤ 1000 ∧
      ∃ q17 : Nat, (C q17).1 = 0 ∧
      ∀ (C20 : MC) (I21 : MI) (J22 : MJ) (R23 : MR), C20 = va_up C q17 (12, 0) → I21 = va_up I q17 (fun _ => 0) → J22 = va_up J q17 (fun _ => 0) → R23 = va_up R q17 (fun _ => none) → 
      K (.inr q17) C20 I21 J22 R23))) ∧
      (¬ (C x0).1 = 23 →
      (((C x0).1 = 20 →
      ((vp_in x1 (C x0).2 →
      ∀ I26 : MI, I26 = va_up I x0 (va_up (I x0) x1.toNatClampNeg x2.toInt32) →
      K (.inl none) C I26 J R) ∧
      (¬ vp_in x1 (C x0).2 →
      (C x0).2 ≤ 1000 ∧
      ∃ q28 : Nat, (C q28).1 = 0 ∧
      ∀ (C31 : MC) (I32 : MI) (J33 : MJ) (R34 : MR), C31 = va_up C q28 (12, 0) → I32 = va_up I q28 (fun _ => 0) → J33 = va_up J q28 (fun _ => 0) → R34 = va_up R q28 (fun _ => none) → 
      K (.inr q28) C31 I32 J33 R34))) ∧
      (¬ (C x0).1 = 20 →
      (C x0).1 = 21 ∧
      ((vp_in x1 (C x0).2 →
      ∀ J37 : MJ, J37 = va_up J x0 (va_up (J x0) x1.toNatClampNeg x2) →
      K (.inl none) C I J37 R) ∧
      (¬ vp_in x1 (C x0).2 →
      (C x0).2 ≤ 1000 ∧
      ∃ q39 : Nat, (C q39).1 = 0 ∧
      ∀ (C42 : MC) (I43 : MI) (J44 : MJ) (R45 : MR), C42 = va_up C q39 (12, 0) → I43 = va_up I q39 (fun _ => 0) → J44 = va_up J q39 (fun _ => 0) → R45 = va_up R q39 (fun _ => none) → 
      K (.inr q39) C42 I43 J44 R45))))))))
theorem wX0_put {l : Launch}  {F : SPF}
    (h0 : ∀ (As : List AV) (C : MC) (I : MI) (J : MJ) (R : MR) (K : AK), F As C I J R K → ∃ (x0 : Nat) (x1 : Int32) (x2 : Int64), As = [aR (some x0), aI x1, aJ x2] ∧ PX0_put_0 K x0 x1 x2 C I J R) : SpX0_put l F := by
  refine Spec.of (by rfl) ?_
  intro Γ C I J R As Gd gl gr _ _ gb hF
  subst gl
  have G : Gb Γ yX0_put cX0_put 7 (none) [] rmX0_put bdX0_put := ⟨Gd, gr, gb⟩
  obtain ⟨x0, x1, x2, rfl, h⟩ := h0 As C I J R (gK Γ) hF
  exact ⟨Nat.le_of_ble_eq_true rfl, bX0_put_0 G h⟩
def PX0_read_25 (F_X0_on : SPF) (F_X0_number : SPF) (F_X0_none : SPF) (K : AK) (x0 : Nat) (s0 : Nat) (C : MC) (I : MI) (J : MJ) (R : MR) : Prop :=
      (C x0).1 = 1 ∧
      F_X0_none [aR (some x0), aR (some s0)] C I J R (fun o C2 I3 J4 R5 =>
      ∃ r6 : Int32, o = .inl (some (aI r6)) ∧
      K (.inl (some (aJ r6.toInt64))) C2 I3 J4 R5)
def PX0_read_15 (F_X0_on : SPF) (F_X0_number : SPF) (F_X0_none : SPF) (K : AK) (x0 : Nat) (s0 : Nat) (C : MC) (I : MI) (J : MJ) (R : MR) : Prop :=
      (C x0).1 = 1 ∧
      ∀ I2 : MI, I2 = va_up I x0 (va_up (I x0) 5 (3 : Int32)) →
      K (.inl (some (aJ (-1 : Int64)))) C I2 J R
def PX0_read_0 (F_X0_on : SPF) (F_X0_number : SPF) (F_X0_none : SPF) (K : AK) (x0 : Nat) (x1 : Int32) (x2 : Int32) (C : MC) (I : MI) (J : MJ) (R : MR) : Prop :=
      (C x0).1 = 1 ∧
      ∀ I2 : MI, I2 = va_up I x0 (va_up (I x0) 5 (0 : Int32)) →
      F_X0_on [aR (some x0), aI x1] C I2 J R (fun o C3 I4 J5 R6 =>
      (∃ r7 : Nat, o = .inl (some (aR (some r7))) ∧
      F_X0_number [aR (some r7), aI x2] C3 I4 J5 R6 (fun o C8 I9 J10 R11 =>
      (∃ r12 : Int64, o = .inl (some (aJ r12)) ∧
      K (.inl (some (aJ r12))) C8 I9 J10 R11) ∨
      (∃ q13 : Nat, o = .inr q13 ∧
      ((C8 q13).1 = 12 ∧
      PX0_read_15 F_X0_on F_X0_number F_X0_none K x0 q13 C8 I9 J10 R11)))) ∨
      (∃ q15 : Nat, o = .inr q15 ∧
      ((C3 q15).1 = 2 ∧
      PX0_read_25 F_X0_on F_X0_number F_X0_none K x0 q15 C3 I4 J5 R6)))
theorem wX0_read {l : Launch}  {F_X0_on : SPF} (S_X0_on : SpX0_on l F_X0_on) {F_X0_number : SPF} (S_X0_number : SpX0_number l F_X0_number) {F_X0_none : SPF} (S_X0_none : SpX0_none l F_X0_none) {F : SPF}
    (h0 : ∀ (As : List AV) (C : MC) (I : MI) (J : MJ) (R : MR) (K : AK), F As C I J R K → ∃ (x0 : Nat) (x1 : Int32) (x2 : Int32), As = [aR (some x0), aI x1, aI x2] ∧ PX0_read_0 F_X0_on F_X0_number F_X0_none K x0 x1 x2 C I J R) : SpX0_read l F := by
  refine Spec.ofH (by rfl) ?_
  intro Γ C I J R As Gd gl gr _ _ gb hF
  subst gl
  have G : Gb Γ yX0_read cX0_read 4 (some .long) [(5, 14, 15, 109), (5, 14, 25, 53)] rmX0_read bdX0_read := ⟨Gd, gr, gb⟩
  have w25 : ∀ (x0 : Nat) (s0 : Nat) (C : MC) (I : MI) (J : MJ) (R : MR), PX0_read_25 F_X0_on F_X0_number F_X0_none (gK Γ) x0 s0 C I J R → AW Γ 0 0 C I J R 25 [(0, aR (some x0))] [aR (some s0)] := fun x0 s0 C I J R h => bX0_read_25 G S_X0_none h
  have w15 : ∀ (x0 : Nat) (s0 : Nat) (C : MC) (I : MI) (J : MJ) (R : MR), PX0_read_15 F_X0_on F_X0_number F_X0_none (gK Γ) x0 s0 C I J R → AW Γ 3 222 C I J R 15 [(0, aR (some x0))] [aR (some s0)] := fun x0 s0 C I J R h => bX0_read_15 G h
  obtain ⟨x0, x1, x2, rfl, h⟩ := h0 As C I J R (gK Γ) hF
  exact ⟨Nat.le_of_ble_eq_true rfl, bX0_read_0 G S_X0_on S_X0_number w15 w25 h⟩
def PX0_number_0 (K : AK) (x0 : Nat) (x1 : Int32) (C : MC) (I : MI) (J : MJ) (R : MR) : Prop :=
      kPr (C x0).1 ∧
      (((C x0).1 = 22 →
      ((vp_in x1 (C x0).2 →
      K (.inl (some (aJ ((I x0 x1.toNatClampNeg).toInt64)))) C I J R) ∧
      (¬ vp_in x1 (C x0).2 →
      (C x0).2 ≤ 1000 ∧
      ∃ q5 : Nat, (C q5).1 = 0 ∧
      ∀ (C8 : MC) (I9 : MI) (J10 : MJ) (R11 : MR), C8 = va_up C q5 (12, 0) → I9 = va_up I q5 (fun _ => 0) → J10 = va_up J q5 (fun _ => 0) → R11 = va_up R q5 (fun _ => none) → 
      K (.inr q5) C8 I9 J10 R11))) ∧
      (¬ (C x0).1 = 22 →
      (((C x0).1 = 23 →
      ((vp_in x1 (C x0).2 →
      K (.inl (some (aJ ((I x0 x1.toNatClampNeg).toInt64)))) C I J R) ∧
      (¬ vp_in x1 (C x0).2 →
      (C x0).2 ≤ 1000 ∧
      ∃ q15 : Nat, (C q15).1 = 0 ∧
      ∀ (C18 : MC) (I19 : MI) (J20 : MJ) (R21 : MR), C18 = va_up C q15 (12, 0) → I19 = va_up I q15 (fun _ => 0) → J20 = va_up J q15 (fun _ => 0) → R21 = va_up R q15 (fun _ => none) → 
      K (.inr q15) C18 I19 J20 R21))) ∧
      (¬ (C x0).1 = 23 →
      (((C x0).1 = 20 →
      ((vp_in x1 (C x0).2 →
      K (.inl (some (aJ ((I x0 x1.toNatClampNeg).toInt64)))) C I J R) ∧
      (¬ vp_in x1 (C x0).2 →
      (C x0).2 ≤ 1000 ∧
      ∃ q25 : Nat, (C q25).1 = 0 ∧
      ∀ (C28 : MC) (I29 : MI) (J30 : MJ) (R31 : MR), C28 = va_up C q25 (12, 0) → I29 = va_up I q25 (fun _ => 0) → J30 = va_up J q25 (fun _ => 0) → R31 = va_up R q25 (fun _ => none) → 
      K (.inr q25) C28 I29 J30 R31))) ∧
      (¬ (C x0).1 = 20 →
      (C x0).1 = 21 ∧
      ((vp_in x1 (C x0).2 →
      K (.inl (some (aJ (J x0 x1.toNatClampNeg)))) C I J R) ∧
      (¬ vp_in x1 (C x0).2 →
      (C x0).2 ≤ 1000 ∧
      ∃ q35 : Nat, (C q35).1 = 0 ∧
      ∀ (C38 : MC) (I39 : MI) (J40 : MJ) (R41 : MR), C38 = va_up C q35 (12, 0) → I39 = va_up I q35 (fun _ => 0) → J40 = va_up J q35 (fun _ => 0) → R41 = va_up R q35 (fun _ => none) → 
      K (.inr q35) C38 I39 J40 R41))))))))
theorem wX0_number {l : Launch}  {F : SPF}
    (h0 : ∀ (As : List AV) (C : MC) (I : MI) (J : MJ) (R : MR) (K : AK), F As C I J R K → ∃ (x0 : Nat) (x1 : Int32), As = [aR (some x0), aI x1] ∧ PX0_number_0 K x0 x1 C I J R) : SpX0_number l F := by
  refine Spec.of (by rfl) ?_
  intro Γ C I J R As Gd gl gr _ _ gb hF
  subst gl
  have G : Gb Γ yX0_number cX0_number 3 (some .long) [] rmX0_number bdX0_number := ⟨Gd, gr, gb⟩
  obtain ⟨x0, x1, rfl, h⟩ := h0 As C I J R (gK Γ) hF
  exact ⟨Nat.le_of_ble_eq_true rfl, bX0_number_0 G h⟩
def PX0_none_0 (K : AK) (x0 : Nat) (x1 : Nat) (C : MC) (I : MI) (J : MJ) (R : MR) : Prop :=
      (C x1).1 = 2 ∧
      (C x0).1 = 1 ∧
      ∀ I3 : MI, I3 = va_up I x0 (va_up (I x0) 5 (I x1 6)) →
      K (.inl (some (aI (-1 : Int32)))) C I3 J R
theorem wX0_none {l : Launch}  {F : SPF}
    (h0 : ∀ (As : List AV) (C : MC) (I : MI) (J : MJ) (R : MR) (K : AK), F As C I J R K → ∃ (x0 : Nat) (x1 : Nat), As = [aR (some x0), aR (some x1)] ∧ PX0_none_0 K x0 x1 C I J R) : SpX0_none l F := by
  refine Spec.of (by rfl) ?_
  intro Γ C I J R As Gd gl gr _ _ gb hF
  subst gl
  have G : Gb Γ yX0_none cX0_none 2 (some .int) [] rmX0_none bdX0_none := ⟨Gd, gr, gb⟩
  obtain ⟨x0, x1, rfl, h⟩ := h0 As C I J R (gK Γ) hF
  exact ⟨Nat.le_of_ble_eq_true rfl, bX0_none_0 G h⟩
-- X0_pour: to be joined by hand
def PX0_sortOf_0 (K : AK) (x0 : Nat) (C : MC) (I : MI) (J : MJ) (R : MR) : Prop :=
      kPr (C x0).1 ∧
      (((C x0).1 = 22 →
      K (.inl (some (aI (0 : Int32)))) C I J R) ∧
      (¬ (C x0).1 = 22 →
      (((C x0).1 = 23 →
      K (.inl (some (aI (1 : Int32)))) C I J R) ∧
      (¬ (C x0).1 = 23 →
      (((C x0).1 = 20 →
      K (.inl (some (aI (2 : Int32)))) C I J R) ∧
      (¬ (C x0).1 = 20 →
      K (.inl (some (aI (3 : Int32)))) C I J R))))))
theorem wX0_sortOf {l : Launch}  {F : SPF}
    (h0 : ∀ (As : List AV) (C : MC) (I : MI) (J : MJ) (R : MR) (K : AK), F As C I J R K → ∃ (x0 : Nat), As = [aR (some x0)] ∧ PX0_sortOf_0 K x0 C I J R) : SpX0_sortOf l F := by
  refine Spec.of (by rfl) ?_
  intro Γ C I J R As Gd gl gr _ _ gb hF
  subst gl
  have G : Gb Γ yX0_sortOf cX0_sortOf 1 (some .int) [] rmX0_sortOf bdX0_sortOf := ⟨Gd, gr, gb⟩
  obtain ⟨x0, rfl, h⟩ := h0 As C I J R (gK Γ) hF
  exact ⟨Nat.le_of_ble_eq_true rfl, bX0_sortOf_0 G h⟩
def PX0_leaf_68 (F_X0_want : SPF) (F_X0_wantMany : SPF) (F_X0_weights : SPF) (F_X5_init : SPF) (F_X0_adds : SPF) (F_X0_none : SPF) (K : AK) (x0 : Nat) (s0 : Nat) (C : MC) (I : MI) (J : MJ) (R : MR) : Prop :=
      (C x0).1 = 1 ∧
      F_X0_none [aR (some x0), aR (some s0)] C I J R (fun o C2 I3 J4 R5 =>
      ∃ r6 : Int32, o = .inl (some (aI r6)) ∧
      K (.inl (some (aI r6))) C2 I3 J4 R5)
def PX0_leaf_51 (F_X0_want : SPF) (F_X0_wantMany : SPF) (F_X0_weights : SPF) (F_X5_init : SPF) (F_X0_adds : SPF) (F_X0_none : SPF) (K : AK) (x0 : Nat) (x3 : Nat) (s0 : Nat) (s1 : Int32) (C : MC) (I : MI) (J : MJ) (R : MR) : Prop :=
      (C s0).1 = 1 ∧
      F_X0_want [aR (some s0), aI s1, aI (4 : Int32)] C I J R (fun o C2 I3 J4 R5 =>
      (o = .inl none ∧
      ∃ q7 : Nat, (C2 q7).1 = 0 ∧
      ∀ (C9 : MC) (I10 : MI) (J11 : MJ) (R12 : MR), C9 = va_up C2 q7 (5, 0) → I10 = va_up I3 q7 (fun _ => 0) → J11 = va_up J4 q7 (fun _ => 0) → R12 = va_up R5 q7 (fun _ => none) → 
      F_X5_init [aR (some q7), aR (some x3)] C9 I10 J11 R12 (fun o C13 I14 J15 R16 =>
      o = .inl none ∧
      (C13 x0).1 = 1 ∧
      F_X0_adds [aR (some x0), aR (some q7)] C13 I14 J15 R16 (fun o C19 I20 J21 R22 =>
      ∃ r23 : Int32, o = .inl (some (aI r23)) ∧
      K (.inl (some (aI r23))) C19 I20 J21 R22))) ∨
      (∃ q24 : Nat, o = .inr q24 ∧
      ((C2 q24).1 = 2 ∧
      PX0_leaf_68 F_X0_want F_X0_wantMany F_X0_weights F_X5_init F_X0_adds F_X0_none K x0 q24 C2 I3 J4 R5)))
def PX0_leaf_20 (F_X0_want : SPF) (F_X0_wantMany : SPF) (F_X0_weights : SPF) (F_X5_init : SPF) (F_X0_adds : SPF) (F_X0_none : SPF) (K : AK) (x0 : Nat) (x1 : Int32) (x2 : Int32) (s0 : Nat) (s1 : Int32) (C : MC) (I : MI) (J : MJ) (R : MR) : Prop :=
      (C s0).1 = 1 ∧
      F_X0_want [aR (some s0), aI s1, aI (1 : Int32)] C I J R (fun o C2 I3 J4 R5 =>
      (o = .inl none ∧
      (C2 x0).1 = 1 ∧
      F_X0_wantMany [aR (some x0), aI x2] C2 I3 J4 R5 (fun o C8 I9 J10 R11 =>
      (o = .inl none ∧
      (C8 x0).1 = 1 ∧
      F_X0_weights [aR (some x0), aI x1, aI x2] C8 I9 J10 R11 (fun o C14 I15 J16 R17 =>
      (∃ r18 : Nat, o = .inl (some (aR (some r18))) ∧
      (C14 x0).1 = 1 ∧
      (((20 : Int32) ≤ (I15 x0 3) →
      PX0_leaf_51 F_X0_want F_X0_wantMany F_X0_weights F_X5_init F_X0_adds F_X0_none K x0 r18 x0 (0 : Int32) C14 I15 J16 R17) ∧
      (¬ (20 : Int32) ≤ (I15 x0 3) →
      PX0_leaf_51 F_X0_want F_X0_wantMany F_X0_weights F_X5_init F_X0_adds F_X0_none K x0 r18 x0 (1 : Int32) C14 I15 J16 R17))) ∨
      (∃ q21 : Nat, o = .inr q21 ∧
      ((C14 q21).1 = 2 ∧
      PX0_leaf_68 F_X0_want F_X0_wantMany F_X0_weights F_X5_init F_X0_adds F_X0_none K x0 q21 C14 I15 J16 R17)))) ∨
      (∃ q23 : Nat, o = .inr q23 ∧
      ((C8 q23).1 = 2 ∧
      PX0_leaf_68 F_X0_want F_X0_wantMany F_X0_weights F_X5_init F_X0_adds F_X0_none K x0 q23 C8 I9 J10 R11)))) ∨
      (∃ q25 : Nat, o = .inr q25 ∧
      ((C2 q25).1 = 2 ∧
      PX0_leaf_68 F_X0_want F_X0_wantMany F_X0_weights F_X5_init F_X0_adds F_X0_none K x0 q25 C2 I3 J4 R5)))
def PX0_leaf_19 (F_X0_want : SPF) (F_X0_wantMany : SPF) (F_X0_weights : SPF) (F_X5_init : SPF) (F_X0_adds : SPF) (F_X0_none : SPF) (K : AK) (x0 : Nat) (x1 : Int32) (x2 : Int32) (s0 : Nat) (C : MC) (I : MI) (J : MJ) (R : MR) : Prop :=
      PX0_leaf_20 F_X0_want F_X0_wantMany F_X0_weights F_X5_init F_X0_adds F_X0_none K x0 x1 x2 s0 (0 : Int32) C I J R
def PX0_leaf_0 (F_X0_want : SPF) (F_X0_wantMany : SPF) (F_X0_weights : SPF) (F_X5_init : SPF) (F_X0_adds : SPF) (F_X0_none : SPF) (K : AK) (x0 : Nat) (x1 : Int32) (x2 : Int32) (C : MC) (I : MI) (J : MJ) (R : MR) : Prop :=
      (C x0).1 = 1 ∧
      ∀ I2 : MI, I2 = va_up I x0 (va_up (I x0) 5 (0 : Int32)) →
      ((x1 < 0 →
      PX0_leaf_19 F_X0_want F_X0_wantMany F_X0_weights F_X5_init F_X0_adds F_X0_none K x0 x1 x2 x0 C I2 J R) ∧
      (¬ x1 < 0 →
      (((4 : Int32) ≤ x1 →
      PX0_leaf_19 F_X0_want F_X0_wantMany F_X0_weights F_X5_init F_X0_adds F_X0_none K x0 x1 x2 x0 C I2 J R) ∧
      (¬ (4 : Int32) ≤ x1 →
      PX0_leaf_20 F_X0_want F_X0_wantMany F_X0_weights F_X5_init F_X0_adds F_X0_none K x0 x1 x2 x0 (1 : Int32) C I2 J R))))
theorem wX0_leaf {l : Launch}  {F_X0_want : SPF} (S_X0_want : SpX0_want l F_X0_want) {F_X0_wantMany : SPF} (S_X0_wantMany : SpX0_wantMany l F_X0_wantMany) {F_X0_weights : SPF} (S_X0_weights : SpX0_weights l F_X0_weights) {F_X5_init : SPF} (S_X5_init : SpX5_init l F_X5_init) {F_X0_adds : SPF} (S_X0_adds : SpX0_adds l F_X0_adds) {F_X0_none : SPF} (S_X0_none : SpX0_none l F_X0_none) {F : SPF}
    (h0 : ∀ (As : List AV) (C : MC) (I : MI) (J : MJ) (R : MR) (K : AK), F As C I J R K → ∃ (x0 : Nat) (x1 : Int32) (x2 : Int32), As = [aR (some x0), aI x1, aI x2] ∧ PX0_leaf_0 F_X0_want F_X0_wantMany F_X0_weights F_X5_init F_X0_adds F_X0_none K x0 x1 x2 C I J R) : SpX0_leaf l F := by
  refine Spec.ofH (by rfl) ?_
  intro Γ C I J R As Gd gl gr _ _ gb hF
  subst gl
  have G : Gb Γ yX0_leaf cX0_leaf 4 (some .int) [(5, 67, 68, 53)] rmX0_leaf bdX0_leaf := ⟨Gd, gr, gb⟩
  have w68 : ∀ (x0 : Nat) (s0 : Nat) (C : MC) (I : MI) (J : MJ) (R : MR), PX0_leaf_68 F_X0_want F_X0_wantMany F_X0_weights F_X5_init F_X0_adds F_X0_none (gK Γ) x0 s0 C I J R → AW Γ 3 245 C I J R 68 [(0, aR (some x0))] [aR (some s0)] := fun x0 s0 C I J R h => bX0_leaf_68 G S_X0_none h
  have w51 : ∀ (x0 : Nat) (x3 : Nat) (s0 : Nat) (s1 : Int32) (C : MC) (I : MI) (J : MJ) (R : MR), PX0_leaf_51 F_X0_want F_X0_wantMany F_X0_weights F_X5_init F_X0_adds F_X0_none (gK Γ) x0 x3 s0 s1 C I J R → AW Γ 3 245 C I J R 51 [(0, aR (some x0)), (3, aR (some x3))] [aI s1, aR (some s0)] := fun x0 x3 s0 s1 C I J R h => bX0_leaf_51 G S_X0_want S_X5_init S_X0_adds w68 h
  have w20 : ∀ (x0 : Nat) (x1 : Int32) (x2 : Int32) (s0 : Nat) (s1 : Int32) (C : MC) (I : MI) (J : MJ) (R : MR), PX0_leaf_20 F_X0_want F_X0_wantMany F_X0_weights F_X5_init F_X0_adds F_X0_none (gK Γ) x0 x1 x2 s0 s1 C I J R → AW Γ 0 0 C I J R 20 [(0, aR (some x0)), (1, aI x1), (2, aI x2)] [aI s1, aR (some s0)] := fun x0 x1 x2 s0 s1 C I J R h => bX0_leaf_20 G S_X0_want S_X0_wantMany S_X0_weights w51 w68 h
  have w19 : ∀ (x0 : Nat) (x1 : Int32) (x2 : Int32) (s0 : Nat) (C : MC) (I : MI) (J : MJ) (R : MR), PX0_leaf_19 F_X0_want F_X0_wantMany F_X0_weights F_X5_init F_X0_adds F_X0_none (gK Γ) x0 x1 x2 s0 C I J R → AW Γ 0 0 C I J R 19 [(0, aR (some x0)), (1, aI x1), (2, aI x2)] [aR (some s0)] := fun x0 x1 x2 s0 C I J R h => bX0_leaf_19 G w20 h
  obtain ⟨x0, x1, x2, rfl, h⟩ := h0 As C I J R (gK Γ) hF
  exact ⟨Nat.le_of_ble_eq_true rfl, bX0_leaf_0 G w19 w20 h⟩
def PX0_wantMany_0 (F_X0_want : SPF) (K : AK) (x0 : Nat) (x1 : Int32) (C : MC) (I : MI) (J : MJ) (R : MR) : Prop :=
      ((x1 < (1 : Int32) →
      (C x0).1 = 1 ∧
      F_X0_want [aR (some x0), aI (0 : Int32), aI (1 : Int32)] C I J R (fun o C3 I4 J5 R6 =>
      (o = .inl none ∧
      K (.inl none) C3 I4 J5 R6) ∨
      (∃ q8 : Nat, o = .inr q8 ∧
      ((C3 q8).1 = 2 ∧
      K (.inr q8) C3 I4 J5 R6)))) ∧
      (¬ x1 < (1 : Int32) →
      (((60 : Int32) < x1 →
      (C x0).1 = 1 ∧
      F_X0_want [aR (some x0), aI (0 : Int32), aI (1 : Int32)] C I J R (fun o C12 I13 J14 R15 =>
      (o = .inl none ∧
      K (.inl none) C12 I13 J14 R15) ∨
      (∃ q17 : Nat, o = .inr q17 ∧
      ((C12 q17).1 = 2 ∧
      K (.inr q17) C12 I13 J14 R15)))) ∧
      (¬ (60 : Int32) < x1 →
      (C x0).1 = 1 ∧
      F_X0_want [aR (some x0), aI (1 : Int32), aI (1 : Int32)] C I J R (fun o C20 I21 J22 R23 =>
      (o = .inl none ∧
      K (.inl none) C20 I21 J22 R23) ∨
      (∃ q25 : Nat, o = .inr q25 ∧
      ((C20 q25).1 = 2 ∧
      K (.inr q25) C20 I21 J22 R23)))))))
theorem wX0_wantMany {l : Launch}  {F_X0_want : SPF} (S_X0_want : SpX0_want l F_X0_want) {F : SPF}
    (h0 : ∀ (As : List AV) (C : MC) (I : MI) (J : MJ) (R : MR) (K : AK), F As C I J R K → ∃ (x0 : Nat) (x1 : Int32), As = [aR (some x0), aI x1] ∧ PX0_wantMany_0 F_X0_want K x0 x1 C I J R) : SpX0_wantMany l F := by
  refine Spec.of (by rfl) ?_
  intro Γ C I J R As Gd gl gr _ _ gb hF
  subst gl
  have G : Gb Γ yX0_wantMany cX0_wantMany 2 (none) [] rmX0_wantMany bdX0_wantMany := ⟨Gd, gr, gb⟩
  obtain ⟨x0, x1, rfl, h⟩ := h0 As C I J R (gK Γ) hF
  exact ⟨Nat.le_of_ble_eq_true rfl, bX0_wantMany_0 G S_X0_want h⟩
def PX0_weights_142 (F_X0_on : SPF) (F_X0_sizeOf : SPF) (F_X0_want : SPF) (F_X3_init : SPF) (F_X0_number : SPF) (F_X3_less : SPF) (Q36 : Nat → Int32 → Nat → Nat → Int32 → MC → MI → MJ → MR → Prop) (K : AK) (x4 : Nat) (s0 : Nat) (s1 : Int32) (C : MC) (I : MI) (J : MJ) (R : MR) : Prop :=
      (C s0).1 = 1 ∧
      F_X0_want [aR (some s0), aI s1, aI (1 : Int32)] C I J R (fun o C2 I3 J4 R5 =>
      (o = .inl none ∧
      (C2 x4).1 = 4 ∧
      F_X3_less [aR (some x4)] C2 I3 J4 R5 (fun o C8 I9 J10 R11 =>
      ∃ r12 : Nat, o = .inl (some (aR (some r12))) ∧
      K (.inl (some (aR (some r12)))) C8 I9 J10 R11)) ∨
      (∃ q13 : Nat, o = .inr q13 ∧
      ((C2 q13).1 = 2 ∧
      K (.inr q13) C2 I3 J4 R5)))
def PX0_weights_141 (F_X0_on : SPF) (F_X0_sizeOf : SPF) (F_X0_want : SPF) (F_X3_init : SPF) (F_X0_number : SPF) (F_X3_less : SPF) (Q36 : Nat → Int32 → Nat → Nat → Int32 → MC → MI → MJ → MR → Prop) (K : AK) (x4 : Nat) (s0 : Nat) (C : MC) (I : MI) (J : MJ) (R : MR) : Prop :=
      PX0_weights_142 F_X0_on F_X0_sizeOf F_X0_want F_X3_init F_X0_number F_X3_less Q36 K x4 s0 (0 : Int32) C I J R
def PX0_weights_72 (F_X0_on : SPF) (F_X0_sizeOf : SPF) (F_X0_want : SPF) (F_X3_init : SPF) (F_X0_number : SPF) (F_X3_less : SPF) (Q36 : Nat → Int32 → Nat → Nat → Int32 → MC → MI → MJ → MR → Prop) (K : AK) (x0 : Nat) (x2 : Int32) (x3 : Nat) (x4 : Nat) (x5 : Int32) (s0 : Nat) (s1 : Int32) (C : MC) (I : MI) (J : MJ) (R : MR) : Prop :=
      (C s0).1 = 1 ∧
      F_X0_want [aR (some s0), aI s1, aI (1 : Int32)] C I J R (fun o C2 I3 J4 R5 =>
      (o = .inl none ∧
      (C2 x4).1 = 4 ∧
      F_X0_number [aR (some x3), aI x5] C2 I3 J4 R5 (fun o C8 I9 J10 R11 =>
      ∃ r12 : Int64, o = .inl (some (aJ r12)) ∧
      ∃ q13 : Nat, R5 x4 0 = some q13 ∧
      (C8 q13).1 = 21 ∧
      vp_in x5 (C8 q13).2 ∧
      ∀ J16 : MJ, J16 = va_up J10 q13 (va_up (J10 q13) x5.toNatClampNeg r12) →
      (C8 x4).1 = 4 ∧
      ∃ q18 : Nat, R11 x4 0 = some q18 ∧
      (C8 q18).1 = 21 ∧
      vp_in x5 (C8 q18).2 ∧
      ∀ J21 : MJ, J21 = va_up J16 x4 (va_up (J16 x4) 2 ((J16 x4 2) + (J16 q18 x5.toNatClampNeg))) →
      Q36 x0 x2 x3 x4 (x5 + 1) C8 I9 J21 R11)) ∨
      (∃ q22 : Nat, o = .inr q22 ∧
      ((C2 q22).1 = 2 ∧
      K (.inr q22) C2 I3 J4 R5)))
def PX0_weights_71 (F_X0_on : SPF) (F_X0_sizeOf : SPF) (F_X0_want : SPF) (F_X3_init : SPF) (F_X0_number : SPF) (F_X3_less : SPF) (Q36 : Nat → Int32 → Nat → Nat → Int32 → MC → MI → MJ → MR → Prop) (K : AK) (x0 : Nat) (x2 : Int32) (x3 : Nat) (x4 : Nat) (x5 : Int32) (s0 : Nat) (C : MC) (I : MI) (J : MJ) (R : MR) : Prop :=
      PX0_weights_72 F_X0_on F_X0_sizeOf F_X0_want F_X3_init F_X0_number F_X3_less Q36 K x0 x2 x3 x4 x5 s0 (0 : Int32) C I J R
def PX0_weights_36 (F_X0_on : SPF) (F_X0_sizeOf : SPF) (F_X0_want : SPF) (F_X3_init : SPF) (F_X0_number : SPF) (F_X3_less : SPF) (Q36 : Nat → Int32 → Nat → Nat → Int32 → MC → MI → MJ → MR → Prop) (K : AK) (x0 : Nat) (x2 : Int32) (x3 : Nat) (x4 : Nat) (x5 : Int32) (C : MC) (I : MI) (J : MJ) (R : MR) : Prop :=
      ((x2 ≤ x5 →
      (C x4).1 = 4 ∧
      (((J x4 2) < (1 : Int64) →
      PX0_weights_141 F_X0_on F_X0_sizeOf F_X0_want F_X3_init F_X0_number F_X3_less Q36 K x4 x0 C I J R) ∧
      (¬ (J x4 2) < (1 : Int64) →
      (((1000 : Int64) < (J x4 2) →
      PX0_weights_141 F_X0_on F_X0_sizeOf F_X0_want F_X3_init F_X0_number F_X3_less Q36 K x4 x0 C I J R) ∧
      (¬ (1000 : Int64) < (J x4 2) →
      PX0_weights_142 F_X0_on F_X0_sizeOf F_X0_want F_X3_init F_X0_number F_X3_less Q36 K x4 x0 (1 : Int32) C I J R))))) ∧
      (¬ x2 ≤ x5 →
      F_X0_number [aR (some x3), aI x5] C I J R (fun o C5 I6 J7 R8 =>
      ∃ r9 : Int64, o = .inl (some (aJ r9)) ∧
      ((r9 < (0 : Int64) →
      PX0_weights_71 F_X0_on F_X0_sizeOf F_X0_want F_X3_init F_X0_number F_X3_less Q36 K x0 x2 x3 x4 x5 x0 C5 I6 J7 R8) ∧
      (¬ r9 < (0 : Int64) →
      F_X0_number [aR (some x3), aI x5] C5 I6 J7 R8 (fun o C11 I12 J13 R14 =>
      ∃ r15 : Int64, o = .inl (some (aJ r15)) ∧
      (((1000 : Int64) < r15 →
      PX0_weights_71 F_X0_on F_X0_sizeOf F_X0_want F_X3_init F_X0_number F_X3_less Q36 K x0 x2 x3 x4 x5 x0 C11 I12 J13 R14) ∧
      (¬ (1000 : Int64) < r15 →
      PX0_weights_72 F_X0_on F_X0_sizeOf F_X0_want F_X3_init F_X0_number F_X3_less Q36 K x0 x2 x3 x4 x5 x0 (1 : Int32) C11 I12 J13 R14))))))))
def PX0_weights_20 (F_X0_on : SPF) (F_X0_sizeOf : SPF) (F_X0_want : SPF) (F_X3_init : SPF) (F_X0_number : SPF) (F_X3_less : SPF) (Q36 : Nat → Int32 → Nat → Nat → Int32 → MC → MI → MJ → MR → Prop) (K : AK) (x0 : Nat) (x2 : Int32) (x3 : Nat) (s0 : Nat) (s1 : Int32) (C : MC) (I : MI) (J : MJ) (R : MR) : Prop :=
      (C s0).1 = 1 ∧
      F_X0_want [aR (some s0), aI s1, aI (3 : Int32)] C I J R (fun o C2 I3 J4 R5 =>
      (o = .inl none ∧
      ∃ q7 : Nat, (C2 q7).1 = 0 ∧
      ∀ (C9 : MC) (I10 : MI) (J11 : MJ) (R12 : MR), C9 = va_up C2 q7 (4, 0) → I10 = va_up I3 q7 (fun _ => 0) → J11 = va_up J4 q7 (fun _ => 0) → R12 = va_up R5 q7 (fun _ => none) → 
      F_X3_init [aR (some q7)] C9 I10 J11 R12 (fun o C13 I14 J15 R16 =>
      o = .inl none ∧
      Q36 x0 x2 x3 q7 (0 : Int32) C13 I14 J15 R16)) ∨
      (∃ q18 : Nat, o = .inr q18 ∧
      ((C2 q18).1 = 2 ∧
      K (.inr q18) C2 I3 J4 R5)))
def PX0_weights_0 (F_X0_on : SPF) (F_X0_sizeOf : SPF) (F_X0_want : SPF) (F_X3_init : SPF) (F_X0_number : SPF) (F_X3_less : SPF) (Q36 : Nat → Int32 → Nat → Nat → Int32 → MC → MI → MJ → MR → Prop) (K : AK) (x0 : Nat) (x1 : Int32) (x2 : Int32) (C : MC) (I : MI) (J : MJ) (R : MR) : Prop :=
      (C x0).1 = 1 ∧
      F_X0_on [aR (some x0), aI x1] C I J R (fun o C2 I3 J4 R5 =>
      (∃ r6 : Nat, o = .inl (some (aR (some r6))) ∧
      F_X0_sizeOf [aR (some r6)] C2 I3 J4 R5 (fun o C7 I8 J9 R10 =>
      ∃ r11 : Int32, o = .inl (some (aI r11)) ∧
      ((r11 < x2 →
      PX0_weights_20 F_X0_on F_X0_sizeOf F_X0_want F_X3_init F_X0_number F_X3_less Q36 K x0 x2 r6 x0 (0 : Int32) C7 I8 J9 R10) ∧
      (¬ r11 < x2 →
      PX0_weights_20 F_X0_on F_X0_sizeOf F_X0_want F_X3_init F_X0_number F_X3_less Q36 K x0 x2 r6 x0 (1 : Int32) C7 I8 J9 R10)))) ∨
      (∃ q13 : Nat, o = .inr q13 ∧
      ((C2 q13).1 = 2 ∧
      K (.inr q13) C2 I3 J4 R5)))
theorem wX0_weights {l : Launch}  {F_X0_on : SPF} (S_X0_on : SpX0_on l F_X0_on) {F_X0_sizeOf : SPF} (S_X0_sizeOf : SpX0_sizeOf l F_X0_sizeOf) {F_X0_want : SPF} (S_X0_want : SpX0_want l F_X0_want) {F_X3_init : SPF} (S_X3_init : SpX3_init l F_X3_init) {F_X0_number : SPF} (S_X0_number : SpX0_number l F_X0_number) {F_X3_less : SPF} (S_X3_less : SpX3_less l F_X3_less)
    (Q36 : Nat → AK → Nat → Int32 → Nat → Nat → Int32 → MC → MI → MJ → MR → Prop) {F : SPF}
    (h0 : ∀ (As : List AV) (C : MC) (I : MI) (J : MJ) (R : MR) (K : AK), F As C I J R K → ∃ (x0 : Nat) (x1 : Int32) (x2 : Int32), As = [aR (some x0), aI x1, aI x2] ∧ PX0_weights_0 F_X0_on F_X0_sizeOf F_X0_want F_X3_init F_X0_number F_X3_less (fun (x0 : Nat) (x2 : Int32) (x3 : Nat) (x4 : Nat) (x5 : Int32) (C : MC) (I : MI) (J : MJ) (R : MR) => ∃ n, Q36 n K x0 x2 x3 x4 x5 C I J R) K x0 x1 x2 C I J R)
    (h36 : ∀ (n : Nat) (K : AK) (x0 : Nat) (x2 : Int32) (x3 : Nat) (x4 : Nat) (x5 : Int32) (C : MC) (I : MI) (J : MJ) (R : MR), Q36 n K x0 x2 x3 x4 x5 C I J R → PX0_weights_36 F_X0_on F_X0_sizeOf F_X0_want F_X3_init F_X0_number F_X3_less (fun (x0 : Nat) (x2 : Int32) (x3 : Nat) (x4 : Nat) (x5 : Int32) (C : MC) (I : MI) (J : MJ) (R : MR) => ∃ m, m < n ∧ Q36 m K x0 x2 x3 x4 x5 C I J R) K x0 x2 x3 x4 x5 C I J R) : SpX0_weights l F := by
  refine Spec.of (by rfl) ?_
  intro Γ C I J R As Gd gl gr _ _ gb hF
  subst gl
  have G : Gb Γ yX0_weights cX0_weights 6 (some (.object "TickShare$Table")) [] rmX0_weights bdX0_weights := ⟨Gd, gr, gb⟩
  have key : ∀ n : Nat, (∀ (x0 : Nat) (x2 : Int32) (x3 : Nat) (x4 : Nat) (x5 : Int32) (C : MC) (I : MI) (J : MJ) (R : MR), Q36 n (gK Γ) x0 x2 x3 x4 x5 C I J R → AW Γ 3 245 C I J R 36 [(0, aR (some x0)), (2, aI x2), (3, aR (some x3)), (4, aR (some x4)), (5, aI x5)] []) := by
    intro n
    induction n using Nat.strongRecOn with
    | ind n ih =>
    have w36 : ∀ (x0 : Nat) (x2 : Int32) (x3 : Nat) (x4 : Nat) (x5 : Int32) (C : MC) (I : MI) (J : MJ) (R : MR), (∃ m, m < n ∧ Q36 m (gK Γ) x0 x2 x3 x4 x5 C I J R) → AW Γ 3 245 C I J R 36 [(0, aR (some x0)), (2, aI x2), (3, aR (some x3)), (4, aR (some x4)), (5, aI x5)] [] := fun x0 x2 x3 x4 x5 C I J R ⟨m, hm, hq⟩ => (ih m hm) x0 x2 x3 x4 x5 C I J R hq
    have w142 : ∀ (x4 : Nat) (s0 : Nat) (s1 : Int32) (C : MC) (I : MI) (J : MJ) (R : MR), PX0_weights_142 F_X0_on F_X0_sizeOf F_X0_want F_X3_init F_X0_number F_X3_less (fun (x0 : Nat) (x2 : Int32) (x3 : Nat) (x4 : Nat) (x5 : Int32) (C : MC) (I : MI) (J : MJ) (R : MR) => ∃ m, m < n ∧ Q36 m (gK Γ) x0 x2 x3 x4 x5 C I J R) (gK Γ) x4 s0 s1 C I J R → AW Γ 3 245 C I J R 142 [(4, aR (some x4))] [aI s1, aR (some s0)] := fun x4 s0 s1 C I J R h => bX0_weights_142 G S_X0_want S_X3_less h
    have w141 : ∀ (x4 : Nat) (s0 : Nat) (C : MC) (I : MI) (J : MJ) (R : MR), PX0_weights_141 F_X0_on F_X0_sizeOf F_X0_want F_X3_init F_X0_number F_X3_less (fun (x0 : Nat) (x2 : Int32) (x3 : Nat) (x4 : Nat) (x5 : Int32) (C : MC) (I : MI) (J : MJ) (R : MR) => ∃ m, m < n ∧ Q36 m (gK Γ) x0 x2 x3 x4 x5 C I J R) (gK Γ) x4 s0 C I J R → AW Γ 3 245 C I J R 141 [(4, aR (some x4))] [aR (some s0)] := fun x4 s0 C I J R h => bX0_weights_141 G w142 h
    have w72 : ∀ (x0 : Nat) (x2 : Int32) (x3 : Nat) (x4 : Nat) (x5 : Int32) (s0 : Nat) (s1 : Int32) (C : MC) (I : MI) (J : MJ) (R : MR), PX0_weights_72 F_X0_on F_X0_sizeOf F_X0_want F_X3_init F_X0_number F_X3_less (fun (x0 : Nat) (x2 : Int32) (x3 : Nat) (x4 : Nat) (x5 : Int32) (C : MC) (I : MI) (J : MJ) (R : MR) => ∃ m, m < n ∧ Q36 m (gK Γ) x0 x2 x3 x4 x5 C I J R) (gK Γ) x0 x2 x3 x4 x5 s0 s1 C I J R → AW Γ 3 245 C I J R 72 [(0, aR (some x0)), (2, aI x2), (3, aR (some x3)), (4, aR (some x4)), (5, aI x5)] [aI s1, aR (some s0)] := fun x0 x2 x3 x4 x5 s0 s1 C I J R h => bX0_weights_72 G S_X0_want S_X0_number w36 h
    have w71 : ∀ (x0 : Nat) (x2 : Int32) (x3 : Nat) (x4 : Nat) (x5 : Int32) (s0 : Nat) (C : MC) (I : MI) (J : MJ) (R : MR), PX0_weights_71 F_X0_on F_X0_sizeOf F_X0_want F_X3_init F_X0_number F_X3_less (fun (x0 : Nat) (x2 : Int32) (x3 : Nat) (x4 : Nat) (x5 : Int32) (C : MC) (I : MI) (J : MJ) (R : MR) => ∃ m, m < n ∧ Q36 m (gK Γ) x0 x2 x3 x4 x5 C I J R) (gK Γ) x0 x2 x3 x4 x5 s0 C I J R → AW Γ 3 245 C I J R 71 [(0, aR (some x0)), (2, aI x2), (3, aR (some x3)), (4, aR (some x4)), (5, aI x5)] [aR (some s0)] := fun x0 x2 x3 x4 x5 s0 C I J R h => bX0_weights_71 G w72 h
    have w20 : ∀ (x0 : Nat) (x2 : Int32) (x3 : Nat) (s0 : Nat) (s1 : Int32) (C : MC) (I : MI) (J : MJ) (R : MR), PX0_weights_20 F_X0_on F_X0_sizeOf F_X0_want F_X3_init F_X0_number F_X3_less (fun (x0 : Nat) (x2 : Int32) (x3 : Nat) (x4 : Nat) (x5 : Int32) (C : MC) (I : MI) (J : MJ) (R : MR) => ∃ m, m < n ∧ Q36 m (gK Γ) x0 x2 x3 x4 x5 C I J R) (gK Γ) x0 x2 x3 s0 s1 C I J R → AW Γ 0 0 C I J R 20 [(0, aR (some x0)), (2, aI x2), (3, aR (some x3))] [aI s1, aR (some s0)] := fun x0 x2 x3 s0 s1 C I J R h => bX0_weights_20 G S_X0_want S_X3_init w36 h
    exact fun x0 x2 x3 x4 x5 C I J R h => bX0_weights_36 G S_X0_number w71 w72 w141 w142 (h36 n (gK Γ) x0 x2 x3 x4 x5 C I J R h)
  have w36 : ∀ (x0 : Nat) (x2 : Int32) (x3 : Nat) (x4 : Nat) (x5 : Int32) (C : MC) (I : MI) (J : MJ) (R : MR), (∃ n, Q36 n (gK Γ) x0 x2 x3 x4 x5 C I J R) → AW Γ 3 245 C I J R 36 [(0, aR (some x0)), (2, aI x2), (3, aR (some x3)), (4, aR (some x4)), (5, aI x5)] [] := fun x0 x2 x3 x4 x5 C I J R ⟨m, hq⟩ => (key m) x0 x2 x3 x4 x5 C I J R hq
  have w142 : ∀ (x4 : Nat) (s0 : Nat) (s1 : Int32) (C : MC) (I : MI) (J : MJ) (R : MR), PX0_weights_142 F_X0_on F_X0_sizeOf F_X0_want F_X3_init F_X0_number F_X3_less (fun (x0 : Nat) (x2 : Int32) (x3 : Nat) (x4 : Nat) (x5 : Int32) (C : MC) (I : MI) (J : MJ) (R : MR) => ∃ n, Q36 n (gK Γ) x0 x2 x3 x4 x5 C I J R) (gK Γ) x4 s0 s1 C I J R → AW Γ 3 245 C I J R 142 [(4, aR (some x4))] [aI s1, aR (some s0)] := fun x4 s0 s1 C I J R h => bX0_weights_142 G S_X0_want S_X3_less h
  have w141 : ∀ (x4 : Nat) (s0 : Nat) (C : MC) (I : MI) (J : MJ) (R : MR), PX0_weights_141 F_X0_on F_X0_sizeOf F_X0_want F_X3_init F_X0_number F_X3_less (fun (x0 : Nat) (x2 : Int32) (x3 : Nat) (x4 : Nat) (x5 : Int32) (C : MC) (I : MI) (J : MJ) (R : MR) => ∃ n, Q36 n (gK Γ) x0 x2 x3 x4 x5 C I J R) (gK Γ) x4 s0 C I J R → AW Γ 3 245 C I J R 141 [(4, aR (some x4))] [aR (some s0)] := fun x4 s0 C I J R h => bX0_weights_141 G w142 h
  have w72 : ∀ (x0 : Nat) (x2 : Int32) (x3 : Nat) (x4 : Nat) (x5 : Int32) (s0 : Nat) (s1 : Int32) (C : MC) (I : MI) (J : MJ) (R : MR), PX0_weights_72 F_X0_on F_X0_sizeOf F_X0_want F_X3_init F_X0_number F_X3_less (fun (x0 : Nat) (x2 : Int32) (x3 : Nat) (x4 : Nat) (x5 : Int32) (C : MC) (I : MI) (J : MJ) (R : MR) => ∃ n, Q36 n (gK Γ) x0 x2 x3 x4 x5 C I J R) (gK Γ) x0 x2 x3 x4 x5 s0 s1 C I J R → AW Γ 3 245 C I J R 72 [(0, aR (some x0)), (2, aI x2), (3, aR (some x3)), (4, aR (some x4)), (5, aI x5)] [aI s1, aR (some s0)] := fun x0 x2 x3 x4 x5 s0 s1 C I J R h => bX0_weights_72 G S_X0_want S_X0_number w36 h
  have w71 : ∀ (x0 : Nat) (x2 : Int32) (x3 : Nat) (x4 : Nat) (x5 : Int32) (s0 : Nat) (C : MC) (I : MI) (J : MJ) (R : MR), PX0_weights_71 F_X0_on F_X0_sizeOf F_X0_want F_X3_init F_X0_number F_X3_less (fun (x0 : Nat) (x2 : Int32) (x3 : Nat) (x4 : Nat) (x5 : Int32) (C : MC) (I : MI) (J : MJ) (R : MR) => ∃ n, Q36 n (gK Γ) x0 x2 x3 x4 x5 C I J R) (gK Γ) x0 x2 x3 x4 x5 s0 C I J R → AW Γ 3 245 C I J R 71 [(0, aR (some x0)), (2, aI x2), (3, aR (some x3)), (4, aR (some x4)), (5, aI x5)] [aR (some s0)] := fun x0 x2 x3 x4 x5 s0 C I J R h => bX0_weights_71 G w72 h
  have w20 : ∀ (x0 : Nat) (x2 : Int32) (x3 : Nat) (s0 : Nat) (s1 : Int32) (C : MC) (I : MI) (J : MJ) (R : MR), PX0_weights_20 F_X0_on F_X0_sizeOf F_X0_want F_X3_init F_X0_number F_X3_less (fun (x0 : Nat) (x2 : Int32) (x3 : Nat) (x4 : Nat) (x5 : Int32) (C : MC) (I : MI) (J : MJ) (R : MR) => ∃ n, Q36 n (gK Γ) x0 x2 x3 x4 x5 C I J R) (gK Γ) x0 x2 x3 s0 s1 C I J R → AW Γ 0 0 C I J R 20 [(0, aR (some x0)), (2, aI x2), (3, aR (some x3))] [aI s1, aR (some s0)] := fun x0 x2 x3 s0 s1 C I J R h => bX0_weights_20 G S_X0_want S_X3_init w36 h
  obtain ⟨x0, x1, x2, rfl, h⟩ := h0 As C I J R (gK Γ) hF
  exact ⟨Nat.le_of_ble_eq_true rfl, bX0_weights_0 G S_X0_on S_X0_sizeOf w20 h⟩
def PX0_sizeOf_0 (K : AK) (x0 : Nat) (C : MC) (I : MI) (J : MJ) (R : MR) : Prop :=
      kPr (C x0).1 ∧
      (((C x0).1 = 22 →
      (20 ≤ (C x0).1 ∧ (C x0).1 ≤ 30) ∧
      K (.inl (some (aI (nI (C x0).2)))) C I J R) ∧
      (¬ (C x0).1 = 22 →
      (((C x0).1 = 23 →
      (20 ≤ (C x0).1 ∧ (C x0).1 ≤ 30) ∧
      K (.inl (some (aI (nI (C x0).2)))) C I J R) ∧
      (¬ (C x0).1 = 23 →
      (((C x0).1 = 20 →
      (20 ≤ (C x0).1 ∧ (C x0).1 ≤ 30) ∧
      K (.inl (some (aI (nI (C x0).2)))) C I J R) ∧
      (¬ (C x0).1 = 20 →
      (C x0).1 = 21 ∧
      (20 ≤ (C x0).1 ∧ (C x0).1 ≤ 30) ∧
      K (.inl (some (aI (nI (C x0).2)))) C I J R))))))
theorem wX0_sizeOf {l : Launch}  {F : SPF}
    (h0 : ∀ (As : List AV) (C : MC) (I : MI) (J : MJ) (R : MR) (K : AK), F As C I J R K → ∃ (x0 : Nat), As = [aR (some x0)] ∧ PX0_sizeOf_0 K x0 C I J R) : SpX0_sizeOf l F := by
  refine Spec.of (by rfl) ?_
  intro Γ C I J R As Gd gl gr _ _ gb hF
  subst gl
  have G : Gb Γ yX0_sizeOf cX0_sizeOf 2 (some .int) [] rmX0_sizeOf bdX0_sizeOf := ⟨Gd, gr, gb⟩
  obtain ⟨x0, rfl, h⟩ := h0 As C I J R (gK Γ) hF
  exact ⟨Nat.le_of_ble_eq_true rfl, bX0_sizeOf_0 G h⟩
def PX0_adds_0 (K : AK) (x0 : Nat) (x1 : Nat) (C : MC) (I : MI) (J : MJ) (R : MR) : Prop :=
      (C x0).1 = 1 ∧
      ∃ q2 : Nat, R x0 2 = some q2 ∧
      (25 ≤ (C q2).1 ∧ (C q2).1 < 29) ∧
      kFit (C q2).1 (C x1).1 ∧
      vp_in (I x0 3) (C q2).2 ∧
      ∀ R6 : MR, R6 = va_up R q2 (va_up (R q2) (I x0 3).toNatClampNeg (some x1)) →
      ∀ I7 : MI, I7 = va_up I x0 (va_up (I x0) 3 ((I x0 3) + (1 : Int32))) →
      K (.inl (some (aI ((I7 x0 3) - (1 : Int32))))) C I7 J R6
theorem wX0_adds {l : Launch}  {F : SPF}
    (h0 : ∀ (As : List AV) (C : MC) (I : MI) (J : MJ) (R : MR) (K : AK), F As C I J R K → ∃ (x0 : Nat) (x1 : Nat), As = [aR (some x0), aR (some x1)] ∧ PX0_adds_0 K x0 x1 C I J R) : SpX0_adds l F := by
  refine Spec.of (by rfl) ?_
  intro Γ C I J R As Gd gl gr _ _ gb hF
  subst gl
  have G : Gb Γ yX0_adds cX0_adds 2 (some .int) [] rmX0_adds bdX0_adds := ⟨Gd, gr, gb⟩
  obtain ⟨x0, x1, rfl, h⟩ := h0 As C I J R (gK Γ) hF
  exact ⟨Nat.le_of_ble_eq_true rfl, bX0_adds_0 G h⟩
def PX0_row_2_68 (F_X0_free : SPF) (F_X0_want : SPF) (F_X0_wantFree : SPF) (F_X6_init : SPF) (F_X0_adds : SPF) (F_X0_none : SPF) (K : AK) (x0 : Nat) (s0 : Nat) (C : MC) (I : MI) (J : MJ) (R : MR) : Prop :=
      (C x0).1 = 1 ∧
      F_X0_none [aR (some x0), aR (some s0)] C I J R (fun o C2 I3 J4 R5 =>
      ∃ r6 : Int32, o = .inl (some (aI r6)) ∧
      K (.inl (some (aI r6))) C2 I3 J4 R5)
def PX0_row_2_44 (F_X0_free : SPF) (F_X0_want : SPF) (F_X0_wantFree : SPF) (F_X6_init : SPF) (F_X0_adds : SPF) (F_X0_none : SPF) (K : AK) (x0 : Nat) (x5 : Nat) (s0 : Nat) (s1 : Int32) (C : MC) (I : MI) (J : MJ) (R : MR) : Prop :=
      (C s0).1 = 1 ∧
      F_X0_want [aR (some s0), aI s1, aI (1 : Int32)] C I J R (fun o C2 I3 J4 R5 =>
      (o = .inl none ∧
      (C2 x0).1 = 1 ∧
      F_X0_wantFree [aR (some x0), aR (some x5)] C2 I3 J4 R5 (fun o C8 I9 J10 R11 =>
      (o = .inl none ∧
      ∃ q13 : Nat, (C8 q13).1 = 0 ∧
      ∀ (C15 : MC) (I16 : MI) (J17 : MJ) (R18 : MR), C15 = va_up C8 q13 (6, 0) → I16 = va_up I9 q13 (fun _ => 0) → J17 = va_up J10 q13 (fun _ => 0) → R18 = va_up R11 q13 (fun _ => none) → 
      F_X6_init [aR (some q13), aR (some x5)] C15 I16 J17 R18 (fun o C19 I20 J21 R22 =>
      o = .inl none ∧
      (C19 x0).1 = 1 ∧
      F_X0_adds [aR (some x0), aR (some q13)] C19 I20 J21 R22 (fun o C25 I26 J27 R28 =>
      ∃ r29 : Int32, o = .inl (some (aI r29)) ∧
      K (.inl (some (aI r29))) C25 I26 J27 R28))) ∨
      (∃ q30 : Nat, o = .inr q30 ∧
      ((C8 q30).1 = 2 ∧
      PX0_row_2_68 F_X0_free F_X0_want F_X0_wantFree F_X6_init F_X0_adds F_X0_none K x0 q30 C8 I9 J10 R11)))) ∨
      (∃ q32 : Nat, o = .inr q32 ∧
      ((C2 q32).1 = 2 ∧
      PX0_row_2_68 F_X0_free F_X0_want F_X0_wantFree F_X6_init F_X0_adds F_X0_none K x0 q32 C2 I3 J4 R5)))
def PX0_row_2_0 (F_X0_free : SPF) (F_X0_want : SPF) (F_X0_wantFree : SPF) (F_X6_init : SPF) (F_X0_adds : SPF) (F_X0_none : SPF) (K : AK) (x0 : Nat) (x1 : Int32) (x2 : Int32) (x3 : Int32) (x4 : Int32) (C : MC) (I : MI) (J : MJ) (R : MR) : Prop :=
      (C x0).1 = 1 ∧
      ∀ I2 : MI, I2 = va_up I x0 (va_up (I x0) 5 (0 : Int32)) →
      ∃ q3 : Nat, (C q3).1 = 0 ∧
      ∀ (C5 : MC) (I6 : MI) (J7 : MJ) (R8 : MR), C5 = va_up C q3 (20, 4) → I6 = va_up I2 q3 (fun _ => 0) → J7 = va_up J q3 (fun _ => 0) → R8 = va_up R q3 (fun _ => none) → 
      (C5 q3).1 = 20 ∧
      vp_in (0 : Int32) (C5 q3).2 ∧
      ∀ I11 : MI, I11 = va_up I6 q3 (va_up (I6 q3) (0 : Int32).toNatClampNeg x1) →
      vp_in (1 : Int32) (C5 q3).2 ∧
      ∀ I13 : MI, I13 = va_up I11 q3 (va_up (I11 q3) (1 : Int32).toNatClampNeg x2) →
      vp_in (2 : Int32) (C5 q3).2 ∧
      ∀ I15 : MI, I15 = va_up I13 q3 (va_up (I13 q3) (2 : Int32).toNatClampNeg x3) →
      vp_in (3 : Int32) (C5 q3).2 ∧
      ∀ I17 : MI, I17 = va_up I15 q3 (va_up (I15 q3) (3 : Int32).toNatClampNeg x4) →
      (C5 x0).1 = 1 ∧
      F_X0_free [aR (some x0), aR (some q3)] C5 I17 J7 R8 (fun o C19 I20 J21 R22 =>
      (∃ r23 : Nat, o = .inl (some (aR (some r23))) ∧
      (20 ≤ (C19 r23).1 ∧ (C19 r23).1 ≤ 30) ∧
      (((nI (C19 r23).2) < (2 : Int32) →
      PX0_row_2_44 F_X0_free F_X0_want F_X0_wantFree F_X6_init F_X0_adds F_X0_none K x0 r23 x0 (0 : Int32) C19 I20 J21 R22) ∧
      (¬ (nI (C19 r23).2) < (2 : Int32) →
      PX0_row_2_44 F_X0_free F_X0_want F_X0_wantFree F_X6_init F_X0_adds F_X0_none K x0 r23 x0 (1 : Int32) C19 I20 J21 R22))) ∨
      (∃ q26 : Nat, o = .inr q26 ∧
      ((C19 q26).1 = 2 ∧
      PX0_row_2_68 F_X0_free F_X0_want F_X0_wantFree F_X6_init F_X0_adds F_X0_none K x0 q26 C19 I20 J21 R22)))
theorem wX0_row_2 {l : Launch}  {F_X0_free : SPF} (S_X0_free : SpX0_free l F_X0_free) {F_X0_want : SPF} (S_X0_want : SpX0_want l F_X0_want) {F_X0_wantFree : SPF} (S_X0_wantFree : SpX0_wantFree l F_X0_wantFree) {F_X6_init : SPF} (S_X6_init : SpX6_init l F_X6_init) {F_X0_adds : SPF} (S_X0_adds : SpX0_adds l F_X0_adds) {F_X0_none : SPF} (S_X0_none : SpX0_none l F_X0_none) {F : SPF}
    (h0 : ∀ (As : List AV) (C : MC) (I : MI) (J : MJ) (R : MR) (K : AK), F As C I J R K → ∃ (x0 : Nat) (x1 : Int32) (x2 : Int32) (x3 : Int32) (x4 : Int32), As = [aR (some x0), aI x1, aI x2, aI x3, aI x4] ∧ PX0_row_2_0 F_X0_free F_X0_want F_X0_wantFree F_X6_init F_X0_adds F_X0_none K x0 x1 x2 x3 x4 C I J R) : SpX0_row_2 l F := by
  refine Spec.ofH (by rfl) ?_
  intro Γ C I J R As Gd gl gr _ _ gb hF
  subst gl
  have G : Gb Γ yX0_row_2 cX0_row_2 6 (some .int) [(5, 67, 68, 53)] rmX0_row_2 bdX0_row_2 := ⟨Gd, gr, gb⟩
  have w68 : ∀ (x0 : Nat) (s0 : Nat) (C : MC) (I : MI) (J : MJ) (R : MR), PX0_row_2_68 F_X0_free F_X0_want F_X0_wantFree F_X6_init F_X0_adds F_X0_none (gK Γ) x0 s0 C I J R → AW Γ 2 8 C I J R 68 [(0, aR (some x0))] [aR (some s0)] := fun x0 s0 C I J R h => bX0_row_2_68 G S_X0_none h
  have w44 : ∀ (x0 : Nat) (x5 : Nat) (s0 : Nat) (s1 : Int32) (C : MC) (I : MI) (J : MJ) (R : MR), PX0_row_2_44 F_X0_free F_X0_want F_X0_wantFree F_X6_init F_X0_adds F_X0_none (gK Γ) x0 x5 s0 s1 C I J R → AW Γ 2 8 C I J R 44 [(0, aR (some x0)), (5, aR (some x5))] [aI s1, aR (some s0)] := fun x0 x5 s0 s1 C I J R h => bX0_row_2_44 G S_X0_want S_X0_wantFree S_X6_init S_X0_adds w68 h
  obtain ⟨x0, x1, x2, x3, x4, rfl, h⟩ := h0 As C I J R (gK Γ) hF
  exact ⟨Nat.le_of_ble_eq_true rfl, bX0_row_2_0 G S_X0_free w44 w68 h⟩
def PX0_free_60 (F_X0_want : SPF) (F_X0_thing : SPF) (Q2 : Nat → Nat → Int32 → MC → MI → MJ → MR → Prop) (Q23 : Nat → Nat → Int32 → Int32 → MC → MI → MJ → MR → Prop) (Q60 : Nat → Nat → Int32 → Nat → Int32 → MC → MI → MJ → MR → Prop) (K : AK) (x0 : Nat) (x1 : Nat) (x2 : Int32) (x3 : Nat) (x4 : Int32) (C : MC) (I : MI) (J : MJ) (R : MR) : Prop :=
      ((x2 ≤ x4 →
      K (.inl (some (aR (some x3)))) C I J R) ∧
      (¬ x2 ≤ x4 →
      (C x1).1 = 20 ∧
      vp_in x4 (C x1).2 ∧
      (C x0).1 = 1 ∧
      F_X0_thing [aR (some x0), aI (I x1 x4.toNatClampNeg)] C I J R (fun o C5 I6 J7 R8 =>
      (∃ r9 : Nat, o = .inl (some (aR (some r9))) ∧
      (25 ≤ (C5 x3).1 ∧ (C5 x3).1 < 29) ∧
      kFit (C5 x3).1 (C5 r9).1 ∧
      vp_in x4 (C5 x3).2 ∧
      ∀ R13 : MR, R13 = va_up R8 x3 (va_up (R8 x3) x4.toNatClampNeg (some r9)) →
      Q60 x0 x1 x2 x3 (x4 + 1) C5 I6 J7 R13) ∨
      (∃ q14 : Nat, o = .inr q14 ∧
      ((C5 q14).1 = 2 ∧
      K (.inr q14) C5 I6 J7 R8)))))
def PX0_free_42 (F_X0_want : SPF) (F_X0_thing : SPF) (Q2 : Nat → Nat → Int32 → MC → MI → MJ → MR → Prop) (Q23 : Nat → Nat → Int32 → Int32 → MC → MI → MJ → MR → Prop) (Q60 : Nat → Nat → Int32 → Nat → Int32 → MC → MI → MJ → MR → Prop) (K : AK) (x0 : Nat) (x1 : Nat) (x2 : Int32) (x3 : Int32) (s0 : Nat) (s1 : Int32) (C : MC) (I : MI) (J : MJ) (R : MR) : Prop :=
      (C s0).1 = 1 ∧
      F_X0_want [aR (some s0), aI s1, aI (1 : Int32)] C I J R (fun o C2 I3 J4 R5 =>
      (o = .inl none ∧
      Q23 x0 x1 x2 (x3 + 1) C2 I3 J4 R5) ∨
      (∃ q7 : Nat, o = .inr q7 ∧
      ((C2 q7).1 = 2 ∧
      K (.inr q7) C2 I3 J4 R5)))
def PX0_free_23 (F_X0_want : SPF) (F_X0_thing : SPF) (Q2 : Nat → Nat → Int32 → MC → MI → MJ → MR → Prop) (Q23 : Nat → Nat → Int32 → Int32 → MC → MI → MJ → MR → Prop) (Q60 : Nat → Nat → Int32 → Nat → Int32 → MC → MI → MJ → MR → Prop) (K : AK) (x0 : Nat) (x1 : Nat) (x2 : Int32) (x3 : Int32) (C : MC) (I : MI) (J : MJ) (R : MR) : Prop :=
      (20 ≤ (C x1).1 ∧ (C x1).1 ≤ 30) ∧
      (((nI (C x1).2) ≤ x3 →
      ¬ x2 < 0 ∧
      x2.toNatClampNeg ≤ 4 ∧
      ∃ q3 : Nat, (C q3).1 = 0 ∧
      ∀ (C7 : MC) (I8 : MI) (J9 : MJ) (R10 : MR), C7 = va_up C q3 (26, x2.toNatClampNeg) → I8 = va_up I q3 (fun _ => 0) → J9 = va_up J q3 (fun _ => 0) → R10 = va_up R q3 (fun _ => none) → 
      Q60 x0 x1 x2 q3 (0 : Int32) C7 I8 J9 R10) ∧
      (¬ (nI (C x1).2) ≤ x3 →
      (C x1).1 = 20 ∧
      vp_in x3 (C x1).2 ∧
      ((¬ (I x1 x3.toNatClampNeg) = (-1 : Int32) →
      PX0_free_42 F_X0_want F_X0_thing Q2 Q23 Q60 K x0 x1 x2 x3 x0 (0 : Int32) C I J R) ∧
      ((I x1 x3.toNatClampNeg) = (-1 : Int32) →
      PX0_free_42 F_X0_want F_X0_thing Q2 Q23 Q60 K x0 x1 x2 x3 x0 (1 : Int32) C I J R))))
def PX0_free_21 (F_X0_want : SPF) (F_X0_thing : SPF) (Q2 : Nat → Nat → Int32 → MC → MI → MJ → MR → Prop) (Q23 : Nat → Nat → Int32 → Int32 → MC → MI → MJ → MR → Prop) (Q60 : Nat → Nat → Int32 → Nat → Int32 → MC → MI → MJ → MR → Prop) (K : AK) (x0 : Nat) (x1 : Nat) (x2 : Int32) (C : MC) (I : MI) (J : MJ) (R : MR) : Prop :=
      Q23 x0 x1 x2 x2 C I J R
def PX0_free_2 (F_X0_want : SPF) (F_X0_thing : SPF) (Q2 : Nat → Nat → Int32 → MC → MI → MJ → MR → Prop) (Q23 : Nat → Nat → Int32 → Int32 → MC → MI → MJ → MR → Prop) (Q60 : Nat → Nat → Int32 → Nat → Int32 → MC → MI → MJ → MR → Prop) (K : AK) (x0 : Nat) (x1 : Nat) (x2 : Int32) (C : MC) (I : MI) (J : MJ) (R : MR) : Prop :=
      (20 ≤ (C x1).1 ∧ (C x1).1 ≤ 30) ∧
      (((nI (C x1).2) ≤ x2 →
      PX0_free_21 F_X0_want F_X0_thing Q2 Q23 Q60 K x0 x1 x2 C I J R) ∧
      (¬ (nI (C x1).2) ≤ x2 →
      (C x1).1 = 20 ∧
      vp_in x2 (C x1).2 ∧
      (((I x1 x2.toNatClampNeg) = (-1 : Int32) →
      PX0_free_21 F_X0_want F_X0_thing Q2 Q23 Q60 K x0 x1 x2 C I J R) ∧
      (¬ (I x1 x2.toNatClampNeg) = (-1 : Int32) →
      Q2 x0 x1 (x2 + 1) C I J R))))
def PX0_free_0 (F_X0_want : SPF) (F_X0_thing : SPF) (Q2 : Nat → Nat → Int32 → MC → MI → MJ → MR → Prop) (Q23 : Nat → Nat → Int32 → Int32 → MC → MI → MJ → MR → Prop) (Q60 : Nat → Nat → Int32 → Nat → Int32 → MC → MI → MJ → MR → Prop) (K : AK) (x0 : Nat) (x1 : Nat) (C : MC) (I : MI) (J : MJ) (R : MR) : Prop :=
      Q2 x0 x1 (0 : Int32) C I J R
theorem wX0_free {l : Launch}  {F_X0_want : SPF} (S_X0_want : SpX0_want l F_X0_want) {F_X0_thing : SPF} (S_X0_thing : SpX0_thing l F_X0_thing)
    (Q2 : Nat → AK → Nat → Nat → Int32 → MC → MI → MJ → MR → Prop)
    (Q23 : Nat → AK → Nat → Nat → Int32 → Int32 → MC → MI → MJ → MR → Prop)
    (Q60 : Nat → AK → Nat → Nat → Int32 → Nat → Int32 → MC → MI → MJ → MR → Prop) {F : SPF}
    (h0 : ∀ (As : List AV) (C : MC) (I : MI) (J : MJ) (R : MR) (K : AK), F As C I J R K → ∃ (x0 : Nat) (x1 : Nat), As = [aR (some x0), aR (some x1)] ∧ PX0_free_0 F_X0_want F_X0_thing (fun (x0 : Nat) (x1 : Nat) (x2 : Int32) (C : MC) (I : MI) (J : MJ) (R : MR) => ∃ n, Q2 n K x0 x1 x2 C I J R) (fun (x0 : Nat) (x1 : Nat) (x2 : Int32) (x3 : Int32) (C : MC) (I : MI) (J : MJ) (R : MR) => ∃ n, Q23 n K x0 x1 x2 x3 C I J R) (fun (x0 : Nat) (x1 : Nat) (x2 : Int32) (x3 : Nat) (x4 : Int32) (C : MC) (I : MI) (J : MJ) (R : MR) => ∃ n, Q60 n K x0 x1 x2 x3 x4 C I J R) K x0 x1 C I J R)
    (h2 : ∀ (n : Nat) (K : AK) (x0 : Nat) (x1 : Nat) (x2 : Int32) (C : MC) (I : MI) (J : MJ) (R : MR), Q2 n K x0 x1 x2 C I J R → PX0_free_2 F_X0_want F_X0_thing (fun (x0 : Nat) (x1 : Nat) (x2 : Int32) (C : MC) (I : MI) (J : MJ) (R : MR) => ∃ m, m < n ∧ Q2 m K x0 x1 x2 C I J R) (fun (x0 : Nat) (x1 : Nat) (x2 : Int32) (x3 : Int32) (C : MC) (I : MI) (J : MJ) (R : MR) => ∃ m, m < n ∧ Q23 m K x0 x1 x2 x3 C I J R) (fun (x0 : Nat) (x1 : Nat) (x2 : Int32) (x3 : Nat) (x4 : Int32) (C : MC) (I : MI) (J : MJ) (R : MR) => ∃ m, m < n ∧ Q60 m K x0 x1 x2 x3 x4 C I J R) K x0 x1 x2 C I J R)
    (h23 : ∀ (n : Nat) (K : AK) (x0 : Nat) (x1 : Nat) (x2 : Int32) (x3 : Int32) (C : MC) (I : MI) (J : MJ) (R : MR), Q23 n K x0 x1 x2 x3 C I J R → PX0_free_23 F_X0_want F_X0_thing (fun (x0 : Nat) (x1 : Nat) (x2 : Int32) (C : MC) (I : MI) (J : MJ) (R : MR) => ∃ m, m < n ∧ Q2 m K x0 x1 x2 C I J R) (fun (x0 : Nat) (x1 : Nat) (x2 : Int32) (x3 : Int32) (C : MC) (I : MI) (J : MJ) (R : MR) => ∃ m, m < n ∧ Q23 m K x0 x1 x2 x3 C I J R) (fun (x0 : Nat) (x1 : Nat) (x2 : Int32) (x3 : Nat) (x4 : Int32) (C : MC) (I : MI) (J : MJ) (R : MR) => ∃ m, m < n ∧ Q60 m K x0 x1 x2 x3 x4 C I J R) K x0 x1 x2 x3 C I J R)
    (h60 : ∀ (n : Nat) (K : AK) (x0 : Nat) (x1 : Nat) (x2 : Int32) (x3 : Nat) (x4 : Int32) (C : MC) (I : MI) (J : MJ) (R : MR), Q60 n K x0 x1 x2 x3 x4 C I J R → PX0_free_60 F_X0_want F_X0_thing (fun (x0 : Nat) (x1 : Nat) (x2 : Int32) (C : MC) (I : MI) (J : MJ) (R : MR) => ∃ m, m < n ∧ Q2 m K x0 x1 x2 C I J R) (fun (x0 : Nat) (x1 : Nat) (x2 : Int32) (x3 : Int32) (C : MC) (I : MI) (J : MJ) (R : MR) => ∃ m, m < n ∧ Q23 m K x0 x1 x2 x3 C I J R) (fun (x0 : Nat) (x1 : Nat) (x2 : Int32) (x3 : Nat) (x4 : Int32) (C : MC) (I : MI) (J : MJ) (R : MR) => ∃ m, m < n ∧ Q60 m K x0 x1 x2 x3 x4 C I J R) K x0 x1 x2 x3 x4 C I J R) : SpX0_free l F := by
  refine Spec.of (by rfl) ?_
  intro Γ C I J R As Gd gl gr _ _ gb hF
  subst gl
  have G : Gb Γ yX0_free cX0_free 5 (some (.array (.object "TickShare$Thing"))) [] rmX0_free bdX0_free := ⟨Gd, gr, gb⟩
  have key : ∀ n : Nat, (∀ (x0 : Nat) (x1 : Nat) (x2 : Int32) (C : MC) (I : MI) (J : MJ) (R : MR), Q2 n (gK Γ) x0 x1 x2 C I J R → AW Γ 0 0 C I J R 2 [(0, aR (some x0)), (1, aR (some x1)), (2, aI x2)] []) ∧ (∀ (x0 : Nat) (x1 : Nat) (x2 : Int32) (x3 : Int32) (C : MC) (I : MI) (J : MJ) (R : MR), Q23 n (gK Γ) x0 x1 x2 x3 C I J R → AW Γ 0 0 C I J R 23 [(0, aR (some x0)), (1, aR (some x1)), (2, aI x2), (3, aI x3)] []) ∧ (∀ (x0 : Nat) (x1 : Nat) (x2 : Int32) (x3 : Nat) (x4 : Int32) (C : MC) (I : MI) (J : MJ) (R : MR), Q60 n (gK Γ) x0 x1 x2 x3 x4 C I J R → AW Γ 1 4 C I J R 60 [(0, aR (some x0)), (1, aR (some x1)), (2, aI x2), (3, aR (some x3)), (4, aI x4)] []) := by
    intro n
    induction n using Nat.strongRecOn with
    | ind n ih =>
    have w2 : ∀ (x0 : Nat) (x1 : Nat) (x2 : Int32) (C : MC) (I : MI) (J : MJ) (R : MR), (∃ m, m < n ∧ Q2 m (gK Γ) x0 x1 x2 C I J R) → AW Γ 0 0 C I J R 2 [(0, aR (some x0)), (1, aR (some x1)), (2, aI x2)] [] := fun x0 x1 x2 C I J R ⟨m, hm, hq⟩ => (ih m hm).1 x0 x1 x2 C I J R hq
    have w23 : ∀ (x0 : Nat) (x1 : Nat) (x2 : Int32) (x3 : Int32) (C : MC) (I : MI) (J : MJ) (R : MR), (∃ m, m < n ∧ Q23 m (gK Γ) x0 x1 x2 x3 C I J R) → AW Γ 0 0 C I J R 23 [(0, aR (some x0)), (1, aR (some x1)), (2, aI x2), (3, aI x3)] [] := fun x0 x1 x2 x3 C I J R ⟨m, hm, hq⟩ => (ih m hm).2.1 x0 x1 x2 x3 C I J R hq
    have w60 : ∀ (x0 : Nat) (x1 : Nat) (x2 : Int32) (x3 : Nat) (x4 : Int32) (C : MC) (I : MI) (J : MJ) (R : MR), (∃ m, m < n ∧ Q60 m (gK Γ) x0 x1 x2 x3 x4 C I J R) → AW Γ 1 4 C I J R 60 [(0, aR (some x0)), (1, aR (some x1)), (2, aI x2), (3, aR (some x3)), (4, aI x4)] [] := fun x0 x1 x2 x3 x4 C I J R ⟨m, hm, hq⟩ => (ih m hm).2.2 x0 x1 x2 x3 x4 C I J R hq
    have w42 : ∀ (x0 : Nat) (x1 : Nat) (x2 : Int32) (x3 : Int32) (s0 : Nat) (s1 : Int32) (C : MC) (I : MI) (J : MJ) (R : MR), PX0_free_42 F_X0_want F_X0_thing (fun (x0 : Nat) (x1 : Nat) (x2 : Int32) (C : MC) (I : MI) (J : MJ) (R : MR) => ∃ m, m < n ∧ Q2 m (gK Γ) x0 x1 x2 C I J R) (fun (x0 : Nat) (x1 : Nat) (x2 : Int32) (x3 : Int32) (C : MC) (I : MI) (J : MJ) (R : MR) => ∃ m, m < n ∧ Q23 m (gK Γ) x0 x1 x2 x3 C I J R) (fun (x0 : Nat) (x1 : Nat) (x2 : Int32) (x3 : Nat) (x4 : Int32) (C : MC) (I : MI) (J : MJ) (R : MR) => ∃ m, m < n ∧ Q60 m (gK Γ) x0 x1 x2 x3 x4 C I J R) (gK Γ) x0 x1 x2 x3 s0 s1 C I J R → AW Γ 0 0 C I J R 42 [(0, aR (some x0)), (1, aR (some x1)), (2, aI x2), (3, aI x3)] [aI s1, aR (some s0)] := fun x0 x1 x2 x3 s0 s1 C I J R h => bX0_free_42 G S_X0_want w23 h
    have w21 : ∀ (x0 : Nat) (x1 : Nat) (x2 : Int32) (C : MC) (I : MI) (J : MJ) (R : MR), PX0_free_21 F_X0_want F_X0_thing (fun (x0 : Nat) (x1 : Nat) (x2 : Int32) (C : MC) (I : MI) (J : MJ) (R : MR) => ∃ m, m < n ∧ Q2 m (gK Γ) x0 x1 x2 C I J R) (fun (x0 : Nat) (x1 : Nat) (x2 : Int32) (x3 : Int32) (C : MC) (I : MI) (J : MJ) (R : MR) => ∃ m, m < n ∧ Q23 m (gK Γ) x0 x1 x2 x3 C I J R) (fun (x0 : Nat) (x1 : Nat) (x2 : Int32) (x3 : Nat) (x4 : Int32) (C : MC) (I : MI) (J : MJ) (R : MR) => ∃ m, m < n ∧ Q60 m (gK Γ) x0 x1 x2 x3 x4 C I J R) (gK Γ) x0 x1 x2 C I J R → AW Γ 0 0 C I J R 21 [(0, aR (some x0)), (1, aR (some x1)), (2, aI x2)] [] := fun x0 x1 x2 C I J R h => bX0_free_21 G w23 h
    exact ⟨fun x0 x1 x2 C I J R h => bX0_free_2 G w2 w21 (h2 n (gK Γ) x0 x1 x2 C I J R h), fun x0 x1 x2 x3 C I J R h => bX0_free_23 G w42 w60 (h23 n (gK Γ) x0 x1 x2 x3 C I J R h), fun x0 x1 x2 x3 x4 C I J R h => bX0_free_60 G S_X0_thing w60 (h60 n (gK Γ) x0 x1 x2 x3 x4 C I J R h)⟩
  have w2 : ∀ (x0 : Nat) (x1 : Nat) (x2 : Int32) (C : MC) (I : MI) (J : MJ) (R : MR), (∃ n, Q2 n (gK Γ) x0 x1 x2 C I J R) → AW Γ 0 0 C I J R 2 [(0, aR (some x0)), (1, aR (some x1)), (2, aI x2)] [] := fun x0 x1 x2 C I J R ⟨m, hq⟩ => (key m).1 x0 x1 x2 C I J R hq
  have w23 : ∀ (x0 : Nat) (x1 : Nat) (x2 : Int32) (x3 : Int32) (C : MC) (I : MI) (J : MJ) (R : MR), (∃ n, Q23 n (gK Γ) x0 x1 x2 x3 C I J R) → AW Γ 0 0 C I J R 23 [(0, aR (some x0)), (1, aR (some x1)), (2, aI x2), (3, aI x3)] [] := fun x0 x1 x2 x3 C I J R ⟨m, hq⟩ => (key m).2.1 x0 x1 x2 x3 C I J R hq
  have w60 : ∀ (x0 : Nat) (x1 : Nat) (x2 : Int32) (x3 : Nat) (x4 : Int32) (C : MC) (I : MI) (J : MJ) (R : MR), (∃ n, Q60 n (gK Γ) x0 x1 x2 x3 x4 C I J R) → AW Γ 1 4 C I J R 60 [(0, aR (some x0)), (1, aR (some x1)), (2, aI x2), (3, aR (some x3)), (4, aI x4)] [] := fun x0 x1 x2 x3 x4 C I J R ⟨m, hq⟩ => (key m).2.2 x0 x1 x2 x3 x4 C I J R hq
  have w42 : ∀ (x0 : Nat) (x1 : Nat) (x2 : Int32) (x3 : Int32) (s0 : Nat) (s1 : Int32) (C : MC) (I : MI) (J : MJ) (R : MR), PX0_free_42 F_X0_want F_X0_thing (fun (x0 : Nat) (x1 : Nat) (x2 : Int32) (C : MC) (I : MI) (J : MJ) (R : MR) => ∃ n, Q2 n (gK Γ) x0 x1 x2 C I J R) (fun (x0 : Nat) (x1 : Nat) (x2 : Int32) (x3 : Int32) (C : MC) (I : MI) (J : MJ) (R : MR) => ∃ n, Q23 n (gK Γ) x0 x1 x2 x3 C I J R) (fun (x0 : Nat) (x1 : Nat) (x2 : Int32) (x3 : Nat) (x4 : Int32) (C : MC) (I : MI) (J : MJ) (R : MR) => ∃ n, Q60 n (gK Γ) x0 x1 x2 x3 x4 C I J R) (gK Γ) x0 x1 x2 x3 s0 s1 C I J R → AW Γ 0 0 C I J R 42 [(0, aR (some x0)), (1, aR (some x1)), (2, aI x2), (3, aI x3)] [aI s1, aR (some s0)] := fun x0 x1 x2 x3 s0 s1 C I J R h => bX0_free_42 G S_X0_want w23 h
  have w21 : ∀ (x0 : Nat) (x1 : Nat) (x2 : Int32) (C : MC) (I : MI) (J : MJ) (R : MR), PX0_free_21 F_X0_want F_X0_thing (fun (x0 : Nat) (x1 : Nat) (x2 : Int32) (C : MC) (I : MI) (J : MJ) (R : MR) => ∃ n, Q2 n (gK Γ) x0 x1 x2 C I J R) (fun (x0 : Nat) (x1 : Nat) (x2 : Int32) (x3 : Int32) (C : MC) (I : MI) (J : MJ) (R : MR) => ∃ n, Q23 n (gK Γ) x0 x1 x2 x3 C I J R) (fun (x0 : Nat) (x1 : Nat) (x2 : Int32) (x3 : Nat) (x4 : Int32) (C : MC) (I : MI) (J : MJ) (R : MR) => ∃ n, Q60 n (gK Γ) x0 x1 x2 x3 x4 C I J R) (gK Γ) x0 x1 x2 C I J R → AW Γ 0 0 C I J R 21 [(0, aR (some x0)), (1, aR (some x1)), (2, aI x2)] [] := fun x0 x1 x2 C I J R h => bX0_free_21 G w23 h
  obtain ⟨x0, x1, rfl, h⟩ := h0 As C I J R (gK Γ) hF
  exact ⟨Nat.le_of_ble_eq_true rfl, bX0_free_0 G w2 h⟩
def PX0_thing_18 (F_X0_want : SPF) (K : AK) (x0 : Nat) (x1 : Int32) (s0 : Nat) (s1 : Int32) (C : MC) (I : MI) (J : MJ) (R : MR) : Prop :=
      (C s0).1 = 1 ∧
      F_X0_want [aR (some s0), aI s1, aI (1 : Int32)] C I J R (fun o C2 I3 J4 R5 =>
      (o = .inl none ∧
      (C2 x0).1 = 1 ∧
      ∃ q8 : Nat, R5 x0 2 = some q8 ∧
      (25 ≤ (C2 q8).1 ∧ (C2 q8).1 < 30) ∧
      vp_in x1 (C2 q8).2 ∧
      K (.inl (some (aR (R5 q8 x1.toNatClampNeg)))) C2 I3 J4 R5) ∨
      (∃ q11 : Nat, o = .inr q11 ∧
      ((C2 q11).1 = 2 ∧
      K (.inr q11) C2 I3 J4 R5)))
def PX0_thing_17 (F_X0_want : SPF) (K : AK) (x0 : Nat) (x1 : Int32) (s0 : Nat) (C : MC) (I : MI) (J : MJ) (R : MR) : Prop :=
      PX0_thing_18 F_X0_want K x0 x1 s0 (0 : Int32) C I J R
def PX0_thing_0 (F_X0_want : SPF) (K : AK) (x0 : Nat) (x1 : Int32) (C : MC) (I : MI) (J : MJ) (R : MR) : Prop :=
      ((x1 < 0 →
      PX0_thing_17 F_X0_want K x0 x1 x0 C I J R) ∧
      (¬ x1 < 0 →
      (C x0).1 = 1 ∧
      (((I x0 3) ≤ x1 →
      PX0_thing_17 F_X0_want K x0 x1 x0 C I J R) ∧
      (¬ (I x0 3) ≤ x1 →
      PX0_thing_18 F_X0_want K x0 x1 x0 (1 : Int32) C I J R))))
theorem wX0_thing {l : Launch}  {F_X0_want : SPF} (S_X0_want : SpX0_want l F_X0_want) {F : SPF}
    (h0 : ∀ (As : List AV) (C : MC) (I : MI) (J : MJ) (R : MR) (K : AK), F As C I J R K → ∃ (x0 : Nat) (x1 : Int32), As = [aR (some x0), aI x1] ∧ PX0_thing_0 F_X0_want K x0 x1 C I J R) : SpX0_thing l F := by
  refine Spec.of (by rfl) ?_
  intro Γ C I J R As Gd gl gr _ _ gb hF
  subst gl
  have G : Gb Γ yX0_thing cX0_thing 2 (some (.object "TickShare$Thing")) [] rmX0_thing bdX0_thing := ⟨Gd, gr, gb⟩
  have w18 : ∀ (x0 : Nat) (x1 : Int32) (s0 : Nat) (s1 : Int32) (C : MC) (I : MI) (J : MJ) (R : MR), PX0_thing_18 F_X0_want (gK Γ) x0 x1 s0 s1 C I J R → AW Γ 0 0 C I J R 18 [(0, aR (some x0)), (1, aI x1)] [aI s1, aR (some s0)] := fun x0 x1 s0 s1 C I J R h => bX0_thing_18 G S_X0_want h
  have w17 : ∀ (x0 : Nat) (x1 : Int32) (s0 : Nat) (C : MC) (I : MI) (J : MJ) (R : MR), PX0_thing_17 F_X0_want (gK Γ) x0 x1 s0 C I J R → AW Γ 0 0 C I J R 17 [(0, aR (some x0)), (1, aI x1)] [aR (some s0)] := fun x0 x1 s0 C I J R h => bX0_thing_17 G w18 h
  obtain ⟨x0, x1, rfl, h⟩ := h0 As C I J R (gK Γ) hF
  exact ⟨Nat.le_of_ble_eq_true rfl, bX0_thing_0 G w17 w18 h⟩
def PX0_wantFree_68 (F_X0_want : SPF) (Q21 : Nat → Nat → Int32 → MC → MI → MJ → MR → Prop) (Q48 : Nat → Nat → Int32 → Int32 → MC → MI → MJ → MR → Prop) (K : AK) (x0 : Nat) (x1 : Nat) (x2 : Int32) (x3 : Int32) (s0 : Nat) (s1 : Int32) (C : MC) (I : MI) (J : MJ) (R : MR) : Prop :=
      (C s0).1 = 1 ∧
      F_X0_want [aR (some s0), aI s1, aI (5 : Int32)] C I J R (fun o C2 I3 J4 R5 =>
      (o = .inl none ∧
      Q48 x0 x1 x2 (x3 + 1) C2 I3 J4 R5) ∨
      (∃ q7 : Nat, o = .inr q7 ∧
      ((C2 q7).1 = 2 ∧
      K (.inr q7) C2 I3 J4 R5)))
def PX0_wantFree_48 (F_X0_want : SPF) (Q21 : Nat → Nat → Int32 → MC → MI → MJ → MR → Prop) (Q48 : Nat → Nat → Int32 → Int32 → MC → MI → MJ → MR → Prop) (K : AK) (x0 : Nat) (x1 : Nat) (x2 : Int32) (x3 : Int32) (C : MC) (I : MI) (J : MJ) (R : MR) : Prop :=
      ((x2 ≤ x3 →
      Q21 x0 x1 (x2 + 1) C I J R) ∧
      (¬ x2 ≤ x3 →
      (25 ≤ (C x1).1 ∧ (C x1).1 < 30) ∧
      vp_in x3 (C x1).2 ∧
      vp_in x2 (C x1).2 ∧
      ((R x1 x3.toNatClampNeg = R x1 x2.toNatClampNeg →
      PX0_wantFree_68 F_X0_want Q21 Q48 K x0 x1 x2 x3 x0 (0 : Int32) C I J R) ∧
      (¬ R x1 x3.toNatClampNeg = R x1 x2.toNatClampNeg →
      PX0_wantFree_68 F_X0_want Q21 Q48 K x0 x1 x2 x3 x0 (1 : Int32) C I J R))))
def PX0_wantFree_42 (F_X0_want : SPF) (Q21 : Nat → Nat → Int32 → MC → MI → MJ → MR → Prop) (Q48 : Nat → Nat → Int32 → Int32 → MC → MI → MJ → MR → Prop) (K : AK) (x0 : Nat) (x1 : Nat) (x2 : Int32) (s0 : Nat) (s1 : Int32) (C : MC) (I : MI) (J : MJ) (R : MR) : Prop :=
      (C s0).1 = 1 ∧
      F_X0_want [aR (some s0), aI s1, aI (5 : Int32)] C I J R (fun o C2 I3 J4 R5 =>
      (o = .inl none ∧
      Q48 x0 x1 x2 (0 : Int32) C2 I3 J4 R5) ∨
      (∃ q7 : Nat, o = .inr q7 ∧
      ((C2 q7).1 = 2 ∧
      K (.inr q7) C2 I3 J4 R5)))
def PX0_wantFree_21 (F_X0_want : SPF) (Q21 : Nat → Nat → Int32 → MC → MI → MJ → MR → Prop) (Q48 : Nat → Nat → Int32 → Int32 → MC → MI → MJ → MR → Prop) (K : AK) (x0 : Nat) (x1 : Nat) (x2 : Int32) (C : MC) (I : MI) (J : MJ) (R : MR) : Prop :=
      (20 ≤ (C x1).1 ∧ (C x1).1 ≤ 30) ∧
      (((nI (C x1).2) ≤ x2 →
      K (.inl none) C I J R) ∧
      (¬ (nI (C x1).2) ≤ x2 →
      (25 ≤ (C x1).1 ∧ (C x1).1 < 30) ∧
      vp_in x2 (C x1).2 ∧
      ∃ q5 : Nat, R x1 x2.toNatClampNeg = some q5 ∧
      kTh (C q5).1 ∧
      ((¬ R q5 3 = none →
      PX0_wantFree_42 F_X0_want Q21 Q48 K x0 x1 x2 x0 (0 : Int32) C I J R) ∧
      (R q5 3 = none →
      PX0_wantFree_42 F_X0_want Q21 Q48 K x0 x1 x2 x0 (1 : Int32) C I J R))))
def PX0_wantFree_15 (F_X0_want : SPF) (Q21 : Nat → Nat → Int32 → MC → MI → MJ → MR → Prop) (Q48 : Nat → Nat → Int32 → Int32 → MC → MI → MJ → MR → Prop) (K : AK) (x0 : Nat) (x1 : Nat) (s0 : Nat) (s1 : Int32) (C : MC) (I : MI) (J : MJ) (R : MR) : Prop :=
      (C s0).1 = 1 ∧
      F_X0_want [aR (some s0), aI s1, aI (4 : Int32)] C I J R (fun o C2 I3 J4 R5 =>
      (o = .inl none ∧
      Q21 x0 x1 (0 : Int32) C2 I3 J4 R5) ∨
      (∃ q7 : Nat, o = .inr q7 ∧
      ((C2 q7).1 = 2 ∧
      K (.inr q7) C2 I3 J4 R5)))
def PX0_wantFree_0 (F_X0_want : SPF) (Q21 : Nat → Nat → Int32 → MC → MI → MJ → MR → Prop) (Q48 : Nat → Nat → Int32 → Int32 → MC → MI → MJ → MR → Prop) (K : AK) (x0 : Nat) (x1 : Nat) (C : MC) (I : MI) (J : MJ) (R : MR) : Prop :=
      (C x0).1 = 1 ∧
      (((20 : Int32) ≤ (I x0 3) →
      PX0_wantFree_15 F_X0_want Q21 Q48 K x0 x1 x0 (0 : Int32) C I J R) ∧
      (¬ (20 : Int32) ≤ (I x0 3) →
      PX0_wantFree_15 F_X0_want Q21 Q48 K x0 x1 x0 (1 : Int32) C I J R))
theorem wX0_wantFree {l : Launch}  {F_X0_want : SPF} (S_X0_want : SpX0_want l F_X0_want)
    (Q21 : Nat → AK → Nat → Nat → Int32 → MC → MI → MJ → MR → Prop)
    (Q48 : Nat → AK → Nat → Nat → Int32 → Int32 → MC → MI → MJ → MR → Prop) {F : SPF}
    (h0 : ∀ (As : List AV) (C : MC) (I : MI) (J : MJ) (R : MR) (K : AK), F As C I J R K → ∃ (x0 : Nat) (x1 : Nat), As = [aR (some x0), aR (some x1)] ∧ PX0_wantFree_0 F_X0_want (fun (x0 : Nat) (x1 : Nat) (x2 : Int32) (C : MC) (I : MI) (J : MJ) (R : MR) => ∃ n, Q21 n K x0 x1 x2 C I J R) (fun (x0 : Nat) (x1 : Nat) (x2 : Int32) (x3 : Int32) (C : MC) (I : MI) (J : MJ) (R : MR) => ∃ n, Q48 n K x0 x1 x2 x3 C I J R) K x0 x1 C I J R)
    (h21 : ∀ (n : Nat) (K : AK) (x0 : Nat) (x1 : Nat) (x2 : Int32) (C : MC) (I : MI) (J : MJ) (R : MR), Q21 n K x0 x1 x2 C I J R → PX0_wantFree_21 F_X0_want (fun (x0 : Nat) (x1 : Nat) (x2 : Int32) (C : MC) (I : MI) (J : MJ) (R : MR) => ∃ m, m < n ∧ Q21 m K x0 x1 x2 C I J R) (fun (x0 : Nat) (x1 : Nat) (x2 : Int32) (x3 : Int32) (C : MC) (I : MI) (J : MJ) (R : MR) => ∃ m, m < n ∧ Q48 m K x0 x1 x2 x3 C I J R) K x0 x1 x2 C I J R)
    (h48 : ∀ (n : Nat) (K : AK) (x0 : Nat) (x1 : Nat) (x2 : Int32) (x3 : Int32) (C : MC) (I : MI) (J : MJ) (R : MR), Q48 n K x0 x1 x2 x3 C I J R → PX0_wantFree_48 F_X0_want (fun (x0 : Nat) (x1 : Nat) (x2 : Int32) (C : MC) (I : MI) (J : MJ) (R : MR) => ∃ m, m < n ∧ Q21 m K x0 x1 x2 C I J R) (fun (x0 : Nat) (x1 : Nat) (x2 : Int32) (x3 : Int32) (C : MC) (I : MI) (J : MJ) (R : MR) => ∃ m, m < n ∧ Q48 m K x0 x1 x2 x3 C I J R) K x0 x1 x2 x3 C I J R) : SpX0_wantFree l F := by
  refine Spec.of (by rfl) ?_
  intro Γ C I J R As Gd gl gr _ _ gb hF
  subst gl
  have G : Gb Γ yX0_wantFree cX0_wantFree 4 (none) [] rmX0_wantFree bdX0_wantFree := ⟨Gd, gr, gb⟩
  have key : ∀ n : Nat, (∀ (x0 : Nat) (x1 : Nat) (x2 : Int32) (C : MC) (I : MI) (J : MJ) (R : MR), Q21 n (gK Γ) x0 x1 x2 C I J R → AW Γ 0 0 C I J R 21 [(0, aR (some x0)), (1, aR (some x1)), (2, aI x2)] []) ∧ (∀ (x0 : Nat) (x1 : Nat) (x2 : Int32) (x3 : Int32) (C : MC) (I : MI) (J : MJ) (R : MR), Q48 n (gK Γ) x0 x1 x2 x3 C I J R → AW Γ 0 0 C I J R 48 [(0, aR (some x0)), (1, aR (some x1)), (2, aI x2), (3, aI x3)] []) := by
    intro n
    induction n using Nat.strongRecOn with
    | ind n ih =>
    have w21 : ∀ (x0 : Nat) (x1 : Nat) (x2 : Int32) (C : MC) (I : MI) (J : MJ) (R : MR), (∃ m, m < n ∧ Q21 m (gK Γ) x0 x1 x2 C I J R) → AW Γ 0 0 C I J R 21 [(0, aR (some x0)), (1, aR (some x1)), (2, aI x2)] [] := fun x0 x1 x2 C I J R ⟨m, hm, hq⟩ => (ih m hm).1 x0 x1 x2 C I J R hq
    have w48 : ∀ (x0 : Nat) (x1 : Nat) (x2 : Int32) (x3 : Int32) (C : MC) (I : MI) (J : MJ) (R : MR), (∃ m, m < n ∧ Q48 m (gK Γ) x0 x1 x2 x3 C I J R) → AW Γ 0 0 C I J R 48 [(0, aR (some x0)), (1, aR (some x1)), (2, aI x2), (3, aI x3)] [] := fun x0 x1 x2 x3 C I J R ⟨m, hm, hq⟩ => (ih m hm).2 x0 x1 x2 x3 C I J R hq
    have w68 : ∀ (x0 : Nat) (x1 : Nat) (x2 : Int32) (x3 : Int32) (s0 : Nat) (s1 : Int32) (C : MC) (I : MI) (J : MJ) (R : MR), PX0_wantFree_68 F_X0_want (fun (x0 : Nat) (x1 : Nat) (x2 : Int32) (C : MC) (I : MI) (J : MJ) (R : MR) => ∃ m, m < n ∧ Q21 m (gK Γ) x0 x1 x2 C I J R) (fun (x0 : Nat) (x1 : Nat) (x2 : Int32) (x3 : Int32) (C : MC) (I : MI) (J : MJ) (R : MR) => ∃ m, m < n ∧ Q48 m (gK Γ) x0 x1 x2 x3 C I J R) (gK Γ) x0 x1 x2 x3 s0 s1 C I J R → AW Γ 0 0 C I J R 68 [(0, aR (some x0)), (1, aR (some x1)), (2, aI x2), (3, aI x3)] [aI s1, aR (some s0)] := fun x0 x1 x2 x3 s0 s1 C I J R h => bX0_wantFree_68 G S_X0_want w48 h
    have w42 : ∀ (x0 : Nat) (x1 : Nat) (x2 : Int32) (s0 : Nat) (s1 : Int32) (C : MC) (I : MI) (J : MJ) (R : MR), PX0_wantFree_42 F_X0_want (fun (x0 : Nat) (x1 : Nat) (x2 : Int32) (C : MC) (I : MI) (J : MJ) (R : MR) => ∃ m, m < n ∧ Q21 m (gK Γ) x0 x1 x2 C I J R) (fun (x0 : Nat) (x1 : Nat) (x2 : Int32) (x3 : Int32) (C : MC) (I : MI) (J : MJ) (R : MR) => ∃ m, m < n ∧ Q48 m (gK Γ) x0 x1 x2 x3 C I J R) (gK Γ) x0 x1 x2 s0 s1 C I J R → AW Γ 0 0 C I J R 42 [(0, aR (some x0)), (1, aR (some x1)), (2, aI x2)] [aI s1, aR (some s0)] := fun x0 x1 x2 s0 s1 C I J R h => bX0_wantFree_42 G S_X0_want w48 h
    have w15 : ∀ (x0 : Nat) (x1 : Nat) (s0 : Nat) (s1 : Int32) (C : MC) (I : MI) (J : MJ) (R : MR), PX0_wantFree_15 F_X0_want (fun (x0 : Nat) (x1 : Nat) (x2 : Int32) (C : MC) (I : MI) (J : MJ) (R : MR) => ∃ m, m < n ∧ Q21 m (gK Γ) x0 x1 x2 C I J R) (fun (x0 : Nat) (x1 : Nat) (x2 : Int32) (x3 : Int32) (C : MC) (I : MI) (J : MJ) (R : MR) => ∃ m, m < n ∧ Q48 m (gK Γ) x0 x1 x2 x3 C I J R) (gK Γ) x0 x1 s0 s1 C I J R → AW Γ 0 0 C I J R 15 [(0, aR (some x0)), (1, aR (some x1))] [aI s1, aR (some s0)] := fun x0 x1 s0 s1 C I J R h => bX0_wantFree_15 G S_X0_want w21 h
    exact ⟨fun x0 x1 x2 C I J R h => bX0_wantFree_21 G w42 (h21 n (gK Γ) x0 x1 x2 C I J R h), fun x0 x1 x2 x3 C I J R h => bX0_wantFree_48 G w21 w68 (h48 n (gK Γ) x0 x1 x2 x3 C I J R h)⟩
  have w21 : ∀ (x0 : Nat) (x1 : Nat) (x2 : Int32) (C : MC) (I : MI) (J : MJ) (R : MR), (∃ n, Q21 n (gK Γ) x0 x1 x2 C I J R) → AW Γ 0 0 C I J R 21 [(0, aR (some x0)), (1, aR (some x1)), (2, aI x2)] [] := fun x0 x1 x2 C I J R ⟨m, hq⟩ => (key m).1 x0 x1 x2 C I J R hq
  have w48 : ∀ (x0 : Nat) (x1 : Nat) (x2 : Int32) (x3 : Int32) (C : MC) (I : MI) (J : MJ) (R : MR), (∃ n, Q48 n (gK Γ) x0 x1 x2 x3 C I J R) → AW Γ 0 0 C I J R 48 [(0, aR (some x0)), (1, aR (some x1)), (2, aI x2), (3, aI x3)] [] := fun x0 x1 x2 x3 C I J R ⟨m, hq⟩ => (key m).2 x0 x1 x2 x3 C I J R hq
  have w68 : ∀ (x0 : Nat) (x1 : Nat) (x2 : Int32) (x3 : Int32) (s0 : Nat) (s1 : Int32) (C : MC) (I : MI) (J : MJ) (R : MR), PX0_wantFree_68 F_X0_want (fun (x0 : Nat) (x1 : Nat) (x2 : Int32) (C : MC) (I : MI) (J : MJ) (R : MR) => ∃ n, Q21 n (gK Γ) x0 x1 x2 C I J R) (fun (x0 : Nat) (x1 : Nat) (x2 : Int32) (x3 : Int32) (C : MC) (I : MI) (J : MJ) (R : MR) => ∃ n, Q48 n (gK Γ) x0 x1 x2 x3 C I J R) (gK Γ) x0 x1 x2 x3 s0 s1 C I J R → AW Γ 0 0 C I J R 68 [(0, aR (some x0)), (1, aR (some x1)), (2, aI x2), (3, aI x3)] [aI s1, aR (some s0)] := fun x0 x1 x2 x3 s0 s1 C I J R h => bX0_wantFree_68 G S_X0_want w48 h
  have w42 : ∀ (x0 : Nat) (x1 : Nat) (x2 : Int32) (s0 : Nat) (s1 : Int32) (C : MC) (I : MI) (J : MJ) (R : MR), PX0_wantFree_42 F_X0_want (fun (x0 : Nat) (x1 : Nat) (x2 : Int32) (C : MC) (I : MI) (J : MJ) (R : MR) => ∃ n, Q21 n (gK Γ) x0 x1 x2 C I J R) (fun (x0 : Nat) (x1 : Nat) (x2 : Int32) (x3 : Int32) (C : MC) (I : MI) (J : MJ) (R : MR) => ∃ n, Q48 n (gK Γ) x0 x1 x2 x3 C I J R) (gK Γ) x0 x1 x2 s0 s1 C I J R → AW Γ 0 0 C I J R 42 [(0, aR (some x0)), (1, aR (some x1)), (2, aI x2)] [aI s1, aR (some s0)] := fun x0 x1 x2 s0 s1 C I J R h => bX0_wantFree_42 G S_X0_want w48 h
  have w15 : ∀ (x0 : Nat) (x1 : Nat) (s0 : Nat) (s1 : Int32) (C : MC) (I : MI) (J : MJ) (R : MR), PX0_wantFree_15 F_X0_want (fun (x0 : Nat) (x1 : Nat) (x2 : Int32) (C : MC) (I : MI) (J : MJ) (R : MR) => ∃ n, Q21 n (gK Γ) x0 x1 x2 C I J R) (fun (x0 : Nat) (x1 : Nat) (x2 : Int32) (x3 : Int32) (C : MC) (I : MI) (J : MJ) (R : MR) => ∃ n, Q48 n (gK Γ) x0 x1 x2 x3 C I J R) (gK Γ) x0 x1 s0 s1 C I J R → AW Γ 0 0 C I J R 15 [(0, aR (some x0)), (1, aR (some x1))] [aI s1, aR (some s0)] := fun x0 x1 s0 s1 C I J R h => bX0_wantFree_15 G S_X0_want w21 h
  obtain ⟨x0, x1, rfl, h⟩ := h0 As C I J R (gK Γ) hF
  exact ⟨Nat.le_of_ble_eq_true rfl, bX0_wantFree_0 G w15 h⟩
def PX0_fan_82 (F_X0_free : SPF) (F_X0_want : SPF) (F_X0_wantFree : SPF) (F_X7_init : SPF) (F_X0_adds : SPF) (F_X0_none : SPF) (K : AK) (x0 : Nat) (s0 : Nat) (C : MC) (I : MI) (J : MJ) (R : MR) : Prop :=
      (C x0).1 = 1 ∧
      F_X0_none [aR (some x0), aR (some s0)] C I J R (fun o C2 I3 J4 R5 =>
      ∃ r6 : Int32, o = .inl (some (aI r6)) ∧
      K (.inl (some (aI r6))) C2 I3 J4 R5)
def PX0_fan_57 (F_X0_free : SPF) (F_X0_want : SPF) (F_X0_wantFree : SPF) (F_X7_init : SPF) (F_X0_adds : SPF) (F_X0_none : SPF) (K : AK) (x0 : Nat) (x1 : Int32) (x6 : Nat) (s0 : Nat) (s1 : Int32) (C : MC) (I : MI) (J : MJ) (R : MR) : Prop :=
      (C s0).1 = 1 ∧
      F_X0_want [aR (some s0), aI s1, aI (1 : Int32)] C I J R (fun o C2 I3 J4 R5 =>
      (o = .inl none ∧
      (C2 x0).1 = 1 ∧
      F_X0_wantFree [aR (some x0), aR (some x6)] C2 I3 J4 R5 (fun o C8 I9 J10 R11 =>
      (o = .inl none ∧
      ∃ q13 : Nat, (C8 q13).1 = 0 ∧
      ∀ (C15 : MC) (I16 : MI) (J17 : MJ) (R18 : MR), C15 = va_up C8 q13 (7, 0) → I16 = va_up I9 q13 (fun _ => 0) → J17 = va_up J10 q13 (fun _ => 0) → R18 = va_up R11 q13 (fun _ => none) → 
      F_X7_init [aR (some q13), aI x1, aR (some x6)] C15 I16 J17 R18 (fun o C19 I20 J21 R22 =>
      o = .inl none ∧
      (C19 x0).1 = 1 ∧
      F_X0_adds [aR (some x0), aR (some q13)] C19 I20 J21 R22 (fun o C25 I26 J27 R28 =>
      ∃ r29 : Int32, o = .inl (some (aI r29)) ∧
      K (.inl (some (aI r29))) C25 I26 J27 R28))) ∨
      (∃ q30 : Nat, o = .inr q30 ∧
      ((C8 q30).1 = 2 ∧
      PX0_fan_82 F_X0_free F_X0_want F_X0_wantFree F_X7_init F_X0_adds F_X0_none K x0 q30 C8 I9 J10 R11)))) ∨
      (∃ q32 : Nat, o = .inr q32 ∧
      ((C2 q32).1 = 2 ∧
      PX0_fan_82 F_X0_free F_X0_want F_X0_wantFree F_X7_init F_X0_adds F_X0_none K x0 q32 C2 I3 J4 R5)))
def PX0_fan_56 (F_X0_free : SPF) (F_X0_want : SPF) (F_X0_wantFree : SPF) (F_X7_init : SPF) (F_X0_adds : SPF) (F_X0_none : SPF) (K : AK) (x0 : Nat) (x1 : Int32) (x6 : Nat) (s0 : Nat) (C : MC) (I : MI) (J : MJ) (R : MR) : Prop :=
      PX0_fan_57 F_X0_free F_X0_want F_X0_wantFree F_X7_init F_X0_adds F_X0_none K x0 x1 x6 s0 (0 : Int32) C I J R
def PX0_fan_0 (F_X0_free : SPF) (F_X0_want : SPF) (F_X0_wantFree : SPF) (F_X7_init : SPF) (F_X0_adds : SPF) (F_X0_none : SPF) (K : AK) (x0 : Nat) (x1 : Int32) (x2 : Int32) (x3 : Int32) (x4 : Int32) (x5 : Int32) (C : MC) (I : MI) (J : MJ) (R : MR) : Prop :=
      (C x0).1 = 1 ∧
      ∀ I2 : MI, I2 = va_up I x0 (va_up (I x0) 5 (0 : Int32)) →
      ∃ q3 : Nat, (C q3).1 = 0 ∧
      ∀ (C5 : MC) (I6 : MI) (J7 : MJ) (R8 : MR), C5 = va_up C q3 (20, 4) → I6 = va_up I2 q3 (fun _ => 0) → J7 = va_up J q3 (fun _ => 0) → R8 = va_up R q3 (fun _ => none) → 
      (C5 q3).1 = 20 ∧
      vp_in (0 : Int32) (C5 q3).2 ∧
      ∀ I11 : MI, I11 = va_up I6 q3 (va_up (I6 q3) (0 : Int32).toNatClampNeg x2) →
      vp_in (1 : Int32) (C5 q3).2 ∧
      ∀ I13 : MI, I13 = va_up I11 q3 (va_up (I11 q3) (1 : Int32).toNatClampNeg x3) →
      vp_in (2 : Int32) (C5 q3).2 ∧
      ∀ I15 : MI, I15 = va_up I13 q3 (va_up (I13 q3) (2 : Int32).toNatClampNeg x4) →
      vp_in (3 : Int32) (C5 q3).2 ∧
      ∀ I17 : MI, I17 = va_up I15 q3 (va_up (I15 q3) (3 : Int32).toNatClampNeg x5) →
      (C5 x0).1 = 1 ∧
      F_X0_free [aR (some x0), aR (some q3)] C5 I17 J7 R8 (fun o C19 I20 J21 R22 =>
      (∃ r23 : Nat, o = .inl (some (aR (some r23))) ∧
      (20 ≤ (C19 r23).1 ∧ (C19 r23).1 ≤ 30) ∧
      (((nI (C19 r23).2) < (1 : Int32) →
      PX0_fan_56 F_X0_free F_X0_want F_X0_wantFree F_X7_init F_X0_adds F_X0_none K x0 x1 r23 x0 C19 I20 J21 R22) ∧
      (¬ (nI (C19 r23).2) < (1 : Int32) →
      ((x1 < (1 : Int32) →
      PX0_fan_56 F_X0_free F_X0_want F_X0_wantFree F_X7_init F_X0_adds F_X0_none K x0 x1 r23 x0 C19 I20 J21 R22) ∧
      (¬ x1 < (1 : Int32) →
      (((nI (C19 r23).2) < x1 →
      PX0_fan_56 F_X0_free F_X0_want F_X0_wantFree F_X7_init F_X0_adds F_X0_none K x0 x1 r23 x0 C19 I20 J21 R22) ∧
      (¬ (nI (C19 r23).2) < x1 →
      PX0_fan_57 F_X0_free F_X0_want F_X0_wantFree F_X7_init F_X0_adds F_X0_none K x0 x1 r23 x0 (1 : Int32) C19 I20 J21 R22))))))) ∨
      (∃ q28 : Nat, o = .inr q28 ∧
      ((C19 q28).1 = 2 ∧
      PX0_fan_82 F_X0_free F_X0_want F_X0_wantFree F_X7_init F_X0_adds F_X0_none K x0 q28 C19 I20 J21 R22)))
theorem wX0_fan {l : Launch}  {F_X0_free : SPF} (S_X0_free : SpX0_free l F_X0_free) {F_X0_want : SPF} (S_X0_want : SpX0_want l F_X0_want) {F_X0_wantFree : SPF} (S_X0_wantFree : SpX0_wantFree l F_X0_wantFree) {F_X7_init : SPF} (S_X7_init : SpX7_init l F_X7_init) {F_X0_adds : SPF} (S_X0_adds : SpX0_adds l F_X0_adds) {F_X0_none : SPF} (S_X0_none : SpX0_none l F_X0_none) {F : SPF}
    (h0 : ∀ (As : List AV) (C : MC) (I : MI) (J : MJ) (R : MR) (K : AK), F As C I J R K → ∃ (x0 : Nat) (x1 : Int32) (x2 : Int32) (x3 : Int32) (x4 : Int32) (x5 : Int32), As = [aR (some x0), aI x1, aI x2, aI x3, aI x4, aI x5] ∧ PX0_fan_0 F_X0_free F_X0_want F_X0_wantFree F_X7_init F_X0_adds F_X0_none K x0 x1 x2 x3 x4 x5 C I J R) : SpX0_fan l F := by
  refine Spec.ofH (by rfl) ?_
  intro Γ C I J R As Gd gl gr _ _ gb hF
  subst gl
  have G : Gb Γ yX0_fan cX0_fan 7 (some .int) [(5, 81, 82, 53)] rmX0_fan bdX0_fan := ⟨Gd, gr, gb⟩
  have w82 : ∀ (x0 : Nat) (s0 : Nat) (C : MC) (I : MI) (J : MJ) (R : MR), PX0_fan_82 F_X0_free F_X0_want F_X0_wantFree F_X7_init F_X0_adds F_X0_none (gK Γ) x0 s0 C I J R → AW Γ 2 8 C I J R 82 [(0, aR (some x0))] [aR (some s0)] := fun x0 s0 C I J R h => bX0_fan_82 G S_X0_none h
  have w57 : ∀ (x0 : Nat) (x1 : Int32) (x6 : Nat) (s0 : Nat) (s1 : Int32) (C : MC) (I : MI) (J : MJ) (R : MR), PX0_fan_57 F_X0_free F_X0_want F_X0_wantFree F_X7_init F_X0_adds F_X0_none (gK Γ) x0 x1 x6 s0 s1 C I J R → AW Γ 2 8 C I J R 57 [(0, aR (some x0)), (1, aI x1), (6, aR (some x6))] [aI s1, aR (some s0)] := fun x0 x1 x6 s0 s1 C I J R h => bX0_fan_57 G S_X0_want S_X0_wantFree S_X7_init S_X0_adds w82 h
  have w56 : ∀ (x0 : Nat) (x1 : Int32) (x6 : Nat) (s0 : Nat) (C : MC) (I : MI) (J : MJ) (R : MR), PX0_fan_56 F_X0_free F_X0_want F_X0_wantFree F_X7_init F_X0_adds F_X0_none (gK Γ) x0 x1 x6 s0 C I J R → AW Γ 2 8 C I J R 56 [(0, aR (some x0)), (1, aI x1), (6, aR (some x6))] [aR (some s0)] := fun x0 x1 x6 s0 C I J R h => bX0_fan_56 G w57 h
  obtain ⟨x0, x1, x2, x3, x4, x5, rfl, h⟩ := h0 As C I J R (gK Γ) hF
  exact ⟨Nat.le_of_ble_eq_true rfl, bX0_fan_0 G S_X0_free w56 w57 w82 h⟩
def PX0_cache_89 (F_X0_thing : SPF) (F_X0_want : SPF) (F_X0_wantFree : SPF) (F_X8_init : SPF) (F_X0_adds : SPF) (F_X0_none : SPF) (K : AK) (x0 : Nat) (s0 : Nat) (C : MC) (I : MI) (J : MJ) (R : MR) : Prop :=
      (C x0).1 = 1 ∧
      F_X0_none [aR (some x0), aR (some s0)] C I J R (fun o C2 I3 J4 R5 =>
      ∃ r6 : Int32, o = .inl (some (aI r6)) ∧
      K (.inl (some (aI r6))) C2 I3 J4 R5)
def PX0_cache_48 (F_X0_thing : SPF) (F_X0_want : SPF) (F_X0_wantFree : SPF) (F_X8_init : SPF) (F_X0_adds : SPF) (F_X0_none : SPF) (K : AK) (x0 : Nat) (x3 : Int32) (x4 : Int32) (x5 : Nat) (x6 : Nat) (s0 : Nat) (s1 : Int32) (C : MC) (I : MI) (J : MJ) (R : MR) : Prop :=
      (C s0).1 = 1 ∧
      F_X0_want [aR (some s0), aI s1, aI (1 : Int32)] C I J R (fun o C2 I3 J4 R5 =>
      (o = .inl none ∧
      ∃ q7 : Nat, (C2 q7).1 = 0 ∧
      ∀ (C9 : MC) (I10 : MI) (J11 : MJ) (R12 : MR), C9 = va_up C2 q7 (26, 2) → I10 = va_up I3 q7 (fun _ => 0) → J11 = va_up J4 q7 (fun _ => 0) → R12 = va_up R5 q7 (fun _ => none) → 
      (25 ≤ (C9 q7).1 ∧ (C9 q7).1 < 29) ∧
      kFit (C9 q7).1 (C9 x5).1 ∧
      vp_in (0 : Int32) (C9 q7).2 ∧
      ∀ R16 : MR, R16 = va_up R12 q7 (va_up (R12 q7) (0 : Int32).toNatClampNeg (some x5)) →
      kFit (C9 q7).1 (C9 x6).1 ∧
      vp_in (1 : Int32) (C9 q7).2 ∧
      ∀ R19 : MR, R19 = va_up R16 q7 (va_up (R16 q7) (1 : Int32).toNatClampNeg (some x6)) →
      (C9 x0).1 = 1 ∧
      F_X0_wantFree [aR (some x0), aR (some q7)] C9 I10 J11 R19 (fun o C21 I22 J23 R24 =>
      (o = .inl none ∧
      ∃ q26 : Nat, (C21 q26).1 = 0 ∧
      ∀ (C28 : MC) (I29 : MI) (J30 : MJ) (R31 : MR), C28 = va_up C21 q26 (8, 0) → I29 = va_up I22 q26 (fun _ => 0) → J30 = va_up J23 q26 (fun _ => 0) → R31 = va_up R24 q26 (fun _ => none) → 
      F_X8_init [aR (some q26), aR (some x5), aR (some x6), aI x3, aI x4] C28 I29 J30 R31 (fun o C32 I33 J34 R35 =>
      o = .inl none ∧
      (C32 x0).1 = 1 ∧
      F_X0_adds [aR (some x0), aR (some q26)] C32 I33 J34 R35 (fun o C38 I39 J40 R41 =>
      ∃ r42 : Int32, o = .inl (some (aI r42)) ∧
      K (.inl (some (aI r42))) C38 I39 J40 R41))) ∨
      (∃ q43 : Nat, o = .inr q43 ∧
      ((C21 q43).1 = 2 ∧
      PX0_cache_89 F_X0_thing F_X0_want F_X0_wantFree F_X8_init F_X0_adds F_X0_none K x0 q43 C21 I22 J23 R24)))) ∨
      (∃ q45 : Nat, o = .inr q45 ∧
      ((C2 q45).1 = 2 ∧
      PX0_cache_89 F_X0_thing F_X0_want F_X0_wantFree F_X8_init F_X0_adds F_X0_none K x0 q45 C2 I3 J4 R5)))
def PX0_cache_47 (F_X0_thing : SPF) (F_X0_want : SPF) (F_X0_wantFree : SPF) (F_X8_init : SPF) (F_X0_adds : SPF) (F_X0_none : SPF) (K : AK) (x0 : Nat) (x3 : Int32) (x4 : Int32) (x5 : Nat) (x6 : Nat) (s0 : Nat) (C : MC) (I : MI) (J : MJ) (R : MR) : Prop :=
      PX0_cache_48 F_X0_thing F_X0_want F_X0_wantFree F_X8_init F_X0_adds F_X0_none K x0 x3 x4 x5 x6 s0 (0 : Int32) C I J R
def PX0_cache_0 (F_X0_thing : SPF) (F_X0_want : SPF) (F_X0_wantFree : SPF) (F_X8_init : SPF) (F_X0_adds : SPF) (F_X0_none : SPF) (K : AK) (x0 : Nat) (x1 : Int32) (x2 : Int32) (x3 : Int32) (x4 : Int32) (C : MC) (I : MI) (J : MJ) (R : MR) : Prop :=
      (C x0).1 = 1 ∧
      ∀ I2 : MI, I2 = va_up I x0 (va_up (I x0) 5 (0 : Int32)) →
      F_X0_thing [aR (some x0), aI x1] C I2 J R (fun o C3 I4 J5 R6 =>
      (∃ r7 : Nat, o = .inl (some (aR (some r7))) ∧
      (C3 x0).1 = 1 ∧
      F_X0_thing [aR (some x0), aI x2] C3 I4 J5 R6 (fun o C9 I10 J11 R12 =>
      (∃ r13 : Nat, o = .inl (some (aR (some r13))) ∧
      ((x4 < (1 : Int32) →
      PX0_cache_47 F_X0_thing F_X0_want F_X0_wantFree F_X8_init F_X0_adds F_X0_none K x0 x3 x4 r7 r13 x0 C9 I10 J11 R12) ∧
      (¬ x4 < (1 : Int32) →
      (((100 : Int32) < x4 →
      PX0_cache_47 F_X0_thing F_X0_want F_X0_wantFree F_X8_init F_X0_adds F_X0_none K x0 x3 x4 r7 r13 x0 C9 I10 J11 R12) ∧
      (¬ (100 : Int32) < x4 →
      ((x3 < 0 →
      PX0_cache_47 F_X0_thing F_X0_want F_X0_wantFree F_X8_init F_X0_adds F_X0_none K x0 x3 x4 r7 r13 x0 C9 I10 J11 R12) ∧
      (¬ x3 < 0 →
      ((x4 < x3 →
      PX0_cache_47 F_X0_thing F_X0_want F_X0_wantFree F_X8_init F_X0_adds F_X0_none K x0 x3 x4 r7 r13 x0 C9 I10 J11 R12) ∧
      (¬ x4 < x3 →
      PX0_cache_48 F_X0_thing F_X0_want F_X0_wantFree F_X8_init F_X0_adds F_X0_none K x0 x3 x4 r7 r13 x0 (1 : Int32) C9 I10 J11 R12))))))))) ∨
      (∃ q18 : Nat, o = .inr q18 ∧
      ((C9 q18).1 = 2 ∧
      PX0_cache_89 F_X0_thing F_X0_want F_X0_wantFree F_X8_init F_X0_adds F_X0_none K x0 q18 C9 I10 J11 R12)))) ∨
      (∃ q20 : Nat, o = .inr q20 ∧
      ((C3 q20).1 = 2 ∧
      PX0_cache_89 F_X0_thing F_X0_want F_X0_wantFree F_X8_init F_X0_adds F_X0_none K x0 q20 C3 I4 J5 R6)))
theorem wX0_cache {l : Launch}  {F_X0_thing : SPF} (S_X0_thing : SpX0_thing l F_X0_thing) {F_X0_want : SPF} (S_X0_want : SpX0_want l F_X0_want) {F_X0_wantFree : SPF} (S_X0_wantFree : SpX0_wantFree l F_X0_wantFree) {F_X8_init : SPF} (S_X8_init : SpX8_init l F_X8_init) {F_X0_adds : SPF} (S_X0_adds : SpX0_adds l F_X0_adds) {F_X0_none : SPF} (S_X0_none : SpX0_none l F_X0_none) {F : SPF}
    (h0 : ∀ (As : List AV) (C : MC) (I : MI) (J : MJ) (R : MR) (K : AK), F As C I J R K → ∃ (x0 : Nat) (x1 : Int32) (x2 : Int32) (x3 : Int32) (x4 : Int32), As = [aR (some x0), aI x1, aI x2, aI x3, aI x4] ∧ PX0_cache_0 F_X0_thing F_X0_want F_X0_wantFree F_X8_init F_X0_adds F_X0_none K x0 x1 x2 x3 x4 C I J R) : SpX0_cache l F := by
  refine Spec.ofH (by rfl) ?_
  intro Γ C I J R As Gd gl gr _ _ gb hF
  subst gl
  have G : Gb Γ yX0_cache cX0_cache 7 (some .int) [(5, 88, 89, 53)] rmX0_cache bdX0_cache := ⟨Gd, gr, gb⟩
  have w89 : ∀ (x0 : Nat) (s0 : Nat) (C : MC) (I : MI) (J : MJ) (R : MR), PX0_cache_89 F_X0_thing F_X0_want F_X0_wantFree F_X8_init F_X0_adds F_X0_none (gK Γ) x0 s0 C I J R → AW Γ 1 2 C I J R 89 [(0, aR (some x0))] [aR (some s0)] := fun x0 s0 C I J R h => bX0_cache_89 G S_X0_none h
  have w48 : ∀ (x0 : Nat) (x3 : Int32) (x4 : Int32) (x5 : Nat) (x6 : Nat) (s0 : Nat) (s1 : Int32) (C : MC) (I : MI) (J : MJ) (R : MR), PX0_cache_48 F_X0_thing F_X0_want F_X0_wantFree F_X8_init F_X0_adds F_X0_none (gK Γ) x0 x3 x4 x5 x6 s0 s1 C I J R → AW Γ 0 0 C I J R 48 [(0, aR (some x0)), (3, aI x3), (4, aI x4), (5, aR (some x5)), (6, aR (some x6))] [aI s1, aR (some s0)] := fun x0 x3 x4 x5 x6 s0 s1 C I J R h => bX0_cache_48 G S_X0_want S_X0_wantFree S_X8_init S_X0_adds w89 h
  have w47 : ∀ (x0 : Nat) (x3 : Int32) (x4 : Int32) (x5 : Nat) (x6 : Nat) (s0 : Nat) (C : MC) (I : MI) (J : MJ) (R : MR), PX0_cache_47 F_X0_thing F_X0_want F_X0_wantFree F_X8_init F_X0_adds F_X0_none (gK Γ) x0 x3 x4 x5 x6 s0 C I J R → AW Γ 0 0 C I J R 47 [(0, aR (some x0)), (3, aI x3), (4, aI x4), (5, aR (some x5)), (6, aR (some x6))] [aR (some s0)] := fun x0 x3 x4 x5 x6 s0 C I J R h => bX0_cache_47 G w48 h
  obtain ⟨x0, x1, x2, x3, x4, rfl, h⟩ := h0 As C I J R (gK Γ) hF
  exact ⟨Nat.le_of_ble_eq_true rfl, bX0_cache_0 G S_X0_thing w47 w48 w89 h⟩
def PX0_retry_72 (F_X0_thing : SPF) (F_X0_want : SPF) (F_X0_wantFree : SPF) (F_X9_init : SPF) (F_X0_adds : SPF) (F_X0_none : SPF) (K : AK) (x0 : Nat) (s0 : Nat) (C : MC) (I : MI) (J : MJ) (R : MR) : Prop :=
      (C x0).1 = 1 ∧
      F_X0_none [aR (some x0), aR (some s0)] C I J R (fun o C2 I3 J4 R5 =>
      ∃ r6 : Int32, o = .inl (some (aI r6)) ∧
      K (.inl (some (aI r6))) C2 I3 J4 R5)
def PX0_retry_39 (F_X0_thing : SPF) (F_X0_want : SPF) (F_X0_wantFree : SPF) (F_X9_init : SPF) (F_X0_adds : SPF) (F_X0_none : SPF) (K : AK) (x0 : Nat) (x2 : Int32) (x3 : Int32) (x4 : Nat) (s0 : Nat) (s1 : Int32) (C : MC) (I : MI) (J : MJ) (R : MR) : Prop :=
      (C s0).1 = 1 ∧
      F_X0_want [aR (some s0), aI s1, aI (1 : Int32)] C I J R (fun o C2 I3 J4 R5 =>
      (o = .inl none ∧
      ∃ q7 : Nat, (C2 q7).1 = 0 ∧
      ∀ (C9 : MC) (I10 : MI) (J11 : MJ) (R12 : MR), C9 = va_up C2 q7 (26, 1) → I10 = va_up I3 q7 (fun _ => 0) → J11 = va_up J4 q7 (fun _ => 0) → R12 = va_up R5 q7 (fun _ => none) → 
      (25 ≤ (C9 q7).1 ∧ (C9 q7).1 < 29) ∧
      kFit (C9 q7).1 (C9 x4).1 ∧
      vp_in (0 : Int32) (C9 q7).2 ∧
      ∀ R16 : MR, R16 = va_up R12 q7 (va_up (R12 q7) (0 : Int32).toNatClampNeg (some x4)) →
      (C9 x0).1 = 1 ∧
      F_X0_wantFree [aR (some x0), aR (some q7)] C9 I10 J11 R16 (fun o C18 I19 J20 R21 =>
      (o = .inl none ∧
      ∃ q23 : Nat, (C18 q23).1 = 0 ∧
      ∀ (C25 : MC) (I26 : MI) (J27 : MJ) (R28 : MR), C25 = va_up C18 q23 (9, 0) → I26 = va_up I19 q23 (fun _ => 0) → J27 = va_up J20 q23 (fun _ => 0) → R28 = va_up R21 q23 (fun _ => none) → 
      F_X9_init [aR (some q23), aR (some x4), aI x2, aI x3] C25 I26 J27 R28 (fun o C29 I30 J31 R32 =>
      o = .inl none ∧
      (C29 x0).1 = 1 ∧
      F_X0_adds [aR (some x0), aR (some q23)] C29 I30 J31 R32 (fun o C35 I36 J37 R38 =>
      ∃ r39 : Int32, o = .inl (some (aI r39)) ∧
      K (.inl (some (aI r39))) C35 I36 J37 R38))) ∨
      (∃ q40 : Nat, o = .inr q40 ∧
      ((C18 q40).1 = 2 ∧
      PX0_retry_72 F_X0_thing F_X0_want F_X0_wantFree F_X9_init F_X0_adds F_X0_none K x0 q40 C18 I19 J20 R21)))) ∨
      (∃ q42 : Nat, o = .inr q42 ∧
      ((C2 q42).1 = 2 ∧
      PX0_retry_72 F_X0_thing F_X0_want F_X0_wantFree F_X9_init F_X0_adds F_X0_none K x0 q42 C2 I3 J4 R5)))
def PX0_retry_38 (F_X0_thing : SPF) (F_X0_want : SPF) (F_X0_wantFree : SPF) (F_X9_init : SPF) (F_X0_adds : SPF) (F_X0_none : SPF) (K : AK) (x0 : Nat) (x2 : Int32) (x3 : Int32) (x4 : Nat) (s0 : Nat) (C : MC) (I : MI) (J : MJ) (R : MR) : Prop :=
      PX0_retry_39 F_X0_thing F_X0_want F_X0_wantFree F_X9_init F_X0_adds F_X0_none K x0 x2 x3 x4 s0 (0 : Int32) C I J R
def PX0_retry_0 (F_X0_thing : SPF) (F_X0_want : SPF) (F_X0_wantFree : SPF) (F_X9_init : SPF) (F_X0_adds : SPF) (F_X0_none : SPF) (K : AK) (x0 : Nat) (x1 : Int32) (x2 : Int32) (x3 : Int32) (C : MC) (I : MI) (J : MJ) (R : MR) : Prop :=
      (C x0).1 = 1 ∧
      ∀ I2 : MI, I2 = va_up I x0 (va_up (I x0) 5 (0 : Int32)) →
      F_X0_thing [aR (some x0), aI x1] C I2 J R (fun o C3 I4 J5 R6 =>
      (∃ r7 : Nat, o = .inl (some (aR (some r7))) ∧
      ((x2 < (1 : Int32) →
      PX0_retry_38 F_X0_thing F_X0_want F_X0_wantFree F_X9_init F_X0_adds F_X0_none K x0 x2 x3 r7 x0 C3 I4 J5 R6) ∧
      (¬ x2 < (1 : Int32) →
      (((60 : Int32) < x2 →
      PX0_retry_38 F_X0_thing F_X0_want F_X0_wantFree F_X9_init F_X0_adds F_X0_none K x0 x2 x3 r7 x0 C3 I4 J5 R6) ∧
      (¬ (60 : Int32) < x2 →
      ((x3 < (1 : Int32) →
      PX0_retry_38 F_X0_thing F_X0_want F_X0_wantFree F_X9_init F_X0_adds F_X0_none K x0 x2 x3 r7 x0 C3 I4 J5 R6) ∧
      (¬ x3 < (1 : Int32) →
      (((3 : Int32) < x3 →
      PX0_retry_38 F_X0_thing F_X0_want F_X0_wantFree F_X9_init F_X0_adds F_X0_none K x0 x2 x3 r7 x0 C3 I4 J5 R6) ∧
      (¬ (3 : Int32) < x3 →
      PX0_retry_39 F_X0_thing F_X0_want F_X0_wantFree F_X9_init F_X0_adds F_X0_none K x0 x2 x3 r7 x0 (1 : Int32) C3 I4 J5 R6))))))))) ∨
      (∃ q12 : Nat, o = .inr q12 ∧
      ((C3 q12).1 = 2 ∧
      PX0_retry_72 F_X0_thing F_X0_want F_X0_wantFree F_X9_init F_X0_adds F_X0_none K x0 q12 C3 I4 J5 R6)))
theorem wX0_retry {l : Launch}  {F_X0_thing : SPF} (S_X0_thing : SpX0_thing l F_X0_thing) {F_X0_want : SPF} (S_X0_want : SpX0_want l F_X0_want) {F_X0_wantFree : SPF} (S_X0_wantFree : SpX0_wantFree l F_X0_wantFree) {F_X9_init : SPF} (S_X9_init : SpX9_init l F_X9_init) {F_X0_adds : SPF} (S_X0_adds : SpX0_adds l F_X0_adds) {F_X0_none : SPF} (S_X0_none : SpX0_none l F_X0_none) {F : SPF}
    (h0 : ∀ (As : List AV) (C : MC) (I : MI) (J : MJ) (R : MR) (K : AK), F As C I J R K → ∃ (x0 : Nat) (x1 : Int32) (x2 : Int32) (x3 : Int32), As = [aR (some x0), aI x1, aI x2, aI x3] ∧ PX0_retry_0 F_X0_thing F_X0_want F_X0_wantFree F_X9_init F_X0_adds F_X0_none K x0 x1 x2 x3 C I J R) : SpX0_retry l F := by
  refine Spec.ofH (by rfl) ?_
  intro Γ C I J R As Gd gl gr _ _ gb hF
  subst gl
  have G : Gb Γ yX0_retry cX0_retry 5 (some .int) [(5, 71, 72, 53)] rmX0_retry bdX0_retry := ⟨Gd, gr, gb⟩
  have w72 : ∀ (x0 : Nat) (s0 : Nat) (C : MC) (I : MI) (J : MJ) (R : MR), PX0_retry_72 F_X0_thing F_X0_want F_X0_wantFree F_X9_init F_X0_adds F_X0_none (gK Γ) x0 s0 C I J R → AW Γ 1 1 C I J R 72 [(0, aR (some x0))] [aR (some s0)] := fun x0 s0 C I J R h => bX0_retry_72 G S_X0_none h
  have w39 : ∀ (x0 : Nat) (x2 : Int32) (x3 : Int32) (x4 : Nat) (s0 : Nat) (s1 : Int32) (C : MC) (I : MI) (J : MJ) (R : MR), PX0_retry_39 F_X0_thing F_X0_want F_X0_wantFree F_X9_init F_X0_adds F_X0_none (gK Γ) x0 x2 x3 x4 s0 s1 C I J R → AW Γ 0 0 C I J R 39 [(0, aR (some x0)), (2, aI x2), (3, aI x3), (4, aR (some x4))] [aI s1, aR (some s0)] := fun x0 x2 x3 x4 s0 s1 C I J R h => bX0_retry_39 G S_X0_want S_X0_wantFree S_X9_init S_X0_adds w72 h
  have w38 : ∀ (x0 : Nat) (x2 : Int32) (x3 : Int32) (x4 : Nat) (s0 : Nat) (C : MC) (I : MI) (J : MJ) (R : MR), PX0_retry_38 F_X0_thing F_X0_want F_X0_wantFree F_X9_init F_X0_adds F_X0_none (gK Γ) x0 x2 x3 x4 s0 C I J R → AW Γ 0 0 C I J R 38 [(0, aR (some x0)), (2, aI x2), (3, aI x3), (4, aR (some x4))] [aR (some s0)] := fun x0 x2 x3 x4 s0 C I J R h => bX0_retry_38 G w39 h
  obtain ⟨x0, x1, x2, x3, rfl, h⟩ := h0 As C I J R (gK Γ) hF
  exact ⟨Nat.le_of_ble_eq_true rfl, bX0_retry_0 G S_X0_thing w38 w39 w72 h⟩
def PX0_hedge_57 (F_X0_thing : SPF) (F_X0_want : SPF) (F_X0_wantFree : SPF) (F_X10_init : SPF) (F_X0_adds : SPF) (F_X0_none : SPF) (K : AK) (x0 : Nat) (s0 : Nat) (C : MC) (I : MI) (J : MJ) (R : MR) : Prop :=
      (C x0).1 = 1 ∧
      F_X0_none [aR (some x0), aR (some s0)] C I J R (fun o C2 I3 J4 R5 =>
      ∃ r6 : Int32, o = .inl (some (aI r6)) ∧
      K (.inl (some (aI r6))) C2 I3 J4 R5)
def PX0_hedge_27 (F_X0_thing : SPF) (F_X0_want : SPF) (F_X0_wantFree : SPF) (F_X10_init : SPF) (F_X0_adds : SPF) (F_X0_none : SPF) (K : AK) (x0 : Nat) (x2 : Int32) (x3 : Nat) (s0 : Nat) (s1 : Int32) (C : MC) (I : MI) (J : MJ) (R : MR) : Prop :=
      (C s0).1 = 1 ∧
      F_X0_want [aR (some s0), aI s1, aI (1 : Int32)] C I J R (fun o C2 I3 J4 R5 =>
      (o = .inl none ∧
      ∃ q7 : Nat, (C2 q7).1 = 0 ∧
      ∀ (C9 : MC) (I10 : MI) (J11 : MJ) (R12 : MR), C9 = va_up C2 q7 (26, 1) → I10 = va_up I3 q7 (fun _ => 0) → J11 = va_up J4 q7 (fun _ => 0) → R12 = va_up R5 q7 (fun _ => none) → 
      (25 ≤ (C9 q7).1 ∧ (C9 q7).1 < 29) ∧
      kFit (C9 q7).1 (C9 x3).1 ∧
      vp_in (0 : Int32) (C9 q7).2 ∧
      ∀ R16 : MR, R16 = va_up R12 q7 (va_up (R12 q7) (0 : Int32).toNatClampNeg (some x3)) →
      (C9 x0).1 = 1 ∧
      F_X0_wantFree [aR (some x0), aR (some q7)] C9 I10 J11 R16 (fun o C18 I19 J20 R21 =>
      (o = .inl none ∧
      ∃ q23 : Nat, (C18 q23).1 = 0 ∧
      ∀ (C25 : MC) (I26 : MI) (J27 : MJ) (R28 : MR), C25 = va_up C18 q23 (10, 0) → I26 = va_up I19 q23 (fun _ => 0) → J27 = va_up J20 q23 (fun _ => 0) → R28 = va_up R21 q23 (fun _ => none) → 
      F_X10_init [aR (some q23), aR (some x3), aI x2] C25 I26 J27 R28 (fun o C29 I30 J31 R32 =>
      o = .inl none ∧
      (C29 x0).1 = 1 ∧
      F_X0_adds [aR (some x0), aR (some q23)] C29 I30 J31 R32 (fun o C35 I36 J37 R38 =>
      ∃ r39 : Int32, o = .inl (some (aI r39)) ∧
      K (.inl (some (aI r39))) C35 I36 J37 R38))) ∨
      (∃ q40 : Nat, o = .inr q40 ∧
      ((C18 q40).1 = 2 ∧
      PX0_hedge_57 F_X0_thing F_X0_want F_X0_wantFree F_X10_init F_X0_adds F_X0_none K x0 q40 C18 I19 J20 R21)))) ∨
      (∃ q42 : Nat, o = .inr q42 ∧
      ((C2 q42).1 = 2 ∧
      PX0_hedge_57 F_X0_thing F_X0_want F_X0_wantFree F_X10_init F_X0_adds F_X0_none K x0 q42 C2 I3 J4 R5)))
def PX0_hedge_26 (F_X0_thing : SPF) (F_X0_want : SPF) (F_X0_wantFree : SPF) (F_X10_init : SPF) (F_X0_adds : SPF) (F_X0_none : SPF) (K : AK) (x0 : Nat) (x2 : Int32) (x3 : Nat) (s0 : Nat) (C : MC) (I : MI) (J : MJ) (R : MR) : Prop :=
      PX0_hedge_27 F_X0_thing F_X0_want F_X0_wantFree F_X10_init F_X0_adds F_X0_none K x0 x2 x3 s0 (0 : Int32) C I J R
def PX0_hedge_0 (F_X0_thing : SPF) (F_X0_want : SPF) (F_X0_wantFree : SPF) (F_X10_init : SPF) (F_X0_adds : SPF) (F_X0_none : SPF) (K : AK) (x0 : Nat) (x1 : Int32) (x2 : Int32) (C : MC) (I : MI) (J : MJ) (R : MR) : Prop :=
      (C x0).1 = 1 ∧
      ∀ I2 : MI, I2 = va_up I x0 (va_up (I x0) 5 (0 : Int32)) →
      F_X0_thing [aR (some x0), aI x1] C I2 J R (fun o C3 I4 J5 R6 =>
      (∃ r7 : Nat, o = .inl (some (aR (some r7))) ∧
      ((x2 < 0 →
      PX0_hedge_26 F_X0_thing F_X0_want F_X0_wantFree F_X10_init F_X0_adds F_X0_none K x0 x2 r7 x0 C3 I4 J5 R6) ∧
      (¬ x2 < 0 →
      (((60 : Int32) < x2 →
      PX0_hedge_26 F_X0_thing F_X0_want F_X0_wantFree F_X10_init F_X0_adds F_X0_none K x0 x2 r7 x0 C3 I4 J5 R6) ∧
      (¬ (60 : Int32) < x2 →
      PX0_hedge_27 F_X0_thing F_X0_want F_X0_wantFree F_X10_init F_X0_adds F_X0_none K x0 x2 r7 x0 (1 : Int32) C3 I4 J5 R6))))) ∨
      (∃ q10 : Nat, o = .inr q10 ∧
      ((C3 q10).1 = 2 ∧
      PX0_hedge_57 F_X0_thing F_X0_want F_X0_wantFree F_X10_init F_X0_adds F_X0_none K x0 q10 C3 I4 J5 R6)))
theorem wX0_hedge {l : Launch}  {F_X0_thing : SPF} (S_X0_thing : SpX0_thing l F_X0_thing) {F_X0_want : SPF} (S_X0_want : SpX0_want l F_X0_want) {F_X0_wantFree : SPF} (S_X0_wantFree : SpX0_wantFree l F_X0_wantFree) {F_X10_init : SPF} (S_X10_init : SpX10_init l F_X10_init) {F_X0_adds : SPF} (S_X0_adds : SpX0_adds l F_X0_adds) {F_X0_none : SPF} (S_X0_none : SpX0_none l F_X0_none) {F : SPF}
    (h0 : ∀ (As : List AV) (C : MC) (I : MI) (J : MJ) (R : MR) (K : AK), F As C I J R K → ∃ (x0 : Nat) (x1 : Int32) (x2 : Int32), As = [aR (some x0), aI x1, aI x2] ∧ PX0_hedge_0 F_X0_thing F_X0_want F_X0_wantFree F_X10_init F_X0_adds F_X0_none K x0 x1 x2 C I J R) : SpX0_hedge l F := by
  refine Spec.ofH (by rfl) ?_
  intro Γ C I J R As Gd gl gr _ _ gb hF
  subst gl
  have G : Gb Γ yX0_hedge cX0_hedge 4 (some .int) [(5, 56, 57, 53)] rmX0_hedge bdX0_hedge := ⟨Gd, gr, gb⟩
  have w57 : ∀ (x0 : Nat) (s0 : Nat) (C : MC) (I : MI) (J : MJ) (R : MR), PX0_hedge_57 F_X0_thing F_X0_want F_X0_wantFree F_X10_init F_X0_adds F_X0_none (gK Γ) x0 s0 C I J R → AW Γ 1 1 C I J R 57 [(0, aR (some x0))] [aR (some s0)] := fun x0 s0 C I J R h => bX0_hedge_57 G S_X0_none h
  have w27 : ∀ (x0 : Nat) (x2 : Int32) (x3 : Nat) (s0 : Nat) (s1 : Int32) (C : MC) (I : MI) (J : MJ) (R : MR), PX0_hedge_27 F_X0_thing F_X0_want F_X0_wantFree F_X10_init F_X0_adds F_X0_none (gK Γ) x0 x2 x3 s0 s1 C I J R → AW Γ 0 0 C I J R 27 [(0, aR (some x0)), (2, aI x2), (3, aR (some x3))] [aI s1, aR (some s0)] := fun x0 x2 x3 s0 s1 C I J R h => bX0_hedge_27 G S_X0_want S_X0_wantFree S_X10_init S_X0_adds w57 h
  have w26 : ∀ (x0 : Nat) (x2 : Int32) (x3 : Nat) (s0 : Nat) (C : MC) (I : MI) (J : MJ) (R : MR), PX0_hedge_26 F_X0_thing F_X0_want F_X0_wantFree F_X10_init F_X0_adds F_X0_none (gK Γ) x0 x2 x3 s0 C I J R → AW Γ 0 0 C I J R 26 [(0, aR (some x0)), (2, aI x2), (3, aR (some x3))] [aR (some s0)] := fun x0 x2 x3 s0 C I J R h => bX0_hedge_26 G w27 h
  obtain ⟨x0, x1, x2, rfl, h⟩ := h0 As C I J R (gK Γ) hF
  exact ⟨Nat.le_of_ble_eq_true rfl, bX0_hedge_0 G S_X0_thing w26 w27 w57 h⟩
