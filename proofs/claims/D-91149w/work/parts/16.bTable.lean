/-! WALKS of X3_init X3_add X3_anew X3_less X3_by X3_failed X3_last X0_times X0_fold X0_bounded X0_common (printed by gen/blocks.py) -/
set_option maxRecDepth 100000
section BL
variable {Γ : Gm} {C : MC} {I : MI} {J : MJ} {R : MR}
set_option maxHeartbeats 1000000
theorem bX3_init_0 (G : Gb Γ yX3_init cX3_init 1 (none) [] rmX3_init bdX3_init) {x0 : Nat}
    (h : ∃ q1 : Nat, (C q1).1 = 0 ∧
      ∀ (C3 : MC) (I4 : MI) (J5 : MJ) (R6 : MR), C3 = va_up C q1 (21, 121) → I4 = va_up I q1 (fun _ => 0) → J5 = va_up J q1 (fun _ => 0) → R6 = va_up R q1 (fun _ => none) → 
      (C3 x0).1 = 4 ∧
      ∀ R8 : MR, R8 = va_up R6 x0 (va_up (R6 x0) 0 (some q1)) →
      ∃ q9 : Nat, (C3 q9).1 = 0 ∧
      ∀ (C11 : MC) (I12 : MI) (J13 : MJ) (R14 : MR), C11 = va_up C3 q9 (21, 121) → I12 = va_up I4 q9 (fun _ => 0) → J13 = va_up J5 q9 (fun _ => 0) → R14 = va_up R8 q9 (fun _ => none) → 
      (C11 x0).1 = 4 ∧
      ∀ R16 : MR, R16 = va_up R14 x0 (va_up (R14 x0) 1 (some q9)) →
      gK Γ (.inl none) C11 I12 J13 R16) :
    AW Γ 0 0 C I J R 0 [(0, aR (some x0))] [] := by
  have G0 := G.1
  refine aw_aload_n G0 0 rfl dX3_init_0 ?_
  refine aw_objinit G0 q316 q78 q79 (by rw [G.2.1]; decide) (by rw [G.2.1]; exact Nat.le_of_ble_eq_true rfl) dX3_init_1 ?_
  refine aw_aload_n G0 0 rfl dX3_init_4 ?_
  refine aw_bipush (v := (121 : Int32)) G0 dX3_init_5 (by decide) ?_
  obtain ⟨q1, z2, h⟩ := h
  refine aw_newaJ (q := q1) (k' := 1) (n' := 121) (N := 121) G0 (by decide) (by decide) (by decide) (by decide) (by decide) (by rw [G.2.1]; decide) (by rw [G.2.1]; decide) z2 dX3_init_7 ?_
  generalize gC3 : va_up C q1 (21, 121) = C3
  generalize gI4 : va_up I q1 (fun _ => 0) = I4
  generalize gJ5 : va_up J q1 (fun _ => 0) = J5
  generalize gR6 : va_up R q1 (fun _ => none) = R6
  have h := h C3 I4 J5 R6 gC3.symm gI4.symm gJ5.symm gR6.symm
  obtain ⟨k7, h⟩ := h
  refine aw_putR (f := 0) G0 (by rw [k7]; exact fp_X3_9) dX3_init_9 ?_
  generalize gR8 : va_up R6 x0 (va_up (R6 x0) 0 (some q1)) = R8
  have h := h R8 gR8.symm
  refine aw_aload_n G0 0 rfl dX3_init_12 ?_
  refine aw_bipush (v := (121 : Int32)) G0 dX3_init_13 (by decide) ?_
  obtain ⟨q9, z10, h⟩ := h
  refine aw_newaJ (q := q9) (k' := 2) (n' := 242) (N := 121) G0 (by decide) (by decide) (by decide) (by decide) (by decide) (by rw [G.2.1]; decide) (by rw [G.2.1]; decide) z10 dX3_init_15 ?_
  generalize gC11 : va_up C3 q9 (21, 121) = C11
  generalize gI12 : va_up I4 q9 (fun _ => 0) = I12
  generalize gJ13 : va_up J5 q9 (fun _ => 0) = J13
  generalize gR14 : va_up R8 q9 (fun _ => none) = R14
  have h := h C11 I12 J13 R14 gC11.symm gI12.symm gJ13.symm gR14.symm
  obtain ⟨k15, h⟩ := h
  refine aw_putR (f := 1) G0 (by rw [k15]; exact fp_X3_15) dX3_init_17 ?_
  generalize gR16 : va_up R14 x0 (va_up (R14 x0) 1 (some q9)) = R16
  have h := h R16 gR16.symm
  exact aw_return G0 (by rw [G.2.2]; decide) (by rw [G.2.1]; decide) dX3_init_20 h
theorem bX3_add_0 (G : Gb Γ yX3_add cX3_add 5 (none) [] rmX3_add bdX3_add) {F_X11_init : SPF} (S_X11_init : SpX11_init (gL Γ) F_X11_init) {x0 : Nat} {x1 : Int32} {x2 : Int32} {x3 : Int64}
    (h : ((¬ x3 = (0 : Int64) →
      ((x2 ≤ (120 : Int32) →
      ((x1 = 0 →
      (C x0).1 = 4 ∧
      ∃ q5 : Nat, R x0 1 = some q5 ∧
      (C q5).1 = 21 ∧
      vp_in x2 (C q5).2 ∧
      ∀ J8 : MJ, J8 = va_up J q5 (va_up (J q5) x2.toNatClampNeg ((J q5 x2.toNatClampNeg) + x3)) →
      gK Γ (.inl none) C I J8 R) ∧
      (¬ x1 = 0 →
      (C x0).1 = 4 ∧
      ∃ q10 : Nat, R x0 0 = some q10 ∧
      (C q10).1 = 21 ∧
      vp_in x2 (C q10).2 ∧
      ∀ J13 : MJ, J13 = va_up J q10 (va_up (J q10) x2.toNatClampNeg ((J q10 x2.toNatClampNeg) + x3)) →
      gK Γ (.inl none) C I J13 R))) ∧
      (¬ x2 ≤ (120 : Int32) →
      ∃ q14 : Nat, (C q14).1 = 0 ∧
      ∀ (C16 : MC) (I17 : MI) (J18 : MJ) (R19 : MR), C16 = va_up C q14 (11, 0) → I17 = va_up I q14 (fun _ => 0) → J18 = va_up J q14 (fun _ => 0) → R19 = va_up R q14 (fun _ => none) → 
      F_X11_init [aR (some q14)] C16 I17 J18 R19 (fun o C20 I21 J22 R23 =>
      o = .inl none ∧
      (C20 q14).1 = 11 ∧
      gK Γ (.inr q14) C20 I21 J22 R23)))) ∧
      (x3 = (0 : Int64) →
      gK Γ (.inl none) C I J R))) :
    AW Γ 0 0 C I J R 0 [(0, aR (some x0)), (1, aI x1), (2, aI x2), (3, aJ x3)] [] := by
  have G0 := G.1
  refine aw_lload_n G0 3 rfl dX3_add_0 ?_
  refine aw_lconst (v := (0 : Int64)) G0 dX3_add_1 (by decide) ?_
  refine aw_lif_ne G0 7 dX3_add_2 dX3_add_3 (by decide) (fun c1 => ?_) (fun c1 => ?_)
  · have h := h.1 c1
    refine aw_iload_n G0 2 rfl dX3_add_7 ?_
    refine aw_bipush (v := (120 : Int32)) G0 dX3_add_8 (by decide) ?_
    refine aw_icmp_le G0 21 dX3_add_10 (by decide) (fun c2 => ?_) (fun c2 => ?_)
    · have h := h.1 c2
      refine aw_iload_n G0 1 rfl dX3_add_21 ?_
      refine aw_if_eq G0 38 dX3_add_22 (by decide) (fun c3 => ?_) (fun c3 => ?_)
      · have h := h.1 c3
        refine aw_aload_n G0 0 rfl dX3_add_38 ?_
        obtain ⟨k4, h⟩ := h
        refine aw_getR (f := 1) G0 (by rw [k4]; exact fb_X3_15) dX3_add_39 ?_
        refine aw_iload_n G0 2 rfl dX3_add_42 ?_
        refine aw_dup2IR G0 dX3_add_43 ?_
        obtain ⟨q5, e5, h⟩ := h
        refine aw_dr1 e5 ?_
        obtain ⟨k6, h⟩ := h
        obtain ⟨k7, h⟩ := h
        refine aw_lald G0 k6 k7 dX3_add_44 ?_
        refine aw_lload_n G0 3 rfl dX3_add_45 ?_
        refine aw_ladd G0 dX3_add_46 ?_
        refine aw_dr2 e5 ?_
        refine aw_last G0 k6 k7 dX3_add_47 ?_
        generalize gJ8 : va_up J q5 (va_up (J q5) x2.toNatClampNeg ((J q5 x2.toNatClampNeg) + x3)) = J8
        have h := h J8 gJ8.symm
        exact aw_return G0 (by rw [G.2.2]; decide) (by rw [G.2.1]; decide) dX3_add_48 h
      · have h := h.2 c3
        refine aw_aload_n G0 0 rfl dX3_add_25 ?_
        obtain ⟨k9, h⟩ := h
        refine aw_getR (f := 0) G0 (by rw [k9]; exact fb_X3_9) dX3_add_26 ?_
        refine aw_iload_n G0 2 rfl dX3_add_29 ?_
        refine aw_dup2IR G0 dX3_add_30 ?_
        obtain ⟨q10, e10, h⟩ := h
        refine aw_dr1 e10 ?_
        obtain ⟨k11, h⟩ := h
        obtain ⟨k12, h⟩ := h
        refine aw_lald G0 k11 k12 dX3_add_31 ?_
        refine aw_lload_n G0 3 rfl dX3_add_32 ?_
        refine aw_ladd G0 dX3_add_33 ?_
        refine aw_dr2 e10 ?_
        refine aw_last G0 k11 k12 dX3_add_34 ?_
        generalize gJ13 : va_up J q10 (va_up (J q10) x2.toNatClampNeg ((J q10 x2.toNatClampNeg) + x3)) = J13
        have h := h J13 gJ13.symm
        refine aw_goto G0 48 dX3_add_35 (by decide) ?_
        exact aw_return G0 (by rw [G.2.2]; decide) (by rw [G.2.1]; decide) dX3_add_48 h
    · have h := h.2 c2
      obtain ⟨q14, z15, h⟩ := h
      refine aw_new (q := q14) (k' := 1) (n' := 6) G0 cl_10 (by decide) q686 q661 q70 nt_10 (by decide) (by decide) (by rw [G.2.1]; exact Nat.le_of_ble_eq_true rfl) (by rw [G.2.1]; exact Nat.le_of_ble_eq_true rfl) z15 dX3_add_13 ?_
      generalize gC16 : va_up C q14 (11, 0) = C16
      generalize gI17 : va_up I q14 (fun _ => 0) = I17
      generalize gJ18 : va_up J q14 (fun _ => 0) = J18
      generalize gR19 : va_up R q14 (fun _ => none) = R19
      have h := h C16 I17 J18 R19 gC16.symm gI17.symm gJ18.symm gR19.symm
      refine aw_dupR G0 dX3_add_16 ?_
      refine aw_callI (k1 := 1) (n1 := 6) (k2 := 1) (n2 := 6) (st := [aR (some q14)]) G0 S_X11_init gw_X11_init q70 q687 q670 rfl md_X11_init (Nat.le_of_ble_eq_true rfl) (by decide) (by rw [G.2.1]; decide) (by rw [G.2.1]; decide) [] rfl rfl dX3_add_17 h (fun o C20 I21 J22 R23 h => ?_)
      obtain ⟨rfl, h⟩ := h
      show AW Γ 1 6 C20 I21 J22 R23 (17 + 3) [(0, aR (some x0)), (1, aI x1), (2, aI x2), (3, aJ x3)] [aR (some q14)]
      obtain ⟨k25, h⟩ := h
      refine aw_athrow G0 dX3_add_20 ?_
      exact ax_out G0 rfl (Or.inr (Or.inl k25)) (by rw [G.2.2]; decide) (by rw [G.2.1]; decide) h
  · have h := h.2 c1
    exact aw_return G0 (by rw [G.2.2]; decide) (by rw [G.2.1]; decide) dX3_add_6 h
theorem bX3_anew_0 (G : Gb Γ yX3_anew cX3_anew 4 (some (.object "TickShare$Table")) [] rmX3_anew bdX3_anew)
    {Q2 : Nat → Int64 → Int32 → MC → MI → MJ → MR → Prop} (w2 : ∀ (x0 : Nat) (x1 : Int64) (x3 : Int32) (C : MC) (I : MI) (J : MJ) (R : MR), Q2 x0 x1 x3 C I J R → AW Γ 0 0 C I J R 2 [(0, aR (some x0)), (1, aJ x1), (3, aI x3)] []) {x0 : Nat} {x1 : Int64}
    (h : Q2 x0 x1 (0 : Int32) C I J R) :
    AW Γ 0 0 C I J R 0 [(0, aR (some x0)), (1, aJ x1)] [] := by
  have G0 := G.1
  refine aw_iconst (v := (0 : Int32)) G0 dX3_anew_0 (by decide) ?_
  refine aw_istore_n (lv' := [(3, aI (0 : Int32)), (0, aR (some x0)), (1, aJ x1)]) G0 (by decide) rfl dX3_anew_1 ?_
  exact (aw_lv [1, 2, 0] rfl (w2 x0 x1 (0 : Int32) C I J R h))
theorem bX3_anew_2 (G : Gb Γ yX3_anew cX3_anew 4 (some (.object "TickShare$Table")) [] rmX3_anew bdX3_anew)
    {Q2 : Nat → Int64 → Int32 → MC → MI → MJ → MR → Prop} (w2 : ∀ (x0 : Nat) (x1 : Int64) (x3 : Int32) (C : MC) (I : MI) (J : MJ) (R : MR), Q2 x0 x1 x3 C I J R → AW Γ 0 0 C I J R 2 [(0, aR (some x0)), (1, aJ x1), (3, aI x3)] []) {x0 : Nat} {x1 : Int64} {x3 : Int32}
    (h : (((120 : Int32) < x3 →
      (C x0).1 = 4 ∧
      ∀ J3 : MJ, J3 = va_up J x0 (va_up (J x0) 2 x1) →
      gK Γ (.inl (some (aR (some x0)))) C I J3 R) ∧
      (¬ (120 : Int32) < x3 →
      (C x0).1 = 4 ∧
      ∃ q5 : Nat, R x0 0 = some q5 ∧
      (C q5).1 = 21 ∧
      vp_in x3 (C q5).2 ∧
      ∀ J8 : MJ, J8 = va_up J q5 (va_up (J q5) x3.toNatClampNeg (0 : Int64)) →
      ∃ q9 : Nat, R x0 1 = some q9 ∧
      (C q9).1 = 21 ∧
      vp_in x3 (C q9).2 ∧
      ∀ J12 : MJ, J12 = va_up J8 q9 (va_up (J8 q9) x3.toNatClampNeg (0 : Int64)) →
      Q2 x0 x1 (x3 + 1) C I J12 R))) :
    AW Γ 0 0 C I J R 2 [(0, aR (some x0)), (1, aJ x1), (3, aI x3)] [] := by
  have G0 := G.1
  refine aw_iload_n G0 2 rfl dX3_anew_2 ?_
  refine aw_bipush (v := (120 : Int32)) G0 dX3_anew_3 (by decide) ?_
  refine aw_icmp_gt G0 28 dX3_anew_5 (by decide) (fun c1 => ?_) (fun c1 => ?_)
  · have h := h.1 c1
    refine aw_aload_n G0 0 rfl dX3_anew_28 ?_
    refine aw_lload_n G0 1 rfl dX3_anew_29 ?_
    obtain ⟨k2, h⟩ := h
    refine aw_putJ (f := 2) G0 (by rw [k2]; exact fp_X3_21 _) dX3_anew_30 ?_
    generalize gJ3 : va_up J x0 (va_up (J x0) 2 x1) = J3
    have h := h J3 gJ3.symm
    refine aw_aload_n G0 0 rfl dX3_anew_33 ?_
    exact aw_areturn G0 ⟨_, rfl, rfl⟩ (by rw [G.2.2]; decide) (by rw [G.2.1]; decide) dX3_anew_34 h
  · have h := h.2 c1
    refine aw_aload_n G0 0 rfl dX3_anew_8 ?_
    obtain ⟨k4, h⟩ := h
    refine aw_getR (f := 0) G0 (by rw [k4]; exact fb_X3_9) dX3_anew_9 ?_
    refine aw_iload_n G0 2 rfl dX3_anew_12 ?_
    refine aw_lconst (v := (0 : Int64)) G0 dX3_anew_13 (by decide) ?_
    obtain ⟨q5, e5, h⟩ := h
    refine aw_dr2 e5 ?_
    obtain ⟨k6, h⟩ := h
    obtain ⟨k7, h⟩ := h
    refine aw_last G0 k6 k7 dX3_anew_14 ?_
    generalize gJ8 : va_up J q5 (va_up (J q5) x3.toNatClampNeg (0 : Int64)) = J8
    have h := h J8 gJ8.symm
    refine aw_aload_n G0 0 rfl dX3_anew_15 ?_
    refine aw_getR (f := 1) G0 (by rw [k4]; exact fb_X3_15) dX3_anew_16 ?_
    refine aw_iload_n G0 2 rfl dX3_anew_19 ?_
    refine aw_lconst (v := (0 : Int64)) G0 dX3_anew_20 (by decide) ?_
    obtain ⟨q9, e9, h⟩ := h
    refine aw_dr2 e9 ?_
    obtain ⟨k10, h⟩ := h
    obtain ⟨k11, h⟩ := h
    refine aw_last G0 k10 k11 dX3_anew_21 ?_
    generalize gJ12 : va_up J8 q9 (va_up (J8 q9) x3.toNatClampNeg (0 : Int64)) = J12
    have h := h J12 gJ12.symm
    refine aw_iinc (v := x3 + 1) (lv' := [(3, aI (x3 + 1)), (0, aR (some x0)), (1, aJ x1)]) G0 2 rfl rfl (by decide) rfl dX3_anew_22 ?_
    refine aw_goto G0 2 dX3_anew_25 (by decide) ?_
    exact (aw_lv [1, 2, 0] rfl (w2 x0 x1 (x3 + 1) C I J12 R h))
theorem bX3_less_0 (G : Gb Γ yX3_less cX3_less 4 (some (.object "TickShare$Table")) [] rmX3_less bdX3_less)
    {Q7 : Nat → Int64 → Int32 → MC → MI → MJ → MR → Prop} (w7 : ∀ (x0 : Nat) (x1 : Int64) (x3 : Int32) (C : MC) (I : MI) (J : MJ) (R : MR), Q7 x0 x1 x3 C I J R → AW Γ 0 0 C I J R 7 [(0, aR (some x0)), (1, aJ x1), (3, aI x3)] []) {x0 : Nat}
    (h : (C x0).1 = 4 ∧
      Q7 x0 (J x0 2) (0 : Int32) C I J R) :
    AW Γ 0 0 C I J R 0 [(0, aR (some x0))] [] := by
  have G0 := G.1
  refine aw_aload_n G0 0 rfl dX3_less_0 ?_
  obtain ⟨k1, h⟩ := h
  refine aw_getJ (f := 2) G0 (by rw [k1]; exact fb_X3_21) dX3_less_1 ?_
  refine aw_lstore_n (lv' := [(1, aJ (J x0 2)), (0, aR (some x0))]) G0 (by decide) rfl dX3_less_4 ?_
  refine aw_iconst (v := (0 : Int32)) G0 dX3_less_5 (by decide) ?_
  refine aw_istore_n (lv' := [(3, aI (0 : Int32)), (1, aJ (J x0 2)), (0, aR (some x0))]) G0 (by decide) rfl dX3_less_6 ?_
  exact (aw_lv [2, 1, 0] rfl (w7 x0 (J x0 2) (0 : Int32) C I J R h))
theorem bX3_less_7 (G : Gb Γ yX3_less cX3_less 4 (some (.object "TickShare$Table")) [] rmX3_less bdX3_less) {F_X0_common : SPF} (S_X0_common : SpX0_common (gL Γ) F_X0_common)
    {Q7 : Nat → Int64 → Int32 → MC → MI → MJ → MR → Prop} (w7 : ∀ (x0 : Nat) (x1 : Int64) (x3 : Int32) (C : MC) (I : MI) (J : MJ) (R : MR), Q7 x0 x1 x3 C I J R → AW Γ 0 0 C I J R 7 [(0, aR (some x0)), (1, aJ x1), (3, aI x3)] [])
    {Q49 : Nat → Int64 → Int32 → MC → MI → MJ → MR → Prop} (w49 : ∀ (x0 : Nat) (x1 : Int64) (x3 : Int32) (C : MC) (I : MI) (J : MJ) (R : MR), Q49 x0 x1 x3 C I J R → AW Γ 0 0 C I J R 49 [(0, aR (some x0)), (1, aJ x1), (3, aI x3)] []) {x0 : Nat} {x1 : Int64} {x3 : Int32}
    (h : (((120 : Int32) < x3 →
      ((¬ x1 = (1 : Int64) →
      Q49 x0 x1 (0 : Int32) C I J R) ∧
      (x1 = (1 : Int64) →
      gK Γ (.inl (some (aR (some x0)))) C I J R))) ∧
      (¬ (120 : Int32) < x3 →
      (C x0).1 = 4 ∧
      ∃ q4 : Nat, R x0 0 = some q4 ∧
      (C q4).1 = 21 ∧
      vp_in x3 (C q4).2 ∧
      ∃ q7 : Nat, R x0 1 = some q7 ∧
      (C q7).1 = 21 ∧
      vp_in x3 (C q7).2 ∧
      F_X0_common [aJ (J q4 x3.toNatClampNeg), aJ (J q7 x3.toNatClampNeg)] C I J R (fun o C10 I11 J12 R13 =>
      ∃ r14 : Int64, o = .inl (some (aJ r14)) ∧
      F_X0_common [aJ r14, aJ x1] C10 I11 J12 R13 (fun o C15 I16 J17 R18 =>
      ∃ r19 : Int64, o = .inl (some (aJ r19)) ∧
      Q7 x0 r19 (x3 + 1) C15 I16 J17 R18))))) :
    AW Γ 0 0 C I J R 7 [(0, aR (some x0)), (1, aJ x1), (3, aI x3)] [] := by
  have G0 := G.1
  refine aw_iload_n G0 2 rfl dX3_less_7 ?_
  refine aw_bipush (v := (120 : Int32)) G0 dX3_less_8 (by decide) ?_
  refine aw_icmp_gt G0 39 dX3_less_10 (by decide) (fun c1 => ?_) (fun c1 => ?_)
  · have h := h.1 c1
    refine aw_lload_n G0 1 rfl dX3_less_39 ?_
    refine aw_lconst (v := (1 : Int64)) G0 dX3_less_40 (by decide) ?_
    refine aw_lif_ne G0 47 dX3_less_41 dX3_less_42 (by decide) (fun c2 => ?_) (fun c2 => ?_)
    · have h := h.1 c2
      refine aw_iconst (v := (0 : Int32)) G0 dX3_less_47 (by decide) ?_
      refine aw_istore_n (lv' := [(3, aI (0 : Int32)), (0, aR (some x0)), (1, aJ x1)]) G0 (by decide) rfl dX3_less_48 ?_
      exact (aw_lv [1, 2, 0] rfl (w49 x0 x1 (0 : Int32) C I J R h))
    · have h := h.2 c2
      refine aw_aload_n G0 0 rfl dX3_less_45 ?_
      exact aw_areturn G0 ⟨_, rfl, rfl⟩ (by rw [G.2.2]; decide) (by rw [G.2.1]; decide) dX3_less_46 h
  · have h := h.2 c1
    refine aw_aload_n G0 0 rfl dX3_less_13 ?_
    obtain ⟨k3, h⟩ := h
    refine aw_getR (f := 0) G0 (by rw [k3]; exact fb_X3_9) dX3_less_14 ?_
    refine aw_iload_n G0 2 rfl dX3_less_17 ?_
    obtain ⟨q4, e4, h⟩ := h
    refine aw_dr1 e4 ?_
    obtain ⟨k5, h⟩ := h
    obtain ⟨k6, h⟩ := h
    refine aw_lald G0 k5 k6 dX3_less_18 ?_
    refine aw_aload_n G0 0 rfl dX3_less_19 ?_
    refine aw_getR (f := 1) G0 (by rw [k3]; exact fb_X3_15) dX3_less_20 ?_
    refine aw_iload_n G0 2 rfl dX3_less_23 ?_
    obtain ⟨q7, e7, h⟩ := h
    refine aw_dr1 e7 ?_
    obtain ⟨k8, h⟩ := h
    obtain ⟨k9, h⟩ := h
    refine aw_lald G0 k8 k9 dX3_less_24 ?_
    refine aw_callSN (k1 := 0) (n1 := 0) (k2 := 0) (n2 := 0) (st := []) G0 S_X0_common q349 q350 q50 gw_X0_common md_X0_common (Nat.le_of_ble_eq_true rfl) (by decide) (by rw [G.2.1]; decide) (by rw [G.2.1]; decide) [aJ (J q4 x3.toNatClampNeg), aJ (J q7 x3.toNatClampNeg)] rfl rfl dX3_less_25 h (fun o C10 I11 J12 R13 h => ?_)
    obtain ⟨r14, rfl, h⟩ := h
    show AW Γ 0 0 C10 I11 J12 R13 (25 + 3) [(0, aR (some x0)), (1, aJ x1), (3, aI x3)] [aJ r14]
    refine aw_lload_n G0 1 rfl dX3_less_28 ?_
    refine aw_callSN (k1 := 0) (n1 := 0) (k2 := 0) (n2 := 0) (st := []) G0 S_X0_common q349 q350 q50 gw_X0_common md_X0_common (Nat.le_of_ble_eq_true rfl) (by decide) (by rw [G.2.1]; decide) (by rw [G.2.1]; decide) [aJ r14, aJ x1] rfl rfl dX3_less_29 h (fun o C15 I16 J17 R18 h => ?_)
    obtain ⟨r19, rfl, h⟩ := h
    show AW Γ 0 0 C15 I16 J17 R18 (29 + 3) [(0, aR (some x0)), (1, aJ x1), (3, aI x3)] [aJ r19]
    refine aw_lstore_n (lv' := [(1, aJ r19), (0, aR (some x0)), (3, aI x3)]) G0 (by decide) rfl dX3_less_32 ?_
    refine aw_iinc (v := x3 + 1) (lv' := [(3, aI (x3 + 1)), (1, aJ r19), (0, aR (some x0))]) G0 2 rfl rfl (by decide) rfl dX3_less_33 ?_
    refine aw_goto G0 7 dX3_less_36 (by decide) ?_
    exact (aw_lv [2, 1, 0] rfl (w7 x0 r19 (x3 + 1) C15 I16 J17 R18 h))
theorem bX3_less_49 (G : Gb Γ yX3_less cX3_less 4 (some (.object "TickShare$Table")) [] rmX3_less bdX3_less)
    {Q49 : Nat → Int64 → Int32 → MC → MI → MJ → MR → Prop} (w49 : ∀ (x0 : Nat) (x1 : Int64) (x3 : Int32) (C : MC) (I : MI) (J : MJ) (R : MR), Q49 x0 x1 x3 C I J R → AW Γ 0 0 C I J R 49 [(0, aR (some x0)), (1, aJ x1), (3, aI x3)] []) {x0 : Nat} {x1 : Int64} {x3 : Int32}
    (h : (((120 : Int32) < x3 →
      (C x0).1 = 4 ∧
      ¬ x1 = 0 ∧
      ∀ J4 : MJ, J4 = va_up J x0 (va_up (J x0) 2 ((J x0 2) / x1)) →
      gK Γ (.inl (some (aR (some x0)))) C I J4 R) ∧
      (¬ (120 : Int32) < x3 →
      (C x0).1 = 4 ∧
      ∃ q6 : Nat, R x0 0 = some q6 ∧
      (C q6).1 = 21 ∧
      vp_in x3 (C q6).2 ∧
      ¬ x1 = 0 ∧
      ∀ J10 : MJ, J10 = va_up J q6 (va_up (J q6) x3.toNatClampNeg ((J q6 x3.toNatClampNeg) / x1)) →
      ∃ q11 : Nat, R x0 1 = some q11 ∧
      (C q11).1 = 21 ∧
      vp_in x3 (C q11).2 ∧
      ∀ J14 : MJ, J14 = va_up J10 q11 (va_up (J10 q11) x3.toNatClampNeg ((J10 q11 x3.toNatClampNeg) / x1)) →
      Q49 x0 x1 (x3 + 1) C I J14 R))) :
    AW Γ 0 0 C I J R 49 [(0, aR (some x0)), (1, aJ x1), (3, aI x3)] [] := by
  have G0 := G.1
  refine aw_iload_n G0 2 rfl dX3_less_49 ?_
  refine aw_bipush (v := (120 : Int32)) G0 dX3_less_50 (by decide) ?_
  refine aw_icmp_gt G0 81 dX3_less_52 (by decide) (fun c1 => ?_) (fun c1 => ?_)
  · have h := h.1 c1
    refine aw_aload_n G0 0 rfl dX3_less_81 ?_
    refine aw_dupR G0 dX3_less_82 ?_
    obtain ⟨k2, h⟩ := h
    refine aw_getJ (f := 2) G0 (by rw [k2]; exact fb_X3_21) dX3_less_83 ?_
    refine aw_lload_n G0 1 rfl dX3_less_86 ?_
    obtain ⟨k3, h⟩ := h
    refine aw_ldiv G0 k3 dX3_less_87 ?_
    refine aw_putJ (f := 2) G0 (by rw [k2]; exact fp_X3_21 _) dX3_less_88 ?_
    generalize gJ4 : va_up J x0 (va_up (J x0) 2 ((J x0 2) / x1)) = J4
    have h := h J4 gJ4.symm
    refine aw_aload_n G0 0 rfl dX3_less_91 ?_
    exact aw_areturn G0 ⟨_, rfl, rfl⟩ (by rw [G.2.2]; decide) (by rw [G.2.1]; decide) dX3_less_92 h
  · have h := h.2 c1
    refine aw_aload_n G0 0 rfl dX3_less_55 ?_
    obtain ⟨k5, h⟩ := h
    refine aw_getR (f := 0) G0 (by rw [k5]; exact fb_X3_9) dX3_less_56 ?_
    refine aw_iload_n G0 2 rfl dX3_less_59 ?_
    refine aw_dup2IR G0 dX3_less_60 ?_
    obtain ⟨q6, e6, h⟩ := h
    refine aw_dr1 e6 ?_
    obtain ⟨k7, h⟩ := h
    obtain ⟨k8, h⟩ := h
    refine aw_lald G0 k7 k8 dX3_less_61 ?_
    refine aw_lload_n G0 1 rfl dX3_less_62 ?_
    obtain ⟨k9, h⟩ := h
    refine aw_ldiv G0 k9 dX3_less_63 ?_
    refine aw_dr2 e6 ?_
    refine aw_last G0 k7 k8 dX3_less_64 ?_
    generalize gJ10 : va_up J q6 (va_up (J q6) x3.toNatClampNeg ((J q6 x3.toNatClampNeg) / x1)) = J10
    have h := h J10 gJ10.symm
    refine aw_aload_n G0 0 rfl dX3_less_65 ?_
    refine aw_getR (f := 1) G0 (by rw [k5]; exact fb_X3_15) dX3_less_66 ?_
    refine aw_iload_n G0 2 rfl dX3_less_69 ?_
    refine aw_dup2IR G0 dX3_less_70 ?_
    obtain ⟨q11, e11, h⟩ := h
    refine aw_dr1 e11 ?_
    obtain ⟨k12, h⟩ := h
    obtain ⟨k13, h⟩ := h
    refine aw_lald G0 k12 k13 dX3_less_71 ?_
    refine aw_lload_n G0 1 rfl dX3_less_72 ?_
    refine aw_ldiv G0 k9 dX3_less_73 ?_
    refine aw_dr2 e11 ?_
    refine aw_last G0 k12 k13 dX3_less_74 ?_
    generalize gJ14 : va_up J10 q11 (va_up (J10 q11) x3.toNatClampNeg ((J10 q11 x3.toNatClampNeg) / x1)) = J14
    have h := h J14 gJ14.symm
    refine aw_iinc (v := x3 + 1) (lv' := [(3, aI (x3 + 1)), (0, aR (some x0)), (1, aJ x1)]) G0 2 rfl rfl (by decide) rfl dX3_less_75 ?_
    refine aw_goto G0 49 dX3_less_78 (by decide) ?_
    exact (aw_lv [1, 2, 0] rfl (w49 x0 x1 (x3 + 1) C I J14 R h))
theorem bX3_by_0 (G : Gb Γ yX3_by cX3_by 5 (some .long) [] rmX3_by bdX3_by)
    {Q5 : Nat → Int32 → Int64 → Int32 → MC → MI → MJ → MR → Prop} (w5 : ∀ (x0 : Nat) (x1 : Int32) (x2 : Int64) (x4 : Int32) (C : MC) (I : MI) (J : MJ) (R : MR), Q5 x0 x1 x2 x4 C I J R → AW Γ 0 0 C I J R 5 [(0, aR (some x0)), (1, aI x1), (2, aJ x2), (4, aI x4)] []) {x0 : Nat} {x1 : Int32}
    (h : Q5 x0 x1 (0 : Int64) (0 : Int32) C I J R) :
    AW Γ 0 0 C I J R 0 [(0, aR (some x0)), (1, aI x1)] [] := by
  have G0 := G.1
  refine aw_lconst (v := (0 : Int64)) G0 dX3_by_0 (by decide) ?_
  refine aw_lstore_n (lv' := [(2, aJ (0 : Int64)), (0, aR (some x0)), (1, aI x1)]) G0 (by decide) rfl dX3_by_1 ?_
  refine aw_iconst (v := (0 : Int32)) G0 dX3_by_2 (by decide) ?_
  refine aw_istore (lv' := [(4, aI (0 : Int32)), (2, aJ (0 : Int64)), (0, aR (some x0)), (1, aI x1)]) G0 (by decide) rfl dX3_by_3 ?_
  exact (aw_lv [2, 3, 1, 0] rfl (w5 x0 x1 (0 : Int64) (0 : Int32) C I J R h))
theorem bX3_by_5 (G : Gb Γ yX3_by cX3_by 5 (some .long) [] rmX3_by bdX3_by)
    {Q5 : Nat → Int32 → Int64 → Int32 → MC → MI → MJ → MR → Prop} (w5 : ∀ (x0 : Nat) (x1 : Int32) (x2 : Int64) (x4 : Int32) (C : MC) (I : MI) (J : MJ) (R : MR), Q5 x0 x1 x2 x4 C I J R → AW Γ 0 0 C I J R 5 [(0, aR (some x0)), (1, aI x1), (2, aJ x2), (4, aI x4)] []) {x0 : Nat} {x1 : Int32} {x2 : Int64} {x4 : Int32}
    (h : ((x1 < x4 →
      gK Γ (.inl (some (aJ x2))) C I J R) ∧
      (¬ x1 < x4 →
      (C x0).1 = 4 ∧
      ∃ q3 : Nat, R x0 0 = some q3 ∧
      (C q3).1 = 21 ∧
      vp_in x4 (C q3).2 ∧
      Q5 x0 x1 (x2 + (J q3 x4.toNatClampNeg)) (x4 + 1) C I J R))) :
    AW Γ 0 0 C I J R 5 [(0, aR (some x0)), (1, aI x1), (2, aJ x2), (4, aI x4)] [] := by
  have G0 := G.1
  refine aw_iload G0 3 rfl dX3_by_5 ?_
  refine aw_iload_n G0 1 rfl dX3_by_7 ?_
  refine aw_icmp_gt G0 27 dX3_by_8 (by decide) (fun c1 => ?_) (fun c1 => ?_)
  · have h := h.1 c1
    refine aw_lload_n G0 2 rfl dX3_by_27 ?_
    exact aw_lreturn G0 (by rw [G.2.2]; decide) (by rw [G.2.1]; decide) dX3_by_28 h
  · have h := h.2 c1
    refine aw_lload_n G0 2 rfl dX3_by_11 ?_
    refine aw_aload_n G0 0 rfl dX3_by_12 ?_
    obtain ⟨k2, h⟩ := h
    refine aw_getR (f := 0) G0 (by rw [k2]; exact fb_X3_9) dX3_by_13 ?_
    refine aw_iload G0 3 rfl dX3_by_16 ?_
    obtain ⟨q3, e3, h⟩ := h
    refine aw_dr1 e3 ?_
    obtain ⟨k4, h⟩ := h
    obtain ⟨k5, h⟩ := h
    refine aw_lald G0 k4 k5 dX3_by_18 ?_
    refine aw_ladd G0 dX3_by_19 ?_
    refine aw_lstore_n (lv' := [(2, aJ (x2 + (J q3 x4.toNatClampNeg))), (0, aR (some x0)), (1, aI x1), (4, aI x4)]) G0 (by decide) rfl dX3_by_20 ?_
    refine aw_iinc (v := x4 + 1) (lv' := [(4, aI (x4 + 1)), (2, aJ (x2 + (J q3 x4.toNatClampNeg))), (0, aR (some x0)), (1, aI x1)]) G0 3 rfl rfl (by decide) rfl dX3_by_21 ?_
    refine aw_goto G0 5 dX3_by_24 (by decide) ?_
    exact (aw_lv [2, 3, 1, 0] rfl (w5 x0 x1 (x2 + (J q3 x4.toNatClampNeg)) (x4 + 1) C I J R h))
theorem bX3_failed_0 (G : Gb Γ yX3_failed cX3_failed 4 (some .long) [] rmX3_failed bdX3_failed)
    {Q4 : Nat → Int64 → Int32 → MC → MI → MJ → MR → Prop} (w4 : ∀ (x0 : Nat) (x1 : Int64) (x3 : Int32) (C : MC) (I : MI) (J : MJ) (R : MR), Q4 x0 x1 x3 C I J R → AW Γ 0 0 C I J R 4 [(0, aR (some x0)), (1, aJ x1), (3, aI x3)] []) {x0 : Nat}
    (h : Q4 x0 (0 : Int64) (0 : Int32) C I J R) :
    AW Γ 0 0 C I J R 0 [(0, aR (some x0))] [] := by
  have G0 := G.1
  refine aw_lconst (v := (0 : Int64)) G0 dX3_failed_0 (by decide) ?_
  refine aw_lstore_n (lv' := [(1, aJ (0 : Int64)), (0, aR (some x0))]) G0 (by decide) rfl dX3_failed_1 ?_
  refine aw_iconst (v := (0 : Int32)) G0 dX3_failed_2 (by decide) ?_
  refine aw_istore_n (lv' := [(3, aI (0 : Int32)), (1, aJ (0 : Int64)), (0, aR (some x0))]) G0 (by decide) rfl dX3_failed_3 ?_
  exact (aw_lv [2, 1, 0] rfl (w4 x0 (0 : Int64) (0 : Int32) C I J R h))
theorem bX3_failed_4 (G : Gb Γ yX3_failed cX3_failed 4 (some .long) [] rmX3_failed bdX3_failed)
    {Q4 : Nat → Int64 → Int32 → MC → MI → MJ → MR → Prop} (w4 : ∀ (x0 : Nat) (x1 : Int64) (x3 : Int32) (C : MC) (I : MI) (J : MJ) (R : MR), Q4 x0 x1 x3 C I J R → AW Γ 0 0 C I J R 4 [(0, aR (some x0)), (1, aJ x1), (3, aI x3)] []) {x0 : Nat} {x1 : Int64} {x3 : Int32}
    (h : (((120 : Int32) < x3 →
      gK Γ (.inl (some (aJ x1))) C I J R) ∧
      (¬ (120 : Int32) < x3 →
      (C x0).1 = 4 ∧
      ∃ q3 : Nat, R x0 1 = some q3 ∧
      (C q3).1 = 21 ∧
      vp_in x3 (C q3).2 ∧
      Q4 x0 (x1 + (J q3 x3.toNatClampNeg)) (x3 + 1) C I J R))) :
    AW Γ 0 0 C I J R 4 [(0, aR (some x0)), (1, aJ x1), (3, aI x3)] [] := by
  have G0 := G.1
  refine aw_iload_n G0 2 rfl dX3_failed_4 ?_
  refine aw_bipush (v := (120 : Int32)) G0 dX3_failed_5 (by decide) ?_
  refine aw_icmp_gt G0 25 dX3_failed_7 (by decide) (fun c1 => ?_) (fun c1 => ?_)
  · have h := h.1 c1
    refine aw_lload_n G0 1 rfl dX3_failed_25 ?_
    exact aw_lreturn G0 (by rw [G.2.2]; decide) (by rw [G.2.1]; decide) dX3_failed_26 h
  · have h := h.2 c1
    refine aw_lload_n G0 1 rfl dX3_failed_10 ?_
    refine aw_aload_n G0 0 rfl dX3_failed_11 ?_
    obtain ⟨k2, h⟩ := h
    refine aw_getR (f := 1) G0 (by rw [k2]; exact fb_X3_15) dX3_failed_12 ?_
    refine aw_iload_n G0 2 rfl dX3_failed_15 ?_
    obtain ⟨q3, e3, h⟩ := h
    refine aw_dr1 e3 ?_
    obtain ⟨k4, h⟩ := h
    obtain ⟨k5, h⟩ := h
    refine aw_lald G0 k4 k5 dX3_failed_16 ?_
    refine aw_ladd G0 dX3_failed_17 ?_
    refine aw_lstore_n (lv' := [(1, aJ (x1 + (J q3 x3.toNatClampNeg))), (0, aR (some x0)), (3, aI x3)]) G0 (by decide) rfl dX3_failed_18 ?_
    refine aw_iinc (v := x3 + 1) (lv' := [(3, aI (x3 + 1)), (1, aJ (x1 + (J q3 x3.toNatClampNeg))), (0, aR (some x0))]) G0 2 rfl rfl (by decide) rfl dX3_failed_19 ?_
    refine aw_goto G0 4 dX3_failed_22 (by decide) ?_
    exact (aw_lv [2, 1, 0] rfl (w4 x0 (x1 + (J q3 x3.toNatClampNeg)) (x3 + 1) C I J R h))
theorem bX3_last_0 (G : Gb Γ yX3_last cX3_last 2 (some .int) [] rmX3_last bdX3_last)
    {Q3 : Nat → Int32 → MC → MI → MJ → MR → Prop} (w3 : ∀ (x0 : Nat) (x1 : Int32) (C : MC) (I : MI) (J : MJ) (R : MR), Q3 x0 x1 C I J R → AW Γ 0 0 C I J R 3 [(0, aR (some x0)), (1, aI x1)] []) {x0 : Nat}
    (h : Q3 x0 (120 : Int32) C I J R) :
    AW Γ 0 0 C I J R 0 [(0, aR (some x0))] [] := by
  have G0 := G.1
  refine aw_bipush (v := (120 : Int32)) G0 dX3_last_0 (by decide) ?_
  refine aw_istore_n (lv' := [(1, aI (120 : Int32)), (0, aR (some x0))]) G0 (by decide) rfl dX3_last_2 ?_
  exact (aw_lv [1, 0] rfl (w3 x0 (120 : Int32) C I J R h))
theorem bX3_last_3 (G : Gb Γ yX3_last cX3_last 2 (some .int) [] rmX3_last bdX3_last)
    {Q3 : Nat → Int32 → MC → MI → MJ → MR → Prop} (w3 : ∀ (x0 : Nat) (x1 : Int32) (C : MC) (I : MI) (J : MJ) (R : MR), Q3 x0 x1 C I J R → AW Γ 0 0 C I J R 3 [(0, aR (some x0)), (1, aI x1)] []) {x0 : Nat} {x1 : Int32}
    (h : ((x1 ≤ 0 →
      gK Γ (.inl (some (aI x1))) C I J R) ∧
      (¬ x1 ≤ 0 →
      (C x0).1 = 4 ∧
      ∃ q3 : Nat, R x0 0 = some q3 ∧
      (C q3).1 = 21 ∧
      vp_in x1 (C q3).2 ∧
      ((¬ (J q3 x1.toNatClampNeg) = (0 : Int64) →
      gK Γ (.inl (some (aI x1))) C I J R) ∧
      ((J q3 x1.toNatClampNeg) = (0 : Int64) →
      ∃ q7 : Nat, R x0 1 = some q7 ∧
      (C q7).1 = 21 ∧
      vp_in x1 (C q7).2 ∧
      ((¬ (J q7 x1.toNatClampNeg) = (0 : Int64) →
      gK Γ (.inl (some (aI x1))) C I J R) ∧
      ((J q7 x1.toNatClampNeg) = (0 : Int64) →
      Q3 x0 (x1 + (-1)) C I J R))))))) :
    AW Γ 0 0 C I J R 3 [(0, aR (some x0)), (1, aI x1)] [] := by
  have G0 := G.1
  refine aw_iload_n G0 1 rfl dX3_last_3 ?_
  refine aw_if_le G0 35 dX3_last_4 (by decide) (fun c1 => ?_) (fun c1 => ?_)
  · have h := h.1 c1
    refine aw_iload_n G0 1 rfl dX3_last_35 ?_
    exact aw_ireturn G0 (Or.inl rfl) (by rw [G.2.2]; decide) (by rw [G.2.1]; decide) dX3_last_36 h
  · have h := h.2 c1
    refine aw_aload_n G0 0 rfl dX3_last_7 ?_
    obtain ⟨k2, h⟩ := h
    refine aw_getR (f := 0) G0 (by rw [k2]; exact fb_X3_9) dX3_last_8 ?_
    refine aw_iload_n G0 1 rfl dX3_last_11 ?_
    obtain ⟨q3, e3, h⟩ := h
    refine aw_dr1 e3 ?_
    obtain ⟨k4, h⟩ := h
    obtain ⟨k5, h⟩ := h
    refine aw_lald G0 k4 k5 dX3_last_12 ?_
    refine aw_lconst (v := (0 : Int64)) G0 dX3_last_13 (by decide) ?_
    refine aw_lif_ne G0 35 dX3_last_14 dX3_last_15 (by decide) (fun c6 => ?_) (fun c6 => ?_)
    · have h := h.1 c6
      refine aw_iload_n G0 1 rfl dX3_last_35 ?_
      exact aw_ireturn G0 (Or.inl rfl) (by rw [G.2.2]; decide) (by rw [G.2.1]; decide) dX3_last_36 h
    · have h := h.2 c6
      refine aw_aload_n G0 0 rfl dX3_last_18 ?_
      refine aw_getR (f := 1) G0 (by rw [k2]; exact fb_X3_15) dX3_last_19 ?_
      refine aw_iload_n G0 1 rfl dX3_last_22 ?_
      obtain ⟨q7, e7, h⟩ := h
      refine aw_dr1 e7 ?_
      obtain ⟨k8, h⟩ := h
      obtain ⟨k9, h⟩ := h
      refine aw_lald G0 k8 k9 dX3_last_23 ?_
      refine aw_lconst (v := (0 : Int64)) G0 dX3_last_24 (by decide) ?_
      refine aw_lif_ne G0 35 dX3_last_25 dX3_last_26 (by decide) (fun c10 => ?_) (fun c10 => ?_)
      · have h := h.1 c10
        refine aw_iload_n G0 1 rfl dX3_last_35 ?_
        exact aw_ireturn G0 (Or.inl rfl) (by rw [G.2.2]; decide) (by rw [G.2.1]; decide) dX3_last_36 h
      · have h := h.2 c10
        refine aw_iinc (v := x1 + (-1)) (lv' := [(1, aI (x1 + (-1))), (0, aR (some x0))]) G0 1 rfl (congrArg (fun w9 => x1 + w9) (show Int32.ofInt (-1) = (-1) by decide)) (by decide) rfl dX3_last_29 ?_
        refine aw_goto G0 3 dX3_last_32 (by decide) ?_
        exact (aw_lv [1, 0] rfl (w3 x0 (x1 + (-1)) C I J R h))
theorem bX0_times_0 (G : Gb Γ yX0_times cX0_times 4 (some .long) [] rmX0_times bdX0_times) {F_X11_init : SPF} (S_X11_init : SpX11_init (gL Γ) F_X11_init) {x0 : Int64} {x2 : Int64}
    (h : ((x2 = (0 : Int64) →
      gK Γ (.inl (some (aJ (x0 * x2)))) C I J R) ∧
      (¬ x2 = (0 : Int64) →
      ¬ x2 = 0 ∧
      ((x0 ≤ ((4611686018427387903 : Int64) / x2) →
      gK Γ (.inl (some (aJ (x0 * x2)))) C I J R) ∧
      (¬ x0 ≤ ((4611686018427387903 : Int64) / x2) →
      ∃ q4 : Nat, (C q4).1 = 0 ∧
      ∀ (C6 : MC) (I7 : MI) (J8 : MJ) (R9 : MR), C6 = va_up C q4 (11, 0) → I7 = va_up I q4 (fun _ => 0) → J8 = va_up J q4 (fun _ => 0) → R9 = va_up R q4 (fun _ => none) → 
      F_X11_init [aR (some q4)] C6 I7 J8 R9 (fun o C10 I11 J12 R13 =>
      o = .inl none ∧
      (C10 q4).1 = 11 ∧
      gK Γ (.inr q4) C10 I11 J12 R13)))))) :
    AW Γ 0 0 C I J R 0 [(0, aJ x0), (2, aJ x2)] [] := by
  have G0 := G.1
  refine aw_lload_n G0 1 rfl dX0_times_0 ?_
  refine aw_lconst (v := (0 : Int64)) G0 dX0_times_1 (by decide) ?_
  refine aw_lif_eq G0 24 dX0_times_2 dX0_times_3 (by decide) (fun c1 => ?_) (fun c1 => ?_)
  · have h := h.1 c1
    refine aw_lload_n G0 0 rfl dX0_times_24 ?_
    refine aw_lload_n G0 1 rfl dX0_times_25 ?_
    refine aw_lmul G0 dX0_times_26 ?_
    exact aw_lreturn G0 (by rw [G.2.2]; decide) (by rw [G.2.1]; decide) dX0_times_27 h
  · have h := h.2 c1
    refine aw_lload_n G0 0 rfl dX0_times_6 ?_
    refine aw_ldc2 (v := (4611686018427387903 : Int64)) G0 q660 dX0_times_7 ?_
    refine aw_lload_n G0 1 rfl dX0_times_10 ?_
    obtain ⟨k2, h⟩ := h
    refine aw_ldiv G0 k2 dX0_times_11 ?_
    refine aw_lif_le G0 24 dX0_times_12 dX0_times_13 (by decide) (fun c3 => ?_) (fun c3 => ?_)
    · have h := h.1 c3
      refine aw_lload_n G0 0 rfl dX0_times_24 ?_
      refine aw_lload_n G0 1 rfl dX0_times_25 ?_
      refine aw_lmul G0 dX0_times_26 ?_
      exact aw_lreturn G0 (by rw [G.2.2]; decide) (by rw [G.2.1]; decide) dX0_times_27 h
    · have h := h.2 c3
      obtain ⟨q4, z5, h⟩ := h
      refine aw_new (q := q4) (k' := 1) (n' := 6) G0 cl_10 (by decide) q593 q661 q70 nt_10 (by decide) (by decide) (by rw [G.2.1]; exact Nat.le_of_ble_eq_true rfl) (by rw [G.2.1]; exact Nat.le_of_ble_eq_true rfl) z5 dX0_times_16 ?_
      generalize gC6 : va_up C q4 (11, 0) = C6
      generalize gI7 : va_up I q4 (fun _ => 0) = I7
      generalize gJ8 : va_up J q4 (fun _ => 0) = J8
      generalize gR9 : va_up R q4 (fun _ => none) = R9
      have h := h C6 I7 J8 R9 gC6.symm gI7.symm gJ8.symm gR9.symm
      refine aw_dupR G0 dX0_times_19 ?_
      refine aw_callI (k1 := 1) (n1 := 6) (k2 := 1) (n2 := 6) (st := [aR (some q4)]) G0 S_X11_init gw_X11_init q70 q669 q670 rfl md_X11_init (Nat.le_of_ble_eq_true rfl) (by decide) (by rw [G.2.1]; decide) (by rw [G.2.1]; decide) [] rfl rfl dX0_times_20 h (fun o C10 I11 J12 R13 h => ?_)
      obtain ⟨rfl, h⟩ := h
      show AW Γ 1 6 C10 I11 J12 R13 (20 + 3) [(0, aJ x0), (2, aJ x2)] [aR (some q4)]
      obtain ⟨k15, h⟩ := h
      refine aw_athrow G0 dX0_times_23 ?_
      exact ax_out G0 rfl (Or.inr (Or.inl k15)) (by rw [G.2.2]; decide) (by rw [G.2.1]; decide) h
theorem bX0_fold_0 (G : Gb Γ yX0_fold cX0_fold 7 (none) [] rmX0_fold bdX0_fold)
    {Q10 : Nat → Nat → Int64 → Nat → Int32 → MC → MI → MJ → MR → Prop} (w10 : ∀ (x0 : Nat) (x1 : Nat) (x2 : Int64) (x4 : Nat) (x5 : Int32) (C : MC) (I : MI) (J : MJ) (R : MR), Q10 x0 x1 x2 x4 x5 C I J R → AW Γ 0 0 C I J R 10 [(0, aR (some x0)), (1, aR (some x1)), (2, aJ x2), (4, aR (some x4)), (5, aI x5)] []) {x0 : Nat} {x1 : Nat} {x2 : Int64} {x4 : Nat}
    (h : ((¬ x2 = (0 : Int64) →
      Q10 x0 x1 x2 x4 (0 : Int32) C I J R) ∧
      (x2 = (0 : Int64) →
      gK Γ (.inl none) C I J R))) :
    AW Γ 0 0 C I J R 0 [(0, aR (some x0)), (1, aR (some x1)), (2, aJ x2), (4, aR (some x4))] [] := by
  have G0 := G.1
  refine aw_lload_n G0 2 rfl dX0_fold_0 ?_
  refine aw_lconst (v := (0 : Int64)) G0 dX0_fold_1 (by decide) ?_
  refine aw_lif_ne G0 7 dX0_fold_2 dX0_fold_3 (by decide) (fun c1 => ?_) (fun c1 => ?_)
  · have h := h.1 c1
    refine aw_iconst (v := (0 : Int32)) G0 dX0_fold_7 (by decide) ?_
    refine aw_istore (lv' := [(5, aI (0 : Int32)), (0, aR (some x0)), (1, aR (some x1)), (2, aJ x2), (4, aR (some x4))]) G0 (by decide) rfl dX0_fold_8 ?_
    exact (aw_lv [1, 2, 3, 4, 0] rfl (w10 x0 x1 x2 x4 (0 : Int32) C I J R h))
  · have h := h.2 c1
    exact aw_return G0 (by rw [G.2.2]; decide) (by rw [G.2.1]; decide) dX0_fold_6 h
theorem bX0_fold_10 (G : Gb Γ yX0_fold cX0_fold 7 (none) [] rmX0_fold bdX0_fold) {F_X3_add : SPF} (S_X3_add : SpX3_add (gL Γ) F_X3_add)
    {Q42 : Nat → Nat → Int64 → Nat → Int32 → Int32 → MC → MI → MJ → MR → Prop} (w42 : ∀ (x0 : Nat) (x1 : Nat) (x2 : Int64) (x4 : Nat) (x5 : Int32) (x6 : Int32) (C : MC) (I : MI) (J : MJ) (R : MR), Q42 x0 x1 x2 x4 x5 x6 C I J R → AW Γ 0 0 C I J R 42 [(0, aR (some x0)), (1, aR (some x1)), (2, aJ x2), (4, aR (some x4)), (5, aI x5), (6, aI x6)] []) {x0 : Nat} {x1 : Nat} {x2 : Int64} {x4 : Nat} {x5 : Int32}
    (h : (((120 : Int32) < x5 →
      gK Γ (.inl none) C I J R) ∧
      (¬ (120 : Int32) < x5 →
      (C x0).1 = 4 ∧
      ∃ q3 : Nat, R x0 1 = some q3 ∧
      (C q3).1 = 21 ∧
      vp_in x5 (C q3).2 ∧
      (C x1).1 = 4 ∧
      (C x4).1 = 4 ∧
      F_X3_add [aR (some x4), aI (0 : Int32), aI x5, aJ (((J q3 x5.toNatClampNeg) * (J x1 2)) * x2)] C I J R (fun o C8 I9 J10 R11 =>
      (o = .inl none ∧
      Q42 x0 x1 x2 x4 x5 (0 : Int32) C8 I9 J10 R11) ∨
      (∃ q13 : Nat, o = .inr q13 ∧
      ((C8 q13).1 = 11 ∧
      gK Γ (.inr q13) C8 I9 J10 R11)))))) :
    AW Γ 0 0 C I J R 10 [(0, aR (some x0)), (1, aR (some x1)), (2, aJ x2), (4, aR (some x4)), (5, aI x5)] [] := by
  have G0 := G.1
  refine aw_iload G0 4 rfl dX0_fold_10 ?_
  refine aw_bipush (v := (120 : Int32)) G0 dX0_fold_12 (by decide) ?_
  refine aw_icmp_gt G0 129 dX0_fold_14 (by decide) (fun c1 => ?_) (fun c1 => ?_)
  · have h := h.1 c1
    exact aw_return G0 (by rw [G.2.2]; decide) (by rw [G.2.1]; decide) dX0_fold_129 h
  · have h := h.2 c1
    refine aw_aload G0 3 rfl dX0_fold_17 ?_
    refine aw_iconst (v := (0 : Int32)) G0 dX0_fold_19 (by decide) ?_
    refine aw_iload G0 4 rfl dX0_fold_20 ?_
    refine aw_aload_n G0 0 rfl dX0_fold_22 ?_
    obtain ⟨k2, h⟩ := h
    refine aw_getR (f := 1) G0 (by rw [k2]; exact fb_X0_19) dX0_fold_23 ?_
    refine aw_iload G0 4 rfl dX0_fold_26 ?_
    obtain ⟨q3, e3, h⟩ := h
    refine aw_dr1 e3 ?_
    obtain ⟨k4, h⟩ := h
    obtain ⟨k5, h⟩ := h
    refine aw_lald G0 k4 k5 dX0_fold_28 ?_
    refine aw_aload_n G0 1 rfl dX0_fold_29 ?_
    obtain ⟨k6, h⟩ := h
    refine aw_getJ (f := 2) G0 (by rw [k6]; exact fb_X0_24) dX0_fold_30 ?_
    refine aw_lmul G0 dX0_fold_33 ?_
    refine aw_lload_n G0 2 rfl dX0_fold_34 ?_
    refine aw_lmul G0 dX0_fold_35 ?_
    obtain ⟨k7, h⟩ := h
    refine aw_callV (k1 := 0) (n1 := 0) (k2 := 1) (n2 := 6) (st := []) G0 S_X3_add gi_X0_28 (Or.inl (by rw [k7]; decide)) (by rw [k7]; rfl) md_X3_add (Nat.le_of_ble_eq_true rfl) (by decide) (by rw [G.2.1]; decide) (by rw [G.2.1]; decide) [aI (0 : Int32), aI x5, aJ (((J q3 x5.toNatClampNeg) * (J x1 2)) * x2)] rfl rfl dX0_fold_36 h (fun o C8 I9 J10 R11 h => ?_)
    rcases h with ⟨rfl, h⟩ | ⟨q13, rfl, h⟩
    · show AW Γ 0 0 C8 I9 J10 R11 (36 + 3) [(0, aR (some x0)), (1, aR (some x1)), (2, aJ x2), (4, aR (some x4)), (5, aI x5)] []
      refine aw_iconst (v := (0 : Int32)) G0 dX0_fold_39 (by decide) ?_
      refine aw_istore (lv' := [(6, aI (0 : Int32)), (0, aR (some x0)), (1, aR (some x1)), (2, aJ x2), (4, aR (some x4)), (5, aI x5)]) G0 (by decide) rfl dX0_fold_40 ?_
      exact (aw_lv [1, 2, 3, 4, 5, 0] rfl (w42 x0 x1 x2 x4 x5 (0 : Int32) C8 I9 J10 R11 h))
    · show AX Γ 1 6 C8 I9 J10 R11 36 [(0, aR (some x0)), (1, aR (some x1)), (2, aJ x2), (4, aR (some x4)), (5, aI x5)] q13
      obtain ⟨k14, h⟩ := h
      exact ax_out G0 rfl (Or.inr (Or.inl k14)) (by rw [G.2.2]; decide) (by rw [G.2.1]; decide) h
theorem bX0_fold_42 (G : Gb Γ yX0_fold cX0_fold 7 (none) [] rmX0_fold bdX0_fold) {F_X3_add : SPF} (S_X3_add : SpX3_add (gL Γ) F_X3_add)
    {Q42 : Nat → Nat → Int64 → Nat → Int32 → Int32 → MC → MI → MJ → MR → Prop} (w42 : ∀ (x0 : Nat) (x1 : Nat) (x2 : Int64) (x4 : Nat) (x5 : Int32) (x6 : Int32) (C : MC) (I : MI) (J : MJ) (R : MR), Q42 x0 x1 x2 x4 x5 x6 C I J R → AW Γ 0 0 C I J R 42 [(0, aR (some x0)), (1, aR (some x1)), (2, aJ x2), (4, aR (some x4)), (5, aI x5), (6, aI x6)] [])
    {Q123 : Nat → Nat → Int64 → Nat → Int32 → MC → MI → MJ → MR → Prop} (w123 : ∀ (x0 : Nat) (x1 : Nat) (x2 : Int64) (x4 : Nat) (x5 : Int32) (C : MC) (I : MI) (J : MJ) (R : MR), Q123 x0 x1 x2 x4 x5 C I J R → AW Γ 0 0 C I J R 123 [(0, aR (some x0)), (1, aR (some x1)), (2, aJ x2), (4, aR (some x4)), (5, aI x5)] []) {x0 : Nat} {x1 : Nat} {x2 : Int64} {x4 : Nat} {x5 : Int32} {x6 : Int32}
    (h : (((120 : Int32) < x6 →
      Q123 x0 x1 x2 x4 x5 C I J R) ∧
      (¬ (120 : Int32) < x6 →
      (C x0).1 = 4 ∧
      ∃ q3 : Nat, R x0 0 = some q3 ∧
      (C q3).1 = 21 ∧
      vp_in x5 (C q3).2 ∧
      (((J q3 x5.toNatClampNeg) ≤ (0 : Int64) →
      Q123 x0 x1 x2 x4 x5 C I J R) ∧
      (¬ (J q3 x5.toNatClampNeg) ≤ (0 : Int64) →
      (C x1).1 = 4 ∧
      ∃ q8 : Nat, R x1 0 = some q8 ∧
      (C q8).1 = 21 ∧
      vp_in x6 (C q8).2 ∧
      (C x4).1 = 4 ∧
      F_X3_add [aR (some x4), aI (1 : Int32), aI (x5 + x6), aJ (((J q3 x5.toNatClampNeg) * (J q8 x6.toNatClampNeg)) * x2)] C I J R (fun o C12 I13 J14 R15 =>
      (o = .inl none ∧
      (C12 x0).1 = 4 ∧
      ∃ q18 : Nat, R15 x0 0 = some q18 ∧
      (C12 q18).1 = 21 ∧
      vp_in x5 (C12 q18).2 ∧
      (C12 x1).1 = 4 ∧
      ∃ q22 : Nat, R15 x1 1 = some q22 ∧
      (C12 q22).1 = 21 ∧
      vp_in x6 (C12 q22).2 ∧
      (C12 x4).1 = 4 ∧
      F_X3_add [aR (some x4), aI (0 : Int32), aI (x5 + x6), aJ (((J14 q18 x5.toNatClampNeg) * (J14 q22 x6.toNatClampNeg)) * x2)] C12 I13 J14 R15 (fun o C26 I27 J28 R29 =>
      (o = .inl none ∧
      Q42 x0 x1 x2 x4 x5 (x6 + 1) C26 I27 J28 R29) ∨
      (∃ q31 : Nat, o = .inr q31 ∧
      ((C26 q31).1 = 11 ∧
      gK Γ (.inr q31) C26 I27 J28 R29)))) ∨
      (∃ q33 : Nat, o = .inr q33 ∧
      ((C12 q33).1 = 11 ∧
      gK Γ (.inr q33) C12 I13 J14 R15)))))))) :
    AW Γ 0 0 C I J R 42 [(0, aR (some x0)), (1, aR (some x1)), (2, aJ x2), (4, aR (some x4)), (5, aI x5), (6, aI x6)] [] := by
  have G0 := G.1
  refine aw_iload G0 5 rfl dX0_fold_42 ?_
  refine aw_bipush (v := (120 : Int32)) G0 dX0_fold_44 (by decide) ?_
  refine aw_icmp_gt G0 123 dX0_fold_46 (by decide) (fun c1 => ?_) (fun c1 => ?_)
  · have h := h.1 c1
    exact (aw_lv [0, 1, 2, 3, 4] rfl (w123 x0 x1 x2 x4 x5 C I J R h))
  · have h := h.2 c1
    refine aw_aload_n G0 0 rfl dX0_fold_49 ?_
    obtain ⟨k2, h⟩ := h
    refine aw_getR (f := 0) G0 (by rw [k2]; exact fb_X0_32) dX0_fold_50 ?_
    refine aw_iload G0 4 rfl dX0_fold_53 ?_
    obtain ⟨q3, e3, h⟩ := h
    refine aw_dr1 e3 ?_
    obtain ⟨k4, h⟩ := h
    obtain ⟨k5, h⟩ := h
    refine aw_lald G0 k4 k5 dX0_fold_55 ?_
    refine aw_lconst (v := (0 : Int64)) G0 dX0_fold_56 (by decide) ?_
    refine aw_lif_le G0 123 dX0_fold_57 dX0_fold_58 (by decide) (fun c6 => ?_) (fun c6 => ?_)
    · have h := h.1 c6
      exact (aw_lv [0, 1, 2, 3, 4] rfl (w123 x0 x1 x2 x4 x5 C I J R h))
    · have h := h.2 c6
      refine aw_aload G0 3 rfl dX0_fold_61 ?_
      refine aw_iconst (v := (1 : Int32)) G0 dX0_fold_63 (by decide) ?_
      refine aw_iload G0 4 rfl dX0_fold_64 ?_
      refine aw_iload G0 5 rfl dX0_fold_66 ?_
      refine aw_iadd G0 dX0_fold_68 ?_
      refine aw_aload_n G0 0 rfl dX0_fold_69 ?_
      refine aw_getR (f := 0) G0 (by rw [k2]; exact fb_X0_32) dX0_fold_70 ?_
      refine aw_iload G0 4 rfl dX0_fold_73 ?_
      refine aw_dr1 e3 ?_
      refine aw_lald G0 k4 k5 dX0_fold_75 ?_
      refine aw_aload_n G0 1 rfl dX0_fold_76 ?_
      obtain ⟨k7, h⟩ := h
      refine aw_getR (f := 0) G0 (by rw [k7]; exact fb_X0_32) dX0_fold_77 ?_
      refine aw_iload G0 5 rfl dX0_fold_80 ?_
      obtain ⟨q8, e8, h⟩ := h
      refine aw_dr1 e8 ?_
      obtain ⟨k9, h⟩ := h
      obtain ⟨k10, h⟩ := h
      refine aw_lald G0 k9 k10 dX0_fold_82 ?_
      refine aw_lmul G0 dX0_fold_83 ?_
      refine aw_lload_n G0 2 rfl dX0_fold_84 ?_
      refine aw_lmul G0 dX0_fold_85 ?_
      obtain ⟨k11, h⟩ := h
      refine aw_callV (k1 := 0) (n1 := 0) (k2 := 1) (n2 := 6) (st := []) G0 S_X3_add gi_X0_28 (Or.inl (by rw [k11]; decide)) (by rw [k11]; rfl) md_X3_add (Nat.le_of_ble_eq_true rfl) (by decide) (by rw [G.2.1]; decide) (by rw [G.2.1]; decide) [aI (1 : Int32), aI (x5 + x6), aJ (((J q3 x5.toNatClampNeg) * (J q8 x6.toNatClampNeg)) * x2)] rfl rfl dX0_fold_86 h (fun o C12 I13 J14 R15 h => ?_)
      rcases h with ⟨rfl, h⟩ | ⟨q33, rfl, h⟩
      · show AW Γ 0 0 C12 I13 J14 R15 (86 + 3) [(0, aR (some x0)), (1, aR (some x1)), (2, aJ x2), (4, aR (some x4)), (5, aI x5), (6, aI x6)] []
        refine aw_aload G0 3 rfl dX0_fold_89 ?_
        refine aw_iconst (v := (0 : Int32)) G0 dX0_fold_91 (by decide) ?_
        refine aw_iload G0 4 rfl dX0_fold_92 ?_
        refine aw_iload G0 5 rfl dX0_fold_94 ?_
        refine aw_iadd G0 dX0_fold_96 ?_
        refine aw_aload_n G0 0 rfl dX0_fold_97 ?_
        obtain ⟨k17, h⟩ := h
        refine aw_getR (f := 0) G0 (by rw [k17]; exact fb_X0_32) dX0_fold_98 ?_
        refine aw_iload G0 4 rfl dX0_fold_101 ?_
        obtain ⟨q18, e18, h⟩ := h
        refine aw_dr1 e18 ?_
        obtain ⟨k19, h⟩ := h
        obtain ⟨k20, h⟩ := h
        refine aw_lald G0 k19 k20 dX0_fold_103 ?_
        refine aw_aload_n G0 1 rfl dX0_fold_104 ?_
        obtain ⟨k21, h⟩ := h
        refine aw_getR (f := 1) G0 (by rw [k21]; exact fb_X0_19) dX0_fold_105 ?_
        refine aw_iload G0 5 rfl dX0_fold_108 ?_
        obtain ⟨q22, e22, h⟩ := h
        refine aw_dr1 e22 ?_
        obtain ⟨k23, h⟩ := h
        obtain ⟨k24, h⟩ := h
        refine aw_lald G0 k23 k24 dX0_fold_110 ?_
        refine aw_lmul G0 dX0_fold_111 ?_
        refine aw_lload_n G0 2 rfl dX0_fold_112 ?_
        refine aw_lmul G0 dX0_fold_113 ?_
        obtain ⟨k25, h⟩ := h
        refine aw_callV (k1 := 0) (n1 := 0) (k2 := 1) (n2 := 6) (st := []) G0 S_X3_add gi_X0_28 (Or.inl (by rw [k25]; decide)) (by rw [k25]; rfl) md_X3_add (Nat.le_of_ble_eq_true rfl) (by decide) (by rw [G.2.1]; decide) (by rw [G.2.1]; decide) [aI (0 : Int32), aI (x5 + x6), aJ (((J14 q18 x5.toNatClampNeg) * (J14 q22 x6.toNatClampNeg)) * x2)] rfl rfl dX0_fold_114 h (fun o C26 I27 J28 R29 h => ?_)
        rcases h with ⟨rfl, h⟩ | ⟨q31, rfl, h⟩
        · show AW Γ 0 0 C26 I27 J28 R29 (114 + 3) [(0, aR (some x0)), (1, aR (some x1)), (2, aJ x2), (4, aR (some x4)), (5, aI x5), (6, aI x6)] []
          refine aw_iinc (v := x6 + 1) (lv' := [(6, aI (x6 + 1)), (0, aR (some x0)), (1, aR (some x1)), (2, aJ x2), (4, aR (some x4)), (5, aI x5)]) G0 5 rfl rfl (by decide) rfl dX0_fold_117 ?_
          refine aw_goto G0 42 dX0_fold_120 (by decide) ?_
          exact (aw_lv [1, 2, 3, 4, 5, 0] rfl (w42 x0 x1 x2 x4 x5 (x6 + 1) C26 I27 J28 R29 h))
        · show AX Γ 1 6 C26 I27 J28 R29 114 [(0, aR (some x0)), (1, aR (some x1)), (2, aJ x2), (4, aR (some x4)), (5, aI x5), (6, aI x6)] q31
          obtain ⟨k32, h⟩ := h
          exact ax_out G0 rfl (Or.inr (Or.inl k32)) (by rw [G.2.2]; decide) (by rw [G.2.1]; decide) h
      · show AX Γ 1 6 C12 I13 J14 R15 86 [(0, aR (some x0)), (1, aR (some x1)), (2, aJ x2), (4, aR (some x4)), (5, aI x5), (6, aI x6)] q33
        obtain ⟨k34, h⟩ := h
        exact ax_out G0 rfl (Or.inr (Or.inl k34)) (by rw [G.2.2]; decide) (by rw [G.2.1]; decide) h
theorem bX0_fold_123 (G : Gb Γ yX0_fold cX0_fold 7 (none) [] rmX0_fold bdX0_fold)
    {Q10 : Nat → Nat → Int64 → Nat → Int32 → MC → MI → MJ → MR → Prop} (w10 : ∀ (x0 : Nat) (x1 : Nat) (x2 : Int64) (x4 : Nat) (x5 : Int32) (C : MC) (I : MI) (J : MJ) (R : MR), Q10 x0 x1 x2 x4 x5 C I J R → AW Γ 0 0 C I J R 10 [(0, aR (some x0)), (1, aR (some x1)), (2, aJ x2), (4, aR (some x4)), (5, aI x5)] []) {x0 : Nat} {x1 : Nat} {x2 : Int64} {x4 : Nat} {x5 : Int32}
    (h : Q10 x0 x1 x2 x4 (x5 + 1) C I J R) :
    AW Γ 0 0 C I J R 123 [(0, aR (some x0)), (1, aR (some x1)), (2, aJ x2), (4, aR (some x4)), (5, aI x5)] [] := by
  have G0 := G.1
  refine aw_iinc (v := x5 + 1) (lv' := [(5, aI (x5 + 1)), (0, aR (some x0)), (1, aR (some x1)), (2, aJ x2), (4, aR (some x4))]) G0 4 rfl rfl (by decide) rfl dX0_fold_123 ?_
  refine aw_goto G0 10 dX0_fold_126 (by decide) ?_
  exact (aw_lv [1, 2, 3, 4, 0] rfl (w10 x0 x1 x2 x4 (x5 + 1) C I J R h))
theorem bX0_bounded_0 (G : Gb Γ yX0_bounded cX0_bounded 2 (some .long) [] rmX0_bounded bdX0_bounded) {F_X11_init : SPF} (S_X11_init : SpX11_init (gL Γ) F_X11_init) {x0 : Int64}
    (h : ((x0 < (1152921504606846976 : Int64) →
      gK Γ (.inl (some (aJ x0))) C I J R) ∧
      (¬ x0 < (1152921504606846976 : Int64) →
      ∃ q2 : Nat, (C q2).1 = 0 ∧
      ∀ (C4 : MC) (I5 : MI) (J6 : MJ) (R7 : MR), C4 = va_up C q2 (11, 0) → I5 = va_up I q2 (fun _ => 0) → J6 = va_up J q2 (fun _ => 0) → R7 = va_up R q2 (fun _ => none) → 
      F_X11_init [aR (some q2)] C4 I5 J6 R7 (fun o C8 I9 J10 R11 =>
      o = .inl none ∧
      (C8 q2).1 = 11 ∧
      gK Γ (.inr q2) C8 I9 J10 R11)))) :
    AW Γ 0 0 C I J R 0 [(0, aJ x0)] [] := by
  have G0 := G.1
  refine aw_lload_n G0 0 rfl dX0_bounded_0 ?_
  refine aw_ldc2 (v := (1152921504606846976 : Int64)) G0 q802 dX0_bounded_1 ?_
  refine aw_lif_lt G0 16 dX0_bounded_4 dX0_bounded_5 (by decide) (fun c1 => ?_) (fun c1 => ?_)
  · have h := h.1 c1
    refine aw_lload_n G0 0 rfl dX0_bounded_16 ?_
    exact aw_lreturn G0 (by rw [G.2.2]; decide) (by rw [G.2.1]; decide) dX0_bounded_17 h
  · have h := h.2 c1
    obtain ⟨q2, z3, h⟩ := h
    refine aw_new (q := q2) (k' := 1) (n' := 6) G0 cl_10 (by decide) q593 q661 q70 nt_10 (by decide) (by decide) (by rw [G.2.1]; exact Nat.le_of_ble_eq_true rfl) (by rw [G.2.1]; exact Nat.le_of_ble_eq_true rfl) z3 dX0_bounded_8 ?_
    generalize gC4 : va_up C q2 (11, 0) = C4
    generalize gI5 : va_up I q2 (fun _ => 0) = I5
    generalize gJ6 : va_up J q2 (fun _ => 0) = J6
    generalize gR7 : va_up R q2 (fun _ => none) = R7
    have h := h C4 I5 J6 R7 gC4.symm gI5.symm gJ6.symm gR7.symm
    refine aw_dupR G0 dX0_bounded_11 ?_
    refine aw_callI (k1 := 1) (n1 := 6) (k2 := 1) (n2 := 6) (st := [aR (some q2)]) G0 S_X11_init gw_X11_init q70 q669 q670 rfl md_X11_init (Nat.le_of_ble_eq_true rfl) (by decide) (by rw [G.2.1]; decide) (by rw [G.2.1]; decide) [] rfl rfl dX0_bounded_12 h (fun o C8 I9 J10 R11 h => ?_)
    obtain ⟨rfl, h⟩ := h
    show AW Γ 1 6 C8 I9 J10 R11 (12 + 3) [(0, aJ x0)] [aR (some q2)]
    obtain ⟨k13, h⟩ := h
    refine aw_athrow G0 dX0_bounded_15 ?_
    exact ax_out G0 rfl (Or.inr (Or.inl k13)) (by rw [G.2.2]; decide) (by rw [G.2.1]; decide) h
theorem bX0_common_0 (G : Gb Γ yX0_common cX0_common 10 (some .long) [] rmX0_common bdX0_common)
    {Q12 : Int64 → Int64 → MC → MI → MJ → MR → Prop} (w12 : ∀ (x4 : Int64) (x6 : Int64) (C : MC) (I : MI) (J : MJ) (R : MR), Q12 x4 x6 C I J R → AW Γ 0 0 C I J R 12 [(4, aJ x4), (6, aJ x6)] []) {x0 : Int64} {x2 : Int64}
    (h : Q12 (if 0 < x0 then x0 else -x0) (if 0 < x2 then x2 else -x2) C I J R) :
    AW Γ 0 0 C I J R 0 [(0, aJ x0), (2, aJ x2)] [] := by
  have G0 := G.1
  refine aw_lload_n G0 0 rfl dX0_common_0 ?_
  refine aw_mabsl G0 q352 (by rw [G.2.1]; decide) (by rw [G.2.1]; exact Nat.le_of_ble_eq_true rfl) (by rw [G.2.1]; decide) dX0_common_1 ?_
  refine aw_lstore (lv' := [(4, aJ (if 0 < x0 then x0 else -x0)), (0, aJ x0), (2, aJ x2)]) G0 (by decide) rfl dX0_common_4 ?_
  refine aw_lload_n G0 2 rfl dX0_common_6 ?_
  refine aw_mabsl G0 q352 (by rw [G.2.1]; decide) (by rw [G.2.1]; exact Nat.le_of_ble_eq_true rfl) (by rw [G.2.1]; decide) dX0_common_7 ?_
  refine aw_lstore (lv' := [(6, aJ (if 0 < x2 then x2 else -x2)), (4, aJ (if 0 < x0 then x0 else -x0)), (0, aJ x0), (2, aJ x2)]) G0 (by decide) rfl dX0_common_10 ?_
  exact (aw_lv [1, 0] rfl (w12 (if 0 < x0 then x0 else -x0) (if 0 < x2 then x2 else -x2) C I J R h))
theorem bX0_common_12 (G : Gb Γ yX0_common cX0_common 10 (some .long) [] rmX0_common bdX0_common)
    {Q12 : Int64 → Int64 → MC → MI → MJ → MR → Prop} (w12 : ∀ (x4 : Int64) (x6 : Int64) (C : MC) (I : MI) (J : MJ) (R : MR), Q12 x4 x6 C I J R → AW Γ 0 0 C I J R 12 [(4, aJ x4), (6, aJ x6)] []) {x4 : Int64} {x6 : Int64}
    (h : ((x6 = (0 : Int64) →
      gK Γ (.inl (some (aJ x4))) C I J R) ∧
      (¬ x6 = (0 : Int64) →
      ¬ x6 = 0 ∧
      Q12 x6 (x4 - x4 / x6 * x6) C I J R))) :
    AW Γ 0 0 C I J R 12 [(4, aJ x4), (6, aJ x6)] [] := by
  have G0 := G.1
  refine aw_lload G0 1 rfl dX0_common_12 ?_
  refine aw_lconst (v := (0 : Int64)) G0 dX0_common_14 (by decide) ?_
  refine aw_lif_eq G0 37 dX0_common_15 dX0_common_16 (by decide) (fun c1 => ?_) (fun c1 => ?_)
  · have h := h.1 c1
    refine aw_lload G0 0 rfl dX0_common_37 ?_
    exact aw_lreturn G0 (by rw [G.2.2]; decide) (by rw [G.2.1]; decide) dX0_common_39 h
  · have h := h.2 c1
    refine aw_lload G0 0 rfl dX0_common_19 ?_
    refine aw_lload G0 1 rfl dX0_common_21 ?_
    obtain ⟨k2, h⟩ := h
    refine aw_lrem G0 k2 dX0_common_23 ?_
    refine aw_lstore (lv' := [(8, aJ (x4 - x4 / x6 * x6)), (4, aJ x4), (6, aJ x6)]) G0 (by decide) rfl dX0_common_24 ?_
    refine aw_lload G0 2 rfl dX0_common_26 ?_
    refine aw_lstore (lv' := [(4, aJ x6), (8, aJ (x4 - x4 / x6 * x6)), (6, aJ x6)]) G0 (by decide) rfl dX0_common_28 ?_
    refine aw_lload G0 1 rfl dX0_common_30 ?_
    refine aw_lstore (lv' := [(6, aJ (x4 - x4 / x6 * x6)), (4, aJ x6), (8, aJ (x4 - x4 / x6 * x6))]) G0 (by decide) rfl dX0_common_32 ?_
    refine aw_goto G0 12 dX0_common_34 (by decide) ?_
    exact (aw_lv [1, 0] rfl (w12 x6 (x4 - x4 / x6 * x6) C I J R h))
end BL
set_option linter.unusedVariables false
def PX3_init_0 (K : AK) (x0 : Nat) (C : MC) (I : MI) (J : MJ) (R : MR) : Prop :=
      ∃ q1 : Nat, (C q1).1 = 0 ∧
      ∀ (C3 : MC) (I4 : MI) (J5 : MJ) (R6 : MR), C3 = va_up C q1 (21, 121) → I4 = va_up I q1 (fun _ => 0) → J5 = va_up J q1 (fun _ => 0) → R6 = va_up R q1 (fun _ => none) → 
      (C3 x0).1 = 4 ∧
      ∀ R8 : MR, R8 = va_up R6 x0 (va_up (R6 x0) 0 (some q1)) →
      ∃ q9 : Nat, (C3 q9).1 = 0 ∧
      ∀ (C11 : MC) (I12 : MI) (J13 : MJ) (R14 : MR), C11 = va_up C3 q9 (21, 121) → I12 = va_up I4 q9 (fun _ => 0) → J13 = va_up J5 q9 (fun _ => 0) → R14 = va_up R8 q9 (fun _ => none) → 
      (C11 x0).1 = 4 ∧
      ∀ R16 : MR, R16 = va_up R14 x0 (va_up (R14 x0) 1 (some q9)) →
      K (.inl none) C11 I12 J13 R16
theorem wX3_init {l : Launch}  {F : SPF}
    (h0 : ∀ (As : List AV) (C : MC) (I : MI) (J : MJ) (R : MR) (K : AK), F As C I J R K → ∃ (x0 : Nat), As = [aR (some x0)] ∧ PX3_init_0 K x0 C I J R) : SpX3_init l F := by
  refine Spec.of (by rfl) ?_
  intro Γ C I J R As Gd gl gr _ _ gb hF
  subst gl
  have G : Gb Γ yX3_init cX3_init 1 (none) [] rmX3_init bdX3_init := ⟨Gd, gr, gb⟩
  obtain ⟨x0, rfl, h⟩ := h0 As C I J R (gK Γ) hF
  exact ⟨Nat.le_of_ble_eq_true rfl, bX3_init_0 G h⟩
def PX3_add_0 (F_X11_init : SPF) (K : AK) (x0 : Nat) (x1 : Int32) (x2 : Int32) (x3 : Int64) (C : MC) (I : MI) (J : MJ) (R : MR) : Prop :=
      ((¬ x3 = (0 : Int64) →
      ((x2 ≤ (120 : Int32) →
      ((x1 = 0 →
      (C x0).1 = 4 ∧
      ∃ q5 : Nat, R x0 1 = some q5 ∧
      (C q5).1 = 21 ∧
      vp_in x2 (C q5).2 ∧
      ∀ J8 : MJ, J8 = va_up J q5 (va_up (J q5) x2.toNatClampNeg ((J q5 x2.toNatClampNeg) + x3)) →
      K (.inl none) C I J8 R) ∧
      (¬ x1 = 0 →
      (C x0).1 = 4 ∧
      ∃ q10 : Nat, R x0 0 = some q10 ∧
      (C q10).1 = 21 ∧
      vp_in x2 (C q10).2 ∧
      ∀ J13 : MJ, J13 = va_up J q10 (va_up (J q10) x2.toNatClampNeg ((J q10 x2.toNatClampNeg) + x3)) →
      K (.inl none) C I J13 R))) ∧
      (¬ x2 ≤ (120 : Int32) →
      ∃ q14 : Nat, (C q14).1 = 0 ∧
      ∀ (C16 : MC) (I17 : MI) (J18 : MJ) (R19 : MR), C16 = va_up C q14 (11, 0) → I17 = va_up I q14 (fun _ => 0) → J18 = va_up J q14 (fun _ => 0) → R19 = va_up R q14 (fun _ => none) → 
      F_X11_init [aR (some q14)] C16 I17 J18 R19 (fun o C20 I21 J22 R23 =>
      o = .inl none ∧
      (C20 q14).1 = 11 ∧
      K (.inr q14) C20 I21 J22 R23)))) ∧
      (x3 = (0 : Int64) →
      K (.inl none) C I J R))
theorem wX3_add {l : Launch}  {F_X11_init : SPF} (S_X11_init : SpX11_init l F_X11_init) {F : SPF}
    (h0 : ∀ (As : List AV) (C : MC) (I : MI) (J : MJ) (R : MR) (K : AK), F As C I J R K → ∃ (x0 : Nat) (x1 : Int32) (x2 : Int32) (x3 : Int64), As = [aR (some x0), aI x1, aI x2, aJ x3] ∧ PX3_add_0 F_X11_init K x0 x1 x2 x3 C I J R) : SpX3_add l F := by
  refine Spec.of (by rfl) ?_
  intro Γ C I J R As Gd gl gr _ _ gb hF
  subst gl
  have G : Gb Γ yX3_add cX3_add 5 (none) [] rmX3_add bdX3_add := ⟨Gd, gr, gb⟩
  obtain ⟨x0, x1, x2, x3, rfl, h⟩ := h0 As C I J R (gK Γ) hF
  exact ⟨Nat.le_of_ble_eq_true rfl, bX3_add_0 G S_X11_init h⟩
def PX3_anew_2 (Q2 : Nat → Int64 → Int32 → MC → MI → MJ → MR → Prop) (K : AK) (x0 : Nat) (x1 : Int64) (x3 : Int32) (C : MC) (I : MI) (J : MJ) (R : MR) : Prop :=
      (((120 : Int32) < x3 →
      (C x0).1 = 4 ∧
      ∀ J3 : MJ, J3 = va_up J x0 (va_up (J x0) 2 x1) →
      K (.inl (some (aR (some x0)))) C I J3 R) ∧
      (¬ (120 : Int32) < x3 →
      (C x0).1 = 4 ∧
      ∃ q5 : Nat, R x0 0 = some q5 ∧
      (C q5).1 = 21 ∧
      vp_in x3 (C q5).2 ∧
      ∀ J8 : MJ, J8 = va_up J q5 (va_up (J q5) x3.toNatClampNeg (0 : Int64)) →
      ∃ q9 : Nat, R x0 1 = some q9 ∧
      (C q9).1 = 21 ∧
      vp_in x3 (C q9).2 ∧
      ∀ J12 : MJ, J12 = va_up J8 q9 (va_up (J8 q9) x3.toNatClampNeg (0 : Int64)) →
      Q2 x0 x1 (x3 + 1) C I J12 R))
def PX3_anew_0 (Q2 : Nat → Int64 → Int32 → MC → MI → MJ → MR → Prop) (K : AK) (x0 : Nat) (x1 : Int64) (C : MC) (I : MI) (J : MJ) (R : MR) : Prop :=
      Q2 x0 x1 (0 : Int32) C I J R
theorem wX3_anew {l : Launch} 
    (Q2 : Nat → AK → Nat → Int64 → Int32 → MC → MI → MJ → MR → Prop) {F : SPF}
    (h0 : ∀ (As : List AV) (C : MC) (I : MI) (J : MJ) (R : MR) (K : AK), F As C I J R K → ∃ (x0 : Nat) (x1 : Int64), As = [aR (some x0), aJ x1] ∧ PX3_anew_0 (fun (x0 : Nat) (x1 : Int64) (x3 : Int32) (C : MC) (I : MI) (J : MJ) (R : MR) => ∃ n, Q2 n K x0 x1 x3 C I J R) K x0 x1 C I J R)
    (h2 : ∀ (n : Nat) (K : AK) (x0 : Nat) (x1 : Int64) (x3 : Int32) (C : MC) (I : MI) (J : MJ) (R : MR), Q2 n K x0 x1 x3 C I J R → PX3_anew_2 (fun (x0 : Nat) (x1 : Int64) (x3 : Int32) (C : MC) (I : MI) (J : MJ) (R : MR) => ∃ m, m < n ∧ Q2 m K x0 x1 x3 C I J R) K x0 x1 x3 C I J R) : SpX3_anew l F := by
  refine Spec.of (by rfl) ?_
  intro Γ C I J R As Gd gl gr _ _ gb hF
  subst gl
  have G : Gb Γ yX3_anew cX3_anew 4 (some (.object "TickShare$Table")) [] rmX3_anew bdX3_anew := ⟨Gd, gr, gb⟩
  have key : ∀ n : Nat, (∀ (x0 : Nat) (x1 : Int64) (x3 : Int32) (C : MC) (I : MI) (J : MJ) (R : MR), Q2 n (gK Γ) x0 x1 x3 C I J R → AW Γ 0 0 C I J R 2 [(0, aR (some x0)), (1, aJ x1), (3, aI x3)] []) := by
    intro n
    induction n using Nat.strongRecOn with
    | ind n ih =>
    have w2 : ∀ (x0 : Nat) (x1 : Int64) (x3 : Int32) (C : MC) (I : MI) (J : MJ) (R : MR), (∃ m, m < n ∧ Q2 m (gK Γ) x0 x1 x3 C I J R) → AW Γ 0 0 C I J R 2 [(0, aR (some x0)), (1, aJ x1), (3, aI x3)] [] := fun x0 x1 x3 C I J R ⟨m, hm, hq⟩ => (ih m hm) x0 x1 x3 C I J R hq
    exact fun x0 x1 x3 C I J R h => bX3_anew_2 G w2 (h2 n (gK Γ) x0 x1 x3 C I J R h)
  have w2 : ∀ (x0 : Nat) (x1 : Int64) (x3 : Int32) (C : MC) (I : MI) (J : MJ) (R : MR), (∃ n, Q2 n (gK Γ) x0 x1 x3 C I J R) → AW Γ 0 0 C I J R 2 [(0, aR (some x0)), (1, aJ x1), (3, aI x3)] [] := fun x0 x1 x3 C I J R ⟨m, hq⟩ => (key m) x0 x1 x3 C I J R hq
  obtain ⟨x0, x1, rfl, h⟩ := h0 As C I J R (gK Γ) hF
  exact ⟨Nat.le_of_ble_eq_true rfl, bX3_anew_0 G w2 h⟩
def PX3_less_49 (F_X0_common : SPF) (Q7 : Nat → Int64 → Int32 → MC → MI → MJ → MR → Prop) (Q49 : Nat → Int64 → Int32 → MC → MI → MJ → MR → Prop) (K : AK) (x0 : Nat) (x1 : Int64) (x3 : Int32) (C : MC) (I : MI) (J : MJ) (R : MR) : Prop :=
      (((120 : Int32) < x3 →
      (C x0).1 = 4 ∧
      ¬ x1 = 0 ∧
      ∀ J4 : MJ, J4 = va_up J x0 (va_up (J x0) 2 ((J x0 2) / x1)) →
      K (.inl (some (aR (some x0)))) C I J4 R) ∧
      (¬ (120 : Int32) < x3 →
      (C x0).1 = 4 ∧
      ∃ q6 : Nat, R x0 0 = some q6 ∧
      (C q6).1 = 21 ∧
      vp_in x3 (C q6).2 ∧
      ¬ x1 = 0 ∧
      ∀ J10 : MJ, J10 = va_up J q6 (va_up (J q6) x3.toNatClampNeg ((J q6 x3.toNatClampNeg) / x1)) →
      ∃ q11 : Nat, R x0 1 = some q11 ∧
      (C q11).1 = 21 ∧
      vp_in x3 (C q11).2 ∧
      ∀ J14 : MJ, J14 = va_up J10 q11 (va_up (J10 q11) x3.toNatClampNeg ((J10 q11 x3.toNatClampNeg) / x1)) →
      Q49 x0 x1 (x3 + 1) C I J14 R))
def PX3_less_7 (F_X0_common : SPF) (Q7 : Nat → Int64 → Int32 → MC → MI → MJ → MR → Prop) (Q49 : Nat → Int64 → Int32 → MC → MI → MJ → MR → Prop) (K : AK) (x0 : Nat) (x1 : Int64) (x3 : Int32) (C : MC) (I : MI) (J : MJ) (R : MR) : Prop :=
      (((120 : Int32) < x3 →
      ((¬ x1 = (1 : Int64) →
      Q49 x0 x1 (0 : Int32) C I J R) ∧
      (x1 = (1 : Int64) →
      K (.inl (some (aR (some x0)))) C I J R))) ∧
      (¬ (120 : Int32) < x3 →
      (C x0).1 = 4 ∧
      ∃ q4 : Nat, R x0 0 = some q4 ∧
      (C q4).1 = 21 ∧
      vp_in x3 (C q4).2 ∧
      ∃ q7 : Nat, R x0 1 = some q7 ∧
      (C q7).1 = 21 ∧
      vp_in x3 (C q7).2 ∧
      F_X0_common [aJ (J q4 x3.toNatClampNeg), aJ (J q7 x3.toNatClampNeg)] C I J R (fun o C10 I11 J12 R13 =>
      ∃ r14 : Int64, o = .inl (some (aJ r14)) ∧
      F_X0_common [aJ r14, aJ x1] C10 I11 J12 R13 (fun o C15 I16 J17 R18 =>
      ∃ r19 : Int64, o = .inl (some (aJ r19)) ∧
      Q7 x0 r19 (x3 + 1) C15 I16 J17 R18))))
def PX3_less_0 (F_X0_common : SPF) (Q7 : Nat → Int64 → Int32 → MC → MI → MJ → MR → Prop) (Q49 : Nat → Int64 → Int32 → MC → MI → MJ → MR → Prop) (K : AK) (x0 : Nat) (C : MC) (I : MI) (J : MJ) (R : MR) : Prop :=
      (C x0).1 = 4 ∧
      Q7 x0 (J x0 2) (0 : Int32) C I J R
theorem wX3_less {l : Launch}  {F_X0_common : SPF} (S_X0_common : SpX0_common l F_X0_common)
    (Q7 : Nat → AK → Nat → Int64 → Int32 → MC → MI → MJ → MR → Prop)
    (Q49 : Nat → AK → Nat → Int64 → Int32 → MC → MI → MJ → MR → Prop) {F : SPF}
    (h0 : ∀ (As : List AV) (C : MC) (I : MI) (J : MJ) (R : MR) (K : AK), F As C I J R K → ∃ (x0 : Nat), As = [aR (some x0)] ∧ PX3_less_0 F_X0_common (fun (x0 : Nat) (x1 : Int64) (x3 : Int32) (C : MC) (I : MI) (J : MJ) (R : MR) => ∃ n, Q7 n K x0 x1 x3 C I J R) (fun (x0 : Nat) (x1 : Int64) (x3 : Int32) (C : MC) (I : MI) (J : MJ) (R : MR) => ∃ n, Q49 n K x0 x1 x3 C I J R) K x0 C I J R)
    (h7 : ∀ (n : Nat) (K : AK) (x0 : Nat) (x1 : Int64) (x3 : Int32) (C : MC) (I : MI) (J : MJ) (R : MR), Q7 n K x0 x1 x3 C I J R → PX3_less_7 F_X0_common (fun (x0 : Nat) (x1 : Int64) (x3 : Int32) (C : MC) (I : MI) (J : MJ) (R : MR) => ∃ m, m < n ∧ Q7 m K x0 x1 x3 C I J R) (fun (x0 : Nat) (x1 : Int64) (x3 : Int32) (C : MC) (I : MI) (J : MJ) (R : MR) => ∃ m, m < n ∧ Q49 m K x0 x1 x3 C I J R) K x0 x1 x3 C I J R)
    (h49 : ∀ (n : Nat) (K : AK) (x0 : Nat) (x1 : Int64) (x3 : Int32) (C : MC) (I : MI) (J : MJ) (R : MR), Q49 n K x0 x1 x3 C I J R → PX3_less_49 F_X0_common (fun (x0 : Nat) (x1 : Int64) (x3 : Int32) (C : MC) (I : MI) (J : MJ) (R : MR) => ∃ m, m < n ∧ Q7 m K x0 x1 x3 C I J R) (fun (x0 : Nat) (x1 : Int64) (x3 : Int32) (C : MC) (I : MI) (J : MJ) (R : MR) => ∃ m, m < n ∧ Q49 m K x0 x1 x3 C I J R) K x0 x1 x3 C I J R) : SpX3_less l F := by
  refine Spec.of (by rfl) ?_
  intro Γ C I J R As Gd gl gr _ _ gb hF
  subst gl
  have G : Gb Γ yX3_less cX3_less 4 (some (.object "TickShare$Table")) [] rmX3_less bdX3_less := ⟨Gd, gr, gb⟩
  have key : ∀ n : Nat, (∀ (x0 : Nat) (x1 : Int64) (x3 : Int32) (C : MC) (I : MI) (J : MJ) (R : MR), Q7 n (gK Γ) x0 x1 x3 C I J R → AW Γ 0 0 C I J R 7 [(0, aR (some x0)), (1, aJ x1), (3, aI x3)] []) ∧ (∀ (x0 : Nat) (x1 : Int64) (x3 : Int32) (C : MC) (I : MI) (J : MJ) (R : MR), Q49 n (gK Γ) x0 x1 x3 C I J R → AW Γ 0 0 C I J R 49 [(0, aR (some x0)), (1, aJ x1), (3, aI x3)] []) := by
    intro n
    induction n using Nat.strongRecOn with
    | ind n ih =>
    have w7 : ∀ (x0 : Nat) (x1 : Int64) (x3 : Int32) (C : MC) (I : MI) (J : MJ) (R : MR), (∃ m, m < n ∧ Q7 m (gK Γ) x0 x1 x3 C I J R) → AW Γ 0 0 C I J R 7 [(0, aR (some x0)), (1, aJ x1), (3, aI x3)] [] := fun x0 x1 x3 C I J R ⟨m, hm, hq⟩ => (ih m hm).1 x0 x1 x3 C I J R hq
    have w49 : ∀ (x0 : Nat) (x1 : Int64) (x3 : Int32) (C : MC) (I : MI) (J : MJ) (R : MR), (∃ m, m < n ∧ Q49 m (gK Γ) x0 x1 x3 C I J R) → AW Γ 0 0 C I J R 49 [(0, aR (some x0)), (1, aJ x1), (3, aI x3)] [] := fun x0 x1 x3 C I J R ⟨m, hm, hq⟩ => (ih m hm).2 x0 x1 x3 C I J R hq
    exact ⟨fun x0 x1 x3 C I J R h => bX3_less_7 G S_X0_common w7 w49 (h7 n (gK Γ) x0 x1 x3 C I J R h), fun x0 x1 x3 C I J R h => bX3_less_49 G w49 (h49 n (gK Γ) x0 x1 x3 C I J R h)⟩
  have w7 : ∀ (x0 : Nat) (x1 : Int64) (x3 : Int32) (C : MC) (I : MI) (J : MJ) (R : MR), (∃ n, Q7 n (gK Γ) x0 x1 x3 C I J R) → AW Γ 0 0 C I J R 7 [(0, aR (some x0)), (1, aJ x1), (3, aI x3)] [] := fun x0 x1 x3 C I J R ⟨m, hq⟩ => (key m).1 x0 x1 x3 C I J R hq
  have w49 : ∀ (x0 : Nat) (x1 : Int64) (x3 : Int32) (C : MC) (I : MI) (J : MJ) (R : MR), (∃ n, Q49 n (gK Γ) x0 x1 x3 C I J R) → AW Γ 0 0 C I J R 49 [(0, aR (some x0)), (1, aJ x1), (3, aI x3)] [] := fun x0 x1 x3 C I J R ⟨m, hq⟩ => (key m).2 x0 x1 x3 C I J R hq
  obtain ⟨x0, rfl, h⟩ := h0 As C I J R (gK Γ) hF
  exact ⟨Nat.le_of_ble_eq_true rfl, bX3_less_0 G w7 h⟩
def PX3_by_5 (Q5 : Nat → Int32 → Int64 → Int32 → MC → MI → MJ → MR → Prop) (K : AK) (x0 : Nat) (x1 : Int32) (x2 : Int64) (x4 : Int32) (C : MC) (I : MI) (J : MJ) (R : MR) : Prop :=
      ((x1 < x4 →
      K (.inl (some (aJ x2))) C I J R) ∧
      (¬ x1 < x4 →
      (C x0).1 = 4 ∧
      ∃ q3 : Nat, R x0 0 = some q3 ∧
      (C q3).1 = 21 ∧
      vp_in x4 (C q3).2 ∧
      Q5 x0 x1 (x2 + (J q3 x4.toNatClampNeg)) (x4 + 1) C I J R))
def PX3_by_0 (Q5 : Nat → Int32 → Int64 → Int32 → MC → MI → MJ → MR → Prop) (K : AK) (x0 : Nat) (x1 : Int32) (C : MC) (I : MI) (J : MJ) (R : MR) : Prop :=
      Q5 x0 x1 (0 : Int64) (0 : Int32) C I J R
theorem wX3_by {l : Launch} 
    (Q5 : Nat → AK → Nat → Int32 → Int64 → Int32 → MC → MI → MJ → MR → Prop) {F : SPF}
    (h0 : ∀ (As : List AV) (C : MC) (I : MI) (J : MJ) (R : MR) (K : AK), F As C I J R K → ∃ (x0 : Nat) (x1 : Int32), As = [aR (some x0), aI x1] ∧ PX3_by_0 (fun (x0 : Nat) (x1 : Int32) (x2 : Int64) (x4 : Int32) (C : MC) (I : MI) (J : MJ) (R : MR) => ∃ n, Q5 n K x0 x1 x2 x4 C I J R) K x0 x1 C I J R)
    (h5 : ∀ (n : Nat) (K : AK) (x0 : Nat) (x1 : Int32) (x2 : Int64) (x4 : Int32) (C : MC) (I : MI) (J : MJ) (R : MR), Q5 n K x0 x1 x2 x4 C I J R → PX3_by_5 (fun (x0 : Nat) (x1 : Int32) (x2 : Int64) (x4 : Int32) (C : MC) (I : MI) (J : MJ) (R : MR) => ∃ m, m < n ∧ Q5 m K x0 x1 x2 x4 C I J R) K x0 x1 x2 x4 C I J R) : SpX3_by l F := by
  refine Spec.of (by rfl) ?_
  intro Γ C I J R As Gd gl gr _ _ gb hF
  subst gl
  have G : Gb Γ yX3_by cX3_by 5 (some .long) [] rmX3_by bdX3_by := ⟨Gd, gr, gb⟩
  have key : ∀ n : Nat, (∀ (x0 : Nat) (x1 : Int32) (x2 : Int64) (x4 : Int32) (C : MC) (I : MI) (J : MJ) (R : MR), Q5 n (gK Γ) x0 x1 x2 x4 C I J R → AW Γ 0 0 C I J R 5 [(0, aR (some x0)), (1, aI x1), (2, aJ x2), (4, aI x4)] []) := by
    intro n
    induction n using Nat.strongRecOn with
    | ind n ih =>
    have w5 : ∀ (x0 : Nat) (x1 : Int32) (x2 : Int64) (x4 : Int32) (C : MC) (I : MI) (J : MJ) (R : MR), (∃ m, m < n ∧ Q5 m (gK Γ) x0 x1 x2 x4 C I J R) → AW Γ 0 0 C I J R 5 [(0, aR (some x0)), (1, aI x1), (2, aJ x2), (4, aI x4)] [] := fun x0 x1 x2 x4 C I J R ⟨m, hm, hq⟩ => (ih m hm) x0 x1 x2 x4 C I J R hq
    exact fun x0 x1 x2 x4 C I J R h => bX3_by_5 G w5 (h5 n (gK Γ) x0 x1 x2 x4 C I J R h)
  have w5 : ∀ (x0 : Nat) (x1 : Int32) (x2 : Int64) (x4 : Int32) (C : MC) (I : MI) (J : MJ) (R : MR), (∃ n, Q5 n (gK Γ) x0 x1 x2 x4 C I J R) → AW Γ 0 0 C I J R 5 [(0, aR (some x0)), (1, aI x1), (2, aJ x2), (4, aI x4)] [] := fun x0 x1 x2 x4 C I J R ⟨m, hq⟩ => (key m) x0 x1 x2 x4 C I J R hq
  obtain ⟨x0, x1, rfl, h⟩ := h0 As C I J R (gK Γ) hF
  exact ⟨Nat.le_of_ble_eq_true rfl, bX3_by_0 G w5 h⟩
def PX3_failed_4 (Q4 : Nat → Int64 → Int32 → MC → MI → MJ → MR → Prop) (K : AK) (x0 : Nat) (x1 : Int64) (x3 : Int32) (C : MC) (I : MI) (J : MJ) (R : MR) : Prop :=
      (((120 : Int32) < x3 →
      K (.inl (some (aJ x1))) C I J R) ∧
      (¬ (120 : Int32) < x3 →
      (C x0).1 = 4 ∧
      ∃ q3 : Nat, R x0 1 = some q3 ∧
      (C q3).1 = 21 ∧
      vp_in x3 (C q3).2 ∧
      Q4 x0 (x1 + (J q3 x3.toNatClampNeg)) (x3 + 1) C I J R))
def PX3_failed_0 (Q4 : Nat → Int64 → Int32 → MC → MI → MJ → MR → Prop) (K : AK) (x0 : Nat) (C : MC) (I : MI) (J : MJ) (R : MR) : Prop :=
      Q4 x0 (0 : Int64) (0 : Int32) C I J R
theorem wX3_failed {l : Launch} 
    (Q4 : Nat → AK → Nat → Int64 → Int32 → MC → MI → MJ → MR → Prop) {F : SPF}
    (h0 : ∀ (As : List AV) (C : MC) (I : MI) (J : MJ) (R : MR) (K : AK), F As C I J R K → ∃ (x0 : Nat), As = [aR (some x0)] ∧ PX3_failed_0 (fun (x0 : Nat) (x1 : Int64) (x3 : Int32) (C : MC) (I : MI) (J : MJ) (R : MR) => ∃ n, Q4 n K x0 x1 x3 C I J R) K x0 C I J R)
    (h4 : ∀ (n : Nat) (K : AK) (x0 : Nat) (x1 : Int64) (x3 : Int32) (C : MC) (I : MI) (J : MJ) (R : MR), Q4 n K x0 x1 x3 C I J R → PX3_failed_4 (fun (x0 : Nat) (x1 : Int64) (x3 : Int32) (C : MC) (I : MI) (J : MJ) (R : MR) => ∃ m, m < n ∧ Q4 m K x0 x1 x3 C I J R) K x0 x1 x3 C I J R) : SpX3_failed l F := by
  refine Spec.of (by rfl) ?_
  intro Γ C I J R As Gd gl gr _ _ gb hF
  subst gl
  have G : Gb Γ yX3_failed cX3_failed 4 (some .long) [] rmX3_failed bdX3_failed := ⟨Gd, gr, gb⟩
  have key : ∀ n : Nat, (∀ (x0 : Nat) (x1 : Int64) (x3 : Int32) (C : MC) (I : MI) (J : MJ) (R : MR), Q4 n (gK Γ) x0 x1 x3 C I J R → AW Γ 0 0 C I J R 4 [(0, aR (some x0)), (1, aJ x1), (3, aI x3)] []) := by
    intro n
    induction n using Nat.strongRecOn with
    | ind n ih =>
    have w4 : ∀ (x0 : Nat) (x1 : Int64) (x3 : Int32) (C : MC) (I : MI) (J : MJ) (R : MR), (∃ m, m < n ∧ Q4 m (gK Γ) x0 x1 x3 C I J R) → AW Γ 0 0 C I J R 4 [(0, aR (some x0)), (1, aJ x1), (3, aI x3)] [] := fun x0 x1 x3 C I J R ⟨m, hm, hq⟩ => (ih m hm) x0 x1 x3 C I J R hq
    exact fun x0 x1 x3 C I J R h => bX3_failed_4 G w4 (h4 n (gK Γ) x0 x1 x3 C I J R h)
  have w4 : ∀ (x0 : Nat) (x1 : Int64) (x3 : Int32) (C : MC) (I : MI) (J : MJ) (R : MR), (∃ n, Q4 n (gK Γ) x0 x1 x3 C I J R) → AW Γ 0 0 C I J R 4 [(0, aR (some x0)), (1, aJ x1), (3, aI x3)] [] := fun x0 x1 x3 C I J R ⟨m, hq⟩ => (key m) x0 x1 x3 C I J R hq
  obtain ⟨x0, rfl, h⟩ := h0 As C I J R (gK Γ) hF
  exact ⟨Nat.le_of_ble_eq_true rfl, bX3_failed_0 G w4 h⟩
def PX3_last_3 (Q3 : Nat → Int32 → MC → MI → MJ → MR → Prop) (K : AK) (x0 : Nat) (x1 : Int32) (C : MC) (I : MI) (J : MJ) (R : MR) : Prop :=
      ((x1 ≤ 0 →
      K (.inl (some (aI x1))) C I J R) ∧
      (¬ x1 ≤ 0 →
      (C x0).1 = 4 ∧
      ∃ q3 : Nat, R x0 0 = some q3 ∧
      (C q3).1 = 21 ∧
      vp_in x1 (C q3).2 ∧
      ((¬ (J q3 x1.toNatClampNeg) = (0 : Int64) →
      K (.inl (some (aI x1))) C I J R) ∧
      ((J q3 x1.toNatClampNeg) = (0 : Int64) →
      ∃ q7 : Nat, R x0 1 = some q7 ∧
      (C q7).1 = 21 ∧
      vp_in x1 (C q7).2 ∧
      ((¬ (J q7 x1.toNatClampNeg) = (0 : Int64) →
      K (.inl (some (aI x1))) C I J R) ∧
      ((J q7 x1.toNatClampNeg) = (0 : Int64) →
      Q3 x0 (x1 + (-1)) C I J R))))))
def PX3_last_0 (Q3 : Nat → Int32 → MC → MI → MJ → MR → Prop) (K : AK) (x0 : Nat) (C : MC) (I : MI) (J : MJ) (R : MR) : Prop :=
      Q3 x0 (120 : Int32) C I J R
theorem wX3_last {l : Launch} 
    (Q3 : Nat → AK → Nat → Int32 → MC → MI → MJ → MR → Prop) {F : SPF}
    (h0 : ∀ (As : List AV) (C : MC) (I : MI) (J : MJ) (R : MR) (K : AK), F As C I J R K → ∃ (x0 : Nat), As = [aR (some x0)] ∧ PX3_last_0 (fun (x0 : Nat) (x1 : Int32) (C : MC) (I : MI) (J : MJ) (R : MR) => ∃ n, Q3 n K x0 x1 C I J R) K x0 C I J R)
    (h3 : ∀ (n : Nat) (K : AK) (x0 : Nat) (x1 : Int32) (C : MC) (I : MI) (J : MJ) (R : MR), Q3 n K x0 x1 C I J R → PX3_last_3 (fun (x0 : Nat) (x1 : Int32) (C : MC) (I : MI) (J : MJ) (R : MR) => ∃ m, m < n ∧ Q3 m K x0 x1 C I J R) K x0 x1 C I J R) : SpX3_last l F := by
  refine Spec.of (by rfl) ?_
  intro Γ C I J R As Gd gl gr _ _ gb hF
  subst gl
  have G : Gb Γ yX3_last cX3_last 2 (some .int) [] rmX3_last bdX3_last := ⟨Gd, gr, gb⟩
  have key : ∀ n : Nat, (∀ (x0 : Nat) (x1 : Int32) (C : MC) (I : MI) (J : MJ) (R : MR), Q3 n (gK Γ) x0 x1 C I J R → AW Γ 0 0 C I J R 3 [(0, aR (some x0)), (1, aI x1)] []) := by
    intro n
    induction n using Nat.strongRecOn with
    | ind n ih =>
    have w3 : ∀ (x0 : Nat) (x1 : Int32) (C : MC) (I : MI) (J : MJ) (R : MR), (∃ m, m < n ∧ Q3 m (gK Γ) x0 x1 C I J R) → AW Γ 0 0 C I J R 3 [(0, aR (some x0)), (1, aI x1)] [] := fun x0 x1 C I J R ⟨m, hm, hq⟩ => (ih m hm) x0 x1 C I J R hq
    exact fun x0 x1 C I J R h => bX3_last_3 G w3 (h3 n (gK Γ) x0 x1 C I J R h)
  have w3 : ∀ (x0 : Nat) (x1 : Int32) (C : MC) (I : MI) (J : MJ) (R : MR), (∃ n, Q3 n (gK Γ) x0 x1 C I J R) → AW Γ 0 0 C I J R 3 [(0, aR (some x0)), (1, aI x1)] [] := fun x0 x1 C I J R ⟨m, hq⟩ => (key m) x0 x1 C I J R hq
  obtain ⟨x0, rfl, h⟩ := h0 As C I J R (gK Γ) hF
  exact ⟨Nat.le_of_ble_eq_true rfl, bX3_last_0 G w3 h⟩
def PX0_times_0 (F_X11_init : SPF) (K : AK) (x0 : Int64) (x2 : Int64) (C : MC) (I : MI) (J : MJ) (R : MR) : Prop :=
      ((x2 = (0 : Int64) →
      K (.inl (some (aJ (x0 * x2)))) C I J R) ∧
      (¬ x2 = (0 : Int64) →
      ¬ x2 = 0 ∧
      ((x0 ≤ ((4611686018427387903 : Int64) / x2) →
      K (.inl (some (aJ (x0 * x2)))) C I J R) ∧
      (¬ x0 ≤ ((4611686018427387903 : Int64) / x2) →
      ∃ q4 : Nat, (C q4).1 = 0 ∧
      ∀ (C6 : MC) (I7 : MI) (J8 : MJ) (R9 : MR), C6 = va_up C q4 (11, 0) → I7 = va_up I q4 (fun _ => 0) → J8 = va_up J q4 (fun _ => 0) → R9 = va_up R q4 (fun _ => none) → 
      F_X11_init [aR (some q4)] C6 I7 J8 R9 (fun o C10 I11 J12 R13 =>
      o = .inl none ∧
      (C10 q4).1 = 11 ∧
      K (.inr q4) C10 I11 J12 R13)))))
theorem wX0_times {l : Launch}  {F_X11_init : SPF} (S_X11_init : SpX11_init l F_X11_init) {F : SPF}
    (h0 : ∀ (As : List AV) (C : MC) (I : MI) (J : MJ) (R : MR) (K : AK), F As C I J R K → ∃ (x0 : Int64) (x2 : Int64), As = [aJ x0, aJ x2] ∧ PX0_times_0 F_X11_init K x0 x2 C I J R) : SpX0_times l F := by
  refine Spec.of (by rfl) ?_
  intro Γ C I J R As Gd gl gr _ _ gb hF
  subst gl
  have G : Gb Γ yX0_times cX0_times 4 (some .long) [] rmX0_times bdX0_times := ⟨Gd, gr, gb⟩
  obtain ⟨x0, x2, rfl, h⟩ := h0 As C I J R (gK Γ) hF
  exact ⟨Nat.le_of_ble_eq_true rfl, bX0_times_0 G S_X11_init h⟩
def PX0_fold_123 (F_X3_add : SPF) (Q10 : Nat → Nat → Int64 → Nat → Int32 → MC → MI → MJ → MR → Prop) (Q42 : Nat → Nat → Int64 → Nat → Int32 → Int32 → MC → MI → MJ → MR → Prop) (K : AK) (x0 : Nat) (x1 : Nat) (x2 : Int64) (x4 : Nat) (x5 : Int32) (C : MC) (I : MI) (J : MJ) (R : MR) : Prop :=
      Q10 x0 x1 x2 x4 (x5 + 1) C I J R
def PX0_fold_42 (F_X3_add : SPF) (Q10 : Nat → Nat → Int64 → Nat → Int32 → MC → MI → MJ → MR → Prop) (Q42 : Nat → Nat → Int64 → Nat → Int32 → Int32 → MC → MI → MJ → MR → Prop) (K : AK) (x0 : Nat) (x1 : Nat) (x2 : Int64) (x4 : Nat) (x5 : Int32) (x6 : Int32) (C : MC) (I : MI) (J : MJ) (R : MR) : Prop :=
      (((120 : Int32) < x6 →
      PX0_fold_123 F_X3_add Q10 Q42 K x0 x1 x2 x4 x5 C I J R) ∧
      (¬ (120 : Int32) < x6 →
      (C x0).1 = 4 ∧
      ∃ q3 : Nat, R x0 0 = some q3 ∧
      (C q3).1 = 21 ∧
      vp_in x5 (C q3).2 ∧
      (((J q3 x5.toNatClampNeg) ≤ (0 : Int64) →
      PX0_fold_123 F_X3_add Q10 Q42 K x0 x1 x2 x4 x5 C I J R) ∧
      (¬ (J q3 x5.toNatClampNeg) ≤ (0 : Int64) →
      (C x1).1 = 4 ∧
      ∃ q8 : Nat, R x1 0 = some q8 ∧
      (C q8).1 = 21 ∧
      vp_in x6 (C q8).2 ∧
      (C x4).1 = 4 ∧
      F_X3_add [aR (some x4), aI (1 : Int32), aI (x5 + x6), aJ (((J q3 x5.toNatClampNeg) * (J q8 x6.toNatClampNeg)) * x2)] C I J R (fun o C12 I13 J14 R15 =>
      (o = .inl none ∧
      (C12 x0).1 = 4 ∧
      ∃ q18 : Nat, R15 x0 0 = some q18 ∧
      (C12 q18).1 = 21 ∧
      vp_in x5 (C12 q18).2 ∧
      (C12 x1).1 = 4 ∧
      ∃ q22 : Nat, R15 x1 1 = some q22 ∧
      (C12 q22).1 = 21 ∧
      vp_in x6 (C12 q22).2 ∧
      (C12 x4).1 = 4 ∧
      F_X3_add [aR (some x4), aI (0 : Int32), aI (x5 + x6), aJ (((J14 q18 x5.toNatClampNeg) * (J14 q22 x6.toNatClampNeg)) * x2)] C12 I13 J14 R15 (fun o C26 I27 J28 R29 =>
      (o = .inl none ∧
      Q42 x0 x1 x2 x4 x5 (x6 + 1) C26 I27 J28 R29) ∨
      (∃ q31 : Nat, o = .inr q31 ∧
      ((C26 q31).1 = 11 ∧
      K (.inr q31) C26 I27 J28 R29)))) ∨
      (∃ q33 : Nat, o = .inr q33 ∧
      ((C12 q33).1 = 11 ∧
      K (.inr q33) C12 I13 J14 R15)))))))
def PX0_fold_10 (F_X3_add : SPF) (Q10 : Nat → Nat → Int64 → Nat → Int32 → MC → MI → MJ → MR → Prop) (Q42 : Nat → Nat → Int64 → Nat → Int32 → Int32 → MC → MI → MJ → MR → Prop) (K : AK) (x0 : Nat) (x1 : Nat) (x2 : Int64) (x4 : Nat) (x5 : Int32) (C : MC) (I : MI) (J : MJ) (R : MR) : Prop :=
      (((120 : Int32) < x5 →
      K (.inl none) C I J R) ∧
      (¬ (120 : Int32) < x5 →
      (C x0).1 = 4 ∧
      ∃ q3 : Nat, R x0 1 = some q3 ∧
      (C q3).1 = 21 ∧
      vp_in x5 (C q3).2 ∧
      (C x1).1 = 4 ∧
      (C x4).1 = 4 ∧
      F_X3_add [aR (some x4), aI (0 : Int32), aI x5, aJ (((J q3 x5.toNatClampNeg) * (J x1 2)) * x2)] C I J R (fun o C8 I9 J10 R11 =>
      (o = .inl none ∧
      Q42 x0 x1 x2 x4 x5 (0 : Int32) C8 I9 J10 R11) ∨
      (∃ q13 : Nat, o = .inr q13 ∧
      ((C8 q13).1 = 11 ∧
      K (.inr q13) C8 I9 J10 R11)))))
def PX0_fold_0 (F_X3_add : SPF) (Q10 : Nat → Nat → Int64 → Nat → Int32 → MC → MI → MJ → MR → Prop) (Q42 : Nat → Nat → Int64 → Nat → Int32 → Int32 → MC → MI → MJ → MR → Prop) (K : AK) (x0 : Nat) (x1 : Nat) (x2 : Int64) (x4 : Nat) (C : MC) (I : MI) (J : MJ) (R : MR) : Prop :=
      ((¬ x2 = (0 : Int64) →
      Q10 x0 x1 x2 x4 (0 : Int32) C I J R) ∧
      (x2 = (0 : Int64) →
      K (.inl none) C I J R))
theorem wX0_fold {l : Launch}  {F_X3_add : SPF} (S_X3_add : SpX3_add l F_X3_add)
    (Q10 : Nat → AK → Nat → Nat → Int64 → Nat → Int32 → MC → MI → MJ → MR → Prop)
    (Q42 : Nat → AK → Nat → Nat → Int64 → Nat → Int32 → Int32 → MC → MI → MJ → MR → Prop) {F : SPF}
    (h0 : ∀ (As : List AV) (C : MC) (I : MI) (J : MJ) (R : MR) (K : AK), F As C I J R K → ∃ (x0 : Nat) (x1 : Nat) (x2 : Int64) (x4 : Nat), As = [aR (some x0), aR (some x1), aJ x2, aR (some x4)] ∧ PX0_fold_0 F_X3_add (fun (x0 : Nat) (x1 : Nat) (x2 : Int64) (x4 : Nat) (x5 : Int32) (C : MC) (I : MI) (J : MJ) (R : MR) => ∃ n, Q10 n K x0 x1 x2 x4 x5 C I J R) (fun (x0 : Nat) (x1 : Nat) (x2 : Int64) (x4 : Nat) (x5 : Int32) (x6 : Int32) (C : MC) (I : MI) (J : MJ) (R : MR) => ∃ n, Q42 n K x0 x1 x2 x4 x5 x6 C I J R) K x0 x1 x2 x4 C I J R)
    (h10 : ∀ (n : Nat) (K : AK) (x0 : Nat) (x1 : Nat) (x2 : Int64) (x4 : Nat) (x5 : Int32) (C : MC) (I : MI) (J : MJ) (R : MR), Q10 n K x0 x1 x2 x4 x5 C I J R → PX0_fold_10 F_X3_add (fun (x0 : Nat) (x1 : Nat) (x2 : Int64) (x4 : Nat) (x5 : Int32) (C : MC) (I : MI) (J : MJ) (R : MR) => ∃ m, m < n ∧ Q10 m K x0 x1 x2 x4 x5 C I J R) (fun (x0 : Nat) (x1 : Nat) (x2 : Int64) (x4 : Nat) (x5 : Int32) (x6 : Int32) (C : MC) (I : MI) (J : MJ) (R : MR) => ∃ m, m < n ∧ Q42 m K x0 x1 x2 x4 x5 x6 C I J R) K x0 x1 x2 x4 x5 C I J R)
    (h42 : ∀ (n : Nat) (K : AK) (x0 : Nat) (x1 : Nat) (x2 : Int64) (x4 : Nat) (x5 : Int32) (x6 : Int32) (C : MC) (I : MI) (J : MJ) (R : MR), Q42 n K x0 x1 x2 x4 x5 x6 C I J R → PX0_fold_42 F_X3_add (fun (x0 : Nat) (x1 : Nat) (x2 : Int64) (x4 : Nat) (x5 : Int32) (C : MC) (I : MI) (J : MJ) (R : MR) => ∃ m, m < n ∧ Q10 m K x0 x1 x2 x4 x5 C I J R) (fun (x0 : Nat) (x1 : Nat) (x2 : Int64) (x4 : Nat) (x5 : Int32) (x6 : Int32) (C : MC) (I : MI) (J : MJ) (R : MR) => ∃ m, m < n ∧ Q42 m K x0 x1 x2 x4 x5 x6 C I J R) K x0 x1 x2 x4 x5 x6 C I J R) : SpX0_fold l F := by
  refine Spec.of (by rfl) ?_
  intro Γ C I J R As Gd gl gr _ _ gb hF
  subst gl
  have G : Gb Γ yX0_fold cX0_fold 7 (none) [] rmX0_fold bdX0_fold := ⟨Gd, gr, gb⟩
  have key : ∀ n : Nat, (∀ (x0 : Nat) (x1 : Nat) (x2 : Int64) (x4 : Nat) (x5 : Int32) (C : MC) (I : MI) (J : MJ) (R : MR), Q10 n (gK Γ) x0 x1 x2 x4 x5 C I J R → AW Γ 0 0 C I J R 10 [(0, aR (some x0)), (1, aR (some x1)), (2, aJ x2), (4, aR (some x4)), (5, aI x5)] []) ∧ (∀ (x0 : Nat) (x1 : Nat) (x2 : Int64) (x4 : Nat) (x5 : Int32) (x6 : Int32) (C : MC) (I : MI) (J : MJ) (R : MR), Q42 n (gK Γ) x0 x1 x2 x4 x5 x6 C I J R → AW Γ 0 0 C I J R 42 [(0, aR (some x0)), (1, aR (some x1)), (2, aJ x2), (4, aR (some x4)), (5, aI x5), (6, aI x6)] []) := by
    intro n
    induction n using Nat.strongRecOn with
    | ind n ih =>
    have w10 : ∀ (x0 : Nat) (x1 : Nat) (x2 : Int64) (x4 : Nat) (x5 : Int32) (C : MC) (I : MI) (J : MJ) (R : MR), (∃ m, m < n ∧ Q10 m (gK Γ) x0 x1 x2 x4 x5 C I J R) → AW Γ 0 0 C I J R 10 [(0, aR (some x0)), (1, aR (some x1)), (2, aJ x2), (4, aR (some x4)), (5, aI x5)] [] := fun x0 x1 x2 x4 x5 C I J R ⟨m, hm, hq⟩ => (ih m hm).1 x0 x1 x2 x4 x5 C I J R hq
    have w42 : ∀ (x0 : Nat) (x1 : Nat) (x2 : Int64) (x4 : Nat) (x5 : Int32) (x6 : Int32) (C : MC) (I : MI) (J : MJ) (R : MR), (∃ m, m < n ∧ Q42 m (gK Γ) x0 x1 x2 x4 x5 x6 C I J R) → AW Γ 0 0 C I J R 42 [(0, aR (some x0)), (1, aR (some x1)), (2, aJ x2), (4, aR (some x4)), (5, aI x5), (6, aI x6)] [] := fun x0 x1 x2 x4 x5 x6 C I J R ⟨m, hm, hq⟩ => (ih m hm).2 x0 x1 x2 x4 x5 x6 C I J R hq
    have w123 : ∀ (x0 : Nat) (x1 : Nat) (x2 : Int64) (x4 : Nat) (x5 : Int32) (C : MC) (I : MI) (J : MJ) (R : MR), PX0_fold_123 F_X3_add (fun (x0 : Nat) (x1 : Nat) (x2 : Int64) (x4 : Nat) (x5 : Int32) (C : MC) (I : MI) (J : MJ) (R : MR) => ∃ m, m < n ∧ Q10 m (gK Γ) x0 x1 x2 x4 x5 C I J R) (fun (x0 : Nat) (x1 : Nat) (x2 : Int64) (x4 : Nat) (x5 : Int32) (x6 : Int32) (C : MC) (I : MI) (J : MJ) (R : MR) => ∃ m, m < n ∧ Q42 m (gK Γ) x0 x1 x2 x4 x5 x6 C I J R) (gK Γ) x0 x1 x2 x4 x5 C I J R → AW Γ 0 0 C I J R 123 [(0, aR (some x0)), (1, aR (some x1)), (2, aJ x2), (4, aR (some x4)), (5, aI x5)] [] := fun x0 x1 x2 x4 x5 C I J R h => bX0_fold_123 G w10 h
    exact ⟨fun x0 x1 x2 x4 x5 C I J R h => bX0_fold_10 G S_X3_add w42 (h10 n (gK Γ) x0 x1 x2 x4 x5 C I J R h), fun x0 x1 x2 x4 x5 x6 C I J R h => bX0_fold_42 G S_X3_add w42 w123 (h42 n (gK Γ) x0 x1 x2 x4 x5 x6 C I J R h)⟩
  have w10 : ∀ (x0 : Nat) (x1 : Nat) (x2 : Int64) (x4 : Nat) (x5 : Int32) (C : MC) (I : MI) (J : MJ) (R : MR), (∃ n, Q10 n (gK Γ) x0 x1 x2 x4 x5 C I J R) → AW Γ 0 0 C I J R 10 [(0, aR (some x0)), (1, aR (some x1)), (2, aJ x2), (4, aR (some x4)), (5, aI x5)] [] := fun x0 x1 x2 x4 x5 C I J R ⟨m, hq⟩ => (key m).1 x0 x1 x2 x4 x5 C I J R hq
  have w42 : ∀ (x0 : Nat) (x1 : Nat) (x2 : Int64) (x4 : Nat) (x5 : Int32) (x6 : Int32) (C : MC) (I : MI) (J : MJ) (R : MR), (∃ n, Q42 n (gK Γ) x0 x1 x2 x4 x5 x6 C I J R) → AW Γ 0 0 C I J R 42 [(0, aR (some x0)), (1, aR (some x1)), (2, aJ x2), (4, aR (some x4)), (5, aI x5), (6, aI x6)] [] := fun x0 x1 x2 x4 x5 x6 C I J R ⟨m, hq⟩ => (key m).2 x0 x1 x2 x4 x5 x6 C I J R hq
  have w123 : ∀ (x0 : Nat) (x1 : Nat) (x2 : Int64) (x4 : Nat) (x5 : Int32) (C : MC) (I : MI) (J : MJ) (R : MR), PX0_fold_123 F_X3_add (fun (x0 : Nat) (x1 : Nat) (x2 : Int64) (x4 : Nat) (x5 : Int32) (C : MC) (I : MI) (J : MJ) (R : MR) => ∃ n, Q10 n (gK Γ) x0 x1 x2 x4 x5 C I J R) (fun (x0 : Nat) (x1 : Nat) (x2 : Int64) (x4 : Nat) (x5 : Int32) (x6 : Int32) (C : MC) (I : MI) (J : MJ) (R : MR) => ∃ n, Q42 n (gK Γ) x0 x1 x2 x4 x5 x6 C I J R) (gK Γ) x0 x1 x2 x4 x5 C I J R → AW Γ 0 0 C I J R 123 [(0, aR (some x0)), (1, aR (some x1)), (2, aJ x2), (4, aR (some x4)), (5, aI x5)] [] := fun x0 x1 x2 x4 x5 C I J R h => bX0_fold_123 G w10 h
  obtain ⟨x0, x1, x2, x4, rfl, h⟩ := h0 As C I J R (gK Γ) hF
  exact ⟨Nat.le_of_ble_eq_true rfl, bX0_fold_0 G w10 h⟩
def PX0_bounded_0 (F_X11_init : SPF) (K : AK) (x0 : Int64) (C : MC) (I : MI) (J : MJ) (R : MR) : Prop :=
      ((x0 < (1152921504606846976 : Int64) →
      K (.inl (some (aJ x0))) C I J R) ∧
      (¬ x0 < (1152921504606846976 : Int64) →
      ∃ q2 : Nat, (C q2).1 = 0 ∧
      ∀ (C4 : MC) (I5 : MI) (J6 : MJ) (R7 : MR), C4 = va_up C q2 (11, 0) → I5 = va_up I q2 (fun _ => 0) → J6 = va_up J q2 (fun _ => 0) → R7 = va_up R q2 (fun _ => none) → 
      F_X11_init [aR (some q2)] C4 I5 J6 R7 (fun o C8 I9 J10 R11 =>
      o = .inl none ∧
      (C8 q2).1 = 11 ∧
      K (.inr q2) C8 I9 J10 R11)))
theorem wX0_bounded {l : Launch}  {F_X11_init : SPF} (S_X11_init : SpX11_init l F_X11_init) {F : SPF}
    (h0 : ∀ (As : List AV) (C : MC) (I : MI) (J : MJ) (R : MR) (K : AK), F As C I J R K → ∃ (x0 : Int64), As = [aJ x0] ∧ PX0_bounded_0 F_X11_init K x0 C I J R) : SpX0_bounded l F := by
  refine Spec.of (by rfl) ?_
  intro Γ C I J R As Gd gl gr _ _ gb hF
  subst gl
  have G : Gb Γ yX0_bounded cX0_bounded 2 (some .long) [] rmX0_bounded bdX0_bounded := ⟨Gd, gr, gb⟩
  obtain ⟨x0, rfl, h⟩ := h0 As C I J R (gK Γ) hF
  exact ⟨Nat.le_of_ble_eq_true rfl, bX0_bounded_0 G S_X11_init h⟩
def PX0_common_12 (Q12 : Int64 → Int64 → MC → MI → MJ → MR → Prop) (K : AK) (x4 : Int64) (x6 : Int64) (C : MC) (I : MI) (J : MJ) (R : MR) : Prop :=
      ((x6 = (0 : Int64) →
      K (.inl (some (aJ x4))) C I J R) ∧
      (¬ x6 = (0 : Int64) →
      ¬ x6 = 0 ∧
      Q12 x6 (x4 - x4 / x6 * x6) C I J R))
def PX0_common_0 (Q12 : Int64 → Int64 → MC → MI → MJ → MR → Prop) (K : AK) (x0 : Int64) (x2 : Int64) (C : MC) (I : MI) (J : MJ) (R : MR) : Prop :=
      Q12 (if 0 < x0 then x0 else -x0) (if 0 < x2 then x2 else -x2) C I J R
theorem wX0_common {l : Launch} 
    (Q12 : Nat → AK → Int64 → Int64 → MC → MI → MJ → MR → Prop) {F : SPF}
    (h0 : ∀ (As : List AV) (C : MC) (I : MI) (J : MJ) (R : MR) (K : AK), F As C I J R K → ∃ (x0 : Int64) (x2 : Int64), As = [aJ x0, aJ x2] ∧ PX0_common_0 (fun (x4 : Int64) (x6 : Int64) (C : MC) (I : MI) (J : MJ) (R : MR) => ∃ n, Q12 n K x4 x6 C I J R) K x0 x2 C I J R)
    (h12 : ∀ (n : Nat) (K : AK) (x4 : Int64) (x6 : Int64) (C : MC) (I : MI) (J : MJ) (R : MR), Q12 n K x4 x6 C I J R → PX0_common_12 (fun (x4 : Int64) (x6 : Int64) (C : MC) (I : MI) (J : MJ) (R : MR) => ∃ m, m < n ∧ Q12 m K x4 x6 C I J R) K x4 x6 C I J R) : SpX0_common l F := by
  refine Spec.of (by rfl) ?_
  intro Γ C I J R As Gd gl gr _ _ gb hF
  subst gl
  have G : Gb Γ yX0_common cX0_common 10 (some .long) [] rmX0_common bdX0_common := ⟨Gd, gr, gb⟩
  have key : ∀ n : Nat, (∀ (x4 : Int64) (x6 : Int64) (C : MC) (I : MI) (J : MJ) (R : MR), Q12 n (gK Γ) x4 x6 C I J R → AW Γ 0 0 C I J R 12 [(4, aJ x4), (6, aJ x6)] []) := by
    intro n
    induction n using Nat.strongRecOn with
    | ind n ih =>
    have w12 : ∀ (x4 : Int64) (x6 : Int64) (C : MC) (I : MI) (J : MJ) (R : MR), (∃ m, m < n ∧ Q12 m (gK Γ) x4 x6 C I J R) → AW Γ 0 0 C I J R 12 [(4, aJ x4), (6, aJ x6)] [] := fun x4 x6 C I J R ⟨m, hm, hq⟩ => (ih m hm) x4 x6 C I J R hq
    exact fun x4 x6 C I J R h => bX0_common_12 G w12 (h12 n (gK Γ) x4 x6 C I J R h)
  have w12 : ∀ (x4 : Int64) (x6 : Int64) (C : MC) (I : MI) (J : MJ) (R : MR), (∃ n, Q12 n (gK Γ) x4 x6 C I J R) → AW Γ 0 0 C I J R 12 [(4, aJ x4), (6, aJ x6)] [] := fun x4 x6 C I J R ⟨m, hq⟩ => (key m) x4 x6 C I J R hq
  obtain ⟨x0, x2, rfl, h⟩ := h0 As C I J R (gK Γ) hF
  exact ⟨Nat.le_of_ble_eq_true rfl, bX0_common_0 G w12 h⟩
