/-! WALKS of X2_init X2_status X2_top X2_bottom X2_tray X2_isTray X2_is X2_write X2_wrong X2_cut X2_read X2_pour X2_leaf X2_wrongWeights X2_refuse X2_takeWeights X2_adds X2_row X2_wrongParts X2_isThing X2_fan X2_c (printed by gen/blocks.py) -/
set_option maxRecDepth 100000
section BL
variable {Γ : Gm} {C : MC} {I : MI} {J : MJ} {R : MR}
set_option maxHeartbeats 1000000
theorem bX2_init_0 (G : Gb Γ yX2_init cX2_init 1 (none) [] rmX2_init bdX2_init)
    {Q56 : Nat → MC → MI → MJ → MR → Prop} (w56 : ∀ (x0 : Nat) (C : MC) (I : MI) (J : MJ) (R : MR), Q56 x0 C I J R → AW Γ 4 268 C I J R 56 [(0, aR (some x0))] []) {x0 : Nat}
    (h : (C x0).1 = 3 ∧
      ∀ J2 : MJ, J2 = va_up J x0 (va_up (J x0) 2 (1 : Int64)) →
      ∃ q3 : Nat, (C q3).1 = 0 ∧
      ∀ (C5 : MC) (I6 : MI) (J7 : MJ) (R8 : MR), C5 = va_up C q3 (20, 4) → I6 = va_up I q3 (fun _ => 0) → J7 = va_up J2 q3 (fun _ => 0) → R8 = va_up R q3 (fun _ => none) → 
      (C5 x0).1 = 3 ∧
      ∀ R10 : MR, R10 = va_up R8 x0 (va_up (R8 x0) 3 (some q3)) →
      ∃ q11 : Nat, (C5 q11).1 = 0 ∧
      ∀ (C13 : MC) (I14 : MI) (J15 : MJ) (R16 : MR), C13 = va_up C5 q11 (20, 4) → I14 = va_up I6 q11 (fun _ => 0) → J15 = va_up J7 q11 (fun _ => 0) → R16 = va_up R10 q11 (fun _ => none) → 
      (C13 q11).1 = 20 ∧
      vp_in (0 : Int32) (C13 q11).2 ∧
      ∀ I19 : MI, I19 = va_up I14 q11 (va_up (I14 q11) (0 : Int32).toNatClampNeg (-1 : Int32)) →
      vp_in (1 : Int32) (C13 q11).2 ∧
      ∀ I21 : MI, I21 = va_up I19 q11 (va_up (I19 q11) (1 : Int32).toNatClampNeg (-1 : Int32)) →
      vp_in (2 : Int32) (C13 q11).2 ∧
      ∀ I23 : MI, I23 = va_up I21 q11 (va_up (I21 q11) (2 : Int32).toNatClampNeg (-1 : Int32)) →
      vp_in (3 : Int32) (C13 q11).2 ∧
      ∀ I25 : MI, I25 = va_up I23 q11 (va_up (I23 q11) (3 : Int32).toNatClampNeg (-1 : Int32)) →
      (C13 x0).1 = 3 ∧
      ∀ R27 : MR, R27 = va_up R16 x0 (va_up (R16 x0) 4 (some q11)) →
      ∃ q28 : Nat, (C13 q28).1 = 0 ∧
      ∀ (C30 : MC) (I31 : MI) (J32 : MJ) (R33 : MR), C30 = va_up C13 q28 (21, 240) → I31 = va_up I25 q28 (fun _ => 0) → J32 = va_up J15 q28 (fun _ => 0) → R33 = va_up R27 q28 (fun _ => none) → 
      (C30 x0).1 = 3 ∧
      ∀ R35 : MR, R35 = va_up R33 x0 (va_up (R33 x0) 5 (some q28)) →
      ∃ q36 : Nat, (C30 q36).1 = 0 ∧
      ∀ (C38 : MC) (I39 : MI) (J40 : MJ) (R41 : MR), C38 = va_up C30 q36 (20, 20) → I39 = va_up I31 q36 (fun _ => 0) → J40 = va_up J32 q36 (fun _ => 0) → R41 = va_up R35 q36 (fun _ => none) → 
      (C38 x0).1 = 3 ∧
      ∀ R43 : MR, R43 = va_up R41 x0 (va_up (R41 x0) 7 (some q36)) →
      Q56 x0 C38 I39 J40 R43) :
    AW Γ 0 0 C I J R 0 [(0, aR (some x0))] [] := by
  have G0 := G.1
  refine aw_aload_n G0 0 rfl dX2_init_0 ?_
  refine aw_objinit G0 q892 q78 q79 (by rw [G.2.1]; decide) (by rw [G.2.1]; exact Nat.le_of_ble_eq_true rfl) dX2_init_1 ?_
  refine aw_aload_n G0 0 rfl dX2_init_4 ?_
  refine aw_lconst (v := (1 : Int64)) G0 dX2_init_5 (by decide) ?_
  obtain ⟨k1, h⟩ := h
  refine aw_putJ (f := 2) G0 (by rw [k1]; exact fp_X2_7 _) dX2_init_6 ?_
  generalize gJ2 : va_up J x0 (va_up (J x0) 2 (1 : Int64)) = J2
  have h := h J2 gJ2.symm
  refine aw_aload_n G0 0 rfl dX2_init_9 ?_
  refine aw_iconst (v := (4 : Int32)) G0 dX2_init_10 (by decide) ?_
  obtain ⟨q3, z4, h⟩ := h
  refine aw_newaI (q := q3) (k' := 1) (n' := 4) (N := 4) G0 (by decide) (by decide) (by decide) (by decide) (by decide) (by rw [G.2.1]; decide) (by rw [G.2.1]; decide) z4 dX2_init_11 ?_
  generalize gC5 : va_up C q3 (20, 4) = C5
  generalize gI6 : va_up I q3 (fun _ => 0) = I6
  generalize gJ7 : va_up J2 q3 (fun _ => 0) = J7
  generalize gR8 : va_up R q3 (fun _ => none) = R8
  have h := h C5 I6 J7 R8 gC5.symm gI6.symm gJ7.symm gR8.symm
  obtain ⟨k9, h⟩ := h
  refine aw_putR (f := 3) G0 (by rw [k9]; exact fp_X2_13) dX2_init_13 ?_
  generalize gR10 : va_up R8 x0 (va_up (R8 x0) 3 (some q3)) = R10
  have h := h R10 gR10.symm
  refine aw_aload_n G0 0 rfl dX2_init_16 ?_
  refine aw_iconst (v := (4 : Int32)) G0 dX2_init_17 (by decide) ?_
  obtain ⟨q11, z12, h⟩ := h
  refine aw_newaI (q := q11) (k' := 2) (n' := 8) (N := 4) G0 (by decide) (by decide) (by decide) (by decide) (by decide) (by rw [G.2.1]; decide) (by rw [G.2.1]; decide) z12 dX2_init_18 ?_
  generalize gC13 : va_up C5 q11 (20, 4) = C13
  generalize gI14 : va_up I6 q11 (fun _ => 0) = I14
  generalize gJ15 : va_up J7 q11 (fun _ => 0) = J15
  generalize gR16 : va_up R10 q11 (fun _ => none) = R16
  have h := h C13 I14 J15 R16 gC13.symm gI14.symm gJ15.symm gR16.symm
  refine aw_dupR G0 dX2_init_20 ?_
  refine aw_iconst (v := (0 : Int32)) G0 dX2_init_21 (by decide) ?_
  refine aw_iconst (v := (-1 : Int32)) G0 dX2_init_22 (by decide) ?_
  obtain ⟨k17, h⟩ := h
  obtain ⟨k18, h⟩ := h
  refine aw_iast G0 k17 k18 dX2_init_23 ?_
  generalize gI19 : va_up I14 q11 (va_up (I14 q11) (0 : Int32).toNatClampNeg (-1 : Int32)) = I19
  have h := h I19 gI19.symm
  refine aw_dupR G0 dX2_init_24 ?_
  refine aw_iconst (v := (1 : Int32)) G0 dX2_init_25 (by decide) ?_
  refine aw_iconst (v := (-1 : Int32)) G0 dX2_init_26 (by decide) ?_
  obtain ⟨k20, h⟩ := h
  refine aw_iast G0 k17 k20 dX2_init_27 ?_
  generalize gI21 : va_up I19 q11 (va_up (I19 q11) (1 : Int32).toNatClampNeg (-1 : Int32)) = I21
  have h := h I21 gI21.symm
  refine aw_dupR G0 dX2_init_28 ?_
  refine aw_iconst (v := (2 : Int32)) G0 dX2_init_29 (by decide) ?_
  refine aw_iconst (v := (-1 : Int32)) G0 dX2_init_30 (by decide) ?_
  obtain ⟨k22, h⟩ := h
  refine aw_iast G0 k17 k22 dX2_init_31 ?_
  generalize gI23 : va_up I21 q11 (va_up (I21 q11) (2 : Int32).toNatClampNeg (-1 : Int32)) = I23
  have h := h I23 gI23.symm
  refine aw_dupR G0 dX2_init_32 ?_
  refine aw_iconst (v := (3 : Int32)) G0 dX2_init_33 (by decide) ?_
  refine aw_iconst (v := (-1 : Int32)) G0 dX2_init_34 (by decide) ?_
  obtain ⟨k24, h⟩ := h
  refine aw_iast G0 k17 k24 dX2_init_35 ?_
  generalize gI25 : va_up I23 q11 (va_up (I23 q11) (3 : Int32).toNatClampNeg (-1 : Int32)) = I25
  have h := h I25 gI25.symm
  obtain ⟨k26, h⟩ := h
  refine aw_putR (f := 4) G0 (by rw [k26]; exact fp_X2_17) dX2_init_36 ?_
  generalize gR27 : va_up R16 x0 (va_up (R16 x0) 4 (some q11)) = R27
  have h := h R27 gR27.symm
  refine aw_aload_n G0 0 rfl dX2_init_39 ?_
  refine aw_sipush (v := (240 : Int32)) G0 dX2_init_40 (by decide) ?_
  obtain ⟨q28, z29, h⟩ := h
  refine aw_newaJ (q := q28) (k' := 3) (n' := 248) (N := 240) G0 (by decide) (by decide) (by decide) (by decide) (by decide) (by rw [G.2.1]; decide) (by rw [G.2.1]; decide) z29 dX2_init_43 ?_
  generalize gC30 : va_up C13 q28 (21, 240) = C30
  generalize gI31 : va_up I25 q28 (fun _ => 0) = I31
  generalize gJ32 : va_up J15 q28 (fun _ => 0) = J32
  generalize gR33 : va_up R27 q28 (fun _ => none) = R33
  have h := h C30 I31 J32 R33 gC30.symm gI31.symm gJ32.symm gR33.symm
  obtain ⟨k34, h⟩ := h
  refine aw_putR (f := 5) G0 (by rw [k34]; exact fp_X2_20) dX2_init_45 ?_
  generalize gR35 : va_up R33 x0 (va_up (R33 x0) 5 (some q28)) = R35
  have h := h R35 gR35.symm
  refine aw_aload_n G0 0 rfl dX2_init_48 ?_
  refine aw_bipush (v := (20 : Int32)) G0 dX2_init_49 (by decide) ?_
  obtain ⟨q36, z37, h⟩ := h
  refine aw_newaI (q := q36) (k' := 4) (n' := 268) (N := 20) G0 (by decide) (by decide) (by decide) (by decide) (by decide) (by rw [G.2.1]; decide) (by rw [G.2.1]; decide) z37 dX2_init_51 ?_
  generalize gC38 : va_up C30 q36 (20, 20) = C38
  generalize gI39 : va_up I31 q36 (fun _ => 0) = I39
  generalize gJ40 : va_up J32 q36 (fun _ => 0) = J40
  generalize gR41 : va_up R35 q36 (fun _ => none) = R41
  have h := h C38 I39 J40 R41 gC38.symm gI39.symm gJ40.symm gR41.symm
  obtain ⟨k42, h⟩ := h
  refine aw_putR (f := 7) G0 (by rw [k42]; exact fp_X2_24) dX2_init_53 ?_
  generalize gR43 : va_up R41 x0 (va_up (R41 x0) 7 (some q36)) = R43
  have h := h R43 gR43.symm
  exact (w56 x0 C38 I39 J40 R43 h)
theorem bX2_init_56 (G : Gb Γ yX2_init cX2_init 1 (none) [] rmX2_init bdX2_init)
    {Q129 : Nat → MC → MI → MJ → MR → Prop} (w129 : ∀ (x0 : Nat) (C : MC) (I : MI) (J : MJ) (R : MR), Q129 x0 C I J R → AW Γ 13 4128 C I J R 129 [(0, aR (some x0))] []) {x0 : Nat}
    (h : ∃ q1 : Nat, (C q1).1 = 0 ∧
      ∀ (C3 : MC) (I4 : MI) (J5 : MJ) (R6 : MR), C3 = va_up C q1 (20, 80) → I4 = va_up I q1 (fun _ => 0) → J5 = va_up J q1 (fun _ => 0) → R6 = va_up R q1 (fun _ => none) → 
      (C3 x0).1 = 3 ∧
      ∀ R8 : MR, R8 = va_up R6 x0 (va_up (R6 x0) 8 (some q1)) →
      ∃ q9 : Nat, (C3 q9).1 = 0 ∧
      ∀ (C11 : MC) (I12 : MI) (J13 : MJ) (R14 : MR), C11 = va_up C3 q9 (20, 20) → I12 = va_up I4 q9 (fun _ => 0) → J13 = va_up J5 q9 (fun _ => 0) → R14 = va_up R8 q9 (fun _ => none) → 
      (C11 x0).1 = 3 ∧
      ∀ R16 : MR, R16 = va_up R14 x0 (va_up (R14 x0) 9 (some q9)) →
      ∃ q17 : Nat, (C11 q17).1 = 0 ∧
      ∀ (C19 : MC) (I20 : MI) (J21 : MJ) (R22 : MR), C19 = va_up C11 q17 (20, 20) → I20 = va_up I12 q17 (fun _ => 0) → J21 = va_up J13 q17 (fun _ => 0) → R22 = va_up R16 q17 (fun _ => none) → 
      (C19 x0).1 = 3 ∧
      ∀ R24 : MR, R24 = va_up R22 x0 (va_up (R22 x0) 10 (some q17)) →
      ∃ q25 : Nat, (C19 q25).1 = 0 ∧
      ∀ (C27 : MC) (I28 : MI) (J29 : MJ) (R30 : MR), C27 = va_up C19 q25 (20, 20) → I28 = va_up I20 q25 (fun _ => 0) → J29 = va_up J21 q25 (fun _ => 0) → R30 = va_up R24 q25 (fun _ => none) → 
      (C27 x0).1 = 3 ∧
      ∀ R32 : MR, R32 = va_up R30 x0 (va_up (R30 x0) 11 (some q25)) →
      ∃ q33 : Nat, (C27 q33).1 = 0 ∧
      ∀ (C35 : MC) (I36 : MI) (J37 : MJ) (R38 : MR), C35 = va_up C27 q33 (20, 20) → I36 = va_up I28 q33 (fun _ => 0) → J37 = va_up J29 q33 (fun _ => 0) → R38 = va_up R32 q33 (fun _ => none) → 
      (C35 x0).1 = 3 ∧
      ∀ R40 : MR, R40 = va_up R38 x0 (va_up (R38 x0) 12 (some q33)) →
      ∃ q41 : Nat, (C35 q41).1 = 0 ∧
      ∀ (C43 : MC) (I44 : MI) (J45 : MJ) (R46 : MR), C43 = va_up C35 q41 (20, 60) → I44 = va_up I36 q41 (fun _ => 0) → J45 = va_up J37 q41 (fun _ => 0) → R46 = va_up R40 q41 (fun _ => none) → 
      (C43 x0).1 = 3 ∧
      ∀ R48 : MR, R48 = va_up R46 x0 (va_up (R46 x0) 13 (some q41)) →
      ∃ q49 : Nat, (C43 q49).1 = 0 ∧
      ∀ (C51 : MC) (I52 : MI) (J53 : MJ) (R54 : MR), C51 = va_up C43 q49 (20, 3600) → I52 = va_up I44 q49 (fun _ => 0) → J53 = va_up J45 q49 (fun _ => 0) → R54 = va_up R48 q49 (fun _ => none) → 
      (C51 x0).1 = 3 ∧
      ∀ R56 : MR, R56 = va_up R54 x0 (va_up (R54 x0) 14 (some q49)) →
      ∃ q57 : Nat, (C51 q57).1 = 0 ∧
      ∀ (C59 : MC) (I60 : MI) (J61 : MJ) (R62 : MR), C59 = va_up C51 q57 (20, 20) → I60 = va_up I52 q57 (fun _ => 0) → J61 = va_up J53 q57 (fun _ => 0) → R62 = va_up R56 q57 (fun _ => none) → 
      (C59 x0).1 = 3 ∧
      ∀ R64 : MR, R64 = va_up R62 x0 (va_up (R62 x0) 15 (some q57)) →
      ∃ q65 : Nat, (C59 q65).1 = 0 ∧
      ∀ (C67 : MC) (I68 : MI) (J69 : MJ) (R70 : MR), C67 = va_up C59 q65 (20, 20) → I68 = va_up I60 q65 (fun _ => 0) → J69 = va_up J61 q65 (fun _ => 0) → R70 = va_up R64 q65 (fun _ => none) → 
      (C67 x0).1 = 3 ∧
      ∀ R72 : MR, R72 = va_up R70 x0 (va_up (R70 x0) 16 (some q65)) →
      Q129 x0 C67 I68 J69 R72) :
    AW Γ 4 268 C I J R 56 [(0, aR (some x0))] [] := by
  have G0 := G.1
  refine aw_aload_n G0 0 rfl dX2_init_56 ?_
  refine aw_bipush (v := (80 : Int32)) G0 dX2_init_57 (by decide) ?_
  obtain ⟨q1, z2, h⟩ := h
  refine aw_newaI (q := q1) (k' := 5) (n' := 348) (N := 80) G0 (by decide) (by decide) (by decide) (by decide) (by decide) (by rw [G.2.1]; decide) (by rw [G.2.1]; decide) z2 dX2_init_59 ?_
  generalize gC3 : va_up C q1 (20, 80) = C3
  generalize gI4 : va_up I q1 (fun _ => 0) = I4
  generalize gJ5 : va_up J q1 (fun _ => 0) = J5
  generalize gR6 : va_up R q1 (fun _ => none) = R6
  have h := h C3 I4 J5 R6 gC3.symm gI4.symm gJ5.symm gR6.symm
  obtain ⟨k7, h⟩ := h
  refine aw_putR (f := 8) G0 (by rw [k7]; exact fp_X2_27) dX2_init_61 ?_
  generalize gR8 : va_up R6 x0 (va_up (R6 x0) 8 (some q1)) = R8
  have h := h R8 gR8.symm
  refine aw_aload_n G0 0 rfl dX2_init_64 ?_
  refine aw_bipush (v := (20 : Int32)) G0 dX2_init_65 (by decide) ?_
  obtain ⟨q9, z10, h⟩ := h
  refine aw_newaI (q := q9) (k' := 6) (n' := 368) (N := 20) G0 (by decide) (by decide) (by decide) (by decide) (by decide) (by rw [G.2.1]; decide) (by rw [G.2.1]; decide) z10 dX2_init_67 ?_
  generalize gC11 : va_up C3 q9 (20, 20) = C11
  generalize gI12 : va_up I4 q9 (fun _ => 0) = I12
  generalize gJ13 : va_up J5 q9 (fun _ => 0) = J13
  generalize gR14 : va_up R8 q9 (fun _ => none) = R14
  have h := h C11 I12 J13 R14 gC11.symm gI12.symm gJ13.symm gR14.symm
  obtain ⟨k15, h⟩ := h
  refine aw_putR (f := 9) G0 (by rw [k15]; exact fp_X2_30) dX2_init_69 ?_
  generalize gR16 : va_up R14 x0 (va_up (R14 x0) 9 (some q9)) = R16
  have h := h R16 gR16.symm
  refine aw_aload_n G0 0 rfl dX2_init_72 ?_
  refine aw_bipush (v := (20 : Int32)) G0 dX2_init_73 (by decide) ?_
  obtain ⟨q17, z18, h⟩ := h
  refine aw_newaI (q := q17) (k' := 7) (n' := 388) (N := 20) G0 (by decide) (by decide) (by decide) (by decide) (by decide) (by rw [G.2.1]; decide) (by rw [G.2.1]; decide) z18 dX2_init_75 ?_
  generalize gC19 : va_up C11 q17 (20, 20) = C19
  generalize gI20 : va_up I12 q17 (fun _ => 0) = I20
  generalize gJ21 : va_up J13 q17 (fun _ => 0) = J21
  generalize gR22 : va_up R16 q17 (fun _ => none) = R22
  have h := h C19 I20 J21 R22 gC19.symm gI20.symm gJ21.symm gR22.symm
  obtain ⟨k23, h⟩ := h
  refine aw_putR (f := 10) G0 (by rw [k23]; exact fp_X2_33) dX2_init_77 ?_
  generalize gR24 : va_up R22 x0 (va_up (R22 x0) 10 (some q17)) = R24
  have h := h R24 gR24.symm
  refine aw_aload_n G0 0 rfl dX2_init_80 ?_
  refine aw_bipush (v := (20 : Int32)) G0 dX2_init_81 (by decide) ?_
  obtain ⟨q25, z26, h⟩ := h
  refine aw_newaI (q := q25) (k' := 8) (n' := 408) (N := 20) G0 (by decide) (by decide) (by decide) (by decide) (by decide) (by rw [G.2.1]; decide) (by rw [G.2.1]; decide) z26 dX2_init_83 ?_
  generalize gC27 : va_up C19 q25 (20, 20) = C27
  generalize gI28 : va_up I20 q25 (fun _ => 0) = I28
  generalize gJ29 : va_up J21 q25 (fun _ => 0) = J29
  generalize gR30 : va_up R24 q25 (fun _ => none) = R30
  have h := h C27 I28 J29 R30 gC27.symm gI28.symm gJ29.symm gR30.symm
  obtain ⟨k31, h⟩ := h
  refine aw_putR (f := 11) G0 (by rw [k31]; exact fp_X2_36) dX2_init_85 ?_
  generalize gR32 : va_up R30 x0 (va_up (R30 x0) 11 (some q25)) = R32
  have h := h R32 gR32.symm
  refine aw_aload_n G0 0 rfl dX2_init_88 ?_
  refine aw_bipush (v := (20 : Int32)) G0 dX2_init_89 (by decide) ?_
  obtain ⟨q33, z34, h⟩ := h
  refine aw_newaI (q := q33) (k' := 9) (n' := 428) (N := 20) G0 (by decide) (by decide) (by decide) (by decide) (by decide) (by rw [G.2.1]; decide) (by rw [G.2.1]; decide) z34 dX2_init_91 ?_
  generalize gC35 : va_up C27 q33 (20, 20) = C35
  generalize gI36 : va_up I28 q33 (fun _ => 0) = I36
  generalize gJ37 : va_up J29 q33 (fun _ => 0) = J37
  generalize gR38 : va_up R32 q33 (fun _ => none) = R38
  have h := h C35 I36 J37 R38 gC35.symm gI36.symm gJ37.symm gR38.symm
  obtain ⟨k39, h⟩ := h
  refine aw_putR (f := 12) G0 (by rw [k39]; exact fp_X2_39) dX2_init_93 ?_
  generalize gR40 : va_up R38 x0 (va_up (R38 x0) 12 (some q33)) = R40
  have h := h R40 gR40.symm
  refine aw_aload_n G0 0 rfl dX2_init_96 ?_
  refine aw_bipush (v := (60 : Int32)) G0 dX2_init_97 (by decide) ?_
  obtain ⟨q41, z42, h⟩ := h
  refine aw_newaI (q := q41) (k' := 10) (n' := 488) (N := 60) G0 (by decide) (by decide) (by decide) (by decide) (by decide) (by rw [G.2.1]; decide) (by rw [G.2.1]; decide) z42 dX2_init_99 ?_
  generalize gC43 : va_up C35 q41 (20, 60) = C43
  generalize gI44 : va_up I36 q41 (fun _ => 0) = I44
  generalize gJ45 : va_up J37 q41 (fun _ => 0) = J45
  generalize gR46 : va_up R40 q41 (fun _ => none) = R46
  have h := h C43 I44 J45 R46 gC43.symm gI44.symm gJ45.symm gR46.symm
  obtain ⟨k47, h⟩ := h
  refine aw_putR (f := 13) G0 (by rw [k47]; exact fp_X2_42) dX2_init_101 ?_
  generalize gR48 : va_up R46 x0 (va_up (R46 x0) 13 (some q41)) = R48
  have h := h R48 gR48.symm
  refine aw_aload_n G0 0 rfl dX2_init_104 ?_
  refine aw_sipush (v := (3600 : Int32)) G0 dX2_init_105 (by decide) ?_
  obtain ⟨q49, z50, h⟩ := h
  refine aw_newaI (q := q49) (k' := 11) (n' := 4088) (N := 3600) G0 (by decide) (by decide) (by decide) (by decide) (by decide) (by rw [G.2.1]; decide) (by rw [G.2.1]; decide) z50 dX2_init_108 ?_
  generalize gC51 : va_up C43 q49 (20, 3600) = C51
  generalize gI52 : va_up I44 q49 (fun _ => 0) = I52
  generalize gJ53 : va_up J45 q49 (fun _ => 0) = J53
  generalize gR54 : va_up R48 q49 (fun _ => none) = R54
  have h := h C51 I52 J53 R54 gC51.symm gI52.symm gJ53.symm gR54.symm
  obtain ⟨k55, h⟩ := h
  refine aw_putR (f := 14) G0 (by rw [k55]; exact fp_X2_45) dX2_init_110 ?_
  generalize gR56 : va_up R54 x0 (va_up (R54 x0) 14 (some q49)) = R56
  have h := h R56 gR56.symm
  refine aw_aload_n G0 0 rfl dX2_init_113 ?_
  refine aw_bipush (v := (20 : Int32)) G0 dX2_init_114 (by decide) ?_
  obtain ⟨q57, z58, h⟩ := h
  refine aw_newaI (q := q57) (k' := 12) (n' := 4108) (N := 20) G0 (by decide) (by decide) (by decide) (by decide) (by decide) (by rw [G.2.1]; decide) (by rw [G.2.1]; decide) z58 dX2_init_116 ?_
  generalize gC59 : va_up C51 q57 (20, 20) = C59
  generalize gI60 : va_up I52 q57 (fun _ => 0) = I60
  generalize gJ61 : va_up J53 q57 (fun _ => 0) = J61
  generalize gR62 : va_up R56 q57 (fun _ => none) = R62
  have h := h C59 I60 J61 R62 gC59.symm gI60.symm gJ61.symm gR62.symm
  obtain ⟨k63, h⟩ := h
  refine aw_putR (f := 15) G0 (by rw [k63]; exact fp_X2_48) dX2_init_118 ?_
  generalize gR64 : va_up R62 x0 (va_up (R62 x0) 15 (some q57)) = R64
  have h := h R64 gR64.symm
  refine aw_aload_n G0 0 rfl dX2_init_121 ?_
  refine aw_bipush (v := (20 : Int32)) G0 dX2_init_122 (by decide) ?_
  obtain ⟨q65, z66, h⟩ := h
  refine aw_newaI (q := q65) (k' := 13) (n' := 4128) (N := 20) G0 (by decide) (by decide) (by decide) (by decide) (by decide) (by rw [G.2.1]; decide) (by rw [G.2.1]; decide) z66 dX2_init_124 ?_
  generalize gC67 : va_up C59 q65 (20, 20) = C67
  generalize gI68 : va_up I60 q65 (fun _ => 0) = I68
  generalize gJ69 : va_up J61 q65 (fun _ => 0) = J69
  generalize gR70 : va_up R64 q65 (fun _ => none) = R70
  have h := h C67 I68 J69 R70 gC67.symm gI68.symm gJ69.symm gR70.symm
  obtain ⟨k71, h⟩ := h
  refine aw_putR (f := 16) G0 (by rw [k71]; exact fp_X2_51) dX2_init_126 ?_
  generalize gR72 : va_up R70 x0 (va_up (R70 x0) 16 (some q65)) = R72
  have h := h R72 gR72.symm
  exact (w129 x0 C67 I68 J69 R72 h)
theorem bX2_init_129 (G : Gb Γ yX2_init cX2_init 1 (none) [] rmX2_init bdX2_init)
    {Q204 : Nat → MC → MI → MJ → MR → Prop} (w204 : ∀ (x0 : Nat) (C : MC) (I : MI) (J : MJ) (R : MR), Q204 x0 C I J R → AW Γ 22 9688 C I J R 204 [(0, aR (some x0))] []) {x0 : Nat}
    (h : ∃ q1 : Nat, (C q1).1 = 0 ∧
      ∀ (C3 : MC) (I4 : MI) (J5 : MJ) (R6 : MR), C3 = va_up C q1 (20, 20) → I4 = va_up I q1 (fun _ => 0) → J5 = va_up J q1 (fun _ => 0) → R6 = va_up R q1 (fun _ => none) → 
      (C3 x0).1 = 3 ∧
      ∀ R8 : MR, R8 = va_up R6 x0 (va_up (R6 x0) 17 (some q1)) →
      ∃ q9 : Nat, (C3 q9).1 = 0 ∧
      ∀ (C11 : MC) (I12 : MI) (J13 : MJ) (R14 : MR), C11 = va_up C3 q9 (20, 20) → I12 = va_up I4 q9 (fun _ => 0) → J13 = va_up J5 q9 (fun _ => 0) → R14 = va_up R8 q9 (fun _ => none) → 
      (C11 x0).1 = 3 ∧
      ∀ R16 : MR, R16 = va_up R14 x0 (va_up (R14 x0) 18 (some q9)) →
      ∃ q17 : Nat, (C11 q17).1 = 0 ∧
      ∀ (C19 : MC) (I20 : MI) (J21 : MJ) (R22 : MR), C19 = va_up C11 q17 (20, 20) → I20 = va_up I12 q17 (fun _ => 0) → J21 = va_up J13 q17 (fun _ => 0) → R22 = va_up R16 q17 (fun _ => none) → 
      (C19 x0).1 = 3 ∧
      ∀ R24 : MR, R24 = va_up R22 x0 (va_up (R22 x0) 19 (some q17)) →
      ∃ q25 : Nat, (C19 q25).1 = 0 ∧
      ∀ (C27 : MC) (I28 : MI) (J29 : MJ) (R30 : MR), C27 = va_up C19 q25 (20, 20) → I28 = va_up I20 q25 (fun _ => 0) → J29 = va_up J21 q25 (fun _ => 0) → R30 = va_up R24 q25 (fun _ => none) → 
      (C27 x0).1 = 3 ∧
      ∀ R32 : MR, R32 = va_up R30 x0 (va_up (R30 x0) 20 (some q25)) →
      ∃ q33 : Nat, (C27 q33).1 = 0 ∧
      ∀ (C35 : MC) (I36 : MI) (J37 : MJ) (R38 : MR), C35 = va_up C27 q33 (21, 2420) → I36 = va_up I28 q33 (fun _ => 0) → J37 = va_up J29 q33 (fun _ => 0) → R38 = va_up R32 q33 (fun _ => none) → 
      (C35 x0).1 = 3 ∧
      ∀ R40 : MR, R40 = va_up R38 x0 (va_up (R38 x0) 22 (some q33)) →
      ∃ q41 : Nat, (C35 q41).1 = 0 ∧
      ∀ (C43 : MC) (I44 : MI) (J45 : MJ) (R46 : MR), C43 = va_up C35 q41 (21, 2420) → I44 = va_up I36 q41 (fun _ => 0) → J45 = va_up J37 q41 (fun _ => 0) → R46 = va_up R40 q41 (fun _ => none) → 
      (C43 x0).1 = 3 ∧
      ∀ R48 : MR, R48 = va_up R46 x0 (va_up (R46 x0) 23 (some q41)) →
      ∃ q49 : Nat, (C43 q49).1 = 0 ∧
      ∀ (C51 : MC) (I52 : MI) (J53 : MJ) (R54 : MR), C51 = va_up C43 q49 (21, 20) → I52 = va_up I44 q49 (fun _ => 0) → J53 = va_up J45 q49 (fun _ => 0) → R54 = va_up R48 q49 (fun _ => none) → 
      (C51 x0).1 = 3 ∧
      ∀ R56 : MR, R56 = va_up R54 x0 (va_up (R54 x0) 24 (some q49)) →
      ∃ q57 : Nat, (C51 q57).1 = 0 ∧
      ∀ (C59 : MC) (I60 : MI) (J61 : MJ) (R62 : MR), C59 = va_up C51 q57 (24, 20) → I60 = va_up I52 q57 (fun _ => 0) → J61 = va_up J53 q57 (fun _ => 0) → R62 = va_up R56 q57 (fun _ => none) → 
      (C59 x0).1 = 3 ∧
      ∀ R64 : MR, R64 = va_up R62 x0 (va_up (R62 x0) 25 (some q57)) →
      ∃ q65 : Nat, (C59 q65).1 = 0 ∧
      ∀ (C67 : MC) (I68 : MI) (J69 : MJ) (R70 : MR), C67 = va_up C59 q65 (21, 600) → I68 = va_up I60 q65 (fun _ => 0) → J69 = va_up J61 q65 (fun _ => 0) → R70 = va_up R64 q65 (fun _ => none) → 
      (C67 x0).1 = 3 ∧
      ∀ R72 : MR, R72 = va_up R70 x0 (va_up (R70 x0) 26 (some q65)) →
      Q204 x0 C67 I68 J69 R72) :
    AW Γ 13 4128 C I J R 129 [(0, aR (some x0))] [] := by
  have G0 := G.1
  refine aw_aload_n G0 0 rfl dX2_init_129 ?_
  refine aw_bipush (v := (20 : Int32)) G0 dX2_init_130 (by decide) ?_
  obtain ⟨q1, z2, h⟩ := h
  refine aw_newaI (q := q1) (k' := 14) (n' := 4148) (N := 20) G0 (by decide) (by decide) (by decide) (by decide) (by decide) (by rw [G.2.1]; decide) (by rw [G.2.1]; decide) z2 dX2_init_132 ?_
  generalize gC3 : va_up C q1 (20, 20) = C3
  generalize gI4 : va_up I q1 (fun _ => 0) = I4
  generalize gJ5 : va_up J q1 (fun _ => 0) = J5
  generalize gR6 : va_up R q1 (fun _ => none) = R6
  have h := h C3 I4 J5 R6 gC3.symm gI4.symm gJ5.symm gR6.symm
  obtain ⟨k7, h⟩ := h
  refine aw_putR (f := 17) G0 (by rw [k7]; exact fp_X2_54) dX2_init_134 ?_
  generalize gR8 : va_up R6 x0 (va_up (R6 x0) 17 (some q1)) = R8
  have h := h R8 gR8.symm
  refine aw_aload_n G0 0 rfl dX2_init_137 ?_
  refine aw_bipush (v := (20 : Int32)) G0 dX2_init_138 (by decide) ?_
  obtain ⟨q9, z10, h⟩ := h
  refine aw_newaI (q := q9) (k' := 15) (n' := 4168) (N := 20) G0 (by decide) (by decide) (by decide) (by decide) (by decide) (by rw [G.2.1]; decide) (by rw [G.2.1]; decide) z10 dX2_init_140 ?_
  generalize gC11 : va_up C3 q9 (20, 20) = C11
  generalize gI12 : va_up I4 q9 (fun _ => 0) = I12
  generalize gJ13 : va_up J5 q9 (fun _ => 0) = J13
  generalize gR14 : va_up R8 q9 (fun _ => none) = R14
  have h := h C11 I12 J13 R14 gC11.symm gI12.symm gJ13.symm gR14.symm
  obtain ⟨k15, h⟩ := h
  refine aw_putR (f := 18) G0 (by rw [k15]; exact fp_X2_57) dX2_init_142 ?_
  generalize gR16 : va_up R14 x0 (va_up (R14 x0) 18 (some q9)) = R16
  have h := h R16 gR16.symm
  refine aw_aload_n G0 0 rfl dX2_init_145 ?_
  refine aw_bipush (v := (20 : Int32)) G0 dX2_init_146 (by decide) ?_
  obtain ⟨q17, z18, h⟩ := h
  refine aw_newaI (q := q17) (k' := 16) (n' := 4188) (N := 20) G0 (by decide) (by decide) (by decide) (by decide) (by decide) (by rw [G.2.1]; decide) (by rw [G.2.1]; decide) z18 dX2_init_148 ?_
  generalize gC19 : va_up C11 q17 (20, 20) = C19
  generalize gI20 : va_up I12 q17 (fun _ => 0) = I20
  generalize gJ21 : va_up J13 q17 (fun _ => 0) = J21
  generalize gR22 : va_up R16 q17 (fun _ => none) = R22
  have h := h C19 I20 J21 R22 gC19.symm gI20.symm gJ21.symm gR22.symm
  obtain ⟨k23, h⟩ := h
  refine aw_putR (f := 19) G0 (by rw [k23]; exact fp_X2_60) dX2_init_150 ?_
  generalize gR24 : va_up R22 x0 (va_up (R22 x0) 19 (some q17)) = R24
  have h := h R24 gR24.symm
  refine aw_aload_n G0 0 rfl dX2_init_153 ?_
  refine aw_bipush (v := (20 : Int32)) G0 dX2_init_154 (by decide) ?_
  obtain ⟨q25, z26, h⟩ := h
  refine aw_newaI (q := q25) (k' := 17) (n' := 4208) (N := 20) G0 (by decide) (by decide) (by decide) (by decide) (by decide) (by rw [G.2.1]; decide) (by rw [G.2.1]; decide) z26 dX2_init_156 ?_
  generalize gC27 : va_up C19 q25 (20, 20) = C27
  generalize gI28 : va_up I20 q25 (fun _ => 0) = I28
  generalize gJ29 : va_up J21 q25 (fun _ => 0) = J29
  generalize gR30 : va_up R24 q25 (fun _ => none) = R30
  have h := h C27 I28 J29 R30 gC27.symm gI28.symm gJ29.symm gR30.symm
  obtain ⟨k31, h⟩ := h
  refine aw_putR (f := 20) G0 (by rw [k31]; exact fp_X2_63) dX2_init_158 ?_
  generalize gR32 : va_up R30 x0 (va_up (R30 x0) 20 (some q25)) = R32
  have h := h R32 gR32.symm
  refine aw_aload_n G0 0 rfl dX2_init_161 ?_
  refine aw_sipush (v := (2420 : Int32)) G0 dX2_init_162 (by decide) ?_
  obtain ⟨q33, z34, h⟩ := h
  refine aw_newaJ (q := q33) (k' := 18) (n' := 6628) (N := 2420) G0 (by decide) (by decide) (by decide) (by decide) (by decide) (by rw [G.2.1]; decide) (by rw [G.2.1]; decide) z34 dX2_init_165 ?_
  generalize gC35 : va_up C27 q33 (21, 2420) = C35
  generalize gI36 : va_up I28 q33 (fun _ => 0) = I36
  generalize gJ37 : va_up J29 q33 (fun _ => 0) = J37
  generalize gR38 : va_up R32 q33 (fun _ => none) = R38
  have h := h C35 I36 J37 R38 gC35.symm gI36.symm gJ37.symm gR38.symm
  obtain ⟨k39, h⟩ := h
  refine aw_putR (f := 22) G0 (by rw [k39]; exact fp_X2_66) dX2_init_167 ?_
  generalize gR40 : va_up R38 x0 (va_up (R38 x0) 22 (some q33)) = R40
  have h := h R40 gR40.symm
  refine aw_aload_n G0 0 rfl dX2_init_170 ?_
  refine aw_sipush (v := (2420 : Int32)) G0 dX2_init_171 (by decide) ?_
  obtain ⟨q41, z42, h⟩ := h
  refine aw_newaJ (q := q41) (k' := 19) (n' := 9048) (N := 2420) G0 (by decide) (by decide) (by decide) (by decide) (by decide) (by rw [G.2.1]; decide) (by rw [G.2.1]; decide) z42 dX2_init_174 ?_
  generalize gC43 : va_up C35 q41 (21, 2420) = C43
  generalize gI44 : va_up I36 q41 (fun _ => 0) = I44
  generalize gJ45 : va_up J37 q41 (fun _ => 0) = J45
  generalize gR46 : va_up R40 q41 (fun _ => none) = R46
  have h := h C43 I44 J45 R46 gC43.symm gI44.symm gJ45.symm gR46.symm
  obtain ⟨k47, h⟩ := h
  refine aw_putR (f := 23) G0 (by rw [k47]; exact fp_X2_69) dX2_init_176 ?_
  generalize gR48 : va_up R46 x0 (va_up (R46 x0) 23 (some q41)) = R48
  have h := h R48 gR48.symm
  refine aw_aload_n G0 0 rfl dX2_init_179 ?_
  refine aw_bipush (v := (20 : Int32)) G0 dX2_init_180 (by decide) ?_
  obtain ⟨q49, z50, h⟩ := h
  refine aw_newaJ (q := q49) (k' := 20) (n' := 9068) (N := 20) G0 (by decide) (by decide) (by decide) (by decide) (by decide) (by rw [G.2.1]; decide) (by rw [G.2.1]; decide) z50 dX2_init_182 ?_
  generalize gC51 : va_up C43 q49 (21, 20) = C51
  generalize gI52 : va_up I44 q49 (fun _ => 0) = I52
  generalize gJ53 : va_up J45 q49 (fun _ => 0) = J53
  generalize gR54 : va_up R48 q49 (fun _ => none) = R54
  have h := h C51 I52 J53 R54 gC51.symm gI52.symm gJ53.symm gR54.symm
  obtain ⟨k55, h⟩ := h
  refine aw_putR (f := 24) G0 (by rw [k55]; exact fp_X2_72) dX2_init_184 ?_
  generalize gR56 : va_up R54 x0 (va_up (R54 x0) 24 (some q49)) = R56
  have h := h R56 gR56.symm
  refine aw_aload_n G0 0 rfl dX2_init_187 ?_
  refine aw_bipush (v := (20 : Int32)) G0 dX2_init_188 (by decide) ?_
  obtain ⟨q57, z58, h⟩ := h
  refine aw_newaZ (q := q57) (k' := 21) (n' := 9088) (N := 20) G0 (by decide) (by decide) (by decide) (by decide) (by decide) (by rw [G.2.1]; decide) (by rw [G.2.1]; decide) z58 dX2_init_190 ?_
  generalize gC59 : va_up C51 q57 (24, 20) = C59
  generalize gI60 : va_up I52 q57 (fun _ => 0) = I60
  generalize gJ61 : va_up J53 q57 (fun _ => 0) = J61
  generalize gR62 : va_up R56 q57 (fun _ => none) = R62
  have h := h C59 I60 J61 R62 gC59.symm gI60.symm gJ61.symm gR62.symm
  obtain ⟨k63, h⟩ := h
  refine aw_putR (f := 25) G0 (by rw [k63]; exact fp_X2_75) dX2_init_192 ?_
  generalize gR64 : va_up R62 x0 (va_up (R62 x0) 25 (some q57)) = R64
  have h := h R64 gR64.symm
  refine aw_aload_n G0 0 rfl dX2_init_195 ?_
  refine aw_sipush (v := (600 : Int32)) G0 dX2_init_196 (by decide) ?_
  obtain ⟨q65, z66, h⟩ := h
  refine aw_newaJ (q := q65) (k' := 22) (n' := 9688) (N := 600) G0 (by decide) (by decide) (by decide) (by decide) (by decide) (by rw [G.2.1]; decide) (by rw [G.2.1]; decide) z66 dX2_init_199 ?_
  generalize gC67 : va_up C59 q65 (21, 600) = C67
  generalize gI68 : va_up I60 q65 (fun _ => 0) = I68
  generalize gJ69 : va_up J61 q65 (fun _ => 0) = J69
  generalize gR70 : va_up R64 q65 (fun _ => none) = R70
  have h := h C67 I68 J69 R70 gC67.symm gI68.symm gJ69.symm gR70.symm
  obtain ⟨k71, h⟩ := h
  refine aw_putR (f := 26) G0 (by rw [k71]; exact fp_X2_79) dX2_init_201 ?_
  generalize gR72 : va_up R70 x0 (va_up (R70 x0) 26 (some q65)) = R72
  have h := h R72 gR72.symm
  exact (w204 x0 C67 I68 J69 R72 h)
theorem bX2_init_204 (G : Gb Γ yX2_init cX2_init 1 (none) [] rmX2_init bdX2_init)
    {Q279 : Nat → MC → MI → MJ → MR → Prop} (w279 : ∀ (x0 : Nat) (C : MC) (I : MI) (J : MJ) (R : MR), Q279 x0 C I J R → AW Γ 31 14195 C I J R 279 [(0, aR (some x0))] []) {x0 : Nat}
    (h : ∃ q1 : Nat, (C q1).1 = 0 ∧
      ∀ (C3 : MC) (I4 : MI) (J5 : MJ) (R6 : MR), C3 = va_up C q1 (21, 600) → I4 = va_up I q1 (fun _ => 0) → J5 = va_up J q1 (fun _ => 0) → R6 = va_up R q1 (fun _ => none) → 
      (C3 x0).1 = 3 ∧
      ∀ R8 : MR, R8 = va_up R6 x0 (va_up (R6 x0) 27 (some q1)) →
      ∃ q9 : Nat, (C3 q9).1 = 0 ∧
      ∀ (C11 : MC) (I12 : MI) (J13 : MJ) (R14 : MR), C11 = va_up C3 q9 (21, 600) → I12 = va_up I4 q9 (fun _ => 0) → J13 = va_up J5 q9 (fun _ => 0) → R14 = va_up R8 q9 (fun _ => none) → 
      (C11 x0).1 = 3 ∧
      ∀ R16 : MR, R16 = va_up R14 x0 (va_up (R14 x0) 28 (some q9)) →
      ∃ q17 : Nat, (C11 q17).1 = 0 ∧
      ∀ (C19 : MC) (I20 : MI) (J21 : MJ) (R22 : MR), C19 = va_up C11 q17 (21, 600) → I20 = va_up I12 q17 (fun _ => 0) → J21 = va_up J13 q17 (fun _ => 0) → R22 = va_up R16 q17 (fun _ => none) → 
      (C19 x0).1 = 3 ∧
      ∀ R24 : MR, R24 = va_up R22 x0 (va_up (R22 x0) 29 (some q17)) →
      ∃ q25 : Nat, (C19 q25).1 = 0 ∧
      ∀ (C27 : MC) (I28 : MI) (J29 : MJ) (R30 : MR), C27 = va_up C19 q25 (21, 5) → I28 = va_up I20 q25 (fun _ => 0) → J29 = va_up J21 q25 (fun _ => 0) → R30 = va_up R24 q25 (fun _ => none) → 
      (C27 x0).1 = 3 ∧
      ∀ R32 : MR, R32 = va_up R30 x0 (va_up (R30 x0) 31 (some q25)) →
      ∃ q33 : Nat, (C27 q33).1 = 0 ∧
      ∀ (C35 : MC) (I36 : MI) (J37 : MJ) (R38 : MR), C35 = va_up C27 q33 (21, 2420) → I36 = va_up I28 q33 (fun _ => 0) → J37 = va_up J29 q33 (fun _ => 0) → R38 = va_up R32 q33 (fun _ => none) → 
      (C35 x0).1 = 3 ∧
      ∀ R40 : MR, R40 = va_up R38 x0 (va_up (R38 x0) 32 (some q33)) →
      ∃ q41 : Nat, (C35 q41).1 = 0 ∧
      ∀ (C43 : MC) (I44 : MI) (J45 : MJ) (R46 : MR), C43 = va_up C35 q41 (21, 20) → I44 = va_up I36 q41 (fun _ => 0) → J45 = va_up J37 q41 (fun _ => 0) → R46 = va_up R40 q41 (fun _ => none) → 
      (C43 x0).1 = 3 ∧
      ∀ R48 : MR, R48 = va_up R46 x0 (va_up (R46 x0) 33 (some q41)) →
      ∃ q49 : Nat, (C43 q49).1 = 0 ∧
      ∀ (C51 : MC) (I52 : MI) (J53 : MJ) (R54 : MR), C51 = va_up C43 q49 (21, 121) → I52 = va_up I44 q49 (fun _ => 0) → J53 = va_up J45 q49 (fun _ => 0) → R54 = va_up R48 q49 (fun _ => none) → 
      (C51 x0).1 = 3 ∧
      ∀ R56 : MR, R56 = va_up R54 x0 (va_up (R54 x0) 34 (some q49)) →
      ∃ q57 : Nat, (C51 q57).1 = 0 ∧
      ∀ (C59 : MC) (I60 : MI) (J61 : MJ) (R62 : MR), C59 = va_up C51 q57 (21, 121) → I60 = va_up I52 q57 (fun _ => 0) → J61 = va_up J53 q57 (fun _ => 0) → R62 = va_up R56 q57 (fun _ => none) → 
      (C59 x0).1 = 3 ∧
      ∀ R64 : MR, R64 = va_up R62 x0 (va_up (R62 x0) 35 (some q57)) →
      ∃ q65 : Nat, (C59 q65).1 = 0 ∧
      ∀ (C67 : MC) (I68 : MI) (J69 : MJ) (R70 : MR), C67 = va_up C59 q65 (24, 20) → I68 = va_up I60 q65 (fun _ => 0) → J69 = va_up J61 q65 (fun _ => 0) → R70 = va_up R64 q65 (fun _ => none) → 
      (C67 x0).1 = 3 ∧
      ∀ R72 : MR, R72 = va_up R70 x0 (va_up (R70 x0) 36 (some q65)) →
      Q279 x0 C67 I68 J69 R72) :
    AW Γ 22 9688 C I J R 204 [(0, aR (some x0))] [] := by
  have G0 := G.1
  refine aw_aload_n G0 0 rfl dX2_init_204 ?_
  refine aw_sipush (v := (600 : Int32)) G0 dX2_init_205 (by decide) ?_
  obtain ⟨q1, z2, h⟩ := h
  refine aw_newaJ (q := q1) (k' := 23) (n' := 10288) (N := 600) G0 (by decide) (by decide) (by decide) (by decide) (by decide) (by rw [G.2.1]; decide) (by rw [G.2.1]; decide) z2 dX2_init_208 ?_
  generalize gC3 : va_up C q1 (21, 600) = C3
  generalize gI4 : va_up I q1 (fun _ => 0) = I4
  generalize gJ5 : va_up J q1 (fun _ => 0) = J5
  generalize gR6 : va_up R q1 (fun _ => none) = R6
  have h := h C3 I4 J5 R6 gC3.symm gI4.symm gJ5.symm gR6.symm
  obtain ⟨k7, h⟩ := h
  refine aw_putR (f := 27) G0 (by rw [k7]; exact fp_X2_82) dX2_init_210 ?_
  generalize gR8 : va_up R6 x0 (va_up (R6 x0) 27 (some q1)) = R8
  have h := h R8 gR8.symm
  refine aw_aload_n G0 0 rfl dX2_init_213 ?_
  refine aw_sipush (v := (600 : Int32)) G0 dX2_init_214 (by decide) ?_
  obtain ⟨q9, z10, h⟩ := h
  refine aw_newaJ (q := q9) (k' := 24) (n' := 10888) (N := 600) G0 (by decide) (by decide) (by decide) (by decide) (by decide) (by rw [G.2.1]; decide) (by rw [G.2.1]; decide) z10 dX2_init_217 ?_
  generalize gC11 : va_up C3 q9 (21, 600) = C11
  generalize gI12 : va_up I4 q9 (fun _ => 0) = I12
  generalize gJ13 : va_up J5 q9 (fun _ => 0) = J13
  generalize gR14 : va_up R8 q9 (fun _ => none) = R14
  have h := h C11 I12 J13 R14 gC11.symm gI12.symm gJ13.symm gR14.symm
  obtain ⟨k15, h⟩ := h
  refine aw_putR (f := 28) G0 (by rw [k15]; exact fp_X2_85) dX2_init_219 ?_
  generalize gR16 : va_up R14 x0 (va_up (R14 x0) 28 (some q9)) = R16
  have h := h R16 gR16.symm
  refine aw_aload_n G0 0 rfl dX2_init_222 ?_
  refine aw_sipush (v := (600 : Int32)) G0 dX2_init_223 (by decide) ?_
  obtain ⟨q17, z18, h⟩ := h
  refine aw_newaJ (q := q17) (k' := 25) (n' := 11488) (N := 600) G0 (by decide) (by decide) (by decide) (by decide) (by decide) (by rw [G.2.1]; decide) (by rw [G.2.1]; decide) z18 dX2_init_226 ?_
  generalize gC19 : va_up C11 q17 (21, 600) = C19
  generalize gI20 : va_up I12 q17 (fun _ => 0) = I20
  generalize gJ21 : va_up J13 q17 (fun _ => 0) = J21
  generalize gR22 : va_up R16 q17 (fun _ => none) = R22
  have h := h C19 I20 J21 R22 gC19.symm gI20.symm gJ21.symm gR22.symm
  obtain ⟨k23, h⟩ := h
  refine aw_putR (f := 29) G0 (by rw [k23]; exact fp_X2_88) dX2_init_228 ?_
  generalize gR24 : va_up R22 x0 (va_up (R22 x0) 29 (some q17)) = R24
  have h := h R24 gR24.symm
  refine aw_aload_n G0 0 rfl dX2_init_231 ?_
  refine aw_iconst (v := (5 : Int32)) G0 dX2_init_232 (by decide) ?_
  obtain ⟨q25, z26, h⟩ := h
  refine aw_newaJ (q := q25) (k' := 26) (n' := 11493) (N := 5) G0 (by decide) (by decide) (by decide) (by decide) (by decide) (by rw [G.2.1]; decide) (by rw [G.2.1]; decide) z26 dX2_init_233 ?_
  generalize gC27 : va_up C19 q25 (21, 5) = C27
  generalize gI28 : va_up I20 q25 (fun _ => 0) = I28
  generalize gJ29 : va_up J21 q25 (fun _ => 0) = J29
  generalize gR30 : va_up R24 q25 (fun _ => none) = R30
  have h := h C27 I28 J29 R30 gC27.symm gI28.symm gJ29.symm gR30.symm
  obtain ⟨k31, h⟩ := h
  refine aw_putR (f := 31) G0 (by rw [k31]; exact fp_X2_91) dX2_init_235 ?_
  generalize gR32 : va_up R30 x0 (va_up (R30 x0) 31 (some q25)) = R32
  have h := h R32 gR32.symm
  refine aw_aload_n G0 0 rfl dX2_init_238 ?_
  refine aw_sipush (v := (2420 : Int32)) G0 dX2_init_239 (by decide) ?_
  obtain ⟨q33, z34, h⟩ := h
  refine aw_newaJ (q := q33) (k' := 27) (n' := 13913) (N := 2420) G0 (by decide) (by decide) (by decide) (by decide) (by decide) (by rw [G.2.1]; decide) (by rw [G.2.1]; decide) z34 dX2_init_242 ?_
  generalize gC35 : va_up C27 q33 (21, 2420) = C35
  generalize gI36 : va_up I28 q33 (fun _ => 0) = I36
  generalize gJ37 : va_up J29 q33 (fun _ => 0) = J37
  generalize gR38 : va_up R32 q33 (fun _ => none) = R38
  have h := h C35 I36 J37 R38 gC35.symm gI36.symm gJ37.symm gR38.symm
  obtain ⟨k39, h⟩ := h
  refine aw_putR (f := 32) G0 (by rw [k39]; exact fp_X2_94) dX2_init_244 ?_
  generalize gR40 : va_up R38 x0 (va_up (R38 x0) 32 (some q33)) = R40
  have h := h R40 gR40.symm
  refine aw_aload_n G0 0 rfl dX2_init_247 ?_
  refine aw_bipush (v := (20 : Int32)) G0 dX2_init_248 (by decide) ?_
  obtain ⟨q41, z42, h⟩ := h
  refine aw_newaJ (q := q41) (k' := 28) (n' := 13933) (N := 20) G0 (by decide) (by decide) (by decide) (by decide) (by decide) (by rw [G.2.1]; decide) (by rw [G.2.1]; decide) z42 dX2_init_250 ?_
  generalize gC43 : va_up C35 q41 (21, 20) = C43
  generalize gI44 : va_up I36 q41 (fun _ => 0) = I44
  generalize gJ45 : va_up J37 q41 (fun _ => 0) = J45
  generalize gR46 : va_up R40 q41 (fun _ => none) = R46
  have h := h C43 I44 J45 R46 gC43.symm gI44.symm gJ45.symm gR46.symm
  obtain ⟨k47, h⟩ := h
  refine aw_putR (f := 33) G0 (by rw [k47]; exact fp_X2_97) dX2_init_252 ?_
  generalize gR48 : va_up R46 x0 (va_up (R46 x0) 33 (some q41)) = R48
  have h := h R48 gR48.symm
  refine aw_aload_n G0 0 rfl dX2_init_255 ?_
  refine aw_bipush (v := (121 : Int32)) G0 dX2_init_256 (by decide) ?_
  obtain ⟨q49, z50, h⟩ := h
  refine aw_newaJ (q := q49) (k' := 29) (n' := 14054) (N := 121) G0 (by decide) (by decide) (by decide) (by decide) (by decide) (by rw [G.2.1]; decide) (by rw [G.2.1]; decide) z50 dX2_init_258 ?_
  generalize gC51 : va_up C43 q49 (21, 121) = C51
  generalize gI52 : va_up I44 q49 (fun _ => 0) = I52
  generalize gJ53 : va_up J45 q49 (fun _ => 0) = J53
  generalize gR54 : va_up R48 q49 (fun _ => none) = R54
  have h := h C51 I52 J53 R54 gC51.symm gI52.symm gJ53.symm gR54.symm
  obtain ⟨k55, h⟩ := h
  refine aw_putR (f := 34) G0 (by rw [k55]; exact fp_X2_100) dX2_init_260 ?_
  generalize gR56 : va_up R54 x0 (va_up (R54 x0) 34 (some q49)) = R56
  have h := h R56 gR56.symm
  refine aw_aload_n G0 0 rfl dX2_init_263 ?_
  refine aw_bipush (v := (121 : Int32)) G0 dX2_init_264 (by decide) ?_
  obtain ⟨q57, z58, h⟩ := h
  refine aw_newaJ (q := q57) (k' := 30) (n' := 14175) (N := 121) G0 (by decide) (by decide) (by decide) (by decide) (by decide) (by rw [G.2.1]; decide) (by rw [G.2.1]; decide) z58 dX2_init_266 ?_
  generalize gC59 : va_up C51 q57 (21, 121) = C59
  generalize gI60 : va_up I52 q57 (fun _ => 0) = I60
  generalize gJ61 : va_up J53 q57 (fun _ => 0) = J61
  generalize gR62 : va_up R56 q57 (fun _ => none) = R62
  have h := h C59 I60 J61 R62 gC59.symm gI60.symm gJ61.symm gR62.symm
  obtain ⟨k63, h⟩ := h
  refine aw_putR (f := 35) G0 (by rw [k63]; exact fp_X2_103) dX2_init_268 ?_
  generalize gR64 : va_up R62 x0 (va_up (R62 x0) 35 (some q57)) = R64
  have h := h R64 gR64.symm
  refine aw_aload_n G0 0 rfl dX2_init_271 ?_
  refine aw_bipush (v := (20 : Int32)) G0 dX2_init_272 (by decide) ?_
  obtain ⟨q65, z66, h⟩ := h
  refine aw_newaZ (q := q65) (k' := 31) (n' := 14195) (N := 20) G0 (by decide) (by decide) (by decide) (by decide) (by decide) (by rw [G.2.1]; decide) (by rw [G.2.1]; decide) z66 dX2_init_274 ?_
  generalize gC67 : va_up C59 q65 (24, 20) = C67
  generalize gI68 : va_up I60 q65 (fun _ => 0) = I68
  generalize gJ69 : va_up J61 q65 (fun _ => 0) = J69
  generalize gR70 : va_up R64 q65 (fun _ => none) = R70
  have h := h C67 I68 J69 R70 gC67.symm gI68.symm gJ69.symm gR70.symm
  obtain ⟨k71, h⟩ := h
  refine aw_putR (f := 36) G0 (by rw [k71]; exact fp_X2_106) dX2_init_276 ?_
  generalize gR72 : va_up R70 x0 (va_up (R70 x0) 36 (some q65)) = R72
  have h := h R72 gR72.symm
  exact (w279 x0 C67 I68 J69 R72 h)
theorem bX2_init_279 (G : Gb Γ yX2_init cX2_init 1 (none) [] rmX2_init bdX2_init) {x0 : Nat}
    (h : ∃ q1 : Nat, (C q1).1 = 0 ∧
      ∀ (C3 : MC) (I4 : MI) (J5 : MJ) (R6 : MR), C3 = va_up C q1 (20, 20) → I4 = va_up I q1 (fun _ => 0) → J5 = va_up J q1 (fun _ => 0) → R6 = va_up R q1 (fun _ => none) → 
      (C3 x0).1 = 3 ∧
      ∀ R8 : MR, R8 = va_up R6 x0 (va_up (R6 x0) 37 (some q1)) →
      gK Γ (.inl none) C3 I4 J5 R8) :
    AW Γ 31 14195 C I J R 279 [(0, aR (some x0))] [] := by
  have G0 := G.1
  refine aw_aload_n G0 0 rfl dX2_init_279 ?_
  refine aw_bipush (v := (20 : Int32)) G0 dX2_init_280 (by decide) ?_
  obtain ⟨q1, z2, h⟩ := h
  refine aw_newaI (q := q1) (k' := 32) (n' := 14215) (N := 20) G0 (by decide) (by decide) (by decide) (by decide) (by decide) (by rw [G.2.1]; decide) (by rw [G.2.1]; decide) z2 dX2_init_282 ?_
  generalize gC3 : va_up C q1 (20, 20) = C3
  generalize gI4 : va_up I q1 (fun _ => 0) = I4
  generalize gJ5 : va_up J q1 (fun _ => 0) = J5
  generalize gR6 : va_up R q1 (fun _ => none) = R6
  have h := h C3 I4 J5 R6 gC3.symm gI4.symm gJ5.symm gR6.symm
  obtain ⟨k7, h⟩ := h
  refine aw_putR (f := 37) G0 (by rw [k7]; exact fp_X2_109) dX2_init_284 ?_
  generalize gR8 : va_up R6 x0 (va_up (R6 x0) 37 (some q1)) = R8
  have h := h R8 gR8.symm
  exact aw_return G0 (by rw [G.2.2]; decide) (by rw [G.2.1]; decide) dX2_init_287 h
theorem bX2_status_0 (G : Gb Γ yX2_status cX2_status 1 (some .int) [] rmX2_status bdX2_status) {x0 : Nat}
    (h : (C x0).1 = 3 ∧
      gK Γ (.inl (some (aI (I x0 0)))) C I J R) :
    AW Γ 0 0 C I J R 0 [(0, aR (some x0))] [] := by
  have G0 := G.1
  refine aw_aload_n G0 0 rfl dX2_status_0 ?_
  obtain ⟨k1, h⟩ := h
  refine aw_getI (f := 0) G0 (by rw [k1]; exact fb_X2_112) dX2_status_1 ?_
  exact aw_ireturn G0 (Or.inl rfl) (by rw [G.2.2]; decide) (by rw [G.2.1]; decide) dX2_status_4 h
theorem bX2_top_0 (G : Gb Γ yX2_top cX2_top 1 (some .long) [] rmX2_top bdX2_top) {x0 : Nat}
    (h : (C x0).1 = 3 ∧
      gK Γ (.inl (some (aJ (J x0 1)))) C I J R) :
    AW Γ 0 0 C I J R 0 [(0, aR (some x0))] [] := by
  have G0 := G.1
  refine aw_aload_n G0 0 rfl dX2_top_0 ?_
  obtain ⟨k1, h⟩ := h
  refine aw_getJ (f := 1) G0 (by rw [k1]; exact fb_X2_116) dX2_top_1 ?_
  exact aw_lreturn G0 (by rw [G.2.2]; decide) (by rw [G.2.1]; decide) dX2_top_4 h
theorem bX2_bottom_0 (G : Gb Γ yX2_bottom cX2_bottom 1 (some .long) [] rmX2_bottom bdX2_bottom) {x0 : Nat}
    (h : (C x0).1 = 3 ∧
      gK Γ (.inl (some (aJ (J x0 2)))) C I J R) :
    AW Γ 0 0 C I J R 0 [(0, aR (some x0))] [] := by
  have G0 := G.1
  refine aw_aload_n G0 0 rfl dX2_bottom_0 ?_
  obtain ⟨k1, h⟩ := h
  refine aw_getJ (f := 2) G0 (by rw [k1]; exact fb_X2_7) dX2_bottom_1 ?_
  exact aw_lreturn G0 (by rw [G.2.2]; decide) (by rw [G.2.1]; decide) dX2_bottom_4 h
theorem bX2_tray_0 (G : Gb Γ yX2_tray cX2_tray 5 (some .boolean) [] rmX2_tray bdX2_tray) {F_X2_isTray : SPF} (S_X2_isTray : SpX2_isTray (gL Γ) F_X2_isTray) {F_X2_is : SPF} (S_X2_is : SpX2_is (gL Γ) F_X2_is)
    {Q49 : Nat → Int32 → Int32 → Int32 → MC → MI → MJ → MR → Prop} (w49 : ∀ (x0 : Nat) (x1 : Int32) (x3 : Int32) (x4 : Int32) (C : MC) (I : MI) (J : MJ) (R : MR), Q49 x0 x1 x3 x4 C I J R → AW Γ 0 0 C I J R 49 [(0, aR (some x0)), (1, aI x1), (3, aI x3), (4, aI x4)] []) {x0 : Nat} {x1 : Int32} {x2 : Int32} {x3 : Int32}
    (h : F_X2_isTray [aI x1] C I J R (fun o C1 I2 J3 R4 =>
      ∃ r5 : Int32, o = .inl (some (aI r5)) ∧
      ((r5 = 0 →
      (C1 x0).1 = 3 ∧
      F_X2_is [aR (some x0), aI (1 : Int32)] C1 I2 J3 R4 (fun o C8 I9 J10 R11 =>
      ∃ r12 : Int32, o = .inl (some (aI r12)) ∧
      (r12 = 0 ∨ r12 = 1) ∧ gK Γ (.inl (some (aI r12))) C8 I9 J10 R11)) ∧
      (¬ r5 = 0 →
      ((x2 < 0 →
      (C1 x0).1 = 3 ∧
      F_X2_is [aR (some x0), aI (1 : Int32)] C1 I2 J3 R4 (fun o C16 I17 J18 R19 =>
      ∃ r20 : Int32, o = .inl (some (aI r20)) ∧
      (r20 = 0 ∨ r20 = 1) ∧ gK Γ (.inl (some (aI r20))) C16 I17 J18 R19)) ∧
      (¬ x2 < 0 →
      (((3 : Int32) < x2 →
      (C1 x0).1 = 3 ∧
      F_X2_is [aR (some x0), aI (1 : Int32)] C1 I2 J3 R4 (fun o C24 I25 J26 R27 =>
      ∃ r28 : Int32, o = .inl (some (aI r28)) ∧
      (r28 = 0 ∨ r28 = 1) ∧ gK Γ (.inl (some (aI r28))) C24 I25 J26 R27)) ∧
      (¬ (3 : Int32) < x2 →
      ((x3 < 0 →
      (C1 x0).1 = 3 ∧
      F_X2_is [aR (some x0), aI (1 : Int32)] C1 I2 J3 R4 (fun o C32 I33 J34 R35 =>
      ∃ r36 : Int32, o = .inl (some (aI r36)) ∧
      (r36 = 0 ∨ r36 = 1) ∧ gK Γ (.inl (some (aI r36))) C32 I33 J34 R35)) ∧
      (¬ x3 < 0 →
      ((x3 ≤ (60 : Int32) →
      (C1 x0).1 = 3 ∧
      ∃ q40 : Nat, R4 x0 3 = some q40 ∧
      (C1 q40).1 = 20 ∧
      vp_in x1 (C1 q40).2 ∧
      ∀ I43 : MI, I43 = va_up I2 q40 (va_up (I2 q40) x1.toNatClampNeg x2) →
      ∃ q44 : Nat, R4 x0 4 = some q44 ∧
      (C1 q44).1 = 20 ∧
      vp_in x1 (C1 q44).2 ∧
      ∀ I47 : MI, I47 = va_up I43 q44 (va_up (I43 q44) x1.toNatClampNeg x3) →
      Q49 x0 x1 x3 (0 : Int32) C1 I47 J3 R4) ∧
      (¬ x3 ≤ (60 : Int32) →
      (C1 x0).1 = 3 ∧
      F_X2_is [aR (some x0), aI (1 : Int32)] C1 I2 J3 R4 (fun o C49 I50 J51 R52 =>
      ∃ r53 : Int32, o = .inl (some (aI r53)) ∧
      (r53 = 0 ∨ r53 = 1) ∧ gK Γ (.inl (some (aI r53))) C49 I50 J51 R52))))))))))))) :
    AW Γ 0 0 C I J R 0 [(0, aR (some x0)), (1, aI x1), (2, aI x2), (3, aI x3)] [] := by
  have G0 := G.1
  refine aw_iload_n G0 1 rfl dX2_tray_0 ?_
  refine aw_callS (k1 := 0) (n1 := 0) (k2 := 0) (n2 := 0) (st := []) G0 S_X2_isTray gi_X2_119 md_X2_isTray (Nat.le_of_ble_eq_true rfl) (by decide) (by rw [G.2.1]; decide) (by rw [G.2.1]; decide) [aI x1] rfl rfl dX2_tray_1 h (fun o C1 I2 J3 R4 h => ?_)
  obtain ⟨r5, rfl, h⟩ := h
  show AW Γ 0 0 C1 I2 J3 R4 (1 + 3) [(0, aR (some x0)), (1, aI x1), (2, aI x2), (3, aI x3)] [aI r5]
  refine aw_if_eq G0 26 dX2_tray_4 (by decide) (fun c6 => ?_) (fun c6 => ?_)
  · have h := h.1 c6
    refine aw_aload_n G0 0 rfl dX2_tray_26 ?_
    refine aw_iconst (v := (1 : Int32)) G0 dX2_tray_27 (by decide) ?_
    obtain ⟨k7, h⟩ := h
    refine aw_callV (k1 := 0) (n1 := 0) (k2 := 0) (n2 := 0) (st := []) G0 S_X2_is gi_X2_123 (Or.inl (by rw [k7]; decide)) (by rw [k7]; rfl) md_X2_is (Nat.le_of_ble_eq_true rfl) (by decide) (by rw [G.2.1]; decide) (by rw [G.2.1]; decide) [aI (1 : Int32)] rfl rfl dX2_tray_28 h (fun o C8 I9 J10 R11 h => ?_)
    obtain ⟨r12, rfl, h⟩ := h
    show AW Γ 0 0 C8 I9 J10 R11 (28 + 3) [(0, aR (some x0)), (1, aI x1), (2, aI x2), (3, aI x3)] [aI r12]
    obtain ⟨k13, h⟩ := h
    exact aw_ireturn G0 (Or.inr ⟨rfl, k13⟩) (by rw [G.2.2]; decide) (by rw [G.2.1]; decide) dX2_tray_31 h
  · have h := h.2 c6
    refine aw_iload_n G0 2 rfl dX2_tray_7 ?_
    refine aw_if_lt G0 26 dX2_tray_8 (by decide) (fun c14 => ?_) (fun c14 => ?_)
    · have h := h.1 c14
      refine aw_aload_n G0 0 rfl dX2_tray_26 ?_
      refine aw_iconst (v := (1 : Int32)) G0 dX2_tray_27 (by decide) ?_
      obtain ⟨k15, h⟩ := h
      refine aw_callV (k1 := 0) (n1 := 0) (k2 := 0) (n2 := 0) (st := []) G0 S_X2_is gi_X2_123 (Or.inl (by rw [k15]; decide)) (by rw [k15]; rfl) md_X2_is (Nat.le_of_ble_eq_true rfl) (by decide) (by rw [G.2.1]; decide) (by rw [G.2.1]; decide) [aI (1 : Int32)] rfl rfl dX2_tray_28 h (fun o C16 I17 J18 R19 h => ?_)
      obtain ⟨r20, rfl, h⟩ := h
      show AW Γ 0 0 C16 I17 J18 R19 (28 + 3) [(0, aR (some x0)), (1, aI x1), (2, aI x2), (3, aI x3)] [aI r20]
      obtain ⟨k21, h⟩ := h
      exact aw_ireturn G0 (Or.inr ⟨rfl, k21⟩) (by rw [G.2.2]; decide) (by rw [G.2.1]; decide) dX2_tray_31 h
    · have h := h.2 c14
      refine aw_iload_n G0 2 rfl dX2_tray_11 ?_
      refine aw_iconst (v := (3 : Int32)) G0 dX2_tray_12 (by decide) ?_
      refine aw_icmp_gt G0 26 dX2_tray_13 (by decide) (fun c22 => ?_) (fun c22 => ?_)
      · have h := h.1 c22
        refine aw_aload_n G0 0 rfl dX2_tray_26 ?_
        refine aw_iconst (v := (1 : Int32)) G0 dX2_tray_27 (by decide) ?_
        obtain ⟨k23, h⟩ := h
        refine aw_callV (k1 := 0) (n1 := 0) (k2 := 0) (n2 := 0) (st := []) G0 S_X2_is gi_X2_123 (Or.inl (by rw [k23]; decide)) (by rw [k23]; rfl) md_X2_is (Nat.le_of_ble_eq_true rfl) (by decide) (by rw [G.2.1]; decide) (by rw [G.2.1]; decide) [aI (1 : Int32)] rfl rfl dX2_tray_28 h (fun o C24 I25 J26 R27 h => ?_)
        obtain ⟨r28, rfl, h⟩ := h
        show AW Γ 0 0 C24 I25 J26 R27 (28 + 3) [(0, aR (some x0)), (1, aI x1), (2, aI x2), (3, aI x3)] [aI r28]
        obtain ⟨k29, h⟩ := h
        exact aw_ireturn G0 (Or.inr ⟨rfl, k29⟩) (by rw [G.2.2]; decide) (by rw [G.2.1]; decide) dX2_tray_31 h
      · have h := h.2 c22
        refine aw_iload_n G0 3 rfl dX2_tray_16 ?_
        refine aw_if_lt G0 26 dX2_tray_17 (by decide) (fun c30 => ?_) (fun c30 => ?_)
        · have h := h.1 c30
          refine aw_aload_n G0 0 rfl dX2_tray_26 ?_
          refine aw_iconst (v := (1 : Int32)) G0 dX2_tray_27 (by decide) ?_
          obtain ⟨k31, h⟩ := h
          refine aw_callV (k1 := 0) (n1 := 0) (k2 := 0) (n2 := 0) (st := []) G0 S_X2_is gi_X2_123 (Or.inl (by rw [k31]; decide)) (by rw [k31]; rfl) md_X2_is (Nat.le_of_ble_eq_true rfl) (by decide) (by rw [G.2.1]; decide) (by rw [G.2.1]; decide) [aI (1 : Int32)] rfl rfl dX2_tray_28 h (fun o C32 I33 J34 R35 h => ?_)
          obtain ⟨r36, rfl, h⟩ := h
          show AW Γ 0 0 C32 I33 J34 R35 (28 + 3) [(0, aR (some x0)), (1, aI x1), (2, aI x2), (3, aI x3)] [aI r36]
          obtain ⟨k37, h⟩ := h
          exact aw_ireturn G0 (Or.inr ⟨rfl, k37⟩) (by rw [G.2.2]; decide) (by rw [G.2.1]; decide) dX2_tray_31 h
        · have h := h.2 c30
          refine aw_iload_n G0 3 rfl dX2_tray_20 ?_
          refine aw_bipush (v := (60 : Int32)) G0 dX2_tray_21 (by decide) ?_
          refine aw_icmp_le G0 32 dX2_tray_23 (by decide) (fun c38 => ?_) (fun c38 => ?_)
          · have h := h.1 c38
            refine aw_aload_n G0 0 rfl dX2_tray_32 ?_
            obtain ⟨k39, h⟩ := h
            refine aw_getR (f := 3) G0 (by rw [k39]; exact fb_X2_13) dX2_tray_33 ?_
            refine aw_iload_n G0 1 rfl dX2_tray_36 ?_
            refine aw_iload_n G0 2 rfl dX2_tray_37 ?_
            obtain ⟨q40, e40, h⟩ := h
            refine aw_dr2 e40 ?_
            obtain ⟨k41, h⟩ := h
            obtain ⟨k42, h⟩ := h
            refine aw_iast G0 k41 k42 dX2_tray_38 ?_
            generalize gI43 : va_up I2 q40 (va_up (I2 q40) x1.toNatClampNeg x2) = I43
            have h := h I43 gI43.symm
            refine aw_aload_n G0 0 rfl dX2_tray_39 ?_
            refine aw_getR (f := 4) G0 (by rw [k39]; exact fb_X2_17) dX2_tray_40 ?_
            refine aw_iload_n G0 1 rfl dX2_tray_43 ?_
            refine aw_iload_n G0 3 rfl dX2_tray_44 ?_
            obtain ⟨q44, e44, h⟩ := h
            refine aw_dr2 e44 ?_
            obtain ⟨k45, h⟩ := h
            obtain ⟨k46, h⟩ := h
            refine aw_iast G0 k45 k46 dX2_tray_45 ?_
            generalize gI47 : va_up I43 q44 (va_up (I43 q44) x1.toNatClampNeg x3) = I47
            have h := h I47 gI47.symm
            refine aw_iconst (v := (0 : Int32)) G0 dX2_tray_46 (by decide) ?_
            refine aw_istore (lv' := [(4, aI (0 : Int32)), (0, aR (some x0)), (1, aI x1), (2, aI x2), (3, aI x3)]) G0 (by decide) rfl dX2_tray_47 ?_
            exact (aw_lv [1, 2, 4, 0] rfl (w49 x0 x1 x3 (0 : Int32) C1 I47 J3 R4 h))
          · have h := h.2 c38
            refine aw_aload_n G0 0 rfl dX2_tray_26 ?_
            refine aw_iconst (v := (1 : Int32)) G0 dX2_tray_27 (by decide) ?_
            obtain ⟨k48, h⟩ := h
            refine aw_callV (k1 := 0) (n1 := 0) (k2 := 0) (n2 := 0) (st := []) G0 S_X2_is gi_X2_123 (Or.inl (by rw [k48]; decide)) (by rw [k48]; rfl) md_X2_is (Nat.le_of_ble_eq_true rfl) (by decide) (by rw [G.2.1]; decide) (by rw [G.2.1]; decide) [aI (1 : Int32)] rfl rfl dX2_tray_28 h (fun o C49 I50 J51 R52 h => ?_)
            obtain ⟨r53, rfl, h⟩ := h
            show AW Γ 0 0 C49 I50 J51 R52 (28 + 3) [(0, aR (some x0)), (1, aI x1), (2, aI x2), (3, aI x3)] [aI r53]
            obtain ⟨k54, h⟩ := h
            exact aw_ireturn G0 (Or.inr ⟨rfl, k54⟩) (by rw [G.2.2]; decide) (by rw [G.2.1]; decide) dX2_tray_31 h
theorem bX2_tray_49 (G : Gb Γ yX2_tray cX2_tray 5 (some .boolean) [] rmX2_tray bdX2_tray) {F_X2_is : SPF} (S_X2_is : SpX2_is (gL Γ) F_X2_is)
    {Q49 : Nat → Int32 → Int32 → Int32 → MC → MI → MJ → MR → Prop} (w49 : ∀ (x0 : Nat) (x1 : Int32) (x3 : Int32) (x4 : Int32) (C : MC) (I : MI) (J : MJ) (R : MR), Q49 x0 x1 x3 x4 C I J R → AW Γ 0 0 C I J R 49 [(0, aR (some x0)), (1, aI x1), (3, aI x3), (4, aI x4)] []) {x0 : Nat} {x1 : Int32} {x3 : Int32} {x4 : Int32}
    (h : ((x3 ≤ x4 →
      (C x0).1 = 3 ∧
      F_X2_is [aR (some x0), aI (0 : Int32)] C I J R (fun o C3 I4 J5 R6 =>
      ∃ r7 : Int32, o = .inl (some (aI r7)) ∧
      (r7 = 0 ∨ r7 = 1) ∧ gK Γ (.inl (some (aI r7))) C3 I4 J5 R6)) ∧
      (¬ x3 ≤ x4 →
      (C x0).1 = 3 ∧
      ∃ q10 : Nat, R x0 5 = some q10 ∧
      (C q10).1 = 21 ∧
      vp_in (((60 : Int32) * x1) + x4) (C q10).2 ∧
      ∀ J13 : MJ, J13 = va_up J q10 (va_up (J q10) (((60 : Int32) * x1) + x4).toNatClampNeg (0 : Int64)) →
      Q49 x0 x1 x3 (x4 + 1) C I J13 R))) :
    AW Γ 0 0 C I J R 49 [(0, aR (some x0)), (1, aI x1), (3, aI x3), (4, aI x4)] [] := by
  have G0 := G.1
  refine aw_iload G0 3 rfl dX2_tray_49 ?_
  refine aw_iload_n G0 2 rfl dX2_tray_51 ?_
  refine aw_icmp_ge G0 74 dX2_tray_52 (by decide) (fun c1 => ?_) (fun c1 => ?_)
  · have h := h.1 c1
    refine aw_aload_n G0 0 rfl dX2_tray_74 ?_
    refine aw_iconst (v := (0 : Int32)) G0 dX2_tray_75 (by decide) ?_
    obtain ⟨k2, h⟩ := h
    refine aw_callV (k1 := 0) (n1 := 0) (k2 := 0) (n2 := 0) (st := []) G0 S_X2_is gi_X2_123 (Or.inl (by rw [k2]; decide)) (by rw [k2]; rfl) md_X2_is (Nat.le_of_ble_eq_true rfl) (by decide) (by rw [G.2.1]; decide) (by rw [G.2.1]; decide) [aI (0 : Int32)] rfl rfl dX2_tray_76 h (fun o C3 I4 J5 R6 h => ?_)
    obtain ⟨r7, rfl, h⟩ := h
    show AW Γ 0 0 C3 I4 J5 R6 (76 + 3) [(0, aR (some x0)), (1, aI x1), (3, aI x3), (4, aI x4)] [aI r7]
    obtain ⟨k8, h⟩ := h
    exact aw_ireturn G0 (Or.inr ⟨rfl, k8⟩) (by rw [G.2.2]; decide) (by rw [G.2.1]; decide) dX2_tray_79 h
  · have h := h.2 c1
    refine aw_aload_n G0 0 rfl dX2_tray_55 ?_
    obtain ⟨k9, h⟩ := h
    refine aw_getR (f := 5) G0 (by rw [k9]; exact fb_X2_20) dX2_tray_56 ?_
    refine aw_bipush (v := (60 : Int32)) G0 dX2_tray_59 (by decide) ?_
    refine aw_iload_n G0 1 rfl dX2_tray_61 ?_
    refine aw_imul G0 dX2_tray_62 ?_
    refine aw_iload G0 3 rfl dX2_tray_63 ?_
    refine aw_iadd G0 dX2_tray_65 ?_
    refine aw_lconst (v := (0 : Int64)) G0 dX2_tray_66 (by decide) ?_
    obtain ⟨q10, e10, h⟩ := h
    refine aw_dr2 e10 ?_
    obtain ⟨k11, h⟩ := h
    obtain ⟨k12, h⟩ := h
    refine aw_last G0 k11 k12 dX2_tray_67 ?_
    generalize gJ13 : va_up J q10 (va_up (J q10) (((60 : Int32) * x1) + x4).toNatClampNeg (0 : Int64)) = J13
    have h := h J13 gJ13.symm
    refine aw_iinc (v := x4 + 1) (lv' := [(4, aI (x4 + 1)), (0, aR (some x0)), (1, aI x1), (3, aI x3)]) G0 3 rfl rfl (by decide) rfl dX2_tray_68 ?_
    refine aw_goto G0 49 dX2_tray_71 (by decide) ?_
    exact (aw_lv [1, 2, 3, 0] rfl (w49 x0 x1 x3 (x4 + 1) C I J13 R h))
theorem bX2_isTray_0 (G : Gb Γ yX2_isTray cX2_isTray 1 (some .boolean) [] rmX2_isTray bdX2_isTray) {x0 : Int32}
    (h : ((x0 < 0 →
      gK Γ (.inl (some (aI (0 : Int32)))) C I J R) ∧
      (¬ x0 < 0 →
      (((4 : Int32) ≤ x0 →
      gK Γ (.inl (some (aI (0 : Int32)))) C I J R) ∧
      (¬ (4 : Int32) ≤ x0 →
      gK Γ (.inl (some (aI (1 : Int32)))) C I J R))))) :
    AW Γ 0 0 C I J R 0 [(0, aI x0)] [] := by
  have G0 := G.1
  refine aw_iload_n G0 0 rfl dX2_isTray_0 ?_
  refine aw_if_lt G0 13 dX2_isTray_1 (by decide) (fun c1 => ?_) (fun c1 => ?_)
  · have h := h.1 c1
    refine aw_iconst (v := (0 : Int32)) G0 dX2_isTray_13 (by decide) ?_
    exact aw_ireturn G0 (Or.inr ⟨rfl, by decide⟩) (by rw [G.2.2]; decide) (by rw [G.2.1]; decide) dX2_isTray_14 h
  · have h := h.2 c1
    refine aw_iload_n G0 0 rfl dX2_isTray_4 ?_
    refine aw_iconst (v := (4 : Int32)) G0 dX2_isTray_5 (by decide) ?_
    refine aw_icmp_ge G0 13 dX2_isTray_6 (by decide) (fun c2 => ?_) (fun c2 => ?_)
    · have h := h.1 c2
      refine aw_iconst (v := (0 : Int32)) G0 dX2_isTray_13 (by decide) ?_
      exact aw_ireturn G0 (Or.inr ⟨rfl, by decide⟩) (by rw [G.2.2]; decide) (by rw [G.2.1]; decide) dX2_isTray_14 h
    · have h := h.2 c2
      refine aw_iconst (v := (1 : Int32)) G0 dX2_isTray_9 (by decide) ?_
      refine aw_goto G0 14 dX2_isTray_10 (by decide) ?_
      exact aw_ireturn G0 (Or.inr ⟨rfl, by decide⟩) (by rw [G.2.2]; decide) (by rw [G.2.1]; decide) dX2_isTray_14 h
theorem bX2_is_0 (G : Gb Γ yX2_is cX2_is 2 (some .boolean) [] rmX2_is bdX2_is) {x0 : Nat} {x1 : Int32}
    (h : (C x0).1 = 3 ∧
      ∀ I2 : MI, I2 = va_up I x0 (va_up (I x0) 0 x1) →
      ((¬ x1 = 0 →
      gK Γ (.inl (some (aI (0 : Int32)))) C I2 J R) ∧
      (x1 = 0 →
      gK Γ (.inl (some (aI (1 : Int32)))) C I2 J R))) :
    AW Γ 0 0 C I J R 0 [(0, aR (some x0)), (1, aI x1)] [] := by
  have G0 := G.1
  refine aw_aload_n G0 0 rfl dX2_is_0 ?_
  refine aw_iload_n G0 1 rfl dX2_is_1 ?_
  obtain ⟨k1, h⟩ := h
  refine aw_putI (f := 0) G0 (by rw [k1]; exact fp_X2_112 _) dX2_is_2 ?_
  generalize gI2 : va_up I x0 (va_up (I x0) 0 x1) = I2
  have h := h I2 gI2.symm
  refine aw_iload_n G0 1 rfl dX2_is_5 ?_
  refine aw_if_ne G0 13 dX2_is_6 (by decide) (fun c3 => ?_) (fun c3 => ?_)
  · have h := h.1 c3
    refine aw_iconst (v := (0 : Int32)) G0 dX2_is_13 (by decide) ?_
    exact aw_ireturn G0 (Or.inr ⟨rfl, by decide⟩) (by rw [G.2.2]; decide) (by rw [G.2.1]; decide) dX2_is_14 h
  · have h := h.2 c3
    refine aw_iconst (v := (1 : Int32)) G0 dX2_is_9 (by decide) ?_
    refine aw_goto G0 14 dX2_is_10 (by decide) ?_
    exact aw_ireturn G0 (Or.inr ⟨rfl, by decide⟩) (by rw [G.2.2]; decide) (by rw [G.2.1]; decide) dX2_is_14 h
theorem bX2_write_0 (G : Gb Γ yX2_write cX2_write 6 (some .boolean) [] rmX2_write bdX2_write) {F_X2_wrong : SPF} (S_X2_wrong : SpX2_wrong (gL Γ) F_X2_wrong) {F_X2_is : SPF} (S_X2_is : SpX2_is (gL Γ) F_X2_is) {F_X2_cut : SPF} (S_X2_cut : SpX2_cut (gL Γ) F_X2_cut) {x0 : Nat} {x1 : Int32} {x2 : Int32} {x3 : Int64}
    (h : (C x0).1 = 3 ∧
      F_X2_wrong [aR (some x0), aI x1, aI x2] C I J R (fun o C2 I3 J4 R5 =>
      ∃ r6 : Int32, o = .inl (some (aI r6)) ∧
      ((¬ r6 = 0 →
      (C2 x0).1 = 3 ∧
      F_X2_is [aR (some x0), aI r6] C2 I3 J4 R5 (fun o C9 I10 J11 R12 =>
      ∃ r13 : Int32, o = .inl (some (aI r13)) ∧
      (r13 = 0 ∨ r13 = 1) ∧ gK Γ (.inl (some (aI r13))) C9 I10 J11 R12)) ∧
      (r6 = 0 →
      (C2 x0).1 = 3 ∧
      ∃ q16 : Nat, R5 x0 3 = some q16 ∧
      (C2 q16).1 = 20 ∧
      vp_in x1 (C2 q16).2 ∧
      F_X2_cut [aJ x3, aI (I3 q16 x1.toNatClampNeg)] C2 I3 J4 R5 (fun o C19 I20 J21 R22 =>
      ∃ r23 : Int64, o = .inl (some (aJ r23)) ∧
      ∃ q24 : Nat, R5 x0 5 = some q24 ∧
      (C19 q24).1 = 21 ∧
      vp_in (((60 : Int32) * x1) + x2) (C19 q24).2 ∧
      ∀ J27 : MJ, J27 = va_up J21 q24 (va_up (J21 q24) (((60 : Int32) * x1) + x2).toNatClampNeg r23) →
      (C19 x0).1 = 3 ∧
      F_X2_is [aR (some x0), aI r6] C19 I20 J27 R22 (fun o C29 I30 J31 R32 =>
      ∃ r33 : Int32, o = .inl (some (aI r33)) ∧
      (r33 = 0 ∨ r33 = 1) ∧ gK Γ (.inl (some (aI r33))) C29 I30 J31 R32)))))) :
    AW Γ 0 0 C I J R 0 [(0, aR (some x0)), (1, aI x1), (2, aI x2), (3, aJ x3)] [] := by
  have G0 := G.1
  refine aw_aload_n G0 0 rfl dX2_write_0 ?_
  refine aw_iload_n G0 1 rfl dX2_write_1 ?_
  refine aw_iload_n G0 2 rfl dX2_write_2 ?_
  obtain ⟨k1, h⟩ := h
  refine aw_callV (k1 := 0) (n1 := 0) (k2 := 0) (n2 := 0) (st := []) G0 S_X2_wrong gi_X2_126 (Or.inl (by rw [k1]; decide)) (by rw [k1]; rfl) md_X2_wrong (Nat.le_of_ble_eq_true rfl) (by decide) (by rw [G.2.1]; decide) (by rw [G.2.1]; decide) [aI x1, aI x2] rfl rfl dX2_write_3 h (fun o C2 I3 J4 R5 h => ?_)
  obtain ⟨r6, rfl, h⟩ := h
  show AW Γ 0 0 C2 I3 J4 R5 (3 + 3) [(0, aR (some x0)), (1, aI x1), (2, aI x2), (3, aJ x3)] [aI r6]
  refine aw_istore (lv' := [(5, aI r6), (0, aR (some x0)), (1, aI x1), (2, aI x2), (3, aJ x3)]) G0 (by decide) rfl dX2_write_6 ?_
  refine aw_iload G0 0 rfl dX2_write_8 ?_
  refine aw_if_ne G0 34 dX2_write_10 (by decide) (fun c7 => ?_) (fun c7 => ?_)
  · have h := h.1 c7
    refine aw_aload_n G0 1 rfl dX2_write_34 ?_
    refine aw_iload G0 0 rfl dX2_write_35 ?_
    obtain ⟨k8, h⟩ := h
    refine aw_callV (k1 := 0) (n1 := 0) (k2 := 0) (n2 := 0) (st := []) G0 S_X2_is gi_X2_123 (Or.inl (by rw [k8]; decide)) (by rw [k8]; rfl) md_X2_is (Nat.le_of_ble_eq_true rfl) (by decide) (by rw [G.2.1]; decide) (by rw [G.2.1]; decide) [aI r6] rfl rfl dX2_write_37 h (fun o C9 I10 J11 R12 h => ?_)
    obtain ⟨r13, rfl, h⟩ := h
    show AW Γ 0 0 C9 I10 J11 R12 (37 + 3) [(5, aI r6), (0, aR (some x0)), (1, aI x1), (2, aI x2), (3, aJ x3)] [aI r13]
    obtain ⟨k14, h⟩ := h
    exact aw_ireturn G0 (Or.inr ⟨rfl, k14⟩) (by rw [G.2.2]; decide) (by rw [G.2.1]; decide) dX2_write_40 h
  · have h := h.2 c7
    refine aw_aload_n G0 1 rfl dX2_write_13 ?_
    obtain ⟨k15, h⟩ := h
    refine aw_getR (f := 5) G0 (by rw [k15]; exact fb_X2_20) dX2_write_14 ?_
    refine aw_bipush (v := (60 : Int32)) G0 dX2_write_17 (by decide) ?_
    refine aw_iload_n G0 2 rfl dX2_write_19 ?_
    refine aw_imul G0 dX2_write_20 ?_
    refine aw_iload_n G0 3 rfl dX2_write_21 ?_
    refine aw_iadd G0 dX2_write_22 ?_
    refine aw_lload_n G0 4 rfl dX2_write_23 ?_
    refine aw_aload_n G0 1 rfl dX2_write_24 ?_
    refine aw_getR (f := 3) G0 (by rw [k15]; exact fb_X2_13) dX2_write_25 ?_
    refine aw_iload_n G0 2 rfl dX2_write_28 ?_
    obtain ⟨q16, e16, h⟩ := h
    refine aw_dr1 e16 ?_
    obtain ⟨k17, h⟩ := h
    obtain ⟨k18, h⟩ := h
    refine aw_iald G0 (Or.inl k17) k18 dX2_write_29 ?_
    refine aw_callS (k1 := 0) (n1 := 0) (k2 := 0) (n2 := 0) (st := [aI (((60 : Int32) * x1) + x2), aR (R5 x0 5)]) G0 S_X2_cut gi_X2_130 md_X2_cut (Nat.le_of_ble_eq_true rfl) (by decide) (by rw [G.2.1]; decide) (by rw [G.2.1]; decide) [aJ x3, aI (I3 q16 x1.toNatClampNeg)] rfl rfl dX2_write_30 h (fun o C19 I20 J21 R22 h => ?_)
    obtain ⟨r23, rfl, h⟩ := h
    show AW Γ 0 0 C19 I20 J21 R22 (30 + 3) [(5, aI r6), (0, aR (some x0)), (1, aI x1), (2, aI x2), (3, aJ x3)] [aJ r23, aI (((60 : Int32) * x1) + x2), aR (R5 x0 5)]
    obtain ⟨q24, e24, h⟩ := h
    refine aw_dr2 e24 ?_
    obtain ⟨k25, h⟩ := h
    obtain ⟨k26, h⟩ := h
    refine aw_last G0 k25 k26 dX2_write_33 ?_
    generalize gJ27 : va_up J21 q24 (va_up (J21 q24) (((60 : Int32) * x1) + x2).toNatClampNeg r23) = J27
    have h := h J27 gJ27.symm
    refine aw_aload_n G0 1 rfl dX2_write_34 ?_
    refine aw_iload G0 0 rfl dX2_write_35 ?_
    obtain ⟨k28, h⟩ := h
    refine aw_callV (k1 := 0) (n1 := 0) (k2 := 0) (n2 := 0) (st := []) G0 S_X2_is gi_X2_123 (Or.inl (by rw [k28]; decide)) (by rw [k28]; rfl) md_X2_is (Nat.le_of_ble_eq_true rfl) (by decide) (by rw [G.2.1]; decide) (by rw [G.2.1]; decide) [aI r6] rfl rfl dX2_write_37 h (fun o C29 I30 J31 R32 h => ?_)
    obtain ⟨r33, rfl, h⟩ := h
    show AW Γ 0 0 C29 I30 J31 R32 (37 + 3) [(5, aI r6), (0, aR (some x0)), (1, aI x1), (2, aI x2), (3, aJ x3)] [aI r33]
    obtain ⟨k34, h⟩ := h
    exact aw_ireturn G0 (Or.inr ⟨rfl, k34⟩) (by rw [G.2.2]; decide) (by rw [G.2.1]; decide) dX2_write_40 h
theorem bX2_wrong_0 (G : Gb Γ yX2_wrong cX2_wrong 3 (some .int) [] rmX2_wrong bdX2_wrong) {F_X2_isTray : SPF} (S_X2_isTray : SpX2_isTray (gL Γ) F_X2_isTray) {x0 : Nat} {x1 : Int32} {x2 : Int32}
    (h : F_X2_isTray [aI x1] C I J R (fun o C1 I2 J3 R4 =>
      ∃ r5 : Int32, o = .inl (some (aI r5)) ∧
      ((¬ r5 = 0 →
      (C1 x0).1 = 3 ∧
      ∃ q8 : Nat, R4 x0 4 = some q8 ∧
      (C1 q8).1 = 20 ∧
      vp_in x1 (C1 q8).2 ∧
      ((¬ (I2 q8 x1.toNatClampNeg) = (-1 : Int32) →
      ((x2 < 0 →
      gK Γ (.inl (some (aI (3 : Int32)))) C1 I2 J3 R4) ∧
      (¬ x2 < 0 →
      ((x2 < (I2 q8 x1.toNatClampNeg) →
      gK Γ (.inl (some (aI (0 : Int32)))) C1 I2 J3 R4) ∧
      (¬ x2 < (I2 q8 x1.toNatClampNeg) →
      gK Γ (.inl (some (aI (3 : Int32)))) C1 I2 J3 R4))))) ∧
      ((I2 q8 x1.toNatClampNeg) = (-1 : Int32) →
      gK Γ (.inl (some (aI (2 : Int32)))) C1 I2 J3 R4))) ∧
      (r5 = 0 →
      gK Γ (.inl (some (aI (1 : Int32)))) C1 I2 J3 R4)))) :
    AW Γ 0 0 C I J R 0 [(0, aR (some x0)), (1, aI x1), (2, aI x2)] [] := by
  have G0 := G.1
  refine aw_iload_n G0 1 rfl dX2_wrong_0 ?_
  refine aw_callS (k1 := 0) (n1 := 0) (k2 := 0) (n2 := 0) (st := []) G0 S_X2_isTray gi_X2_119 md_X2_isTray (Nat.le_of_ble_eq_true rfl) (by decide) (by rw [G.2.1]; decide) (by rw [G.2.1]; decide) [aI x1] rfl rfl dX2_wrong_1 h (fun o C1 I2 J3 R4 h => ?_)
  obtain ⟨r5, rfl, h⟩ := h
  show AW Γ 0 0 C1 I2 J3 R4 (1 + 3) [(0, aR (some x0)), (1, aI x1), (2, aI x2)] [aI r5]
  refine aw_if_ne G0 11 dX2_wrong_4 (by decide) (fun c6 => ?_) (fun c6 => ?_)
  · have h := h.1 c6
    refine aw_aload_n G0 0 rfl dX2_wrong_11 ?_
    obtain ⟨k7, h⟩ := h
    refine aw_getR (f := 4) G0 (by rw [k7]; exact fb_X2_17) dX2_wrong_12 ?_
    refine aw_iload_n G0 1 rfl dX2_wrong_15 ?_
    obtain ⟨q8, e8, h⟩ := h
    refine aw_dr1 e8 ?_
    obtain ⟨k9, h⟩ := h
    obtain ⟨k10, h⟩ := h
    refine aw_iald G0 (Or.inl k9) k10 dX2_wrong_16 ?_
    refine aw_iconst (v := (-1 : Int32)) G0 dX2_wrong_17 (by decide) ?_
    refine aw_icmp_ne G0 25 dX2_wrong_18 (by decide) (fun c11 => ?_) (fun c11 => ?_)
    · have h := h.1 c11
      refine aw_iload_n G0 2 rfl dX2_wrong_25 ?_
      refine aw_if_lt G0 39 dX2_wrong_26 (by decide) (fun c12 => ?_) (fun c12 => ?_)
      · have h := h.1 c12
        refine aw_iconst (v := (3 : Int32)) G0 dX2_wrong_39 (by decide) ?_
        refine aw_goto G0 44 dX2_wrong_40 (by decide) ?_
        exact aw_ireturn G0 (Or.inl rfl) (by rw [G.2.2]; decide) (by rw [G.2.1]; decide) dX2_wrong_44 h
      · have h := h.2 c12
        refine aw_iload_n G0 2 rfl dX2_wrong_29 ?_
        refine aw_aload_n G0 0 rfl dX2_wrong_30 ?_
        refine aw_getR (f := 4) G0 (by rw [k7]; exact fb_X2_17) dX2_wrong_31 ?_
        refine aw_iload_n G0 1 rfl dX2_wrong_34 ?_
        refine aw_dr1 e8 ?_
        refine aw_iald G0 (Or.inl k9) k10 dX2_wrong_35 ?_
        refine aw_icmp_lt G0 43 dX2_wrong_36 (by decide) (fun c13 => ?_) (fun c13 => ?_)
        · have h := h.1 c13
          refine aw_iconst (v := (0 : Int32)) G0 dX2_wrong_43 (by decide) ?_
          exact aw_ireturn G0 (Or.inl rfl) (by rw [G.2.2]; decide) (by rw [G.2.1]; decide) dX2_wrong_44 h
        · have h := h.2 c13
          refine aw_iconst (v := (3 : Int32)) G0 dX2_wrong_39 (by decide) ?_
          refine aw_goto G0 44 dX2_wrong_40 (by decide) ?_
          exact aw_ireturn G0 (Or.inl rfl) (by rw [G.2.2]; decide) (by rw [G.2.1]; decide) dX2_wrong_44 h
    · have h := h.2 c11
      refine aw_iconst (v := (2 : Int32)) G0 dX2_wrong_21 (by decide) ?_
      refine aw_goto G0 44 dX2_wrong_22 (by decide) ?_
      exact aw_ireturn G0 (Or.inl rfl) (by rw [G.2.2]; decide) (by rw [G.2.1]; decide) dX2_wrong_44 h
  · have h := h.2 c6
    refine aw_iconst (v := (1 : Int32)) G0 dX2_wrong_7 (by decide) ?_
    refine aw_goto G0 44 dX2_wrong_8 (by decide) ?_
    exact aw_ireturn G0 (Or.inl rfl) (by rw [G.2.2]; decide) (by rw [G.2.1]; decide) dX2_wrong_44 h
theorem bX2_cut_0 (G : Gb Γ yX2_cut cX2_cut 3 (some .long) [] rmX2_cut bdX2_cut) {x0 : Int64} {x2 : Int32}
    (h : ((¬ x2 = 0 →
      ((¬ x2 = (1 : Int32) →
      ((¬ x2 = (2 : Int32) →
      gK Γ (.inl (some (aJ x0))) C I J R) ∧
      (x2 = (2 : Int32) →
      gK Γ (.inl (some (aJ x0.toInt32.toInt64))) C I J R))) ∧
      (x2 = (1 : Int32) →
      gK Γ (.inl (some (aJ x0.toInt32.toInt16.toInt32.toInt64))) C I J R))) ∧
      (x2 = 0 →
      gK Γ (.inl (some (aJ x0.toInt32.toInt8.toInt32.toInt64))) C I J R))) :
    AW Γ 0 0 C I J R 0 [(0, aJ x0), (2, aI x2)] [] := by
  have G0 := G.1
  refine aw_iload_n G0 1 rfl dX2_cut_0 ?_
  refine aw_if_ne G0 11 dX2_cut_1 (by decide) (fun c1 => ?_) (fun c1 => ?_)
  · have h := h.1 c1
    refine aw_iload_n G0 1 rfl dX2_cut_11 ?_
    refine aw_iconst (v := (1 : Int32)) G0 dX2_cut_12 (by decide) ?_
    refine aw_icmp_ne G0 23 dX2_cut_13 (by decide) (fun c2 => ?_) (fun c2 => ?_)
    · have h := h.1 c2
      refine aw_iload_n G0 1 rfl dX2_cut_23 ?_
      refine aw_iconst (v := (2 : Int32)) G0 dX2_cut_24 (by decide) ?_
      refine aw_icmp_ne G0 34 dX2_cut_25 (by decide) (fun c3 => ?_) (fun c3 => ?_)
      · have h := h.1 c3
        refine aw_lload_n G0 0 rfl dX2_cut_34 ?_
        exact aw_lreturn G0 (by rw [G.2.2]; decide) (by rw [G.2.1]; decide) dX2_cut_35 h
      · have h := h.2 c3
        refine aw_lload_n G0 0 rfl dX2_cut_28 ?_
        refine aw_l2i G0 dX2_cut_29 ?_
        refine aw_i2l G0 dX2_cut_30 ?_
        refine aw_goto G0 35 dX2_cut_31 (by decide) ?_
        exact aw_lreturn G0 (by rw [G.2.2]; decide) (by rw [G.2.1]; decide) dX2_cut_35 h
    · have h := h.2 c2
      refine aw_lload_n G0 0 rfl dX2_cut_16 ?_
      refine aw_l2i G0 dX2_cut_17 ?_
      refine aw_i2s G0 dX2_cut_18 ?_
      refine aw_i2l G0 dX2_cut_19 ?_
      refine aw_goto G0 35 dX2_cut_20 (by decide) ?_
      exact aw_lreturn G0 (by rw [G.2.2]; decide) (by rw [G.2.1]; decide) dX2_cut_35 h
  · have h := h.2 c1
    refine aw_lload_n G0 0 rfl dX2_cut_4 ?_
    refine aw_l2i G0 dX2_cut_5 ?_
    refine aw_i2b G0 dX2_cut_6 ?_
    refine aw_i2l G0 dX2_cut_7 ?_
    refine aw_goto G0 35 dX2_cut_8 (by decide) ?_
    exact aw_lreturn G0 (by rw [G.2.2]; decide) (by rw [G.2.1]; decide) dX2_cut_35 h
theorem bX2_read_0 (G : Gb Γ yX2_read cX2_read 3 (some .long) [] rmX2_read bdX2_read) {F_X2_wrong : SPF} (S_X2_wrong : SpX2_wrong (gL Γ) F_X2_wrong) {x0 : Nat} {x1 : Int32} {x2 : Int32}
    (h : (C x0).1 = 3 ∧
      F_X2_wrong [aR (some x0), aI x1, aI x2] C I J R (fun o C2 I3 J4 R5 =>
      ∃ r6 : Int32, o = .inl (some (aI r6)) ∧
      (C2 x0).1 = 3 ∧
      ∀ I8 : MI, I8 = va_up I3 x0 (va_up (I3 x0) 0 r6) →
      (((I8 x0 0) ≤ 0 →
      ∃ q10 : Nat, R5 x0 5 = some q10 ∧
      (C2 q10).1 = 21 ∧
      vp_in (((60 : Int32) * x1) + x2) (C2 q10).2 ∧
      gK Γ (.inl (some (aJ (J4 q10 (((60 : Int32) * x1) + x2).toNatClampNeg)))) C2 I8 J4 R5) ∧
      (¬ (I8 x0 0) ≤ 0 →
      gK Γ (.inl (some (aJ (-1 : Int64)))) C2 I8 J4 R5)))) :
    AW Γ 0 0 C I J R 0 [(0, aR (some x0)), (1, aI x1), (2, aI x2)] [] := by
  have G0 := G.1
  refine aw_aload_n G0 0 rfl dX2_read_0 ?_
  refine aw_aload_n G0 0 rfl dX2_read_1 ?_
  refine aw_iload_n G0 1 rfl dX2_read_2 ?_
  refine aw_iload_n G0 2 rfl dX2_read_3 ?_
  obtain ⟨k1, h⟩ := h
  refine aw_callV (k1 := 0) (n1 := 0) (k2 := 0) (n2 := 0) (st := [aR (some x0)]) G0 S_X2_wrong gi_X2_126 (Or.inl (by rw [k1]; decide)) (by rw [k1]; rfl) md_X2_wrong (Nat.le_of_ble_eq_true rfl) (by decide) (by rw [G.2.1]; decide) (by rw [G.2.1]; decide) [aI x1, aI x2] rfl rfl dX2_read_4 h (fun o C2 I3 J4 R5 h => ?_)
  obtain ⟨r6, rfl, h⟩ := h
  show AW Γ 0 0 C2 I3 J4 R5 (4 + 3) [(0, aR (some x0)), (1, aI x1), (2, aI x2)] [aI r6, aR (some x0)]
  obtain ⟨k7, h⟩ := h
  refine aw_putI (f := 0) G0 (by rw [k7]; exact fp_X2_112 _) dX2_read_7 ?_
  generalize gI8 : va_up I3 x0 (va_up (I3 x0) 0 r6) = I8
  have h := h I8 gI8.symm
  refine aw_aload_n G0 0 rfl dX2_read_10 ?_
  refine aw_getI (f := 0) G0 (by rw [k7]; exact fb_X2_112) dX2_read_11 ?_
  refine aw_if_le G0 23 dX2_read_14 (by decide) (fun c9 => ?_) (fun c9 => ?_)
  · have h := h.1 c9
    refine aw_aload_n G0 0 rfl dX2_read_23 ?_
    refine aw_getR (f := 5) G0 (by rw [k7]; exact fb_X2_20) dX2_read_24 ?_
    refine aw_bipush (v := (60 : Int32)) G0 dX2_read_27 (by decide) ?_
    refine aw_iload_n G0 1 rfl dX2_read_29 ?_
    refine aw_imul G0 dX2_read_30 ?_
    refine aw_iload_n G0 2 rfl dX2_read_31 ?_
    refine aw_iadd G0 dX2_read_32 ?_
    obtain ⟨q10, e10, h⟩ := h
    refine aw_dr1 e10 ?_
    obtain ⟨k11, h⟩ := h
    obtain ⟨k12, h⟩ := h
    refine aw_lald G0 k11 k12 dX2_read_33 ?_
    exact aw_lreturn G0 (by rw [G.2.2]; decide) (by rw [G.2.1]; decide) dX2_read_34 h
  · have h := h.2 c9
    refine aw_ldc2 (v := (-1 : Int64)) G0 q1047 dX2_read_17 ?_
    refine aw_goto G0 34 dX2_read_20 (by decide) ?_
    exact aw_lreturn G0 (by rw [G.2.2]; decide) (by rw [G.2.1]; decide) dX2_read_34 h
theorem bX2_pour_0 (G : Gb Γ yX2_pour cX2_pour 8 (some .boolean) [] rmX2_pour bdX2_pour) {F_X2_isTray : SPF} (S_X2_isTray : SpX2_isTray (gL Γ) F_X2_isTray) {F_X2_is : SPF} (S_X2_is : SpX2_is (gL Γ) F_X2_is)
    {Q118 : Nat → Int32 → Int32 → Int32 → Int32 → Int32 → Int32 → MC → MI → MJ → MR → Prop} (w118 : ∀ (x0 : Nat) (x1 : Int32) (x2 : Int32) (x3 : Int32) (x4 : Int32) (x5 : Int32) (x6 : Int32) (C : MC) (I : MI) (J : MJ) (R : MR), Q118 x0 x1 x2 x3 x4 x5 x6 C I J R → AW Γ 0 0 C I J R 118 [(0, aR (some x0)), (1, aI x1), (2, aI x2), (3, aI x3), (4, aI x4), (5, aI x5), (6, aI x6)] []) {x0 : Nat} {x1 : Int32} {x2 : Int32} {x3 : Int32} {x4 : Int32} {x5 : Int32}
    (h : F_X2_isTray [aI x1] C I J R (fun o C1 I2 J3 R4 =>
      ∃ r5 : Int32, o = .inl (some (aI r5)) ∧
      ((r5 = 0 →
      (C1 x0).1 = 3 ∧
      F_X2_is [aR (some x0), aI (1 : Int32)] C1 I2 J3 R4 (fun o C8 I9 J10 R11 =>
      ∃ r12 : Int32, o = .inl (some (aI r12)) ∧
      (r12 = 0 ∨ r12 = 1) ∧ gK Γ (.inl (some (aI r12))) C8 I9 J10 R11)) ∧
      (¬ r5 = 0 →
      F_X2_isTray [aI x3] C1 I2 J3 R4 (fun o C14 I15 J16 R17 =>
      ∃ r18 : Int32, o = .inl (some (aI r18)) ∧
      ((r18 = 0 →
      (C14 x0).1 = 3 ∧
      F_X2_is [aR (some x0), aI (1 : Int32)] C14 I15 J16 R17 (fun o C21 I22 J23 R24 =>
      ∃ r25 : Int32, o = .inl (some (aI r25)) ∧
      (r25 = 0 ∨ r25 = 1) ∧ gK Γ (.inl (some (aI r25))) C21 I22 J23 R24)) ∧
      (¬ r18 = 0 →
      ((x2 < 0 →
      (C14 x0).1 = 3 ∧
      F_X2_is [aR (some x0), aI (1 : Int32)] C14 I15 J16 R17 (fun o C29 I30 J31 R32 =>
      ∃ r33 : Int32, o = .inl (some (aI r33)) ∧
      (r33 = 0 ∨ r33 = 1) ∧ gK Γ (.inl (some (aI r33))) C29 I30 J31 R32)) ∧
      (¬ x2 < 0 →
      ((x4 < 0 →
      (C14 x0).1 = 3 ∧
      F_X2_is [aR (some x0), aI (1 : Int32)] C14 I15 J16 R17 (fun o C37 I38 J39 R40 =>
      ∃ r41 : Int32, o = .inl (some (aI r41)) ∧
      (r41 = 0 ∨ r41 = 1) ∧ gK Γ (.inl (some (aI r41))) C37 I38 J39 R40)) ∧
      (¬ x4 < 0 →
      ((0 ≤ x5 →
      (C14 x0).1 = 3 ∧
      ∃ q45 : Nat, R17 x0 4 = some q45 ∧
      (C14 q45).1 = 20 ∧
      vp_in x1 (C14 q45).2 ∧
      (((I15 q45 x1.toNatClampNeg) = (-1 : Int32) →
      F_X2_is [aR (some x0), aI (2 : Int32)] C14 I15 J16 R17 (fun o C49 I50 J51 R52 =>
      ∃ r53 : Int32, o = .inl (some (aI r53)) ∧
      (r53 = 0 ∨ r53 = 1) ∧ gK Γ (.inl (some (aI r53))) C49 I50 J51 R52)) ∧
      (¬ (I15 q45 x1.toNatClampNeg) = (-1 : Int32) →
      vp_in x3 (C14 q45).2 ∧
      ((¬ (I15 q45 x3.toNatClampNeg) = (-1 : Int32) →
      ∃ q57 : Nat, R17 x0 3 = some q57 ∧
      (C14 q57).1 = 20 ∧
      vp_in x1 (C14 q57).2 ∧
      vp_in x3 (C14 q57).2 ∧
      (((I15 q57 x1.toNatClampNeg) = (I15 q57 x3.toNatClampNeg) →
      ((((I15 q45 x1.toNatClampNeg) - x2) < x5 →
      F_X2_is [aR (some x0), aI (3 : Int32)] C14 I15 J16 R17 (fun o C63 I64 J65 R66 =>
      ∃ r67 : Int32, o = .inl (some (aI r67)) ∧
      (r67 = 0 ∨ r67 = 1) ∧ gK Γ (.inl (some (aI r67))) C63 I64 J65 R66)) ∧
      (¬ ((I15 q45 x1.toNatClampNeg) - x2) < x5 →
      ((x5 ≤ ((I15 q45 x3.toNatClampNeg) - x4) →
      Q118 x0 x1 x2 x3 x4 x5 (0 : Int32) C14 I15 J16 R17) ∧
      (¬ x5 ≤ ((I15 q45 x3.toNatClampNeg) - x4) →
      F_X2_is [aR (some x0), aI (3 : Int32)] C14 I15 J16 R17 (fun o C70 I71 J72 R73 =>
      ∃ r74 : Int32, o = .inl (some (aI r74)) ∧
      (r74 = 0 ∨ r74 = 1) ∧ gK Γ (.inl (some (aI r74))) C70 I71 J72 R73)))))) ∧
      (¬ (I15 q57 x1.toNatClampNeg) = (I15 q57 x3.toNatClampNeg) →
      F_X2_is [aR (some x0), aI (7 : Int32)] C14 I15 J16 R17 (fun o C76 I77 J78 R79 =>
      ∃ r80 : Int32, o = .inl (some (aI r80)) ∧
      (r80 = 0 ∨ r80 = 1) ∧ gK Γ (.inl (some (aI r80))) C76 I77 J78 R79)))) ∧
      ((I15 q45 x3.toNatClampNeg) = (-1 : Int32) →
      F_X2_is [aR (some x0), aI (2 : Int32)] C14 I15 J16 R17 (fun o C82 I83 J84 R85 =>
      ∃ r86 : Int32, o = .inl (some (aI r86)) ∧
      (r86 = 0 ∨ r86 = 1) ∧ gK Γ (.inl (some (aI r86))) C82 I83 J84 R85)))))) ∧
      (¬ 0 ≤ x5 →
      (C14 x0).1 = 3 ∧
      F_X2_is [aR (some x0), aI (1 : Int32)] C14 I15 J16 R17 (fun o C89 I90 J91 R92 =>
      ∃ r93 : Int32, o = .inl (some (aI r93)) ∧
      (r93 = 0 ∨ r93 = 1) ∧ gK Γ (.inl (some (aI r93))) C89 I90 J91 R92)))))))))))))) :
    AW Γ 0 0 C I J R 0 [(0, aR (some x0)), (1, aI x1), (2, aI x2), (3, aI x3), (4, aI x4), (5, aI x5)] [] := by
  have G0 := G.1
  refine aw_iload_n G0 1 rfl dX2_pour_0 ?_
  refine aw_callS (k1 := 0) (n1 := 0) (k2 := 0) (n2 := 0) (st := []) G0 S_X2_isTray gi_X2_119 md_X2_isTray (Nat.le_of_ble_eq_true rfl) (by decide) (by rw [G.2.1]; decide) (by rw [G.2.1]; decide) [aI x1] rfl rfl dX2_pour_1 h (fun o C1 I2 J3 R4 h => ?_)
  obtain ⟨r5, rfl, h⟩ := h
  show AW Γ 0 0 C1 I2 J3 R4 (1 + 3) [(0, aR (some x0)), (1, aI x1), (2, aI x2), (3, aI x3), (4, aI x4), (5, aI x5)] [aI r5]
  refine aw_if_eq G0 28 dX2_pour_4 (by decide) (fun c6 => ?_) (fun c6 => ?_)
  · have h := h.1 c6
    refine aw_aload_n G0 0 rfl dX2_pour_28 ?_
    refine aw_iconst (v := (1 : Int32)) G0 dX2_pour_29 (by decide) ?_
    obtain ⟨k7, h⟩ := h
    refine aw_callV (k1 := 0) (n1 := 0) (k2 := 0) (n2 := 0) (st := []) G0 S_X2_is gi_X2_123 (Or.inl (by rw [k7]; decide)) (by rw [k7]; rfl) md_X2_is (Nat.le_of_ble_eq_true rfl) (by decide) (by rw [G.2.1]; decide) (by rw [G.2.1]; decide) [aI (1 : Int32)] rfl rfl dX2_pour_30 h (fun o C8 I9 J10 R11 h => ?_)
    obtain ⟨r12, rfl, h⟩ := h
    show AW Γ 0 0 C8 I9 J10 R11 (30 + 3) [(0, aR (some x0)), (1, aI x1), (2, aI x2), (3, aI x3), (4, aI x4), (5, aI x5)] [aI r12]
    obtain ⟨k13, h⟩ := h
    exact aw_ireturn G0 (Or.inr ⟨rfl, k13⟩) (by rw [G.2.2]; decide) (by rw [G.2.1]; decide) dX2_pour_33 h
  · have h := h.2 c6
    refine aw_iload_n G0 3 rfl dX2_pour_7 ?_
    refine aw_callS (k1 := 0) (n1 := 0) (k2 := 0) (n2 := 0) (st := []) G0 S_X2_isTray gi_X2_119 md_X2_isTray (Nat.le_of_ble_eq_true rfl) (by decide) (by rw [G.2.1]; decide) (by rw [G.2.1]; decide) [aI x3] rfl rfl dX2_pour_8 h (fun o C14 I15 J16 R17 h => ?_)
    obtain ⟨r18, rfl, h⟩ := h
    show AW Γ 0 0 C14 I15 J16 R17 (8 + 3) [(0, aR (some x0)), (1, aI x1), (2, aI x2), (3, aI x3), (4, aI x4), (5, aI x5)] [aI r18]
    refine aw_if_eq G0 28 dX2_pour_11 (by decide) (fun c19 => ?_) (fun c19 => ?_)
    · have h := h.1 c19
      refine aw_aload_n G0 0 rfl dX2_pour_28 ?_
      refine aw_iconst (v := (1 : Int32)) G0 dX2_pour_29 (by decide) ?_
      obtain ⟨k20, h⟩ := h
      refine aw_callV (k1 := 0) (n1 := 0) (k2 := 0) (n2 := 0) (st := []) G0 S_X2_is gi_X2_123 (Or.inl (by rw [k20]; decide)) (by rw [k20]; rfl) md_X2_is (Nat.le_of_ble_eq_true rfl) (by decide) (by rw [G.2.1]; decide) (by rw [G.2.1]; decide) [aI (1 : Int32)] rfl rfl dX2_pour_30 h (fun o C21 I22 J23 R24 h => ?_)
      obtain ⟨r25, rfl, h⟩ := h
      show AW Γ 0 0 C21 I22 J23 R24 (30 + 3) [(0, aR (some x0)), (1, aI x1), (2, aI x2), (3, aI x3), (4, aI x4), (5, aI x5)] [aI r25]
      obtain ⟨k26, h⟩ := h
      exact aw_ireturn G0 (Or.inr ⟨rfl, k26⟩) (by rw [G.2.2]; decide) (by rw [G.2.1]; decide) dX2_pour_33 h
    · have h := h.2 c19
      refine aw_iload_n G0 2 rfl dX2_pour_14 ?_
      refine aw_if_lt G0 28 dX2_pour_15 (by decide) (fun c27 => ?_) (fun c27 => ?_)
      · have h := h.1 c27
        refine aw_aload_n G0 0 rfl dX2_pour_28 ?_
        refine aw_iconst (v := (1 : Int32)) G0 dX2_pour_29 (by decide) ?_
        obtain ⟨k28, h⟩ := h
        refine aw_callV (k1 := 0) (n1 := 0) (k2 := 0) (n2 := 0) (st := []) G0 S_X2_is gi_X2_123 (Or.inl (by rw [k28]; decide)) (by rw [k28]; rfl) md_X2_is (Nat.le_of_ble_eq_true rfl) (by decide) (by rw [G.2.1]; decide) (by rw [G.2.1]; decide) [aI (1 : Int32)] rfl rfl dX2_pour_30 h (fun o C29 I30 J31 R32 h => ?_)
        obtain ⟨r33, rfl, h⟩ := h
        show AW Γ 0 0 C29 I30 J31 R32 (30 + 3) [(0, aR (some x0)), (1, aI x1), (2, aI x2), (3, aI x3), (4, aI x4), (5, aI x5)] [aI r33]
        obtain ⟨k34, h⟩ := h
        exact aw_ireturn G0 (Or.inr ⟨rfl, k34⟩) (by rw [G.2.2]; decide) (by rw [G.2.1]; decide) dX2_pour_33 h
      · have h := h.2 c27
        refine aw_iload G0 4 rfl dX2_pour_18 ?_
        refine aw_if_lt G0 28 dX2_pour_20 (by decide) (fun c35 => ?_) (fun c35 => ?_)
        · have h := h.1 c35
          refine aw_aload_n G0 0 rfl dX2_pour_28 ?_
          refine aw_iconst (v := (1 : Int32)) G0 dX2_pour_29 (by decide) ?_
          obtain ⟨k36, h⟩ := h
          refine aw_callV (k1 := 0) (n1 := 0) (k2 := 0) (n2 := 0) (st := []) G0 S_X2_is gi_X2_123 (Or.inl (by rw [k36]; decide)) (by rw [k36]; rfl) md_X2_is (Nat.le_of_ble_eq_true rfl) (by decide) (by rw [G.2.1]; decide) (by rw [G.2.1]; decide) [aI (1 : Int32)] rfl rfl dX2_pour_30 h (fun o C37 I38 J39 R40 h => ?_)
          obtain ⟨r41, rfl, h⟩ := h
          show AW Γ 0 0 C37 I38 J39 R40 (30 + 3) [(0, aR (some x0)), (1, aI x1), (2, aI x2), (3, aI x3), (4, aI x4), (5, aI x5)] [aI r41]
          obtain ⟨k42, h⟩ := h
          exact aw_ireturn G0 (Or.inr ⟨rfl, k42⟩) (by rw [G.2.2]; decide) (by rw [G.2.1]; decide) dX2_pour_33 h
        · have h := h.2 c35
          refine aw_iload G0 5 rfl dX2_pour_23 ?_
          refine aw_if_ge G0 34 dX2_pour_25 (by decide) (fun c43 => ?_) (fun c43 => ?_)
          · have h := h.1 c43
            refine aw_aload_n G0 0 rfl dX2_pour_34 ?_
            obtain ⟨k44, h⟩ := h
            refine aw_getR (f := 4) G0 (by rw [k44]; exact fb_X2_17) dX2_pour_35 ?_
            refine aw_iload_n G0 1 rfl dX2_pour_38 ?_
            obtain ⟨q45, e45, h⟩ := h
            refine aw_dr1 e45 ?_
            obtain ⟨k46, h⟩ := h
            obtain ⟨k47, h⟩ := h
            refine aw_iald G0 (Or.inl k46) k47 dX2_pour_39 ?_
            refine aw_iconst (v := (-1 : Int32)) G0 dX2_pour_40 (by decide) ?_
            refine aw_icmp_eq G0 54 dX2_pour_41 (by decide) (fun c48 => ?_) (fun c48 => ?_)
            · have h := h.1 c48
              refine aw_aload_n G0 0 rfl dX2_pour_54 ?_
              refine aw_iconst (v := (2 : Int32)) G0 dX2_pour_55 (by decide) ?_
              refine aw_callV (k1 := 0) (n1 := 0) (k2 := 0) (n2 := 0) (st := []) G0 S_X2_is gi_X2_123 (Or.inl (by rw [k44]; decide)) (by rw [k44]; rfl) md_X2_is (Nat.le_of_ble_eq_true rfl) (by decide) (by rw [G.2.1]; decide) (by rw [G.2.1]; decide) [aI (2 : Int32)] rfl rfl dX2_pour_56 h (fun o C49 I50 J51 R52 h => ?_)
              obtain ⟨r53, rfl, h⟩ := h
              show AW Γ 0 0 C49 I50 J51 R52 (56 + 3) [(0, aR (some x0)), (1, aI x1), (2, aI x2), (3, aI x3), (4, aI x4), (5, aI x5)] [aI r53]
              obtain ⟨k54, h⟩ := h
              exact aw_ireturn G0 (Or.inr ⟨rfl, k54⟩) (by rw [G.2.2]; decide) (by rw [G.2.1]; decide) dX2_pour_59 h
            · have h := h.2 c48
              refine aw_aload_n G0 0 rfl dX2_pour_44 ?_
              refine aw_getR (f := 4) G0 (by rw [k44]; exact fb_X2_17) dX2_pour_45 ?_
              refine aw_iload_n G0 3 rfl dX2_pour_48 ?_
              refine aw_dr1 e45 ?_
              obtain ⟨k55, h⟩ := h
              refine aw_iald G0 (Or.inl k46) k55 dX2_pour_49 ?_
              refine aw_iconst (v := (-1 : Int32)) G0 dX2_pour_50 (by decide) ?_
              refine aw_icmp_ne G0 60 dX2_pour_51 (by decide) (fun c56 => ?_) (fun c56 => ?_)
              · have h := h.1 c56
                refine aw_aload_n G0 0 rfl dX2_pour_60 ?_
                refine aw_getR (f := 3) G0 (by rw [k44]; exact fb_X2_13) dX2_pour_61 ?_
                refine aw_iload_n G0 1 rfl dX2_pour_64 ?_
                obtain ⟨q57, e57, h⟩ := h
                refine aw_dr1 e57 ?_
                obtain ⟨k58, h⟩ := h
                obtain ⟨k59, h⟩ := h
                refine aw_iald G0 (Or.inl k58) k59 dX2_pour_65 ?_
                refine aw_aload_n G0 0 rfl dX2_pour_66 ?_
                refine aw_getR (f := 3) G0 (by rw [k44]; exact fb_X2_13) dX2_pour_67 ?_
                refine aw_iload_n G0 3 rfl dX2_pour_70 ?_
                refine aw_dr1 e57 ?_
                obtain ⟨k60, h⟩ := h
                refine aw_iald G0 (Or.inl k58) k60 dX2_pour_71 ?_
                refine aw_icmp_eq G0 82 dX2_pour_72 (by decide) (fun c61 => ?_) (fun c61 => ?_)
                · have h := h.1 c61
                  refine aw_iload G0 5 rfl dX2_pour_82 ?_
                  refine aw_aload_n G0 0 rfl dX2_pour_84 ?_
                  refine aw_getR (f := 4) G0 (by rw [k44]; exact fb_X2_17) dX2_pour_85 ?_
                  refine aw_iload_n G0 1 rfl dX2_pour_88 ?_
                  refine aw_dr1 e45 ?_
                  refine aw_iald G0 (Or.inl k46) k47 dX2_pour_89 ?_
                  refine aw_iload_n G0 2 rfl dX2_pour_90 ?_
                  refine aw_isub G0 dX2_pour_91 ?_
                  refine aw_icmp_gt G0 109 dX2_pour_92 (by decide) (fun c62 => ?_) (fun c62 => ?_)
                  · have h := h.1 c62
                    refine aw_aload_n G0 0 rfl dX2_pour_109 ?_
                    refine aw_iconst (v := (3 : Int32)) G0 dX2_pour_110 (by decide) ?_
                    refine aw_callV (k1 := 0) (n1 := 0) (k2 := 0) (n2 := 0) (st := []) G0 S_X2_is gi_X2_123 (Or.inl (by rw [k44]; decide)) (by rw [k44]; rfl) md_X2_is (Nat.le_of_ble_eq_true rfl) (by decide) (by rw [G.2.1]; decide) (by rw [G.2.1]; decide) [aI (3 : Int32)] rfl rfl dX2_pour_111 h (fun o C63 I64 J65 R66 h => ?_)
                    obtain ⟨r67, rfl, h⟩ := h
                    show AW Γ 0 0 C63 I64 J65 R66 (111 + 3) [(0, aR (some x0)), (1, aI x1), (2, aI x2), (3, aI x3), (4, aI x4), (5, aI x5)] [aI r67]
                    obtain ⟨k68, h⟩ := h
                    exact aw_ireturn G0 (Or.inr ⟨rfl, k68⟩) (by rw [G.2.2]; decide) (by rw [G.2.1]; decide) dX2_pour_114 h
                  · have h := h.2 c62
                    refine aw_iload G0 5 rfl dX2_pour_95 ?_
                    refine aw_aload_n G0 0 rfl dX2_pour_97 ?_
                    refine aw_getR (f := 4) G0 (by rw [k44]; exact fb_X2_17) dX2_pour_98 ?_
                    refine aw_iload_n G0 3 rfl dX2_pour_101 ?_
                    refine aw_dr1 e45 ?_
                    refine aw_iald G0 (Or.inl k46) k55 dX2_pour_102 ?_
                    refine aw_iload G0 4 rfl dX2_pour_103 ?_
                    refine aw_isub G0 dX2_pour_105 ?_
                    refine aw_icmp_le G0 115 dX2_pour_106 (by decide) (fun c69 => ?_) (fun c69 => ?_)
                    · have h := h.1 c69
                      refine aw_iconst (v := (0 : Int32)) G0 dX2_pour_115 (by decide) ?_
                      refine aw_istore (lv' := [(6, aI (0 : Int32)), (0, aR (some x0)), (1, aI x1), (2, aI x2), (3, aI x3), (4, aI x4), (5, aI x5)]) G0 (by decide) rfl dX2_pour_116 ?_
                      exact (aw_lv [1, 2, 3, 4, 5, 6, 0] rfl (w118 x0 x1 x2 x3 x4 x5 (0 : Int32) C14 I15 J16 R17 h))
                    · have h := h.2 c69
                      refine aw_aload_n G0 0 rfl dX2_pour_109 ?_
                      refine aw_iconst (v := (3 : Int32)) G0 dX2_pour_110 (by decide) ?_
                      refine aw_callV (k1 := 0) (n1 := 0) (k2 := 0) (n2 := 0) (st := []) G0 S_X2_is gi_X2_123 (Or.inl (by rw [k44]; decide)) (by rw [k44]; rfl) md_X2_is (Nat.le_of_ble_eq_true rfl) (by decide) (by rw [G.2.1]; decide) (by rw [G.2.1]; decide) [aI (3 : Int32)] rfl rfl dX2_pour_111 h (fun o C70 I71 J72 R73 h => ?_)
                      obtain ⟨r74, rfl, h⟩ := h
                      show AW Γ 0 0 C70 I71 J72 R73 (111 + 3) [(0, aR (some x0)), (1, aI x1), (2, aI x2), (3, aI x3), (4, aI x4), (5, aI x5)] [aI r74]
                      obtain ⟨k75, h⟩ := h
                      exact aw_ireturn G0 (Or.inr ⟨rfl, k75⟩) (by rw [G.2.2]; decide) (by rw [G.2.1]; decide) dX2_pour_114 h
                · have h := h.2 c61
                  refine aw_aload_n G0 0 rfl dX2_pour_75 ?_
                  refine aw_bipush (v := (7 : Int32)) G0 dX2_pour_76 (by decide) ?_
                  refine aw_callV (k1 := 0) (n1 := 0) (k2 := 0) (n2 := 0) (st := []) G0 S_X2_is gi_X2_123 (Or.inl (by rw [k44]; decide)) (by rw [k44]; rfl) md_X2_is (Nat.le_of_ble_eq_true rfl) (by decide) (by rw [G.2.1]; decide) (by rw [G.2.1]; decide) [aI (7 : Int32)] rfl rfl dX2_pour_78 h (fun o C76 I77 J78 R79 h => ?_)
                  obtain ⟨r80, rfl, h⟩ := h
                  show AW Γ 0 0 C76 I77 J78 R79 (78 + 3) [(0, aR (some x0)), (1, aI x1), (2, aI x2), (3, aI x3), (4, aI x4), (5, aI x5)] [aI r80]
                  obtain ⟨k81, h⟩ := h
                  exact aw_ireturn G0 (Or.inr ⟨rfl, k81⟩) (by rw [G.2.2]; decide) (by rw [G.2.1]; decide) dX2_pour_81 h
              · have h := h.2 c56
                refine aw_aload_n G0 0 rfl dX2_pour_54 ?_
                refine aw_iconst (v := (2 : Int32)) G0 dX2_pour_55 (by decide) ?_
                refine aw_callV (k1 := 0) (n1 := 0) (k2 := 0) (n2 := 0) (st := []) G0 S_X2_is gi_X2_123 (Or.inl (by rw [k44]; decide)) (by rw [k44]; rfl) md_X2_is (Nat.le_of_ble_eq_true rfl) (by decide) (by rw [G.2.1]; decide) (by rw [G.2.1]; decide) [aI (2 : Int32)] rfl rfl dX2_pour_56 h (fun o C82 I83 J84 R85 h => ?_)
                obtain ⟨r86, rfl, h⟩ := h
                show AW Γ 0 0 C82 I83 J84 R85 (56 + 3) [(0, aR (some x0)), (1, aI x1), (2, aI x2), (3, aI x3), (4, aI x4), (5, aI x5)] [aI r86]
                obtain ⟨k87, h⟩ := h
                exact aw_ireturn G0 (Or.inr ⟨rfl, k87⟩) (by rw [G.2.2]; decide) (by rw [G.2.1]; decide) dX2_pour_59 h
          · have h := h.2 c43
            refine aw_aload_n G0 0 rfl dX2_pour_28 ?_
            refine aw_iconst (v := (1 : Int32)) G0 dX2_pour_29 (by decide) ?_
            obtain ⟨k88, h⟩ := h
            refine aw_callV (k1 := 0) (n1 := 0) (k2 := 0) (n2 := 0) (st := []) G0 S_X2_is gi_X2_123 (Or.inl (by rw [k88]; decide)) (by rw [k88]; rfl) md_X2_is (Nat.le_of_ble_eq_true rfl) (by decide) (by rw [G.2.1]; decide) (by rw [G.2.1]; decide) [aI (1 : Int32)] rfl rfl dX2_pour_30 h (fun o C89 I90 J91 R92 h => ?_)
            obtain ⟨r93, rfl, h⟩ := h
            show AW Γ 0 0 C89 I90 J91 R92 (30 + 3) [(0, aR (some x0)), (1, aI x1), (2, aI x2), (3, aI x3), (4, aI x4), (5, aI x5)] [aI r93]
            obtain ⟨k94, h⟩ := h
            exact aw_ireturn G0 (Or.inr ⟨rfl, k94⟩) (by rw [G.2.2]; decide) (by rw [G.2.1]; decide) dX2_pour_33 h
theorem bX2_pour_118 (G : Gb Γ yX2_pour cX2_pour 8 (some .boolean) [] rmX2_pour bdX2_pour) {F_X2_is : SPF} (S_X2_is : SpX2_is (gL Γ) F_X2_is)
    {Q143 : Nat → Int32 → Int32 → Int32 → Int32 → Int32 → Int32 → Int32 → MC → MI → MJ → MR → Prop} (w143 : ∀ (x0 : Nat) (x1 : Int32) (x2 : Int32) (x3 : Int32) (x4 : Int32) (x5 : Int32) (x6 : Int32) (s0 : Int32) (C : MC) (I : MI) (J : MJ) (R : MR), Q143 x0 x1 x2 x3 x4 x5 x6 s0 C I J R → AW Γ 0 0 C I J R 143 [(0, aR (some x0)), (1, aI x1), (2, aI x2), (3, aI x3), (4, aI x4), (5, aI x5), (6, aI x6)] [aI s0]) {x0 : Nat} {x1 : Int32} {x2 : Int32} {x3 : Int32} {x4 : Int32} {x5 : Int32} {x6 : Int32}
    (h : ((x5 ≤ x6 →
      (C x0).1 = 3 ∧
      F_X2_is [aR (some x0), aI (0 : Int32)] C I J R (fun o C3 I4 J5 R6 =>
      ∃ r7 : Int32, o = .inl (some (aI r7)) ∧
      (r7 = 0 ∨ r7 = 1) ∧ gK Γ (.inl (some (aI r7))) C3 I4 J5 R6)) ∧
      (¬ x5 ≤ x6 →
      ((x4 ≤ x2 →
      Q143 x0 x1 x2 x3 x4 x5 x6 x6 C I J R) ∧
      (¬ x4 ≤ x2 →
      Q143 x0 x1 x2 x3 x4 x5 x6 ((x5 - (1 : Int32)) - x6) C I J R))))) :
    AW Γ 0 0 C I J R 118 [(0, aR (some x0)), (1, aI x1), (2, aI x2), (3, aI x3), (4, aI x4), (5, aI x5), (6, aI x6)] [] := by
  have G0 := G.1
  refine aw_iload G0 6 rfl dX2_pour_118 ?_
  refine aw_iload G0 5 rfl dX2_pour_120 ?_
  refine aw_icmp_ge G0 180 dX2_pour_122 (by decide) (fun c1 => ?_) (fun c1 => ?_)
  · have h := h.1 c1
    refine aw_aload_n G0 0 rfl dX2_pour_180 ?_
    refine aw_iconst (v := (0 : Int32)) G0 dX2_pour_181 (by decide) ?_
    obtain ⟨k2, h⟩ := h
    refine aw_callV (k1 := 0) (n1 := 0) (k2 := 0) (n2 := 0) (st := []) G0 S_X2_is gi_X2_123 (Or.inl (by rw [k2]; decide)) (by rw [k2]; rfl) md_X2_is (Nat.le_of_ble_eq_true rfl) (by decide) (by rw [G.2.1]; decide) (by rw [G.2.1]; decide) [aI (0 : Int32)] rfl rfl dX2_pour_182 h (fun o C3 I4 J5 R6 h => ?_)
    obtain ⟨r7, rfl, h⟩ := h
    show AW Γ 0 0 C3 I4 J5 R6 (182 + 3) [(0, aR (some x0)), (1, aI x1), (2, aI x2), (3, aI x3), (4, aI x4), (5, aI x5), (6, aI x6)] [aI r7]
    obtain ⟨k8, h⟩ := h
    exact aw_ireturn G0 (Or.inr ⟨rfl, k8⟩) (by rw [G.2.2]; decide) (by rw [G.2.1]; decide) dX2_pour_185 h
  · have h := h.2 c1
    refine aw_iload_n G0 2 rfl dX2_pour_125 ?_
    refine aw_iload G0 4 rfl dX2_pour_126 ?_
    refine aw_icmp_ge G0 141 dX2_pour_128 (by decide) (fun c9 => ?_) (fun c9 => ?_)
    · have h := h.1 c9
      refine aw_iload G0 6 rfl dX2_pour_141 ?_
      exact (w143 x0 x1 x2 x3 x4 x5 x6 x6 C I J R h)
    · have h := h.2 c9
      refine aw_iload G0 5 rfl dX2_pour_131 ?_
      refine aw_iconst (v := (1 : Int32)) G0 dX2_pour_133 (by decide) ?_
      refine aw_isub G0 dX2_pour_134 ?_
      refine aw_iload G0 6 rfl dX2_pour_135 ?_
      refine aw_isub G0 dX2_pour_137 ?_
      refine aw_goto G0 143 dX2_pour_138 (by decide) ?_
      exact (w143 x0 x1 x2 x3 x4 x5 x6 ((x5 - (1 : Int32)) - x6) C I J R h)
theorem bX2_pour_143 (G : Gb Γ yX2_pour cX2_pour 8 (some .boolean) [] rmX2_pour bdX2_pour)
    {Q118 : Nat → Int32 → Int32 → Int32 → Int32 → Int32 → Int32 → MC → MI → MJ → MR → Prop} (w118 : ∀ (x0 : Nat) (x1 : Int32) (x2 : Int32) (x3 : Int32) (x4 : Int32) (x5 : Int32) (x6 : Int32) (C : MC) (I : MI) (J : MJ) (R : MR), Q118 x0 x1 x2 x3 x4 x5 x6 C I J R → AW Γ 0 0 C I J R 118 [(0, aR (some x0)), (1, aI x1), (2, aI x2), (3, aI x3), (4, aI x4), (5, aI x5), (6, aI x6)] []) {x0 : Nat} {x1 : Int32} {x2 : Int32} {x3 : Int32} {x4 : Int32} {x5 : Int32} {x6 : Int32} {s0 : Int32}
    (h : (C x0).1 = 3 ∧
      ∃ q2 : Nat, R x0 5 = some q2 ∧
      (C q2).1 = 21 ∧
      vp_in ((((60 : Int32) * x1) + x2) + s0) (C q2).2 ∧
      vp_in ((((60 : Int32) * x3) + x4) + s0) (C q2).2 ∧
      ∀ J6 : MJ, J6 = va_up J q2 (va_up (J q2) ((((60 : Int32) * x3) + x4) + s0).toNatClampNeg (J q2 ((((60 : Int32) * x1) + x2) + s0).toNatClampNeg)) →
      Q118 x0 x1 x2 x3 x4 x5 (x6 + 1) C I J6 R) :
    AW Γ 0 0 C I J R 143 [(0, aR (some x0)), (1, aI x1), (2, aI x2), (3, aI x3), (4, aI x4), (5, aI x5), (6, aI x6)] [aI s0] := by
  have G0 := G.1
  refine aw_istore (lv' := [(7, aI s0), (0, aR (some x0)), (1, aI x1), (2, aI x2), (3, aI x3), (4, aI x4), (5, aI x5), (6, aI x6)]) G0 (by decide) rfl dX2_pour_143 ?_
  refine aw_aload_n G0 1 rfl dX2_pour_145 ?_
  obtain ⟨k1, h⟩ := h
  refine aw_getR (f := 5) G0 (by rw [k1]; exact fb_X2_20) dX2_pour_146 ?_
  refine aw_bipush (v := (60 : Int32)) G0 dX2_pour_149 (by decide) ?_
  refine aw_iload_n G0 4 rfl dX2_pour_151 ?_
  refine aw_imul G0 dX2_pour_152 ?_
  refine aw_iload G0 5 rfl dX2_pour_153 ?_
  refine aw_iadd G0 dX2_pour_155 ?_
  refine aw_iload G0 0 rfl dX2_pour_156 ?_
  refine aw_iadd G0 dX2_pour_158 ?_
  refine aw_aload_n G0 1 rfl dX2_pour_159 ?_
  refine aw_getR (f := 5) G0 (by rw [k1]; exact fb_X2_20) dX2_pour_160 ?_
  refine aw_bipush (v := (60 : Int32)) G0 dX2_pour_163 (by decide) ?_
  refine aw_iload_n G0 2 rfl dX2_pour_165 ?_
  refine aw_imul G0 dX2_pour_166 ?_
  refine aw_iload_n G0 3 rfl dX2_pour_167 ?_
  refine aw_iadd G0 dX2_pour_168 ?_
  refine aw_iload G0 0 rfl dX2_pour_169 ?_
  refine aw_iadd G0 dX2_pour_171 ?_
  obtain ⟨q2, e2, h⟩ := h
  refine aw_dr1 e2 ?_
  obtain ⟨k3, h⟩ := h
  obtain ⟨k4, h⟩ := h
  refine aw_lald G0 k3 k4 dX2_pour_172 ?_
  refine aw_dr2 e2 ?_
  obtain ⟨k5, h⟩ := h
  refine aw_last G0 k3 k5 dX2_pour_173 ?_
  generalize gJ6 : va_up J q2 (va_up (J q2) ((((60 : Int32) * x3) + x4) + s0).toNatClampNeg (J q2 ((((60 : Int32) * x1) + x2) + s0).toNatClampNeg)) = J6
  have h := h J6 gJ6.symm
  refine aw_iinc (v := x6 + 1) (lv' := [(6, aI (x6 + 1)), (7, aI s0), (0, aR (some x0)), (1, aI x1), (2, aI x2), (3, aI x3), (4, aI x4), (5, aI x5)]) G0 7 rfl rfl (by decide) rfl dX2_pour_174 ?_
  refine aw_goto G0 118 dX2_pour_177 (by decide) ?_
  exact (aw_lv [2, 3, 4, 5, 6, 7, 0] rfl (w118 x0 x1 x2 x3 x4 x5 (x6 + 1) C I J6 R h))
theorem bX2_leaf_0 (G : Gb Γ yX2_leaf cX2_leaf 4 (some .int) [] rmX2_leaf bdX2_leaf) {F_X2_wrongWeights : SPF} (S_X2_wrongWeights : SpX2_wrongWeights (gL Γ) F_X2_wrongWeights)
    {Q22 : Nat → Int32 → Int32 → Int32 → MC → MI → MJ → MR → Prop} (w22 : ∀ (x0 : Nat) (x1 : Int32) (x2 : Int32) (x3 : Int32) (C : MC) (I : MI) (J : MJ) (R : MR), Q22 x0 x1 x2 x3 C I J R → AW Γ 0 0 C I J R 22 [(0, aR (some x0)), (1, aI x1), (2, aI x2), (3, aI x3)] []) {x0 : Nat} {x1 : Int32} {x2 : Int32}
    (h : (C x0).1 = 3 ∧
      F_X2_wrongWeights [aR (some x0), aI x1, aI x2] C I J R (fun o C2 I3 J4 R5 =>
      ∃ r6 : Int32, o = .inl (some (aI r6)) ∧
      ((¬ r6 = 0 →
      Q22 x0 x1 x2 r6 C2 I3 J4 R5) ∧
      (r6 = 0 →
      (C2 x0).1 = 3 ∧
      ((¬ (I3 x0 6) = (20 : Int32) →
      Q22 x0 x1 x2 r6 C2 I3 J4 R5) ∧
      ((I3 x0 6) = (20 : Int32) →
      Q22 x0 x1 x2 (4 : Int32) C2 I3 J4 R5)))))) :
    AW Γ 0 0 C I J R 0 [(0, aR (some x0)), (1, aI x1), (2, aI x2)] [] := by
  have G0 := G.1
  refine aw_aload_n G0 0 rfl dX2_leaf_0 ?_
  refine aw_iload_n G0 1 rfl dX2_leaf_1 ?_
  refine aw_iload_n G0 2 rfl dX2_leaf_2 ?_
  obtain ⟨k1, h⟩ := h
  refine aw_callV (k1 := 0) (n1 := 0) (k2 := 0) (n2 := 0) (st := []) G0 S_X2_wrongWeights gi_X2_144 (Or.inl (by rw [k1]; decide)) (by rw [k1]; rfl) md_X2_wrongWeights (Nat.le_of_ble_eq_true rfl) (by decide) (by rw [G.2.1]; decide) (by rw [G.2.1]; decide) [aI x1, aI x2] rfl rfl dX2_leaf_3 h (fun o C2 I3 J4 R5 h => ?_)
  obtain ⟨r6, rfl, h⟩ := h
  show AW Γ 0 0 C2 I3 J4 R5 (3 + 3) [(0, aR (some x0)), (1, aI x1), (2, aI x2)] [aI r6]
  refine aw_istore_n (lv' := [(3, aI r6), (0, aR (some x0)), (1, aI x1), (2, aI x2)]) G0 (by decide) rfl dX2_leaf_6 ?_
  refine aw_iload_n G0 0 rfl dX2_leaf_7 ?_
  refine aw_if_ne G0 22 dX2_leaf_8 (by decide) (fun c7 => ?_) (fun c7 => ?_)
  · have h := h.1 c7
    exact (aw_lv [1, 2, 3, 0] rfl (w22 x0 x1 x2 r6 C2 I3 J4 R5 h))
  · have h := h.2 c7
    refine aw_aload_n G0 1 rfl dX2_leaf_11 ?_
    obtain ⟨k8, h⟩ := h
    refine aw_getI (f := 6) G0 (by rw [k8]; exact fb_X2_136) dX2_leaf_12 ?_
    refine aw_bipush (v := (20 : Int32)) G0 dX2_leaf_15 (by decide) ?_
    refine aw_icmp_ne G0 22 dX2_leaf_17 (by decide) (fun c9 => ?_) (fun c9 => ?_)
    · have h := h.1 c9
      exact (aw_lv [1, 2, 3, 0] rfl (w22 x0 x1 x2 r6 C2 I3 J4 R5 h))
    · have h := h.2 c9
      refine aw_iconst (v := (4 : Int32)) G0 dX2_leaf_20 (by decide) ?_
      refine aw_istore_n (lv' := [(3, aI (4 : Int32)), (0, aR (some x0)), (1, aI x1), (2, aI x2)]) G0 (by decide) rfl dX2_leaf_21 ?_
      exact (aw_lv [1, 2, 3, 0] rfl (w22 x0 x1 x2 (4 : Int32) C2 I3 J4 R5 h))
theorem bX2_leaf_22 (G : Gb Γ yX2_leaf cX2_leaf 4 (some .int) [] rmX2_leaf bdX2_leaf) {F_X2_takeWeights : SPF} (S_X2_takeWeights : SpX2_takeWeights (gL Γ) F_X2_takeWeights) {F_X2_adds : SPF} (S_X2_adds : SpX2_adds (gL Γ) F_X2_adds) {F_X2_refuse : SPF} (S_X2_refuse : SpX2_refuse (gL Γ) F_X2_refuse) {x0 : Nat} {x1 : Int32} {x2 : Int32} {x3 : Int32}
    (h : ((x3 ≤ 0 →
      (C x0).1 = 3 ∧
      F_X2_takeWeights [aR (some x0), aI (I x0 6), aI (0 : Int32), aI x1, aI x2] C I J R (fun o C3 I4 J5 R6 =>
      o = .inl none ∧
      (C3 x0).1 = 3 ∧
      F_X2_adds [aR (some x0), aI (0 : Int32), aI (-1 : Int32), aI (-1 : Int32), aI (-1 : Int32), aI (-1 : Int32), aI (0 : Int32), aI (0 : Int32)] C3 I4 J5 R6 (fun o C9 I10 J11 R12 =>
      ∃ r13 : Int32, o = .inl (some (aI r13)) ∧
      gK Γ (.inl (some (aI r13))) C9 I10 J11 R12))) ∧
      (¬ x3 ≤ 0 →
      (C x0).1 = 3 ∧
      F_X2_refuse [aR (some x0), aI x3] C I J R (fun o C15 I16 J17 R18 =>
      ∃ r19 : Int32, o = .inl (some (aI r19)) ∧
      gK Γ (.inl (some (aI r19))) C15 I16 J17 R18)))) :
    AW Γ 0 0 C I J R 22 [(0, aR (some x0)), (1, aI x1), (2, aI x2), (3, aI x3)] [] := by
  have G0 := G.1
  refine aw_iload_n G0 3 rfl dX2_leaf_22 ?_
  refine aw_if_le G0 32 dX2_leaf_23 (by decide) (fun c1 => ?_) (fun c1 => ?_)
  · have h := h.1 c1
    refine aw_aload_n G0 0 rfl dX2_leaf_32 ?_
    refine aw_aload_n G0 0 rfl dX2_leaf_33 ?_
    obtain ⟨k2, h⟩ := h
    refine aw_getI (f := 6) G0 (by rw [k2]; exact fb_X2_136) dX2_leaf_34 ?_
    refine aw_iconst (v := (0 : Int32)) G0 dX2_leaf_37 (by decide) ?_
    refine aw_iload_n G0 1 rfl dX2_leaf_38 ?_
    refine aw_iload_n G0 2 rfl dX2_leaf_39 ?_
    refine aw_callV (k1 := 0) (n1 := 0) (k2 := 0) (n2 := 0) (st := []) G0 S_X2_takeWeights gi_X2_151 (Or.inl (by rw [k2]; decide)) (by rw [k2]; rfl) md_X2_takeWeights (Nat.le_of_ble_eq_true rfl) (by decide) (by rw [G.2.1]; decide) (by rw [G.2.1]; decide) [aI (I x0 6), aI (0 : Int32), aI x1, aI x2] rfl rfl dX2_leaf_40 h (fun o C3 I4 J5 R6 h => ?_)
    obtain ⟨rfl, h⟩ := h
    show AW Γ 0 0 C3 I4 J5 R6 (40 + 3) [(0, aR (some x0)), (1, aI x1), (2, aI x2), (3, aI x3)] []
    refine aw_aload_n G0 0 rfl dX2_leaf_43 ?_
    refine aw_iconst (v := (0 : Int32)) G0 dX2_leaf_44 (by decide) ?_
    refine aw_iconst (v := (-1 : Int32)) G0 dX2_leaf_45 (by decide) ?_
    refine aw_iconst (v := (-1 : Int32)) G0 dX2_leaf_46 (by decide) ?_
    refine aw_iconst (v := (-1 : Int32)) G0 dX2_leaf_47 (by decide) ?_
    refine aw_iconst (v := (-1 : Int32)) G0 dX2_leaf_48 (by decide) ?_
    refine aw_iconst (v := (0 : Int32)) G0 dX2_leaf_49 (by decide) ?_
    refine aw_iconst (v := (0 : Int32)) G0 dX2_leaf_50 (by decide) ?_
    obtain ⟨k8, h⟩ := h
    refine aw_callV (k1 := 0) (n1 := 0) (k2 := 0) (n2 := 0) (st := []) G0 S_X2_adds gi_X2_155 (Or.inl (by rw [k8]; decide)) (by rw [k8]; rfl) md_X2_adds (Nat.le_of_ble_eq_true rfl) (by decide) (by rw [G.2.1]; decide) (by rw [G.2.1]; decide) [aI (0 : Int32), aI (-1 : Int32), aI (-1 : Int32), aI (-1 : Int32), aI (-1 : Int32), aI (0 : Int32), aI (0 : Int32)] rfl rfl dX2_leaf_51 h (fun o C9 I10 J11 R12 h => ?_)
    obtain ⟨r13, rfl, h⟩ := h
    show AW Γ 0 0 C9 I10 J11 R12 (51 + 3) [(0, aR (some x0)), (1, aI x1), (2, aI x2), (3, aI x3)] [aI r13]
    exact aw_ireturn G0 (Or.inl rfl) (by rw [G.2.2]; decide) (by rw [G.2.1]; decide) dX2_leaf_54 h
  · have h := h.2 c1
    refine aw_aload_n G0 0 rfl dX2_leaf_26 ?_
    refine aw_iload_n G0 3 rfl dX2_leaf_27 ?_
    obtain ⟨k14, h⟩ := h
    refine aw_callV (k1 := 0) (n1 := 0) (k2 := 0) (n2 := 0) (st := []) G0 S_X2_refuse gi_X2_147 (Or.inl (by rw [k14]; decide)) (by rw [k14]; rfl) md_X2_refuse (Nat.le_of_ble_eq_true rfl) (by decide) (by rw [G.2.1]; decide) (by rw [G.2.1]; decide) [aI x3] rfl rfl dX2_leaf_28 h (fun o C15 I16 J17 R18 h => ?_)
    obtain ⟨r19, rfl, h⟩ := h
    show AW Γ 0 0 C15 I16 J17 R18 (28 + 3) [(0, aR (some x0)), (1, aI x1), (2, aI x2), (3, aI x3)] [aI r19]
    exact aw_ireturn G0 (Or.inl rfl) (by rw [G.2.2]; decide) (by rw [G.2.1]; decide) dX2_leaf_31 h
theorem bX2_wrongWeights_0 (G : Gb Γ yX2_wrongWeights cX2_wrongWeights 8 (some .int) [] rmX2_wrongWeights bdX2_wrongWeights) {F_X2_isTray : SPF} (S_X2_isTray : SpX2_isTray (gL Γ) F_X2_isTray)
    {Q49 : Nat → Int32 → Int32 → Int64 → Int32 → MC → MI → MJ → MR → Prop} (w49 : ∀ (x0 : Nat) (x1 : Int32) (x2 : Int32) (x3 : Int64) (x5 : Int32) (C : MC) (I : MI) (J : MJ) (R : MR), Q49 x0 x1 x2 x3 x5 C I J R → AW Γ 0 0 C I J R 49 [(0, aR (some x0)), (1, aI x1), (2, aI x2), (3, aJ x3), (5, aI x5)] []) {x0 : Nat} {x1 : Int32} {x2 : Int32}
    (h : F_X2_isTray [aI x1] C I J R (fun o C1 I2 J3 R4 =>
      ∃ r5 : Int32, o = .inl (some (aI r5)) ∧
      ((r5 = 0 →
      gK Γ (.inl (some (aI (1 : Int32)))) C1 I2 J3 R4) ∧
      (¬ r5 = 0 →
      ((x2 < (1 : Int32) →
      gK Γ (.inl (some (aI (1 : Int32)))) C1 I2 J3 R4) ∧
      (¬ x2 < (1 : Int32) →
      ((x2 ≤ (60 : Int32) →
      (C1 x0).1 = 3 ∧
      ∃ q10 : Nat, R4 x0 4 = some q10 ∧
      (C1 q10).1 = 20 ∧
      vp_in x1 (C1 q10).2 ∧
      ((¬ (I2 q10 x1.toNatClampNeg) = (-1 : Int32) →
      ((x2 ≤ (I2 q10 x1.toNatClampNeg) →
      Q49 x0 x1 x2 (0 : Int64) (0 : Int32) C1 I2 J3 R4) ∧
      (¬ x2 ≤ (I2 q10 x1.toNatClampNeg) →
      gK Γ (.inl (some (aI (3 : Int32)))) C1 I2 J3 R4))) ∧
      ((I2 q10 x1.toNatClampNeg) = (-1 : Int32) →
      gK Γ (.inl (some (aI (2 : Int32)))) C1 I2 J3 R4))) ∧
      (¬ x2 ≤ (60 : Int32) →
      gK Γ (.inl (some (aI (1 : Int32)))) C1 I2 J3 R4)))))))) :
    AW Γ 0 0 C I J R 0 [(0, aR (some x0)), (1, aI x1), (2, aI x2)] [] := by
  have G0 := G.1
  refine aw_iload_n G0 1 rfl dX2_wrongWeights_0 ?_
  refine aw_callS (k1 := 0) (n1 := 0) (k2 := 0) (n2 := 0) (st := []) G0 S_X2_isTray gi_X2_119 md_X2_isTray (Nat.le_of_ble_eq_true rfl) (by decide) (by rw [G.2.1]; decide) (by rw [G.2.1]; decide) [aI x1] rfl rfl dX2_wrongWeights_1 h (fun o C1 I2 J3 R4 h => ?_)
  obtain ⟨r5, rfl, h⟩ := h
  show AW Γ 0 0 C1 I2 J3 R4 (1 + 3) [(0, aR (some x0)), (1, aI x1), (2, aI x2)] [aI r5]
  refine aw_if_eq G0 18 dX2_wrongWeights_4 (by decide) (fun c6 => ?_) (fun c6 => ?_)
  · have h := h.1 c6
    refine aw_iconst (v := (1 : Int32)) G0 dX2_wrongWeights_18 (by decide) ?_
    exact aw_ireturn G0 (Or.inl rfl) (by rw [G.2.2]; decide) (by rw [G.2.1]; decide) dX2_wrongWeights_19 h
  · have h := h.2 c6
    refine aw_iload_n G0 2 rfl dX2_wrongWeights_7 ?_
    refine aw_iconst (v := (1 : Int32)) G0 dX2_wrongWeights_8 (by decide) ?_
    refine aw_icmp_lt G0 18 dX2_wrongWeights_9 (by decide) (fun c7 => ?_) (fun c7 => ?_)
    · have h := h.1 c7
      refine aw_iconst (v := (1 : Int32)) G0 dX2_wrongWeights_18 (by decide) ?_
      exact aw_ireturn G0 (Or.inl rfl) (by rw [G.2.2]; decide) (by rw [G.2.1]; decide) dX2_wrongWeights_19 h
    · have h := h.2 c7
      refine aw_iload_n G0 2 rfl dX2_wrongWeights_12 ?_
      refine aw_bipush (v := (60 : Int32)) G0 dX2_wrongWeights_13 (by decide) ?_
      refine aw_icmp_le G0 20 dX2_wrongWeights_15 (by decide) (fun c8 => ?_) (fun c8 => ?_)
      · have h := h.1 c8
        refine aw_aload_n G0 0 rfl dX2_wrongWeights_20 ?_
        obtain ⟨k9, h⟩ := h
        refine aw_getR (f := 4) G0 (by rw [k9]; exact fb_X2_17) dX2_wrongWeights_21 ?_
        refine aw_iload_n G0 1 rfl dX2_wrongWeights_24 ?_
        obtain ⟨q10, e10, h⟩ := h
        refine aw_dr1 e10 ?_
        obtain ⟨k11, h⟩ := h
        obtain ⟨k12, h⟩ := h
        refine aw_iald G0 (Or.inl k11) k12 dX2_wrongWeights_25 ?_
        refine aw_iconst (v := (-1 : Int32)) G0 dX2_wrongWeights_26 (by decide) ?_
        refine aw_icmp_ne G0 32 dX2_wrongWeights_27 (by decide) (fun c13 => ?_) (fun c13 => ?_)
        · have h := h.1 c13
          refine aw_iload_n G0 2 rfl dX2_wrongWeights_32 ?_
          refine aw_aload_n G0 0 rfl dX2_wrongWeights_33 ?_
          refine aw_getR (f := 4) G0 (by rw [k9]; exact fb_X2_17) dX2_wrongWeights_34 ?_
          refine aw_iload_n G0 1 rfl dX2_wrongWeights_37 ?_
          refine aw_dr1 e10 ?_
          refine aw_iald G0 (Or.inl k11) k12 dX2_wrongWeights_38 ?_
          refine aw_icmp_le G0 44 dX2_wrongWeights_39 (by decide) (fun c14 => ?_) (fun c14 => ?_)
          · have h := h.1 c14
            refine aw_lconst (v := (0 : Int64)) G0 dX2_wrongWeights_44 (by decide) ?_
            refine aw_lstore_n (lv' := [(3, aJ (0 : Int64)), (0, aR (some x0)), (1, aI x1), (2, aI x2)]) G0 (by decide) rfl dX2_wrongWeights_45 ?_
            refine aw_iconst (v := (0 : Int32)) G0 dX2_wrongWeights_46 (by decide) ?_
            refine aw_istore (lv' := [(5, aI (0 : Int32)), (3, aJ (0 : Int64)), (0, aR (some x0)), (1, aI x1), (2, aI x2)]) G0 (by decide) rfl dX2_wrongWeights_47 ?_
            exact (aw_lv [2, 3, 4, 1, 0] rfl (w49 x0 x1 x2 (0 : Int64) (0 : Int32) C1 I2 J3 R4 h))
          · have h := h.2 c14
            refine aw_iconst (v := (3 : Int32)) G0 dX2_wrongWeights_42 (by decide) ?_
            exact aw_ireturn G0 (Or.inl rfl) (by rw [G.2.2]; decide) (by rw [G.2.1]; decide) dX2_wrongWeights_43 h
        · have h := h.2 c13
          refine aw_iconst (v := (2 : Int32)) G0 dX2_wrongWeights_30 (by decide) ?_
          exact aw_ireturn G0 (Or.inl rfl) (by rw [G.2.2]; decide) (by rw [G.2.1]; decide) dX2_wrongWeights_31 h
      · have h := h.2 c8
        refine aw_iconst (v := (1 : Int32)) G0 dX2_wrongWeights_18 (by decide) ?_
        exact aw_ireturn G0 (Or.inl rfl) (by rw [G.2.2]; decide) (by rw [G.2.1]; decide) dX2_wrongWeights_19 h
theorem bX2_wrongWeights_49 (G : Gb Γ yX2_wrongWeights cX2_wrongWeights 8 (some .int) [] rmX2_wrongWeights bdX2_wrongWeights)
    {Q49 : Nat → Int32 → Int32 → Int64 → Int32 → MC → MI → MJ → MR → Prop} (w49 : ∀ (x0 : Nat) (x1 : Int32) (x2 : Int32) (x3 : Int64) (x5 : Int32) (C : MC) (I : MI) (J : MJ) (R : MR), Q49 x0 x1 x2 x3 x5 C I J R → AW Γ 0 0 C I J R 49 [(0, aR (some x0)), (1, aI x1), (2, aI x2), (3, aJ x3), (5, aI x5)] []) {x0 : Nat} {x1 : Int32} {x2 : Int32} {x3 : Int64} {x5 : Int32}
    (h : ((x2 ≤ x5 →
      ((x3 < (1 : Int64) →
      gK Γ (.inl (some (aI (1 : Int32)))) C I J R) ∧
      (¬ x3 < (1 : Int64) →
      ((x3 ≤ (1000 : Int64) →
      gK Γ (.inl (some (aI (0 : Int32)))) C I J R) ∧
      (¬ x3 ≤ (1000 : Int64) →
      gK Γ (.inl (some (aI (1 : Int32)))) C I J R))))) ∧
      (¬ x2 ≤ x5 →
      (C x0).1 = 3 ∧
      ∃ q5 : Nat, R x0 5 = some q5 ∧
      (C q5).1 = 21 ∧
      vp_in (((60 : Int32) * x1) + x5) (C q5).2 ∧
      (((J q5 (((60 : Int32) * x1) + x5).toNatClampNeg) < (0 : Int64) →
      gK Γ (.inl (some (aI (1 : Int32)))) C I J R) ∧
      (¬ (J q5 (((60 : Int32) * x1) + x5).toNatClampNeg) < (0 : Int64) →
      (((J q5 (((60 : Int32) * x1) + x5).toNatClampNeg) ≤ (1000 : Int64) →
      Q49 x0 x1 x2 (x3 + (J q5 (((60 : Int32) * x1) + x5).toNatClampNeg)) (x5 + 1) C I J R) ∧
      (¬ (J q5 (((60 : Int32) * x1) + x5).toNatClampNeg) ≤ (1000 : Int64) →
      gK Γ (.inl (some (aI (1 : Int32)))) C I J R))))))) :
    AW Γ 0 0 C I J R 49 [(0, aR (some x0)), (1, aI x1), (2, aI x2), (3, aJ x3), (5, aI x5)] [] := by
  have G0 := G.1
  refine aw_iload G0 4 rfl dX2_wrongWeights_49 ?_
  refine aw_iload_n G0 2 rfl dX2_wrongWeights_51 ?_
  refine aw_icmp_ge G0 98 dX2_wrongWeights_52 (by decide) (fun c1 => ?_) (fun c1 => ?_)
  · have h := h.1 c1
    refine aw_lload_n G0 3 rfl dX2_wrongWeights_98 ?_
    refine aw_lconst (v := (1 : Int64)) G0 dX2_wrongWeights_99 (by decide) ?_
    refine aw_lif_lt G0 112 dX2_wrongWeights_100 dX2_wrongWeights_101 (by decide) (fun c2 => ?_) (fun c2 => ?_)
    · have h := h.1 c2
      refine aw_iconst (v := (1 : Int32)) G0 dX2_wrongWeights_112 (by decide) ?_
      refine aw_goto G0 117 dX2_wrongWeights_113 (by decide) ?_
      exact aw_ireturn G0 (Or.inl rfl) (by rw [G.2.2]; decide) (by rw [G.2.1]; decide) dX2_wrongWeights_117 h
    · have h := h.2 c2
      refine aw_lload_n G0 3 rfl dX2_wrongWeights_104 ?_
      refine aw_ldc2 (v := (1000 : Int64)) G0 q1060 dX2_wrongWeights_105 ?_
      refine aw_lif_le G0 116 dX2_wrongWeights_108 dX2_wrongWeights_109 (by decide) (fun c3 => ?_) (fun c3 => ?_)
      · have h := h.1 c3
        refine aw_iconst (v := (0 : Int32)) G0 dX2_wrongWeights_116 (by decide) ?_
        exact aw_ireturn G0 (Or.inl rfl) (by rw [G.2.2]; decide) (by rw [G.2.1]; decide) dX2_wrongWeights_117 h
      · have h := h.2 c3
        refine aw_iconst (v := (1 : Int32)) G0 dX2_wrongWeights_112 (by decide) ?_
        refine aw_goto G0 117 dX2_wrongWeights_113 (by decide) ?_
        exact aw_ireturn G0 (Or.inl rfl) (by rw [G.2.2]; decide) (by rw [G.2.1]; decide) dX2_wrongWeights_117 h
  · have h := h.2 c1
    refine aw_aload_n G0 0 rfl dX2_wrongWeights_55 ?_
    obtain ⟨k4, h⟩ := h
    refine aw_getR (f := 5) G0 (by rw [k4]; exact fb_X2_20) dX2_wrongWeights_56 ?_
    refine aw_bipush (v := (60 : Int32)) G0 dX2_wrongWeights_59 (by decide) ?_
    refine aw_iload_n G0 1 rfl dX2_wrongWeights_61 ?_
    refine aw_imul G0 dX2_wrongWeights_62 ?_
    refine aw_iload G0 4 rfl dX2_wrongWeights_63 ?_
    refine aw_iadd G0 dX2_wrongWeights_65 ?_
    obtain ⟨q5, e5, h⟩ := h
    refine aw_dr1 e5 ?_
    obtain ⟨k6, h⟩ := h
    obtain ⟨k7, h⟩ := h
    refine aw_lald G0 k6 k7 dX2_wrongWeights_66 ?_
    refine aw_lstore (lv' := [(6, aJ (J q5 (((60 : Int32) * x1) + x5).toNatClampNeg)), (0, aR (some x0)), (1, aI x1), (2, aI x2), (3, aJ x3), (5, aI x5)]) G0 (by decide) rfl dX2_wrongWeights_67 ?_
    refine aw_lload G0 0 rfl dX2_wrongWeights_69 ?_
    refine aw_lconst (v := (0 : Int64)) G0 dX2_wrongWeights_71 (by decide) ?_
    refine aw_lif_lt G0 85 dX2_wrongWeights_72 dX2_wrongWeights_73 (by decide) (fun c8 => ?_) (fun c8 => ?_)
    · have h := h.1 c8
      refine aw_iconst (v := (1 : Int32)) G0 dX2_wrongWeights_85 (by decide) ?_
      exact aw_ireturn G0 (Or.inl rfl) (by rw [G.2.2]; decide) (by rw [G.2.1]; decide) dX2_wrongWeights_86 h
    · have h := h.2 c8
      refine aw_lload G0 0 rfl dX2_wrongWeights_76 ?_
      refine aw_ldc2 (v := (1000 : Int64)) G0 q1060 dX2_wrongWeights_78 ?_
      refine aw_lif_le G0 87 dX2_wrongWeights_81 dX2_wrongWeights_82 (by decide) (fun c9 => ?_) (fun c9 => ?_)
      · have h := h.1 c9
        refine aw_lload_n G0 4 rfl dX2_wrongWeights_87 ?_
        refine aw_lload G0 0 rfl dX2_wrongWeights_88 ?_
        refine aw_ladd G0 dX2_wrongWeights_90 ?_
        refine aw_lstore_n (lv' := [(3, aJ (x3 + (J q5 (((60 : Int32) * x1) + x5).toNatClampNeg))), (6, aJ (J q5 (((60 : Int32) * x1) + x5).toNatClampNeg)), (0, aR (some x0)), (1, aI x1), (2, aI x2), (5, aI x5)]) G0 (by decide) rfl dX2_wrongWeights_91 ?_
        refine aw_iinc (v := x5 + 1) (lv' := [(5, aI (x5 + 1)), (3, aJ (x3 + (J q5 (((60 : Int32) * x1) + x5).toNatClampNeg))), (6, aJ (J q5 (((60 : Int32) * x1) + x5).toNatClampNeg)), (0, aR (some x0)), (1, aI x1), (2, aI x2)]) G0 5 rfl rfl (by decide) rfl dX2_wrongWeights_92 ?_
        refine aw_goto G0 49 dX2_wrongWeights_95 (by decide) ?_
        exact (aw_lv [3, 4, 5, 1, 0] rfl (w49 x0 x1 x2 (x3 + (J q5 (((60 : Int32) * x1) + x5).toNatClampNeg)) (x5 + 1) C I J R h))
      · have h := h.2 c9
        refine aw_iconst (v := (1 : Int32)) G0 dX2_wrongWeights_85 (by decide) ?_
        exact aw_ireturn G0 (Or.inl rfl) (by rw [G.2.2]; decide) (by rw [G.2.1]; decide) dX2_wrongWeights_86 h
theorem bX2_refuse_0 (G : Gb Γ yX2_refuse cX2_refuse 2 (some .int) [] rmX2_refuse bdX2_refuse) {x0 : Nat} {x1 : Int32}
    (h : (C x0).1 = 3 ∧
      ∀ I2 : MI, I2 = va_up I x0 (va_up (I x0) 0 x1) →
      gK Γ (.inl (some (aI (-1 : Int32)))) C I2 J R) :
    AW Γ 0 0 C I J R 0 [(0, aR (some x0)), (1, aI x1)] [] := by
  have G0 := G.1
  refine aw_aload_n G0 0 rfl dX2_refuse_0 ?_
  refine aw_iload_n G0 1 rfl dX2_refuse_1 ?_
  obtain ⟨k1, h⟩ := h
  refine aw_putI (f := 0) G0 (by rw [k1]; exact fp_X2_112 _) dX2_refuse_2 ?_
  generalize gI2 : va_up I x0 (va_up (I x0) 0 x1) = I2
  have h := h I2 gI2.symm
  refine aw_iconst (v := (-1 : Int32)) G0 dX2_refuse_5 (by decide) ?_
  exact aw_ireturn G0 (Or.inl rfl) (by rw [G.2.2]; decide) (by rw [G.2.1]; decide) dX2_refuse_6 h
theorem bX2_takeWeights_0 (G : Gb Γ yX2_takeWeights cX2_takeWeights 6 (none) [] rmX2_takeWeights bdX2_takeWeights)
    {Q3 : Nat → Int32 → Int32 → Int32 → Int32 → Int32 → MC → MI → MJ → MR → Prop} (w3 : ∀ (x0 : Nat) (x1 : Int32) (x2 : Int32) (x3 : Int32) (x4 : Int32) (x5 : Int32) (C : MC) (I : MI) (J : MJ) (R : MR), Q3 x0 x1 x2 x3 x4 x5 C I J R → AW Γ 0 0 C I J R 3 [(0, aR (some x0)), (1, aI x1), (2, aI x2), (3, aI x3), (4, aI x4), (5, aI x5)] []) {x0 : Nat} {x1 : Int32} {x2 : Int32} {x3 : Int32} {x4 : Int32}
    (h : Q3 x0 x1 x2 x3 x4 (0 : Int32) C I J R) :
    AW Γ 0 0 C I J R 0 [(0, aR (some x0)), (1, aI x1), (2, aI x2), (3, aI x3), (4, aI x4)] [] := by
  have G0 := G.1
  refine aw_iconst (v := (0 : Int32)) G0 dX2_takeWeights_0 (by decide) ?_
  refine aw_istore (lv' := [(5, aI (0 : Int32)), (0, aR (some x0)), (1, aI x1), (2, aI x2), (3, aI x3), (4, aI x4)]) G0 (by decide) rfl dX2_takeWeights_1 ?_
  exact (aw_lv [1, 2, 3, 4, 5, 0] rfl (w3 x0 x1 x2 x3 x4 (0 : Int32) C I J R h))
theorem bX2_takeWeights_3 (G : Gb Γ yX2_takeWeights cX2_takeWeights 6 (none) [] rmX2_takeWeights bdX2_takeWeights)
    {Q49 : Nat → Int32 → Int32 → Int32 → Int32 → Int32 → Option Nat → Int32 → Int32 → MC → MI → MJ → MR → Prop} (w49 : ∀ (x0 : Nat) (x1 : Int32) (x2 : Int32) (x3 : Int32) (x4 : Int32) (x5 : Int32) (s0 : Option Nat) (s1 : Int32) (s2 : Int32) (C : MC) (I : MI) (J : MJ) (R : MR), Q49 x0 x1 x2 x3 x4 x5 s0 s1 s2 C I J R → AW Γ 0 0 C I J R 49 [(0, aR (some x0)), (1, aI x1), (2, aI x2), (3, aI x3), (4, aI x4), (5, aI x5)] [aI s2, aI s1, aR s0]) {x0 : Nat} {x1 : Int32} {x2 : Int32} {x3 : Int32} {x4 : Int32} {x5 : Int32}
    (h : (((60 : Int32) ≤ x5 →
      gK Γ (.inl none) C I J R) ∧
      (¬ (60 : Int32) ≤ x5 →
      (C x0).1 = 3 ∧
      ((x4 ≤ x5 →
      Q49 x0 x1 x2 x3 x4 x5 (R x0 14) (((60 : Int32) * (((3 : Int32) * x1) + x2)) + x5) (0 : Int32) C I J R) ∧
      (¬ x4 ≤ x5 →
      ∃ q4 : Nat, R x0 5 = some q4 ∧
      (C q4).1 = 21 ∧
      vp_in (((60 : Int32) * x3) + x5) (C q4).2 ∧
      Q49 x0 x1 x2 x3 x4 x5 (R x0 14) (((60 : Int32) * (((3 : Int32) * x1) + x2)) + x5) ((J q4 (((60 : Int32) * x3) + x5).toNatClampNeg).toInt32) C I J R))))) :
    AW Γ 0 0 C I J R 3 [(0, aR (some x0)), (1, aI x1), (2, aI x2), (3, aI x3), (4, aI x4), (5, aI x5)] [] := by
  have G0 := G.1
  refine aw_iload G0 5 rfl dX2_takeWeights_3 ?_
  refine aw_bipush (v := (60 : Int32)) G0 dX2_takeWeights_5 (by decide) ?_
  refine aw_icmp_ge G0 56 dX2_takeWeights_7 (by decide) (fun c1 => ?_) (fun c1 => ?_)
  · have h := h.1 c1
    exact aw_return G0 (by rw [G.2.2]; decide) (by rw [G.2.1]; decide) dX2_takeWeights_56 h
  · have h := h.2 c1
    refine aw_aload_n G0 0 rfl dX2_takeWeights_10 ?_
    obtain ⟨k2, h⟩ := h
    refine aw_getR (f := 14) G0 (by rw [k2]; exact fb_X2_45) dX2_takeWeights_11 ?_
    refine aw_bipush (v := (60 : Int32)) G0 dX2_takeWeights_14 (by decide) ?_
    refine aw_iconst (v := (3 : Int32)) G0 dX2_takeWeights_16 (by decide) ?_
    refine aw_iload_n G0 1 rfl dX2_takeWeights_17 ?_
    refine aw_imul G0 dX2_takeWeights_18 ?_
    refine aw_iload_n G0 2 rfl dX2_takeWeights_19 ?_
    refine aw_iadd G0 dX2_takeWeights_20 ?_
    refine aw_imul G0 dX2_takeWeights_21 ?_
    refine aw_iload G0 5 rfl dX2_takeWeights_22 ?_
    refine aw_iadd G0 dX2_takeWeights_24 ?_
    refine aw_iload G0 5 rfl dX2_takeWeights_25 ?_
    refine aw_iload G0 4 rfl dX2_takeWeights_27 ?_
    refine aw_icmp_ge G0 48 dX2_takeWeights_29 (by decide) (fun c3 => ?_) (fun c3 => ?_)
    · have h := h.1 c3
      refine aw_iconst (v := (0 : Int32)) G0 dX2_takeWeights_48 (by decide) ?_
      exact (w49 x0 x1 x2 x3 x4 x5 (R x0 14) (((60 : Int32) * (((3 : Int32) * x1) + x2)) + x5) (0 : Int32) C I J R h)
    · have h := h.2 c3
      refine aw_aload_n G0 0 rfl dX2_takeWeights_32 ?_
      refine aw_getR (f := 5) G0 (by rw [k2]; exact fb_X2_20) dX2_takeWeights_33 ?_
      refine aw_bipush (v := (60 : Int32)) G0 dX2_takeWeights_36 (by decide) ?_
      refine aw_iload_n G0 3 rfl dX2_takeWeights_38 ?_
      refine aw_imul G0 dX2_takeWeights_39 ?_
      refine aw_iload G0 5 rfl dX2_takeWeights_40 ?_
      refine aw_iadd G0 dX2_takeWeights_42 ?_
      obtain ⟨q4, e4, h⟩ := h
      refine aw_dr1 e4 ?_
      obtain ⟨k5, h⟩ := h
      obtain ⟨k6, h⟩ := h
      refine aw_lald G0 k5 k6 dX2_takeWeights_43 ?_
      refine aw_l2i G0 dX2_takeWeights_44 ?_
      refine aw_goto G0 49 dX2_takeWeights_45 (by decide) ?_
      exact (w49 x0 x1 x2 x3 x4 x5 (R x0 14) (((60 : Int32) * (((3 : Int32) * x1) + x2)) + x5) ((J q4 (((60 : Int32) * x3) + x5).toNatClampNeg).toInt32) C I J R h)
theorem bX2_takeWeights_49 (G : Gb Γ yX2_takeWeights cX2_takeWeights 6 (none) [] rmX2_takeWeights bdX2_takeWeights)
    {Q3 : Nat → Int32 → Int32 → Int32 → Int32 → Int32 → MC → MI → MJ → MR → Prop} (w3 : ∀ (x0 : Nat) (x1 : Int32) (x2 : Int32) (x3 : Int32) (x4 : Int32) (x5 : Int32) (C : MC) (I : MI) (J : MJ) (R : MR), Q3 x0 x1 x2 x3 x4 x5 C I J R → AW Γ 0 0 C I J R 3 [(0, aR (some x0)), (1, aI x1), (2, aI x2), (3, aI x3), (4, aI x4), (5, aI x5)] []) {x0 : Nat} {x1 : Int32} {x2 : Int32} {x3 : Int32} {x4 : Int32} {x5 : Int32} {s0 : Option Nat} {s1 : Int32} {s2 : Int32}
    (h : ∃ q1 : Nat, s0 = some q1 ∧
      (C q1).1 = 20 ∧
      vp_in s1 (C q1).2 ∧
      ∀ I4 : MI, I4 = va_up I q1 (va_up (I q1) s1.toNatClampNeg s2) →
      Q3 x0 x1 x2 x3 x4 (x5 + 1) C I4 J R) :
    AW Γ 0 0 C I J R 49 [(0, aR (some x0)), (1, aI x1), (2, aI x2), (3, aI x3), (4, aI x4), (5, aI x5)] [aI s2, aI s1, aR s0] := by
  have G0 := G.1
  obtain ⟨q1, e1, h⟩ := h
  refine aw_dr2 e1 ?_
  obtain ⟨k2, h⟩ := h
  obtain ⟨k3, h⟩ := h
  refine aw_iast G0 k2 k3 dX2_takeWeights_49 ?_
  generalize gI4 : va_up I q1 (va_up (I q1) s1.toNatClampNeg s2) = I4
  have h := h I4 gI4.symm
  refine aw_iinc (v := x5 + 1) (lv' := [(5, aI (x5 + 1)), (0, aR (some x0)), (1, aI x1), (2, aI x2), (3, aI x3), (4, aI x4)]) G0 5 rfl rfl (by decide) rfl dX2_takeWeights_50 ?_
  refine aw_goto G0 3 dX2_takeWeights_53 (by decide) ?_
  exact (aw_lv [1, 2, 3, 4, 5, 0] rfl (w3 x0 x1 x2 x3 x4 (x5 + 1) C I4 J R h))
theorem bX2_adds_0 (G : Gb Γ yX2_adds cX2_adds 10 (some .int) [] rmX2_adds bdX2_adds)
    {Q91 : Nat → Int32 → Int32 → MC → MI → MJ → MR → Prop} (w91 : ∀ (x0 : Nat) (x8 : Int32) (x9 : Int32) (C : MC) (I : MI) (J : MJ) (R : MR), Q91 x0 x8 x9 C I J R → AW Γ 0 0 C I J R 91 [(0, aR (some x0)), (8, aI x8), (9, aI x9)] []) {x0 : Nat} {x1 : Int32} {x2 : Int32} {x3 : Int32} {x4 : Int32} {x5 : Int32} {x6 : Int32} {x7 : Int32}
    (h : (C x0).1 = 3 ∧
      ∃ q2 : Nat, R x0 7 = some q2 ∧
      (C q2).1 = 20 ∧
      vp_in (I x0 6) (C q2).2 ∧
      ∀ I5 : MI, I5 = va_up I q2 (va_up (I q2) (I x0 6).toNatClampNeg x1) →
      ∃ q6 : Nat, R x0 8 = some q6 ∧
      (C q6).1 = 20 ∧
      vp_in ((4 : Int32) * (I x0 6)) (C q6).2 ∧
      ∀ I9 : MI, I9 = va_up I5 q6 (va_up (I5 q6) ((4 : Int32) * (I x0 6)).toNatClampNeg x2) →
      vp_in (((4 : Int32) * (I x0 6)) + (1 : Int32)) (C q6).2 ∧
      ∀ I11 : MI, I11 = va_up I9 q6 (va_up (I9 q6) (((4 : Int32) * (I x0 6)) + (1 : Int32)).toNatClampNeg x3) →
      vp_in (((4 : Int32) * (I x0 6)) + (2 : Int32)) (C q6).2 ∧
      ∀ I13 : MI, I13 = va_up I11 q6 (va_up (I11 q6) (((4 : Int32) * (I x0 6)) + (2 : Int32)).toNatClampNeg x4) →
      vp_in (((4 : Int32) * (I x0 6)) + (3 : Int32)) (C q6).2 ∧
      ∀ I15 : MI, I15 = va_up I13 q6 (va_up (I13 q6) (((4 : Int32) * (I x0 6)) + (3 : Int32)).toNatClampNeg x5) →
      ∃ q16 : Nat, R x0 9 = some q16 ∧
      (C q16).1 = 20 ∧
      vp_in (I x0 6) (C q16).2 ∧
      ∀ I19 : MI, I19 = va_up I15 q16 (va_up (I15 q16) (I x0 6).toNatClampNeg x6) →
      ∃ q20 : Nat, R x0 10 = some q20 ∧
      (C q20).1 = 20 ∧
      vp_in (I x0 6) (C q20).2 ∧
      ∀ I23 : MI, I23 = va_up I19 q20 (va_up (I19 q20) (I x0 6).toNatClampNeg x7) →
      ∃ q24 : Nat, R x0 11 = some q24 ∧
      (C q24).1 = 20 ∧
      vp_in (I x0 6) (C q24).2 ∧
      ∀ I27 : MI, I27 = va_up I23 q24 (va_up (I23 q24) (I x0 6).toNatClampNeg (-1 : Int32)) →
      Q91 x0 (I x0 6) (0 : Int32) C I27 J R) :
    AW Γ 0 0 C I J R 0 [(0, aR (some x0)), (1, aI x1), (2, aI x2), (3, aI x3), (4, aI x4), (5, aI x5), (6, aI x6), (7, aI x7)] [] := by
  have G0 := G.1
  refine aw_aload_n G0 0 rfl dX2_adds_0 ?_
  obtain ⟨k1, h⟩ := h
  refine aw_getI (f := 6) G0 (by rw [k1]; exact fb_X2_136) dX2_adds_1 ?_
  refine aw_istore (lv' := [(8, aI (I x0 6)), (0, aR (some x0)), (1, aI x1), (2, aI x2), (3, aI x3), (4, aI x4), (5, aI x5), (6, aI x6), (7, aI x7)]) G0 (by decide) rfl dX2_adds_4 ?_
  refine aw_aload_n G0 1 rfl dX2_adds_6 ?_
  refine aw_getR (f := 7) G0 (by rw [k1]; exact fb_X2_24) dX2_adds_7 ?_
  refine aw_iload G0 0 rfl dX2_adds_10 ?_
  refine aw_iload_n G0 2 rfl dX2_adds_12 ?_
  obtain ⟨q2, e2, h⟩ := h
  refine aw_dr2 e2 ?_
  obtain ⟨k3, h⟩ := h
  obtain ⟨k4, h⟩ := h
  refine aw_iast G0 k3 k4 dX2_adds_13 ?_
  generalize gI5 : va_up I q2 (va_up (I q2) (I x0 6).toNatClampNeg x1) = I5
  have h := h I5 gI5.symm
  refine aw_aload_n G0 1 rfl dX2_adds_14 ?_
  refine aw_getR (f := 8) G0 (by rw [k1]; exact fb_X2_27) dX2_adds_15 ?_
  refine aw_iconst (v := (4 : Int32)) G0 dX2_adds_18 (by decide) ?_
  refine aw_iload G0 0 rfl dX2_adds_19 ?_
  refine aw_imul G0 dX2_adds_21 ?_
  refine aw_iload_n G0 3 rfl dX2_adds_22 ?_
  obtain ⟨q6, e6, h⟩ := h
  refine aw_dr2 e6 ?_
  obtain ⟨k7, h⟩ := h
  obtain ⟨k8, h⟩ := h
  refine aw_iast G0 k7 k8 dX2_adds_23 ?_
  generalize gI9 : va_up I5 q6 (va_up (I5 q6) ((4 : Int32) * (I x0 6)).toNatClampNeg x2) = I9
  have h := h I9 gI9.symm
  refine aw_aload_n G0 1 rfl dX2_adds_24 ?_
  refine aw_getR (f := 8) G0 (by rw [k1]; exact fb_X2_27) dX2_adds_25 ?_
  refine aw_iconst (v := (4 : Int32)) G0 dX2_adds_28 (by decide) ?_
  refine aw_iload G0 0 rfl dX2_adds_29 ?_
  refine aw_imul G0 dX2_adds_31 ?_
  refine aw_iconst (v := (1 : Int32)) G0 dX2_adds_32 (by decide) ?_
  refine aw_iadd G0 dX2_adds_33 ?_
  refine aw_iload_n G0 4 rfl dX2_adds_34 ?_
  refine aw_dr2 e6 ?_
  obtain ⟨k10, h⟩ := h
  refine aw_iast G0 k7 k10 dX2_adds_35 ?_
  generalize gI11 : va_up I9 q6 (va_up (I9 q6) (((4 : Int32) * (I x0 6)) + (1 : Int32)).toNatClampNeg x3) = I11
  have h := h I11 gI11.symm
  refine aw_aload_n G0 1 rfl dX2_adds_36 ?_
  refine aw_getR (f := 8) G0 (by rw [k1]; exact fb_X2_27) dX2_adds_37 ?_
  refine aw_iconst (v := (4 : Int32)) G0 dX2_adds_40 (by decide) ?_
  refine aw_iload G0 0 rfl dX2_adds_41 ?_
  refine aw_imul G0 dX2_adds_43 ?_
  refine aw_iconst (v := (2 : Int32)) G0 dX2_adds_44 (by decide) ?_
  refine aw_iadd G0 dX2_adds_45 ?_
  refine aw_iload G0 5 rfl dX2_adds_46 ?_
  refine aw_dr2 e6 ?_
  obtain ⟨k12, h⟩ := h
  refine aw_iast G0 k7 k12 dX2_adds_48 ?_
  generalize gI13 : va_up I11 q6 (va_up (I11 q6) (((4 : Int32) * (I x0 6)) + (2 : Int32)).toNatClampNeg x4) = I13
  have h := h I13 gI13.symm
  refine aw_aload_n G0 1 rfl dX2_adds_49 ?_
  refine aw_getR (f := 8) G0 (by rw [k1]; exact fb_X2_27) dX2_adds_50 ?_
  refine aw_iconst (v := (4 : Int32)) G0 dX2_adds_53 (by decide) ?_
  refine aw_iload G0 0 rfl dX2_adds_54 ?_
  refine aw_imul G0 dX2_adds_56 ?_
  refine aw_iconst (v := (3 : Int32)) G0 dX2_adds_57 (by decide) ?_
  refine aw_iadd G0 dX2_adds_58 ?_
  refine aw_iload G0 6 rfl dX2_adds_59 ?_
  refine aw_dr2 e6 ?_
  obtain ⟨k14, h⟩ := h
  refine aw_iast G0 k7 k14 dX2_adds_61 ?_
  generalize gI15 : va_up I13 q6 (va_up (I13 q6) (((4 : Int32) * (I x0 6)) + (3 : Int32)).toNatClampNeg x5) = I15
  have h := h I15 gI15.symm
  refine aw_aload_n G0 1 rfl dX2_adds_62 ?_
  refine aw_getR (f := 9) G0 (by rw [k1]; exact fb_X2_30) dX2_adds_63 ?_
  refine aw_iload G0 0 rfl dX2_adds_66 ?_
  refine aw_iload G0 7 rfl dX2_adds_68 ?_
  obtain ⟨q16, e16, h⟩ := h
  refine aw_dr2 e16 ?_
  obtain ⟨k17, h⟩ := h
  obtain ⟨k18, h⟩ := h
  refine aw_iast G0 k17 k18 dX2_adds_70 ?_
  generalize gI19 : va_up I15 q16 (va_up (I15 q16) (I x0 6).toNatClampNeg x6) = I19
  have h := h I19 gI19.symm
  refine aw_aload_n G0 1 rfl dX2_adds_71 ?_
  refine aw_getR (f := 10) G0 (by rw [k1]; exact fb_X2_33) dX2_adds_72 ?_
  refine aw_iload G0 0 rfl dX2_adds_75 ?_
  refine aw_iload G0 8 rfl dX2_adds_77 ?_
  obtain ⟨q20, e20, h⟩ := h
  refine aw_dr2 e20 ?_
  obtain ⟨k21, h⟩ := h
  obtain ⟨k22, h⟩ := h
  refine aw_iast G0 k21 k22 dX2_adds_79 ?_
  generalize gI23 : va_up I19 q20 (va_up (I19 q20) (I x0 6).toNatClampNeg x7) = I23
  have h := h I23 gI23.symm
  refine aw_aload_n G0 1 rfl dX2_adds_80 ?_
  refine aw_getR (f := 11) G0 (by rw [k1]; exact fb_X2_36) dX2_adds_81 ?_
  refine aw_iload G0 0 rfl dX2_adds_84 ?_
  refine aw_iconst (v := (-1 : Int32)) G0 dX2_adds_86 (by decide) ?_
  obtain ⟨q24, e24, h⟩ := h
  refine aw_dr2 e24 ?_
  obtain ⟨k25, h⟩ := h
  obtain ⟨k26, h⟩ := h
  refine aw_iast G0 k25 k26 dX2_adds_87 ?_
  generalize gI27 : va_up I23 q24 (va_up (I23 q24) (I x0 6).toNatClampNeg (-1 : Int32)) = I27
  have h := h I27 gI27.symm
  refine aw_iconst (v := (0 : Int32)) G0 dX2_adds_88 (by decide) ?_
  refine aw_istore (lv' := [(9, aI (0 : Int32)), (8, aI (I x0 6)), (0, aR (some x0)), (1, aI x1), (2, aI x2), (3, aI x3), (4, aI x4), (5, aI x5), (6, aI x6), (7, aI x7)]) G0 (by decide) rfl dX2_adds_89 ?_
  exact (aw_lv [2, 1, 0] rfl (w91 x0 (I x0 6) (0 : Int32) C I27 J R h))
theorem bX2_adds_91 (G : Gb Γ yX2_adds cX2_adds 10 (some .int) [] rmX2_adds bdX2_adds)
    {Q132 : Nat → Int32 → Int32 → MC → MI → MJ → MR → Prop} (w132 : ∀ (x0 : Nat) (x8 : Int32) (x9 : Int32) (C : MC) (I : MI) (J : MJ) (R : MR), Q132 x0 x8 x9 C I J R → AW Γ 0 0 C I J R 132 [(0, aR (some x0)), (8, aI x8), (9, aI x9)] []) {x0 : Nat} {x8 : Int32} {x9 : Int32}
    (h : (((4 : Int32) ≤ x9 →
      (C x0).1 = 3 ∧
      ∃ q3 : Nat, R x0 12 = some q3 ∧
      (C q3).1 = 20 ∧
      vp_in x8 (C q3).2 ∧
      ∀ I6 : MI, I6 = va_up I q3 (va_up (I q3) x8.toNatClampNeg (1 : Int32)) →
      ∃ q7 : Nat, R x0 13 = some q7 ∧
      (C q7).1 = 20 ∧
      vp_in ((3 : Int32) * x8) (C q7).2 ∧
      ∀ I10 : MI, I10 = va_up I6 q7 (va_up (I6 q7) ((3 : Int32) * x8).toNatClampNeg (0 : Int32)) →
      ∃ q11 : Nat, R x0 15 = some q11 ∧
      (C q11).1 = 20 ∧
      vp_in x8 (C q11).2 ∧
      ∀ I14 : MI, I14 = va_up I10 q11 (va_up (I10 q11) x8.toNatClampNeg (0 : Int32)) →
      ∃ q15 : Nat, R x0 16 = some q15 ∧
      (C q15).1 = 20 ∧
      vp_in x8 (C q15).2 ∧
      ∀ I18 : MI, I18 = va_up I14 q15 (va_up (I14 q15) x8.toNatClampNeg (-1 : Int32)) →
      ∃ q19 : Nat, R x0 17 = some q19 ∧
      (C q19).1 = 20 ∧
      vp_in x8 (C q19).2 ∧
      ∀ I22 : MI, I22 = va_up I18 q19 (va_up (I18 q19) x8.toNatClampNeg (-1 : Int32)) →
      ∃ q23 : Nat, R x0 18 = some q23 ∧
      (C q23).1 = 20 ∧
      vp_in x8 (C q23).2 ∧
      ∀ I26 : MI, I26 = va_up I22 q23 (va_up (I22 q23) x8.toNatClampNeg (0 : Int32)) →
      ∃ q27 : Nat, R x0 19 = some q27 ∧
      (C q27).1 = 20 ∧
      vp_in x8 (C q27).2 ∧
      ∀ I30 : MI, I30 = va_up I26 q27 (va_up (I26 q27) x8.toNatClampNeg (0 : Int32)) →
      ∃ q31 : Nat, R x0 20 = some q31 ∧
      (C q31).1 = 20 ∧
      vp_in x8 (C q31).2 ∧
      ∀ I34 : MI, I34 = va_up I30 q31 (va_up (I30 q31) x8.toNatClampNeg (0 : Int32)) →
      ∀ I35 : MI, I35 = va_up I34 x0 (va_up (I34 x0) 6 ((I34 x0 6) + (1 : Int32))) →
      ∀ I36 : MI, I36 = va_up I35 x0 (va_up (I35 x0) 0 (0 : Int32)) →
      gK Γ (.inl (some (aI x8))) C I36 J R) ∧
      (¬ (4 : Int32) ≤ x9 →
      (C x0).1 = 3 ∧
      ∃ q38 : Nat, R x0 8 = some q38 ∧
      (C q38).1 = 20 ∧
      vp_in (((4 : Int32) * x8) + x9) (C q38).2 ∧
      (((I q38 (((4 : Int32) * x8) + x9).toNatClampNeg) = (-1 : Int32) →
      Q132 x0 x8 x9 C I J R) ∧
      (¬ (I q38 (((4 : Int32) * x8) + x9).toNatClampNeg) = (-1 : Int32) →
      ∃ q42 : Nat, R x0 11 = some q42 ∧
      (C q42).1 = 20 ∧
      vp_in (I q38 (((4 : Int32) * x8) + x9).toNatClampNeg) (C q42).2 ∧
      ∀ I45 : MI, I45 = va_up I q42 (va_up (I q42) (I q38 (((4 : Int32) * x8) + x9).toNatClampNeg).toNatClampNeg x8) →
      Q132 x0 x8 x9 C I45 J R))))) :
    AW Γ 0 0 C I J R 91 [(0, aR (some x0)), (8, aI x8), (9, aI x9)] [] := by
  have G0 := G.1
  refine aw_iload G0 2 rfl dX2_adds_91 ?_
  refine aw_iconst (v := (4 : Int32)) G0 dX2_adds_93 (by decide) ?_
  refine aw_icmp_ge G0 138 dX2_adds_94 (by decide) (fun c1 => ?_) (fun c1 => ?_)
  · have h := h.1 c1
    refine aw_aload_n G0 0 rfl dX2_adds_138 ?_
    obtain ⟨k2, h⟩ := h
    refine aw_getR (f := 12) G0 (by rw [k2]; exact fb_X2_39) dX2_adds_139 ?_
    refine aw_iload G0 1 rfl dX2_adds_142 ?_
    refine aw_iconst (v := (1 : Int32)) G0 dX2_adds_144 (by decide) ?_
    obtain ⟨q3, e3, h⟩ := h
    refine aw_dr2 e3 ?_
    obtain ⟨k4, h⟩ := h
    obtain ⟨k5, h⟩ := h
    refine aw_iast G0 k4 k5 dX2_adds_145 ?_
    generalize gI6 : va_up I q3 (va_up (I q3) x8.toNatClampNeg (1 : Int32)) = I6
    have h := h I6 gI6.symm
    refine aw_aload_n G0 0 rfl dX2_adds_146 ?_
    refine aw_getR (f := 13) G0 (by rw [k2]; exact fb_X2_42) dX2_adds_147 ?_
    refine aw_iconst (v := (3 : Int32)) G0 dX2_adds_150 (by decide) ?_
    refine aw_iload G0 1 rfl dX2_adds_151 ?_
    refine aw_imul G0 dX2_adds_153 ?_
    refine aw_iconst (v := (0 : Int32)) G0 dX2_adds_154 (by decide) ?_
    obtain ⟨q7, e7, h⟩ := h
    refine aw_dr2 e7 ?_
    obtain ⟨k8, h⟩ := h
    obtain ⟨k9, h⟩ := h
    refine aw_iast G0 k8 k9 dX2_adds_155 ?_
    generalize gI10 : va_up I6 q7 (va_up (I6 q7) ((3 : Int32) * x8).toNatClampNeg (0 : Int32)) = I10
    have h := h I10 gI10.symm
    refine aw_aload_n G0 0 rfl dX2_adds_156 ?_
    refine aw_getR (f := 15) G0 (by rw [k2]; exact fb_X2_48) dX2_adds_157 ?_
    refine aw_iload G0 1 rfl dX2_adds_160 ?_
    refine aw_iconst (v := (0 : Int32)) G0 dX2_adds_162 (by decide) ?_
    obtain ⟨q11, e11, h⟩ := h
    refine aw_dr2 e11 ?_
    obtain ⟨k12, h⟩ := h
    obtain ⟨k13, h⟩ := h
    refine aw_iast G0 k12 k13 dX2_adds_163 ?_
    generalize gI14 : va_up I10 q11 (va_up (I10 q11) x8.toNatClampNeg (0 : Int32)) = I14
    have h := h I14 gI14.symm
    refine aw_aload_n G0 0 rfl dX2_adds_164 ?_
    refine aw_getR (f := 16) G0 (by rw [k2]; exact fb_X2_51) dX2_adds_165 ?_
    refine aw_iload G0 1 rfl dX2_adds_168 ?_
    refine aw_iconst (v := (-1 : Int32)) G0 dX2_adds_170 (by decide) ?_
    obtain ⟨q15, e15, h⟩ := h
    refine aw_dr2 e15 ?_
    obtain ⟨k16, h⟩ := h
    obtain ⟨k17, h⟩ := h
    refine aw_iast G0 k16 k17 dX2_adds_171 ?_
    generalize gI18 : va_up I14 q15 (va_up (I14 q15) x8.toNatClampNeg (-1 : Int32)) = I18
    have h := h I18 gI18.symm
    refine aw_aload_n G0 0 rfl dX2_adds_172 ?_
    refine aw_getR (f := 17) G0 (by rw [k2]; exact fb_X2_54) dX2_adds_173 ?_
    refine aw_iload G0 1 rfl dX2_adds_176 ?_
    refine aw_iconst (v := (-1 : Int32)) G0 dX2_adds_178 (by decide) ?_
    obtain ⟨q19, e19, h⟩ := h
    refine aw_dr2 e19 ?_
    obtain ⟨k20, h⟩ := h
    obtain ⟨k21, h⟩ := h
    refine aw_iast G0 k20 k21 dX2_adds_179 ?_
    generalize gI22 : va_up I18 q19 (va_up (I18 q19) x8.toNatClampNeg (-1 : Int32)) = I22
    have h := h I22 gI22.symm
    refine aw_aload_n G0 0 rfl dX2_adds_180 ?_
    refine aw_getR (f := 18) G0 (by rw [k2]; exact fb_X2_57) dX2_adds_181 ?_
    refine aw_iload G0 1 rfl dX2_adds_184 ?_
    refine aw_iconst (v := (0 : Int32)) G0 dX2_adds_186 (by decide) ?_
    obtain ⟨q23, e23, h⟩ := h
    refine aw_dr2 e23 ?_
    obtain ⟨k24, h⟩ := h
    obtain ⟨k25, h⟩ := h
    refine aw_iast G0 k24 k25 dX2_adds_187 ?_
    generalize gI26 : va_up I22 q23 (va_up (I22 q23) x8.toNatClampNeg (0 : Int32)) = I26
    have h := h I26 gI26.symm
    refine aw_aload_n G0 0 rfl dX2_adds_188 ?_
    refine aw_getR (f := 19) G0 (by rw [k2]; exact fb_X2_60) dX2_adds_189 ?_
    refine aw_iload G0 1 rfl dX2_adds_192 ?_
    refine aw_iconst (v := (0 : Int32)) G0 dX2_adds_194 (by decide) ?_
    obtain ⟨q27, e27, h⟩ := h
    refine aw_dr2 e27 ?_
    obtain ⟨k28, h⟩ := h
    obtain ⟨k29, h⟩ := h
    refine aw_iast G0 k28 k29 dX2_adds_195 ?_
    generalize gI30 : va_up I26 q27 (va_up (I26 q27) x8.toNatClampNeg (0 : Int32)) = I30
    have h := h I30 gI30.symm
    refine aw_aload_n G0 0 rfl dX2_adds_196 ?_
    refine aw_getR (f := 20) G0 (by rw [k2]; exact fb_X2_63) dX2_adds_197 ?_
    refine aw_iload G0 1 rfl dX2_adds_200 ?_
    refine aw_iconst (v := (0 : Int32)) G0 dX2_adds_202 (by decide) ?_
    obtain ⟨q31, e31, h⟩ := h
    refine aw_dr2 e31 ?_
    obtain ⟨k32, h⟩ := h
    obtain ⟨k33, h⟩ := h
    refine aw_iast G0 k32 k33 dX2_adds_203 ?_
    generalize gI34 : va_up I30 q31 (va_up (I30 q31) x8.toNatClampNeg (0 : Int32)) = I34
    have h := h I34 gI34.symm
    refine aw_aload_n G0 0 rfl dX2_adds_204 ?_
    refine aw_dupR G0 dX2_adds_205 ?_
    refine aw_getI (f := 6) G0 (by rw [k2]; exact fb_X2_136) dX2_adds_206 ?_
    refine aw_iconst (v := (1 : Int32)) G0 dX2_adds_209 (by decide) ?_
    refine aw_iadd G0 dX2_adds_210 ?_
    refine aw_putI (f := 6) G0 (by rw [k2]; exact fp_X2_136 _) dX2_adds_211 ?_
    generalize gI35 : va_up I34 x0 (va_up (I34 x0) 6 ((I34 x0 6) + (1 : Int32))) = I35
    have h := h I35 gI35.symm
    refine aw_aload_n G0 0 rfl dX2_adds_214 ?_
    refine aw_iconst (v := (0 : Int32)) G0 dX2_adds_215 (by decide) ?_
    refine aw_putI (f := 0) G0 (by rw [k2]; exact fp_X2_112 _) dX2_adds_216 ?_
    generalize gI36 : va_up I35 x0 (va_up (I35 x0) 0 (0 : Int32)) = I36
    have h := h I36 gI36.symm
    refine aw_iload G0 1 rfl dX2_adds_219 ?_
    exact aw_ireturn G0 (Or.inl rfl) (by rw [G.2.2]; decide) (by rw [G.2.1]; decide) dX2_adds_221 h
  · have h := h.2 c1
    refine aw_aload_n G0 0 rfl dX2_adds_97 ?_
    obtain ⟨k37, h⟩ := h
    refine aw_getR (f := 8) G0 (by rw [k37]; exact fb_X2_27) dX2_adds_98 ?_
    refine aw_iconst (v := (4 : Int32)) G0 dX2_adds_101 (by decide) ?_
    refine aw_iload G0 1 rfl dX2_adds_102 ?_
    refine aw_imul G0 dX2_adds_104 ?_
    refine aw_iload G0 2 rfl dX2_adds_105 ?_
    refine aw_iadd G0 dX2_adds_107 ?_
    obtain ⟨q38, e38, h⟩ := h
    refine aw_dr1 e38 ?_
    obtain ⟨k39, h⟩ := h
    obtain ⟨k40, h⟩ := h
    refine aw_iald G0 (Or.inl k39) k40 dX2_adds_108 ?_
    refine aw_iconst (v := (-1 : Int32)) G0 dX2_adds_109 (by decide) ?_
    refine aw_icmp_eq G0 132 dX2_adds_110 (by decide) (fun c41 => ?_) (fun c41 => ?_)
    · have h := h.1 c41
      exact (w132 x0 x8 x9 C I J R h)
    · have h := h.2 c41
      refine aw_aload_n G0 0 rfl dX2_adds_113 ?_
      refine aw_getR (f := 11) G0 (by rw [k37]; exact fb_X2_36) dX2_adds_114 ?_
      refine aw_aload_n G0 0 rfl dX2_adds_117 ?_
      refine aw_getR (f := 8) G0 (by rw [k37]; exact fb_X2_27) dX2_adds_118 ?_
      refine aw_iconst (v := (4 : Int32)) G0 dX2_adds_121 (by decide) ?_
      refine aw_iload G0 1 rfl dX2_adds_122 ?_
      refine aw_imul G0 dX2_adds_124 ?_
      refine aw_iload G0 2 rfl dX2_adds_125 ?_
      refine aw_iadd G0 dX2_adds_127 ?_
      refine aw_dr1 e38 ?_
      refine aw_iald G0 (Or.inl k39) k40 dX2_adds_128 ?_
      refine aw_iload G0 1 rfl dX2_adds_129 ?_
      obtain ⟨q42, e42, h⟩ := h
      refine aw_dr2 e42 ?_
      obtain ⟨k43, h⟩ := h
      obtain ⟨k44, h⟩ := h
      refine aw_iast G0 k43 k44 dX2_adds_131 ?_
      generalize gI45 : va_up I q42 (va_up (I q42) (I q38 (((4 : Int32) * x8) + x9).toNatClampNeg).toNatClampNeg x8) = I45
      have h := h I45 gI45.symm
      exact (w132 x0 x8 x9 C I45 J R h)
theorem bX2_adds_132 (G : Gb Γ yX2_adds cX2_adds 10 (some .int) [] rmX2_adds bdX2_adds)
    {Q91 : Nat → Int32 → Int32 → MC → MI → MJ → MR → Prop} (w91 : ∀ (x0 : Nat) (x8 : Int32) (x9 : Int32) (C : MC) (I : MI) (J : MJ) (R : MR), Q91 x0 x8 x9 C I J R → AW Γ 0 0 C I J R 91 [(0, aR (some x0)), (8, aI x8), (9, aI x9)] []) {x0 : Nat} {x8 : Int32} {x9 : Int32}
    (h : Q91 x0 x8 (x9 + 1) C I J R) :
    AW Γ 0 0 C I J R 132 [(0, aR (some x0)), (8, aI x8), (9, aI x9)] [] := by
  have G0 := G.1
  refine aw_iinc (v := x9 + 1) (lv' := [(9, aI (x9 + 1)), (0, aR (some x0)), (8, aI x8)]) G0 2 rfl rfl (by decide) rfl dX2_adds_132 ?_
  refine aw_goto G0 91 dX2_adds_135 (by decide) ?_
  exact (aw_lv [1, 2, 0] rfl (w91 x0 x8 (x9 + 1) C I J R h))
theorem bX2_row_0 (G : Gb Γ yX2_row cX2_row 6 (some .int) [] rmX2_row bdX2_row) {F_X2_wrongParts : SPF} (S_X2_wrongParts : SpX2_wrongParts (gL Γ) F_X2_wrongParts) {F_X2_adds : SPF} (S_X2_adds : SpX2_adds (gL Γ) F_X2_adds) {F_X2_refuse : SPF} (S_X2_refuse : SpX2_refuse (gL Γ) F_X2_refuse) {x0 : Nat} {x1 : Int32} {x2 : Int32} {x3 : Int32} {x4 : Int32}
    (h : (C x0).1 = 3 ∧
      F_X2_wrongParts [aR (some x0), aI x1, aI x2, aI x3, aI x4, aI (2 : Int32)] C I J R (fun o C2 I3 J4 R5 =>
      ∃ r6 : Int32, o = .inl (some (aI r6)) ∧
      ((r6 ≤ 0 →
      (C2 x0).1 = 3 ∧
      F_X2_adds [aR (some x0), aI (1 : Int32), aI x1, aI x2, aI x3, aI x4, aI (0 : Int32), aI (0 : Int32)] C2 I3 J4 R5 (fun o C9 I10 J11 R12 =>
      ∃ r13 : Int32, o = .inl (some (aI r13)) ∧
      gK Γ (.inl (some (aI r13))) C9 I10 J11 R12)) ∧
      (¬ r6 ≤ 0 →
      (C2 x0).1 = 3 ∧
      F_X2_refuse [aR (some x0), aI r6] C2 I3 J4 R5 (fun o C15 I16 J17 R18 =>
      ∃ r19 : Int32, o = .inl (some (aI r19)) ∧
      gK Γ (.inl (some (aI r19))) C15 I16 J17 R18))))) :
    AW Γ 0 0 C I J R 0 [(0, aR (some x0)), (1, aI x1), (2, aI x2), (3, aI x3), (4, aI x4)] [] := by
  have G0 := G.1
  refine aw_aload_n G0 0 rfl dX2_row_0 ?_
  refine aw_iload_n G0 1 rfl dX2_row_1 ?_
  refine aw_iload_n G0 2 rfl dX2_row_2 ?_
  refine aw_iload_n G0 3 rfl dX2_row_3 ?_
  refine aw_iload G0 4 rfl dX2_row_4 ?_
  refine aw_iconst (v := (2 : Int32)) G0 dX2_row_6 (by decide) ?_
  obtain ⟨k1, h⟩ := h
  refine aw_callV (k1 := 1) (n1 := 4) (k2 := 0) (n2 := 0) (st := []) G0 S_X2_wrongParts gi_X2_159 (Or.inl (by rw [k1]; decide)) (by rw [k1]; rfl) md_X2_wrongParts (Nat.le_of_ble_eq_true rfl) (by decide) (by rw [G.2.1]; decide) (by rw [G.2.1]; decide) [aI x1, aI x2, aI x3, aI x4, aI (2 : Int32)] rfl rfl dX2_row_7 h (fun o C2 I3 J4 R5 h => ?_)
  obtain ⟨r6, rfl, h⟩ := h
  show AW Γ 1 4 C2 I3 J4 R5 (7 + 3) [(0, aR (some x0)), (1, aI x1), (2, aI x2), (3, aI x3), (4, aI x4)] [aI r6]
  refine aw_istore (lv' := [(5, aI r6), (0, aR (some x0)), (1, aI x1), (2, aI x2), (3, aI x3), (4, aI x4)]) G0 (by decide) rfl dX2_row_10 ?_
  refine aw_iload G0 0 rfl dX2_row_12 ?_
  refine aw_if_le G0 26 dX2_row_14 (by decide) (fun c7 => ?_) (fun c7 => ?_)
  · have h := h.1 c7
    refine aw_aload_n G0 1 rfl dX2_row_26 ?_
    refine aw_iconst (v := (1 : Int32)) G0 dX2_row_27 (by decide) ?_
    refine aw_iload_n G0 2 rfl dX2_row_28 ?_
    refine aw_iload_n G0 3 rfl dX2_row_29 ?_
    refine aw_iload_n G0 4 rfl dX2_row_30 ?_
    refine aw_iload G0 5 rfl dX2_row_31 ?_
    refine aw_iconst (v := (0 : Int32)) G0 dX2_row_33 (by decide) ?_
    refine aw_iconst (v := (0 : Int32)) G0 dX2_row_34 (by decide) ?_
    obtain ⟨k8, h⟩ := h
    refine aw_callV (k1 := 1) (n1 := 4) (k2 := 1) (n2 := 4) (st := []) G0 S_X2_adds gi_X2_155 (Or.inl (by rw [k8]; decide)) (by rw [k8]; rfl) md_X2_adds (Nat.le_of_ble_eq_true rfl) (by decide) (by rw [G.2.1]; decide) (by rw [G.2.1]; decide) [aI (1 : Int32), aI x1, aI x2, aI x3, aI x4, aI (0 : Int32), aI (0 : Int32)] rfl rfl dX2_row_35 h (fun o C9 I10 J11 R12 h => ?_)
    obtain ⟨r13, rfl, h⟩ := h
    show AW Γ 1 4 C9 I10 J11 R12 (35 + 3) [(5, aI r6), (0, aR (some x0)), (1, aI x1), (2, aI x2), (3, aI x3), (4, aI x4)] [aI r13]
    exact aw_ireturn G0 (Or.inl rfl) (by rw [G.2.2]; decide) (by rw [G.2.1]; decide) dX2_row_38 h
  · have h := h.2 c7
    refine aw_aload_n G0 1 rfl dX2_row_17 ?_
    refine aw_iload G0 0 rfl dX2_row_18 ?_
    obtain ⟨k14, h⟩ := h
    refine aw_callV (k1 := 1) (n1 := 4) (k2 := 1) (n2 := 4) (st := []) G0 S_X2_refuse gi_X2_147 (Or.inl (by rw [k14]; decide)) (by rw [k14]; rfl) md_X2_refuse (Nat.le_of_ble_eq_true rfl) (by decide) (by rw [G.2.1]; decide) (by rw [G.2.1]; decide) [aI r6] rfl rfl dX2_row_20 h (fun o C15 I16 J17 R18 h => ?_)
    obtain ⟨r19, rfl, h⟩ := h
    show AW Γ 1 4 C15 I16 J17 R18 (20 + 3) [(5, aI r6), (0, aR (some x0)), (1, aI x1), (2, aI x2), (3, aI x3), (4, aI x4)] [aI r19]
    refine aw_goto G0 38 dX2_row_23 (by decide) ?_
    exact aw_ireturn G0 (Or.inl rfl) (by rw [G.2.2]; decide) (by rw [G.2.1]; decide) dX2_row_38 h
theorem bX2_wrongParts_0 (G : Gb Γ yX2_wrongParts cX2_wrongParts 10 (some .int) [] rmX2_wrongParts bdX2_wrongParts)
    {Q32 : Nat → Int32 → Nat → Int32 → Int32 → MC → MI → MJ → MR → Prop} (w32 : ∀ (x0 : Nat) (x5 : Int32) (x6 : Nat) (x7 : Int32) (x8 : Int32) (C : MC) (I : MI) (J : MJ) (R : MR), Q32 x0 x5 x6 x7 x8 C I J R → AW Γ 1 4 C I J R 32 [(0, aR (some x0)), (5, aI x5), (6, aR (some x6)), (7, aI x7), (8, aI x8)] []) {x0 : Nat} {x1 : Int32} {x2 : Int32} {x3 : Int32} {x4 : Int32} {x5 : Int32}
    (h : ∃ q1 : Nat, (C q1).1 = 0 ∧
      ∀ (C3 : MC) (I4 : MI) (J5 : MJ) (R6 : MR), C3 = va_up C q1 (20, 4) → I4 = va_up I q1 (fun _ => 0) → J5 = va_up J q1 (fun _ => 0) → R6 = va_up R q1 (fun _ => none) → 
      (C3 q1).1 = 20 ∧
      vp_in (0 : Int32) (C3 q1).2 ∧
      ∀ I9 : MI, I9 = va_up I4 q1 (va_up (I4 q1) (0 : Int32).toNatClampNeg x1) →
      vp_in (1 : Int32) (C3 q1).2 ∧
      ∀ I11 : MI, I11 = va_up I9 q1 (va_up (I9 q1) (1 : Int32).toNatClampNeg x2) →
      vp_in (2 : Int32) (C3 q1).2 ∧
      ∀ I13 : MI, I13 = va_up I11 q1 (va_up (I11 q1) (2 : Int32).toNatClampNeg x3) →
      vp_in (3 : Int32) (C3 q1).2 ∧
      ∀ I15 : MI, I15 = va_up I13 q1 (va_up (I13 q1) (3 : Int32).toNatClampNeg x4) →
      Q32 x0 x5 q1 (0 : Int32) (0 : Int32) C3 I15 J5 R6) :
    AW Γ 0 0 C I J R 0 [(0, aR (some x0)), (1, aI x1), (2, aI x2), (3, aI x3), (4, aI x4), (5, aI x5)] [] := by
  have G0 := G.1
  refine aw_iconst (v := (4 : Int32)) G0 dX2_wrongParts_0 (by decide) ?_
  obtain ⟨q1, z2, h⟩ := h
  refine aw_newaI (q := q1) (k' := 1) (n' := 4) (N := 4) G0 (by decide) (by decide) (by decide) (by decide) (by decide) (by rw [G.2.1]; decide) (by rw [G.2.1]; decide) z2 dX2_wrongParts_1 ?_
  generalize gC3 : va_up C q1 (20, 4) = C3
  generalize gI4 : va_up I q1 (fun _ => 0) = I4
  generalize gJ5 : va_up J q1 (fun _ => 0) = J5
  generalize gR6 : va_up R q1 (fun _ => none) = R6
  have h := h C3 I4 J5 R6 gC3.symm gI4.symm gJ5.symm gR6.symm
  refine aw_astore (lv' := [(6, aR (some q1)), (0, aR (some x0)), (1, aI x1), (2, aI x2), (3, aI x3), (4, aI x4), (5, aI x5)]) G0 (by decide) rfl dX2_wrongParts_3 ?_
  refine aw_aload G0 0 rfl dX2_wrongParts_5 ?_
  refine aw_iconst (v := (0 : Int32)) G0 dX2_wrongParts_7 (by decide) ?_
  refine aw_iload_n G0 2 rfl dX2_wrongParts_8 ?_
  obtain ⟨k7, h⟩ := h
  obtain ⟨k8, h⟩ := h
  refine aw_iast G0 k7 k8 dX2_wrongParts_9 ?_
  generalize gI9 : va_up I4 q1 (va_up (I4 q1) (0 : Int32).toNatClampNeg x1) = I9
  have h := h I9 gI9.symm
  refine aw_aload G0 0 rfl dX2_wrongParts_10 ?_
  refine aw_iconst (v := (1 : Int32)) G0 dX2_wrongParts_12 (by decide) ?_
  refine aw_iload_n G0 3 rfl dX2_wrongParts_13 ?_
  obtain ⟨k10, h⟩ := h
  refine aw_iast G0 k7 k10 dX2_wrongParts_14 ?_
  generalize gI11 : va_up I9 q1 (va_up (I9 q1) (1 : Int32).toNatClampNeg x2) = I11
  have h := h I11 gI11.symm
  refine aw_aload G0 0 rfl dX2_wrongParts_15 ?_
  refine aw_iconst (v := (2 : Int32)) G0 dX2_wrongParts_17 (by decide) ?_
  refine aw_iload_n G0 4 rfl dX2_wrongParts_18 ?_
  obtain ⟨k12, h⟩ := h
  refine aw_iast G0 k7 k12 dX2_wrongParts_19 ?_
  generalize gI13 : va_up I11 q1 (va_up (I11 q1) (2 : Int32).toNatClampNeg x3) = I13
  have h := h I13 gI13.symm
  refine aw_aload G0 0 rfl dX2_wrongParts_20 ?_
  refine aw_iconst (v := (3 : Int32)) G0 dX2_wrongParts_22 (by decide) ?_
  refine aw_iload G0 5 rfl dX2_wrongParts_23 ?_
  obtain ⟨k14, h⟩ := h
  refine aw_iast G0 k7 k14 dX2_wrongParts_25 ?_
  generalize gI15 : va_up I13 q1 (va_up (I13 q1) (3 : Int32).toNatClampNeg x4) = I15
  have h := h I15 gI15.symm
  refine aw_iconst (v := (0 : Int32)) G0 dX2_wrongParts_26 (by decide) ?_
  refine aw_istore (lv' := [(7, aI (0 : Int32)), (6, aR (some q1)), (0, aR (some x0)), (1, aI x1), (2, aI x2), (3, aI x3), (4, aI x4), (5, aI x5)]) G0 (by decide) rfl dX2_wrongParts_27 ?_
  refine aw_iconst (v := (0 : Int32)) G0 dX2_wrongParts_29 (by decide) ?_
  refine aw_istore (lv' := [(8, aI (0 : Int32)), (7, aI (0 : Int32)), (6, aR (some q1)), (0, aR (some x0)), (1, aI x1), (2, aI x2), (3, aI x3), (4, aI x4), (5, aI x5)]) G0 (by decide) rfl dX2_wrongParts_30 ?_
  exact (aw_lv [3, 8, 2, 1, 0] rfl (w32 x0 x5 q1 (0 : Int32) (0 : Int32) C3 I15 J5 R6 h))
theorem bX2_wrongParts_32 (G : Gb Γ yX2_wrongParts cX2_wrongParts 10 (some .int) [] rmX2_wrongParts bdX2_wrongParts)
    {Q60 : Nat → Int32 → Nat → Int32 → Int32 → MC → MI → MJ → MR → Prop} (w60 : ∀ (x0 : Nat) (x5 : Int32) (x6 : Nat) (x7 : Int32) (x8 : Int32) (C : MC) (I : MI) (J : MJ) (R : MR), Q60 x0 x5 x6 x7 x8 C I J R → AW Γ 1 4 C I J R 60 [(0, aR (some x0)), (5, aI x5), (6, aR (some x6)), (7, aI x7), (8, aI x8)] [])
    {Q79 : Nat → Int32 → Nat → Int32 → Int32 → MC → MI → MJ → MR → Prop} (w79 : ∀ (x0 : Nat) (x5 : Int32) (x6 : Nat) (x7 : Int32) (x8 : Int32) (C : MC) (I : MI) (J : MJ) (R : MR), Q79 x0 x5 x6 x7 x8 C I J R → AW Γ 1 4 C I J R 79 [(0, aR (some x0)), (5, aI x5), (6, aR (some x6)), (7, aI x7), (8, aI x8)] [])
    {Q99 : Nat → Nat → Int32 → MC → MI → MJ → MR → Prop} (w99 : ∀ (x0 : Nat) (x6 : Nat) (x8 : Int32) (C : MC) (I : MI) (J : MJ) (R : MR), Q99 x0 x6 x8 C I J R → AW Γ 1 4 C I J R 99 [(0, aR (some x0)), (6, aR (some x6)), (8, aI x8)] []) {x0 : Nat} {x5 : Int32} {x6 : Nat} {x7 : Int32} {x8 : Int32}
    (h : (((4 : Int32) ≤ x8 →
      (C x0).1 = 3 ∧
      ((¬ (I x0 6) = (20 : Int32) →
      Q99 x0 x6 (0 : Int32) C I J R) ∧
      ((I x0 6) = (20 : Int32) →
      gK Γ (.inl (some (aI (4 : Int32)))) C I J R))) ∧
      (¬ (4 : Int32) ≤ x8 →
      (C x6).1 = 20 ∧
      vp_in x8 (C x6).2 ∧
      ((¬ (I x6 x8.toNatClampNeg) = (-1 : Int32) →
      Q60 x0 x5 x6 x7 x8 C I J R) ∧
      ((I x6 x8.toNatClampNeg) = (-1 : Int32) →
      ((x8 < x5 →
      Q60 x0 x5 x6 x7 x8 C I J R) ∧
      (¬ x8 < x5 →
      Q79 x0 x5 x6 (1 : Int32) x8 C I J R))))))) :
    AW Γ 1 4 C I J R 32 [(0, aR (some x0)), (5, aI x5), (6, aR (some x6)), (7, aI x7), (8, aI x8)] [] := by
  have G0 := G.1
  refine aw_iload G0 4 rfl dX2_wrongParts_32 ?_
  refine aw_iconst (v := (4 : Int32)) G0 dX2_wrongParts_34 (by decide) ?_
  refine aw_icmp_ge G0 85 dX2_wrongParts_35 (by decide) (fun c1 => ?_) (fun c1 => ?_)
  · have h := h.1 c1
    refine aw_aload_n G0 0 rfl dX2_wrongParts_85 ?_
    obtain ⟨k2, h⟩ := h
    refine aw_getI (f := 6) G0 (by rw [k2]; exact fb_X2_136) dX2_wrongParts_86 ?_
    refine aw_bipush (v := (20 : Int32)) G0 dX2_wrongParts_89 (by decide) ?_
    refine aw_icmp_ne G0 96 dX2_wrongParts_91 (by decide) (fun c3 => ?_) (fun c3 => ?_)
    · have h := h.1 c3
      refine aw_iconst (v := (0 : Int32)) G0 dX2_wrongParts_96 (by decide) ?_
      refine aw_istore (lv' := [(8, aI (0 : Int32)), (0, aR (some x0)), (5, aI x5), (6, aR (some x6)), (7, aI x7)]) G0 (by decide) rfl dX2_wrongParts_97 ?_
      exact (aw_lv [1, 3, 0] rfl (w99 x0 x6 (0 : Int32) C I J R h))
    · have h := h.2 c3
      refine aw_iconst (v := (4 : Int32)) G0 dX2_wrongParts_94 (by decide) ?_
      exact aw_ireturn G0 (Or.inl rfl) (by rw [G.2.2]; decide) (by rw [G.2.1]; decide) dX2_wrongParts_95 h
  · have h := h.2 c1
    refine aw_aload G0 2 rfl dX2_wrongParts_38 ?_
    refine aw_iload G0 4 rfl dX2_wrongParts_40 ?_
    obtain ⟨k4, h⟩ := h
    obtain ⟨k5, h⟩ := h
    refine aw_iald G0 (Or.inl k4) k5 dX2_wrongParts_42 ?_
    refine aw_iconst (v := (-1 : Int32)) G0 dX2_wrongParts_43 (by decide) ?_
    refine aw_icmp_ne G0 60 dX2_wrongParts_44 (by decide) (fun c6 => ?_) (fun c6 => ?_)
    · have h := h.1 c6
      exact (w60 x0 x5 x6 x7 x8 C I J R h)
    · have h := h.2 c6
      refine aw_iload G0 4 rfl dX2_wrongParts_47 ?_
      refine aw_iload G0 1 rfl dX2_wrongParts_49 ?_
      refine aw_icmp_lt G0 60 dX2_wrongParts_51 (by decide) (fun c7 => ?_) (fun c7 => ?_)
      · have h := h.1 c7
        exact (w60 x0 x5 x6 x7 x8 C I J R h)
      · have h := h.2 c7
        refine aw_iconst (v := (1 : Int32)) G0 dX2_wrongParts_54 (by decide) ?_
        refine aw_istore (lv' := [(7, aI (1 : Int32)), (0, aR (some x0)), (5, aI x5), (6, aR (some x6)), (8, aI x8)]) G0 (by decide) rfl dX2_wrongParts_55 ?_
        refine aw_goto G0 79 dX2_wrongParts_57 (by decide) ?_
        exact (aw_lv [1, 2, 3, 0, 4] rfl (w79 x0 x5 x6 (1 : Int32) x8 C I J R h))
theorem bX2_wrongParts_60 (G : Gb Γ yX2_wrongParts cX2_wrongParts 10 (some .int) [] rmX2_wrongParts bdX2_wrongParts) {F_X2_isThing : SPF} (S_X2_isThing : SpX2_isThing (gL Γ) F_X2_isThing)
    {Q79 : Nat → Int32 → Nat → Int32 → Int32 → MC → MI → MJ → MR → Prop} (w79 : ∀ (x0 : Nat) (x5 : Int32) (x6 : Nat) (x7 : Int32) (x8 : Int32) (C : MC) (I : MI) (J : MJ) (R : MR), Q79 x0 x5 x6 x7 x8 C I J R → AW Γ 1 4 C I J R 79 [(0, aR (some x0)), (5, aI x5), (6, aR (some x6)), (7, aI x7), (8, aI x8)] []) {x0 : Nat} {x5 : Int32} {x6 : Nat} {x7 : Int32} {x8 : Int32}
    (h : ((¬ x7 = 0 →
      gK Γ (.inl (some (aI (1 : Int32)))) C I J R) ∧
      (x7 = 0 →
      (C x6).1 = 20 ∧
      vp_in x8 (C x6).2 ∧
      (C x0).1 = 3 ∧
      F_X2_isThing [aR (some x0), aI (I x6 x8.toNatClampNeg)] C I J R (fun o C5 I6 J7 R8 =>
      ∃ r9 : Int32, o = .inl (some (aI r9)) ∧
      ((¬ r9 = 0 →
      Q79 x0 x5 x6 x7 x8 C5 I6 J7 R8) ∧
      (r9 = 0 →
      gK Γ (.inl (some (aI (1 : Int32)))) C5 I6 J7 R8)))))) :
    AW Γ 1 4 C I J R 60 [(0, aR (some x0)), (5, aI x5), (6, aR (some x6)), (7, aI x7), (8, aI x8)] [] := by
  have G0 := G.1
  refine aw_iload G0 3 rfl dX2_wrongParts_60 ?_
  refine aw_if_ne G0 77 dX2_wrongParts_62 (by decide) (fun c1 => ?_) (fun c1 => ?_)
  · have h := h.1 c1
    refine aw_iconst (v := (1 : Int32)) G0 dX2_wrongParts_77 (by decide) ?_
    exact aw_ireturn G0 (Or.inl rfl) (by rw [G.2.2]; decide) (by rw [G.2.1]; decide) dX2_wrongParts_78 h
  · have h := h.2 c1
    refine aw_aload_n G0 0 rfl dX2_wrongParts_65 ?_
    refine aw_aload G0 2 rfl dX2_wrongParts_66 ?_
    refine aw_iload G0 4 rfl dX2_wrongParts_68 ?_
    obtain ⟨k2, h⟩ := h
    obtain ⟨k3, h⟩ := h
    refine aw_iald G0 (Or.inl k2) k3 dX2_wrongParts_70 ?_
    obtain ⟨k4, h⟩ := h
    refine aw_callV (k1 := 1) (n1 := 4) (k2 := 1) (n2 := 4) (st := []) G0 S_X2_isThing gi_X2_139 (Or.inl (by rw [k4]; decide)) (by rw [k4]; rfl) md_X2_isThing (Nat.le_of_ble_eq_true rfl) (by decide) (by rw [G.2.1]; decide) (by rw [G.2.1]; decide) [aI (I x6 x8.toNatClampNeg)] rfl rfl dX2_wrongParts_71 h (fun o C5 I6 J7 R8 h => ?_)
    obtain ⟨r9, rfl, h⟩ := h
    show AW Γ 1 4 C5 I6 J7 R8 (71 + 3) [(0, aR (some x0)), (5, aI x5), (6, aR (some x6)), (7, aI x7), (8, aI x8)] [aI r9]
    refine aw_if_ne G0 79 dX2_wrongParts_74 (by decide) (fun c10 => ?_) (fun c10 => ?_)
    · have h := h.1 c10
      exact (w79 x0 x5 x6 x7 x8 C5 I6 J7 R8 h)
    · have h := h.2 c10
      refine aw_iconst (v := (1 : Int32)) G0 dX2_wrongParts_77 (by decide) ?_
      exact aw_ireturn G0 (Or.inl rfl) (by rw [G.2.2]; decide) (by rw [G.2.1]; decide) dX2_wrongParts_78 h
theorem bX2_wrongParts_79 (G : Gb Γ yX2_wrongParts cX2_wrongParts 10 (some .int) [] rmX2_wrongParts bdX2_wrongParts)
    {Q32 : Nat → Int32 → Nat → Int32 → Int32 → MC → MI → MJ → MR → Prop} (w32 : ∀ (x0 : Nat) (x5 : Int32) (x6 : Nat) (x7 : Int32) (x8 : Int32) (C : MC) (I : MI) (J : MJ) (R : MR), Q32 x0 x5 x6 x7 x8 C I J R → AW Γ 1 4 C I J R 32 [(0, aR (some x0)), (5, aI x5), (6, aR (some x6)), (7, aI x7), (8, aI x8)] []) {x0 : Nat} {x5 : Int32} {x6 : Nat} {x7 : Int32} {x8 : Int32}
    (h : Q32 x0 x5 x6 x7 (x8 + 1) C I J R) :
    AW Γ 1 4 C I J R 79 [(0, aR (some x0)), (5, aI x5), (6, aR (some x6)), (7, aI x7), (8, aI x8)] [] := by
  have G0 := G.1
  refine aw_iinc (v := x8 + 1) (lv' := [(8, aI (x8 + 1)), (0, aR (some x0)), (5, aI x5), (6, aR (some x6)), (7, aI x7)]) G0 4 rfl rfl (by decide) rfl dX2_wrongParts_79 ?_
  refine aw_goto G0 32 dX2_wrongParts_82 (by decide) ?_
  exact (aw_lv [1, 2, 3, 4, 0] rfl (w32 x0 x5 x6 x7 (x8 + 1) C I J R h))
theorem bX2_wrongParts_99 (G : Gb Γ yX2_wrongParts cX2_wrongParts 10 (some .int) [] rmX2_wrongParts bdX2_wrongParts)
    {Q136 : Nat → Nat → Int32 → Int32 → MC → MI → MJ → MR → Prop} (w136 : ∀ (x0 : Nat) (x6 : Nat) (x8 : Int32) (x9 : Int32) (C : MC) (I : MI) (J : MJ) (R : MR), Q136 x0 x6 x8 x9 C I J R → AW Γ 1 4 C I J R 136 [(0, aR (some x0)), (6, aR (some x6)), (8, aI x8), (9, aI x9)] [])
    {Q164 : Nat → Nat → Int32 → MC → MI → MJ → MR → Prop} (w164 : ∀ (x0 : Nat) (x6 : Nat) (x8 : Int32) (C : MC) (I : MI) (J : MJ) (R : MR), Q164 x0 x6 x8 C I J R → AW Γ 1 4 C I J R 164 [(0, aR (some x0)), (6, aR (some x6)), (8, aI x8)] []) {x0 : Nat} {x6 : Nat} {x8 : Int32}
    (h : (((4 : Int32) ≤ x8 →
      gK Γ (.inl (some (aI (0 : Int32)))) C I J R) ∧
      (¬ (4 : Int32) ≤ x8 →
      (C x6).1 = 20 ∧
      vp_in x8 (C x6).2 ∧
      ((¬ (I x6 x8.toNatClampNeg) = (-1 : Int32) →
      (C x0).1 = 3 ∧
      ∃ q6 : Nat, R x0 11 = some q6 ∧
      (C q6).1 = 20 ∧
      vp_in (I x6 x8.toNatClampNeg) (C q6).2 ∧
      (((I q6 (I x6 x8.toNatClampNeg).toNatClampNeg) = (-1 : Int32) →
      Q136 x0 x6 x8 (0 : Int32) C I J R) ∧
      (¬ (I q6 (I x6 x8.toNatClampNeg).toNatClampNeg) = (-1 : Int32) →
      gK Γ (.inl (some (aI (5 : Int32)))) C I J R))) ∧
      ((I x6 x8.toNatClampNeg) = (-1 : Int32) →
      Q164 x0 x6 x8 C I J R))))) :
    AW Γ 1 4 C I J R 99 [(0, aR (some x0)), (6, aR (some x6)), (8, aI x8)] [] := by
  have G0 := G.1
  refine aw_iload G0 2 rfl dX2_wrongParts_99 ?_
  refine aw_iconst (v := (4 : Int32)) G0 dX2_wrongParts_101 (by decide) ?_
  refine aw_icmp_ge G0 170 dX2_wrongParts_102 (by decide) (fun c1 => ?_) (fun c1 => ?_)
  · have h := h.1 c1
    refine aw_iconst (v := (0 : Int32)) G0 dX2_wrongParts_170 (by decide) ?_
    exact aw_ireturn G0 (Or.inl rfl) (by rw [G.2.2]; decide) (by rw [G.2.1]; decide) dX2_wrongParts_171 h
  · have h := h.2 c1
    refine aw_aload G0 1 rfl dX2_wrongParts_105 ?_
    refine aw_iload G0 2 rfl dX2_wrongParts_107 ?_
    obtain ⟨k2, h⟩ := h
    obtain ⟨k3, h⟩ := h
    refine aw_iald G0 (Or.inl k2) k3 dX2_wrongParts_109 ?_
    refine aw_iconst (v := (-1 : Int32)) G0 dX2_wrongParts_110 (by decide) ?_
    refine aw_icmp_ne G0 117 dX2_wrongParts_111 (by decide) (fun c4 => ?_) (fun c4 => ?_)
    · have h := h.1 c4
      refine aw_aload_n G0 0 rfl dX2_wrongParts_117 ?_
      obtain ⟨k5, h⟩ := h
      refine aw_getR (f := 11) G0 (by rw [k5]; exact fb_X2_36) dX2_wrongParts_118 ?_
      refine aw_aload G0 1 rfl dX2_wrongParts_121 ?_
      refine aw_iload G0 2 rfl dX2_wrongParts_123 ?_
      refine aw_iald G0 (Or.inl k2) k3 dX2_wrongParts_125 ?_
      obtain ⟨q6, e6, h⟩ := h
      refine aw_dr1 e6 ?_
      obtain ⟨k7, h⟩ := h
      obtain ⟨k8, h⟩ := h
      refine aw_iald G0 (Or.inl k7) k8 dX2_wrongParts_126 ?_
      refine aw_iconst (v := (-1 : Int32)) G0 dX2_wrongParts_127 (by decide) ?_
      refine aw_icmp_eq G0 133 dX2_wrongParts_128 (by decide) (fun c9 => ?_) (fun c9 => ?_)
      · have h := h.1 c9
        refine aw_iconst (v := (0 : Int32)) G0 dX2_wrongParts_133 (by decide) ?_
        refine aw_istore (lv' := [(9, aI (0 : Int32)), (0, aR (some x0)), (6, aR (some x6)), (8, aI x8)]) G0 (by decide) rfl dX2_wrongParts_134 ?_
        exact (aw_lv [1, 2, 3, 0] rfl (w136 x0 x6 x8 (0 : Int32) C I J R h))
      · have h := h.2 c9
        refine aw_iconst (v := (5 : Int32)) G0 dX2_wrongParts_131 (by decide) ?_
        exact aw_ireturn G0 (Or.inl rfl) (by rw [G.2.2]; decide) (by rw [G.2.1]; decide) dX2_wrongParts_132 h
    · have h := h.2 c4
      refine aw_goto G0 164 dX2_wrongParts_114 (by decide) ?_
      exact (w164 x0 x6 x8 C I J R h)
theorem bX2_wrongParts_136 (G : Gb Γ yX2_wrongParts cX2_wrongParts 10 (some .int) [] rmX2_wrongParts bdX2_wrongParts)
    {Q136 : Nat → Nat → Int32 → Int32 → MC → MI → MJ → MR → Prop} (w136 : ∀ (x0 : Nat) (x6 : Nat) (x8 : Int32) (x9 : Int32) (C : MC) (I : MI) (J : MJ) (R : MR), Q136 x0 x6 x8 x9 C I J R → AW Γ 1 4 C I J R 136 [(0, aR (some x0)), (6, aR (some x6)), (8, aI x8), (9, aI x9)] [])
    {Q164 : Nat → Nat → Int32 → MC → MI → MJ → MR → Prop} (w164 : ∀ (x0 : Nat) (x6 : Nat) (x8 : Int32) (C : MC) (I : MI) (J : MJ) (R : MR), Q164 x0 x6 x8 C I J R → AW Γ 1 4 C I J R 164 [(0, aR (some x0)), (6, aR (some x6)), (8, aI x8)] []) {x0 : Nat} {x6 : Nat} {x8 : Int32} {x9 : Int32}
    (h : ((x8 ≤ x9 →
      Q164 x0 x6 x8 C I J R) ∧
      (¬ x8 ≤ x9 →
      (C x6).1 = 20 ∧
      vp_in x9 (C x6).2 ∧
      vp_in x8 (C x6).2 ∧
      ((¬ (I x6 x9.toNatClampNeg) = (I x6 x8.toNatClampNeg) →
      Q136 x0 x6 x8 (x9 + 1) C I J R) ∧
      ((I x6 x9.toNatClampNeg) = (I x6 x8.toNatClampNeg) →
      gK Γ (.inl (some (aI (5 : Int32)))) C I J R))))) :
    AW Γ 1 4 C I J R 136 [(0, aR (some x0)), (6, aR (some x6)), (8, aI x8), (9, aI x9)] [] := by
  have G0 := G.1
  refine aw_iload G0 3 rfl dX2_wrongParts_136 ?_
  refine aw_iload G0 2 rfl dX2_wrongParts_138 ?_
  refine aw_icmp_ge G0 164 dX2_wrongParts_140 (by decide) (fun c1 => ?_) (fun c1 => ?_)
  · have h := h.1 c1
    exact (aw_lv [0, 1, 2] rfl (w164 x0 x6 x8 C I J R h))
  · have h := h.2 c1
    refine aw_aload G0 1 rfl dX2_wrongParts_143 ?_
    refine aw_iload G0 3 rfl dX2_wrongParts_145 ?_
    obtain ⟨k2, h⟩ := h
    obtain ⟨k3, h⟩ := h
    refine aw_iald G0 (Or.inl k2) k3 dX2_wrongParts_147 ?_
    refine aw_aload G0 1 rfl dX2_wrongParts_148 ?_
    refine aw_iload G0 2 rfl dX2_wrongParts_150 ?_
    obtain ⟨k4, h⟩ := h
    refine aw_iald G0 (Or.inl k2) k4 dX2_wrongParts_152 ?_
    refine aw_icmp_ne G0 158 dX2_wrongParts_153 (by decide) (fun c5 => ?_) (fun c5 => ?_)
    · have h := h.1 c5
      refine aw_iinc (v := x9 + 1) (lv' := [(9, aI (x9 + 1)), (0, aR (some x0)), (6, aR (some x6)), (8, aI x8)]) G0 3 rfl rfl (by decide) rfl dX2_wrongParts_158 ?_
      refine aw_goto G0 136 dX2_wrongParts_161 (by decide) ?_
      exact (aw_lv [1, 2, 3, 0] rfl (w136 x0 x6 x8 (x9 + 1) C I J R h))
    · have h := h.2 c5
      refine aw_iconst (v := (5 : Int32)) G0 dX2_wrongParts_156 (by decide) ?_
      exact aw_ireturn G0 (Or.inl rfl) (by rw [G.2.2]; decide) (by rw [G.2.1]; decide) dX2_wrongParts_157 h
theorem bX2_wrongParts_164 (G : Gb Γ yX2_wrongParts cX2_wrongParts 10 (some .int) [] rmX2_wrongParts bdX2_wrongParts)
    {Q99 : Nat → Nat → Int32 → MC → MI → MJ → MR → Prop} (w99 : ∀ (x0 : Nat) (x6 : Nat) (x8 : Int32) (C : MC) (I : MI) (J : MJ) (R : MR), Q99 x0 x6 x8 C I J R → AW Γ 1 4 C I J R 99 [(0, aR (some x0)), (6, aR (some x6)), (8, aI x8)] []) {x0 : Nat} {x6 : Nat} {x8 : Int32}
    (h : Q99 x0 x6 (x8 + 1) C I J R) :
    AW Γ 1 4 C I J R 164 [(0, aR (some x0)), (6, aR (some x6)), (8, aI x8)] [] := by
  have G0 := G.1
  refine aw_iinc (v := x8 + 1) (lv' := [(8, aI (x8 + 1)), (0, aR (some x0)), (6, aR (some x6))]) G0 2 rfl rfl (by decide) rfl dX2_wrongParts_164 ?_
  refine aw_goto G0 99 dX2_wrongParts_167 (by decide) ?_
  exact (aw_lv [1, 2, 0] rfl (w99 x0 x6 (x8 + 1) C I J R h))
theorem bX2_isThing_0 (G : Gb Γ yX2_isThing cX2_isThing 2 (some .boolean) [] rmX2_isThing bdX2_isThing) {x0 : Nat} {x1 : Int32}
    (h : ((x1 < 0 →
      gK Γ (.inl (some (aI (0 : Int32)))) C I J R) ∧
      (¬ x1 < 0 →
      (C x0).1 = 3 ∧
      (((I x0 6) ≤ x1 →
      gK Γ (.inl (some (aI (0 : Int32)))) C I J R) ∧
      (¬ (I x0 6) ≤ x1 →
      gK Γ (.inl (some (aI (1 : Int32)))) C I J R))))) :
    AW Γ 0 0 C I J R 0 [(0, aR (some x0)), (1, aI x1)] [] := by
  have G0 := G.1
  refine aw_iload_n G0 1 rfl dX2_isThing_0 ?_
  refine aw_if_lt G0 16 dX2_isThing_1 (by decide) (fun c1 => ?_) (fun c1 => ?_)
  · have h := h.1 c1
    refine aw_iconst (v := (0 : Int32)) G0 dX2_isThing_16 (by decide) ?_
    exact aw_ireturn G0 (Or.inr ⟨rfl, by decide⟩) (by rw [G.2.2]; decide) (by rw [G.2.1]; decide) dX2_isThing_17 h
  · have h := h.2 c1
    refine aw_iload_n G0 1 rfl dX2_isThing_4 ?_
    refine aw_aload_n G0 0 rfl dX2_isThing_5 ?_
    obtain ⟨k2, h⟩ := h
    refine aw_getI (f := 6) G0 (by rw [k2]; exact fb_X2_136) dX2_isThing_6 ?_
    refine aw_icmp_ge G0 16 dX2_isThing_9 (by decide) (fun c3 => ?_) (fun c3 => ?_)
    · have h := h.1 c3
      refine aw_iconst (v := (0 : Int32)) G0 dX2_isThing_16 (by decide) ?_
      exact aw_ireturn G0 (Or.inr ⟨rfl, by decide⟩) (by rw [G.2.2]; decide) (by rw [G.2.1]; decide) dX2_isThing_17 h
    · have h := h.2 c3
      refine aw_iconst (v := (1 : Int32)) G0 dX2_isThing_12 (by decide) ?_
      refine aw_goto G0 17 dX2_isThing_13 (by decide) ?_
      exact aw_ireturn G0 (Or.inr ⟨rfl, by decide⟩) (by rw [G.2.2]; decide) (by rw [G.2.1]; decide) dX2_isThing_17 h
theorem bX2_fan_0 (G : Gb Γ yX2_fan cX2_fan 8 (some .int) [] rmX2_fan bdX2_fan)
    {Q11 : Nat → Int32 → Int32 → Int32 → Int32 → Int32 → Int32 → Int32 → MC → MI → MJ → MR → Prop} (w11 : ∀ (x0 : Nat) (x1 : Int32) (x2 : Int32) (x3 : Int32) (x4 : Int32) (x5 : Int32) (s0 : Int32) (s1 : Int32) (C : MC) (I : MI) (J : MJ) (R : MR), Q11 x0 x1 x2 x3 x4 x5 s0 s1 C I J R → AW Γ 0 0 C I J R 11 [(0, aR (some x0)), (1, aI x1), (2, aI x2), (3, aI x3), (4, aI x4), (5, aI x5)] [aI s1, aI s0]) {x0 : Nat} {x1 : Int32} {x2 : Int32} {x3 : Int32} {x4 : Int32} {x5 : Int32}
    (h : ((¬ x3 = (-1 : Int32) →
      Q11 x0 x1 x2 x3 x4 x5 (1 : Int32) (1 : Int32) C I J R) ∧
      (x3 = (-1 : Int32) →
      Q11 x0 x1 x2 x3 x4 x5 (1 : Int32) (0 : Int32) C I J R))) :
    AW Γ 0 0 C I J R 0 [(0, aR (some x0)), (1, aI x1), (2, aI x2), (3, aI x3), (4, aI x4), (5, aI x5)] [] := by
  have G0 := G.1
  refine aw_iconst (v := (1 : Int32)) G0 dX2_fan_0 (by decide) ?_
  refine aw_iload_n G0 3 rfl dX2_fan_1 ?_
  refine aw_iconst (v := (-1 : Int32)) G0 dX2_fan_2 (by decide) ?_
  refine aw_icmp_ne G0 10 dX2_fan_3 (by decide) (fun c1 => ?_) (fun c1 => ?_)
  · have h := h.1 c1
    refine aw_iconst (v := (1 : Int32)) G0 dX2_fan_10 (by decide) ?_
    exact (w11 x0 x1 x2 x3 x4 x5 (1 : Int32) (1 : Int32) C I J R h)
  · have h := h.2 c1
    refine aw_iconst (v := (0 : Int32)) G0 dX2_fan_6 (by decide) ?_
    refine aw_goto G0 11 dX2_fan_7 (by decide) ?_
    exact (w11 x0 x1 x2 x3 x4 x5 (1 : Int32) (0 : Int32) C I J R h)
theorem bX2_fan_11 (G : Gb Γ yX2_fan cX2_fan 8 (some .int) [] rmX2_fan bdX2_fan)
    {Q23 : Nat → Int32 → Int32 → Int32 → Int32 → Int32 → Int32 → Int32 → MC → MI → MJ → MR → Prop} (w23 : ∀ (x0 : Nat) (x1 : Int32) (x2 : Int32) (x3 : Int32) (x4 : Int32) (x5 : Int32) (s0 : Int32) (s1 : Int32) (C : MC) (I : MI) (J : MJ) (R : MR), Q23 x0 x1 x2 x3 x4 x5 s0 s1 C I J R → AW Γ 0 0 C I J R 23 [(0, aR (some x0)), (1, aI x1), (2, aI x2), (3, aI x3), (4, aI x4), (5, aI x5)] [aI s1, aI s0]) {x0 : Nat} {x1 : Int32} {x2 : Int32} {x3 : Int32} {x4 : Int32} {x5 : Int32} {s0 : Int32} {s1 : Int32}
    (h : ((¬ x4 = (-1 : Int32) →
      Q23 x0 x1 x2 x3 x4 x5 (s0 + s1) (1 : Int32) C I J R) ∧
      (x4 = (-1 : Int32) →
      Q23 x0 x1 x2 x3 x4 x5 (s0 + s1) (0 : Int32) C I J R))) :
    AW Γ 0 0 C I J R 11 [(0, aR (some x0)), (1, aI x1), (2, aI x2), (3, aI x3), (4, aI x4), (5, aI x5)] [aI s1, aI s0] := by
  have G0 := G.1
  refine aw_iadd G0 dX2_fan_11 ?_
  refine aw_iload G0 4 rfl dX2_fan_12 ?_
  refine aw_iconst (v := (-1 : Int32)) G0 dX2_fan_14 (by decide) ?_
  refine aw_icmp_ne G0 22 dX2_fan_15 (by decide) (fun c1 => ?_) (fun c1 => ?_)
  · have h := h.1 c1
    refine aw_iconst (v := (1 : Int32)) G0 dX2_fan_22 (by decide) ?_
    exact (w23 x0 x1 x2 x3 x4 x5 (s0 + s1) (1 : Int32) C I J R h)
  · have h := h.2 c1
    refine aw_iconst (v := (0 : Int32)) G0 dX2_fan_18 (by decide) ?_
    refine aw_goto G0 23 dX2_fan_19 (by decide) ?_
    exact (w23 x0 x1 x2 x3 x4 x5 (s0 + s1) (0 : Int32) C I J R h)
theorem bX2_fan_23 (G : Gb Γ yX2_fan cX2_fan 8 (some .int) [] rmX2_fan bdX2_fan)
    {Q35 : Nat → Int32 → Int32 → Int32 → Int32 → Int32 → Int32 → Int32 → MC → MI → MJ → MR → Prop} (w35 : ∀ (x0 : Nat) (x1 : Int32) (x2 : Int32) (x3 : Int32) (x4 : Int32) (x5 : Int32) (s0 : Int32) (s1 : Int32) (C : MC) (I : MI) (J : MJ) (R : MR), Q35 x0 x1 x2 x3 x4 x5 s0 s1 C I J R → AW Γ 0 0 C I J R 35 [(0, aR (some x0)), (1, aI x1), (2, aI x2), (3, aI x3), (4, aI x4), (5, aI x5)] [aI s1, aI s0]) {x0 : Nat} {x1 : Int32} {x2 : Int32} {x3 : Int32} {x4 : Int32} {x5 : Int32} {s0 : Int32} {s1 : Int32}
    (h : ((¬ x5 = (-1 : Int32) →
      Q35 x0 x1 x2 x3 x4 x5 (s0 + s1) (1 : Int32) C I J R) ∧
      (x5 = (-1 : Int32) →
      Q35 x0 x1 x2 x3 x4 x5 (s0 + s1) (0 : Int32) C I J R))) :
    AW Γ 0 0 C I J R 23 [(0, aR (some x0)), (1, aI x1), (2, aI x2), (3, aI x3), (4, aI x4), (5, aI x5)] [aI s1, aI s0] := by
  have G0 := G.1
  refine aw_iadd G0 dX2_fan_23 ?_
  refine aw_iload G0 5 rfl dX2_fan_24 ?_
  refine aw_iconst (v := (-1 : Int32)) G0 dX2_fan_26 (by decide) ?_
  refine aw_icmp_ne G0 34 dX2_fan_27 (by decide) (fun c1 => ?_) (fun c1 => ?_)
  · have h := h.1 c1
    refine aw_iconst (v := (1 : Int32)) G0 dX2_fan_34 (by decide) ?_
    exact (w35 x0 x1 x2 x3 x4 x5 (s0 + s1) (1 : Int32) C I J R h)
  · have h := h.2 c1
    refine aw_iconst (v := (0 : Int32)) G0 dX2_fan_30 (by decide) ?_
    refine aw_goto G0 35 dX2_fan_31 (by decide) ?_
    exact (w35 x0 x1 x2 x3 x4 x5 (s0 + s1) (0 : Int32) C I J R h)
theorem bX2_fan_35 (G : Gb Γ yX2_fan cX2_fan 8 (some .int) [] rmX2_fan bdX2_fan) {F_X2_wrongParts : SPF} (S_X2_wrongParts : SpX2_wrongParts (gL Γ) F_X2_wrongParts)
    {Q49 : Nat → Int32 → Int32 → Int32 → Int32 → Int32 → MC → MI → MJ → MR → Prop} (w49 : ∀ (x0 : Nat) (x1 : Int32) (x2 : Int32) (x3 : Int32) (x4 : Int32) (x5 : Int32) (C : MC) (I : MI) (J : MJ) (R : MR), Q49 x0 x1 x2 x3 x4 x5 C I J R → AW Γ 0 0 C I J R 49 [(0, aR (some x0)), (1, aI x1), (2, aI x2), (3, aI x3), (4, aI x4), (5, aI x5)] [])
    {Q64 : Nat → Int32 → Int32 → Int32 → Int32 → Int32 → Int32 → MC → MI → MJ → MR → Prop} (w64 : ∀ (x0 : Nat) (x1 : Int32) (x2 : Int32) (x3 : Int32) (x4 : Int32) (x5 : Int32) (s0 : Int32) (C : MC) (I : MI) (J : MJ) (R : MR), Q64 x0 x1 x2 x3 x4 x5 s0 C I J R → AW Γ 1 4 C I J R 64 [(0, aR (some x0)), (1, aI x1), (2, aI x2), (3, aI x3), (4, aI x4), (5, aI x5)] [aI s0]) {x0 : Nat} {x1 : Int32} {x2 : Int32} {x3 : Int32} {x4 : Int32} {x5 : Int32} {s0 : Int32} {s1 : Int32}
    (h : ((x1 < (1 : Int32) →
      Q49 x0 x1 x2 x3 x4 x5 C I J R) ∧
      (¬ x1 < (1 : Int32) →
      ((x1 ≤ (s0 + s1) →
      (C x0).1 = 3 ∧
      F_X2_wrongParts [aR (some x0), aI x2, aI x3, aI x4, aI x5, aI (1 : Int32)] C I J R (fun o C4 I5 J6 R7 =>
      ∃ r8 : Int32, o = .inl (some (aI r8)) ∧
      Q64 x0 x1 x2 x3 x4 x5 r8 C4 I5 J6 R7)) ∧
      (¬ x1 ≤ (s0 + s1) →
      Q49 x0 x1 x2 x3 x4 x5 C I J R))))) :
    AW Γ 0 0 C I J R 35 [(0, aR (some x0)), (1, aI x1), (2, aI x2), (3, aI x3), (4, aI x4), (5, aI x5)] [aI s1, aI s0] := by
  have G0 := G.1
  refine aw_iadd G0 dX2_fan_35 ?_
  refine aw_istore (lv' := [(6, aI (s0 + s1)), (0, aR (some x0)), (1, aI x1), (2, aI x2), (3, aI x3), (4, aI x4), (5, aI x5)]) G0 (by decide) rfl dX2_fan_36 ?_
  refine aw_iload_n G0 2 rfl dX2_fan_38 ?_
  refine aw_iconst (v := (1 : Int32)) G0 dX2_fan_39 (by decide) ?_
  refine aw_icmp_lt G0 49 dX2_fan_40 (by decide) (fun c1 => ?_) (fun c1 => ?_)
  · have h := h.1 c1
    exact (aw_lv [1, 2, 3, 4, 5, 6] rfl (w49 x0 x1 x2 x3 x4 x5 C I J R h))
  · have h := h.2 c1
    refine aw_iload_n G0 2 rfl dX2_fan_43 ?_
    refine aw_iload G0 0 rfl dX2_fan_44 ?_
    refine aw_icmp_le G0 53 dX2_fan_46 (by decide) (fun c2 => ?_) (fun c2 => ?_)
    · have h := h.1 c2
      refine aw_aload_n G0 1 rfl dX2_fan_53 ?_
      refine aw_iload_n G0 3 rfl dX2_fan_54 ?_
      refine aw_iload_n G0 4 rfl dX2_fan_55 ?_
      refine aw_iload G0 5 rfl dX2_fan_56 ?_
      refine aw_iload G0 6 rfl dX2_fan_58 ?_
      refine aw_iconst (v := (1 : Int32)) G0 dX2_fan_60 (by decide) ?_
      obtain ⟨k3, h⟩ := h
      refine aw_callV (k1 := 1) (n1 := 4) (k2 := 0) (n2 := 0) (st := []) G0 S_X2_wrongParts gi_X2_159 (Or.inl (by rw [k3]; decide)) (by rw [k3]; rfl) md_X2_wrongParts (Nat.le_of_ble_eq_true rfl) (by decide) (by rw [G.2.1]; decide) (by rw [G.2.1]; decide) [aI x2, aI x3, aI x4, aI x5, aI (1 : Int32)] rfl rfl dX2_fan_61 h (fun o C4 I5 J6 R7 h => ?_)
      obtain ⟨r8, rfl, h⟩ := h
      show AW Γ 1 4 C4 I5 J6 R7 (61 + 3) [(6, aI (s0 + s1)), (0, aR (some x0)), (1, aI x1), (2, aI x2), (3, aI x3), (4, aI x4), (5, aI x5)] [aI r8]
      exact (aw_lv [1, 2, 3, 4, 5, 6] rfl (w64 x0 x1 x2 x3 x4 x5 r8 C4 I5 J6 R7 h))
    · have h := h.2 c2
      exact (aw_lv [1, 2, 3, 4, 5, 6] rfl (w49 x0 x1 x2 x3 x4 x5 C I J R h))
theorem bX2_fan_49 (G : Gb Γ yX2_fan cX2_fan 8 (some .int) [] rmX2_fan bdX2_fan)
    {Q64 : Nat → Int32 → Int32 → Int32 → Int32 → Int32 → Int32 → MC → MI → MJ → MR → Prop} (w64 : ∀ (x0 : Nat) (x1 : Int32) (x2 : Int32) (x3 : Int32) (x4 : Int32) (x5 : Int32) (s0 : Int32) (C : MC) (I : MI) (J : MJ) (R : MR), Q64 x0 x1 x2 x3 x4 x5 s0 C I J R → AW Γ 1 4 C I J R 64 [(0, aR (some x0)), (1, aI x1), (2, aI x2), (3, aI x3), (4, aI x4), (5, aI x5)] [aI s0]) {x0 : Nat} {x1 : Int32} {x2 : Int32} {x3 : Int32} {x4 : Int32} {x5 : Int32}
    (h : Q64 x0 x1 x2 x3 x4 x5 (1 : Int32) C I J R) :
    AW Γ 0 0 C I J R 49 [(0, aR (some x0)), (1, aI x1), (2, aI x2), (3, aI x3), (4, aI x4), (5, aI x5)] [] := by
  have G0 := G.1
  refine aw_iconst (v := (1 : Int32)) G0 dX2_fan_49 (by decide) ?_
  refine aw_goto G0 64 dX2_fan_50 (by decide) ?_
  exact (aw_wide (by decide) (by decide) (w64 x0 x1 x2 x3 x4 x5 (1 : Int32) C I J R h))
theorem bX2_fan_64 (G : Gb Γ yX2_fan cX2_fan 8 (some .int) [] rmX2_fan bdX2_fan) {F_X2_adds : SPF} (S_X2_adds : SpX2_adds (gL Γ) F_X2_adds) {F_X2_refuse : SPF} (S_X2_refuse : SpX2_refuse (gL Γ) F_X2_refuse) {x0 : Nat} {x1 : Int32} {x2 : Int32} {x3 : Int32} {x4 : Int32} {x5 : Int32} {s0 : Int32}
    (h : ((s0 ≤ 0 →
      (C x0).1 = 3 ∧
      F_X2_adds [aR (some x0), aI (2 : Int32), aI x2, aI x3, aI x4, aI x5, aI x1, aI (0 : Int32)] C I J R (fun o C3 I4 J5 R6 =>
      ∃ r7 : Int32, o = .inl (some (aI r7)) ∧
      gK Γ (.inl (some (aI r7))) C3 I4 J5 R6)) ∧
      (¬ s0 ≤ 0 →
      (C x0).1 = 3 ∧
      F_X2_refuse [aR (some x0), aI s0] C I J R (fun o C9 I10 J11 R12 =>
      ∃ r13 : Int32, o = .inl (some (aI r13)) ∧
      gK Γ (.inl (some (aI r13))) C9 I10 J11 R12)))) :
    AW Γ 1 4 C I J R 64 [(0, aR (some x0)), (1, aI x1), (2, aI x2), (3, aI x3), (4, aI x4), (5, aI x5)] [aI s0] := by
  have G0 := G.1
  refine aw_istore (lv' := [(7, aI s0), (0, aR (some x0)), (1, aI x1), (2, aI x2), (3, aI x3), (4, aI x4), (5, aI x5)]) G0 (by decide) rfl dX2_fan_64 ?_
  refine aw_iload G0 0 rfl dX2_fan_66 ?_
  refine aw_if_le G0 80 dX2_fan_68 (by decide) (fun c1 => ?_) (fun c1 => ?_)
  · have h := h.1 c1
    refine aw_aload_n G0 1 rfl dX2_fan_80 ?_
    refine aw_iconst (v := (2 : Int32)) G0 dX2_fan_81 (by decide) ?_
    refine aw_iload_n G0 3 rfl dX2_fan_82 ?_
    refine aw_iload_n G0 4 rfl dX2_fan_83 ?_
    refine aw_iload G0 5 rfl dX2_fan_84 ?_
    refine aw_iload G0 6 rfl dX2_fan_86 ?_
    refine aw_iload_n G0 2 rfl dX2_fan_88 ?_
    refine aw_iconst (v := (0 : Int32)) G0 dX2_fan_89 (by decide) ?_
    obtain ⟨k2, h⟩ := h
    refine aw_callV (k1 := 1) (n1 := 4) (k2 := 1) (n2 := 4) (st := []) G0 S_X2_adds gi_X2_155 (Or.inl (by rw [k2]; decide)) (by rw [k2]; rfl) md_X2_adds (Nat.le_of_ble_eq_true rfl) (by decide) (by rw [G.2.1]; decide) (by rw [G.2.1]; decide) [aI (2 : Int32), aI x2, aI x3, aI x4, aI x5, aI x1, aI (0 : Int32)] rfl rfl dX2_fan_90 h (fun o C3 I4 J5 R6 h => ?_)
    obtain ⟨r7, rfl, h⟩ := h
    show AW Γ 1 4 C3 I4 J5 R6 (90 + 3) [(7, aI s0), (0, aR (some x0)), (1, aI x1), (2, aI x2), (3, aI x3), (4, aI x4), (5, aI x5)] [aI r7]
    exact aw_ireturn G0 (Or.inl rfl) (by rw [G.2.2]; decide) (by rw [G.2.1]; decide) dX2_fan_93 h
  · have h := h.2 c1
    refine aw_aload_n G0 1 rfl dX2_fan_71 ?_
    refine aw_iload G0 0 rfl dX2_fan_72 ?_
    obtain ⟨k8, h⟩ := h
    refine aw_callV (k1 := 1) (n1 := 4) (k2 := 1) (n2 := 4) (st := []) G0 S_X2_refuse gi_X2_147 (Or.inl (by rw [k8]; decide)) (by rw [k8]; rfl) md_X2_refuse (Nat.le_of_ble_eq_true rfl) (by decide) (by rw [G.2.1]; decide) (by rw [G.2.1]; decide) [aI s0] rfl rfl dX2_fan_74 h (fun o C9 I10 J11 R12 h => ?_)
    obtain ⟨r13, rfl, h⟩ := h
    show AW Γ 1 4 C9 I10 J11 R12 (74 + 3) [(7, aI s0), (0, aR (some x0)), (1, aI x1), (2, aI x2), (3, aI x3), (4, aI x4), (5, aI x5)] [aI r13]
    refine aw_goto G0 93 dX2_fan_77 (by decide) ?_
    exact aw_ireturn G0 (Or.inl rfl) (by rw [G.2.2]; decide) (by rw [G.2.1]; decide) dX2_fan_93 h
theorem bX2_cache_0 (G : Gb Γ yX2_cache cX2_cache 6 (some .int) [] rmX2_cache bdX2_cache) {F_X2_wrongParts : SPF} (S_X2_wrongParts : SpX2_wrongParts (gL Γ) F_X2_wrongParts)
    {Q23 : Nat → Int32 → Int32 → Int32 → Int32 → MC → MI → MJ → MR → Prop} (w23 : ∀ (x0 : Nat) (x1 : Int32) (x2 : Int32) (x3 : Int32) (x4 : Int32) (C : MC) (I : MI) (J : MJ) (R : MR), Q23 x0 x1 x2 x3 x4 C I J R → AW Γ 0 0 C I J R 23 [(0, aR (some x0)), (1, aI x1), (2, aI x2), (3, aI x3), (4, aI x4)] [])
    {Q36 : Nat → Int32 → Int32 → Int32 → Int32 → Int32 → MC → MI → MJ → MR → Prop} (w36 : ∀ (x0 : Nat) (x1 : Int32) (x2 : Int32) (x3 : Int32) (x4 : Int32) (s0 : Int32) (C : MC) (I : MI) (J : MJ) (R : MR), Q36 x0 x1 x2 x3 x4 s0 C I J R → AW Γ 1 4 C I J R 36 [(0, aR (some x0)), (1, aI x1), (2, aI x2), (3, aI x3), (4, aI x4)] [aI s0]) {x0 : Nat} {x1 : Int32} {x2 : Int32} {x3 : Int32} {x4 : Int32}
    (h : ((x4 < (1 : Int32) →
      Q23 x0 x1 x2 x3 x4 C I J R) ∧
      (¬ x4 < (1 : Int32) →
      (((100 : Int32) < x4 →
      Q23 x0 x1 x2 x3 x4 C I J R) ∧
      (¬ (100 : Int32) < x4 →
      ((x3 < 0 →
      Q23 x0 x1 x2 x3 x4 C I J R) ∧
      (¬ x3 < 0 →
      ((x3 ≤ x4 →
      (C x0).1 = 3 ∧
      F_X2_wrongParts [aR (some x0), aI x1, aI x2, aI (-1 : Int32), aI (-1 : Int32), aI (2 : Int32)] C I J R (fun o C6 I7 J8 R9 =>
      ∃ r10 : Int32, o = .inl (some (aI r10)) ∧
      Q36 x0 x1 x2 x3 x4 r10 C6 I7 J8 R9)) ∧
      (¬ x3 ≤ x4 →
      Q23 x0 x1 x2 x3 x4 C I J R))))))))) :
    AW Γ 0 0 C I J R 0 [(0, aR (some x0)), (1, aI x1), (2, aI x2), (3, aI x3), (4, aI x4)] [] := by
  have G0 := G.1
  refine aw_iload G0 4 rfl dX2_cache_0 ?_
  refine aw_iconst (v := (1 : Int32)) G0 dX2_cache_2 (by decide) ?_
  refine aw_icmp_lt G0 23 dX2_cache_3 (by decide) (fun c1 => ?_) (fun c1 => ?_)
  · have h := h.1 c1
    exact (w23 x0 x1 x2 x3 x4 C I J R h)
  · have h := h.2 c1
    refine aw_iload G0 4 rfl dX2_cache_6 ?_
    refine aw_bipush (v := (100 : Int32)) G0 dX2_cache_8 (by decide) ?_
    refine aw_icmp_gt G0 23 dX2_cache_10 (by decide) (fun c2 => ?_) (fun c2 => ?_)
    · have h := h.1 c2
      exact (w23 x0 x1 x2 x3 x4 C I J R h)
    · have h := h.2 c2
      refine aw_iload_n G0 3 rfl dX2_cache_13 ?_
      refine aw_if_lt G0 23 dX2_cache_14 (by decide) (fun c3 => ?_) (fun c3 => ?_)
      · have h := h.1 c3
        exact (w23 x0 x1 x2 x3 x4 C I J R h)
      · have h := h.2 c3
        refine aw_iload_n G0 3 rfl dX2_cache_17 ?_
        refine aw_iload G0 4 rfl dX2_cache_18 ?_
        refine aw_icmp_le G0 27 dX2_cache_20 (by decide) (fun c4 => ?_) (fun c4 => ?_)
        · have h := h.1 c4
          refine aw_aload_n G0 0 rfl dX2_cache_27 ?_
          refine aw_iload_n G0 1 rfl dX2_cache_28 ?_
          refine aw_iload_n G0 2 rfl dX2_cache_29 ?_
          refine aw_iconst (v := (-1 : Int32)) G0 dX2_cache_30 (by decide) ?_
          refine aw_iconst (v := (-1 : Int32)) G0 dX2_cache_31 (by decide) ?_
          refine aw_iconst (v := (2 : Int32)) G0 dX2_cache_32 (by decide) ?_
          obtain ⟨k5, h⟩ := h
          refine aw_callV (k1 := 1) (n1 := 4) (k2 := 0) (n2 := 0) (st := []) G0 S_X2_wrongParts gi_X2_159 (Or.inl (by rw [k5]; decide)) (by rw [k5]; rfl) md_X2_wrongParts (Nat.le_of_ble_eq_true rfl) (by decide) (by rw [G.2.1]; decide) (by rw [G.2.1]; decide) [aI x1, aI x2, aI (-1 : Int32), aI (-1 : Int32), aI (2 : Int32)] rfl rfl dX2_cache_33 h (fun o C6 I7 J8 R9 h => ?_)
          obtain ⟨r10, rfl, h⟩ := h
          show AW Γ 1 4 C6 I7 J8 R9 (33 + 3) [(0, aR (some x0)), (1, aI x1), (2, aI x2), (3, aI x3), (4, aI x4)] [aI r10]
          exact (w36 x0 x1 x2 x3 x4 r10 C6 I7 J8 R9 h)
        · have h := h.2 c4
          exact (w23 x0 x1 x2 x3 x4 C I J R h)
theorem bX2_cache_23 (G : Gb Γ yX2_cache cX2_cache 6 (some .int) [] rmX2_cache bdX2_cache)
    {Q36 : Nat → Int32 → Int32 → Int32 → Int32 → Int32 → MC → MI → MJ → MR → Prop} (w36 : ∀ (x0 : Nat) (x1 : Int32) (x2 : Int32) (x3 : Int32) (x4 : Int32) (s0 : Int32) (C : MC) (I : MI) (J : MJ) (R : MR), Q36 x0 x1 x2 x3 x4 s0 C I J R → AW Γ 1 4 C I J R 36 [(0, aR (some x0)), (1, aI x1), (2, aI x2), (3, aI x3), (4, aI x4)] [aI s0]) {x0 : Nat} {x1 : Int32} {x2 : Int32} {x3 : Int32} {x4 : Int32}
    (h : Q36 x0 x1 x2 x3 x4 (1 : Int32) C I J R) :
    AW Γ 0 0 C I J R 23 [(0, aR (some x0)), (1, aI x1), (2, aI x2), (3, aI x3), (4, aI x4)] [] := by
  have G0 := G.1
  refine aw_iconst (v := (1 : Int32)) G0 dX2_cache_23 (by decide) ?_
  refine aw_goto G0 36 dX2_cache_24 (by decide) ?_
  exact (aw_wide (by decide) (by decide) (w36 x0 x1 x2 x3 x4 (1 : Int32) C I J R h))
theorem bX2_cache_36 (G : Gb Γ yX2_cache cX2_cache 6 (some .int) [] rmX2_cache bdX2_cache) {F_X2_adds : SPF} (S_X2_adds : SpX2_adds (gL Γ) F_X2_adds) {F_X2_refuse : SPF} (S_X2_refuse : SpX2_refuse (gL Γ) F_X2_refuse) {x0 : Nat} {x1 : Int32} {x2 : Int32} {x3 : Int32} {x4 : Int32} {s0 : Int32}
    (h : ((s0 ≤ 0 →
      (C x0).1 = 3 ∧
      F_X2_adds [aR (some x0), aI (3 : Int32), aI x1, aI x2, aI (-1 : Int32), aI (-1 : Int32), aI x3, aI x4] C I J R (fun o C3 I4 J5 R6 =>
      ∃ r7 : Int32, o = .inl (some (aI r7)) ∧
      gK Γ (.inl (some (aI r7))) C3 I4 J5 R6)) ∧
      (¬ s0 ≤ 0 →
      (C x0).1 = 3 ∧
      F_X2_refuse [aR (some x0), aI s0] C I J R (fun o C9 I10 J11 R12 =>
      ∃ r13 : Int32, o = .inl (some (aI r13)) ∧
      gK Γ (.inl (some (aI r13))) C9 I10 J11 R12)))) :
    AW Γ 1 4 C I J R 36 [(0, aR (some x0)), (1, aI x1), (2, aI x2), (3, aI x3), (4, aI x4)] [aI s0] := by
  have G0 := G.1
  refine aw_istore (lv' := [(5, aI s0), (0, aR (some x0)), (1, aI x1), (2, aI x2), (3, aI x3), (4, aI x4)]) G0 (by decide) rfl dX2_cache_36 ?_
  refine aw_iload G0 0 rfl dX2_cache_38 ?_
  refine aw_if_le G0 52 dX2_cache_40 (by decide) (fun c1 => ?_) (fun c1 => ?_)
  · have h := h.1 c1
    refine aw_aload_n G0 1 rfl dX2_cache_52 ?_
    refine aw_iconst (v := (3 : Int32)) G0 dX2_cache_53 (by decide) ?_
    refine aw_iload_n G0 2 rfl dX2_cache_54 ?_
    refine aw_iload_n G0 3 rfl dX2_cache_55 ?_
    refine aw_iconst (v := (-1 : Int32)) G0 dX2_cache_56 (by decide) ?_
    refine aw_iconst (v := (-1 : Int32)) G0 dX2_cache_57 (by decide) ?_
    refine aw_iload_n G0 4 rfl dX2_cache_58 ?_
    refine aw_iload G0 5 rfl dX2_cache_59 ?_
    obtain ⟨k2, h⟩ := h
    refine aw_callV (k1 := 1) (n1 := 4) (k2 := 1) (n2 := 4) (st := []) G0 S_X2_adds gi_X2_155 (Or.inl (by rw [k2]; decide)) (by rw [k2]; rfl) md_X2_adds (Nat.le_of_ble_eq_true rfl) (by decide) (by rw [G.2.1]; decide) (by rw [G.2.1]; decide) [aI (3 : Int32), aI x1, aI x2, aI (-1 : Int32), aI (-1 : Int32), aI x3, aI x4] rfl rfl dX2_cache_61 h (fun o C3 I4 J5 R6 h => ?_)
    obtain ⟨r7, rfl, h⟩ := h
    show AW Γ 1 4 C3 I4 J5 R6 (61 + 3) [(5, aI s0), (0, aR (some x0)), (1, aI x1), (2, aI x2), (3, aI x3), (4, aI x4)] [aI r7]
    exact aw_ireturn G0 (Or.inl rfl) (by rw [G.2.2]; decide) (by rw [G.2.1]; decide) dX2_cache_64 h
  · have h := h.2 c1
    refine aw_aload_n G0 1 rfl dX2_cache_43 ?_
    refine aw_iload G0 0 rfl dX2_cache_44 ?_
    obtain ⟨k8, h⟩ := h
    refine aw_callV (k1 := 1) (n1 := 4) (k2 := 1) (n2 := 4) (st := []) G0 S_X2_refuse gi_X2_147 (Or.inl (by rw [k8]; decide)) (by rw [k8]; rfl) md_X2_refuse (Nat.le_of_ble_eq_true rfl) (by decide) (by rw [G.2.1]; decide) (by rw [G.2.1]; decide) [aI s0] rfl rfl dX2_cache_46 h (fun o C9 I10 J11 R12 h => ?_)
    obtain ⟨r13, rfl, h⟩ := h
    show AW Γ 1 4 C9 I10 J11 R12 (46 + 3) [(5, aI s0), (0, aR (some x0)), (1, aI x1), (2, aI x2), (3, aI x3), (4, aI x4)] [aI r13]
    refine aw_goto G0 64 dX2_cache_49 (by decide) ?_
    exact aw_ireturn G0 (Or.inl rfl) (by rw [G.2.2]; decide) (by rw [G.2.1]; decide) dX2_cache_64 h
theorem bX2_retry_0 (G : Gb Γ yX2_retry cX2_retry 5 (some .int) [] rmX2_retry bdX2_retry) {F_X2_wrongParts : SPF} (S_X2_wrongParts : SpX2_wrongParts (gL Γ) F_X2_wrongParts)
    {Q21 : Nat → Int32 → Int32 → Int32 → MC → MI → MJ → MR → Prop} (w21 : ∀ (x0 : Nat) (x1 : Int32) (x2 : Int32) (x3 : Int32) (C : MC) (I : MI) (J : MJ) (R : MR), Q21 x0 x1 x2 x3 C I J R → AW Γ 0 0 C I J R 21 [(0, aR (some x0)), (1, aI x1), (2, aI x2), (3, aI x3)] [])
    {Q34 : Nat → Int32 → Int32 → Int32 → Int32 → MC → MI → MJ → MR → Prop} (w34 : ∀ (x0 : Nat) (x1 : Int32) (x2 : Int32) (x3 : Int32) (s0 : Int32) (C : MC) (I : MI) (J : MJ) (R : MR), Q34 x0 x1 x2 x3 s0 C I J R → AW Γ 1 4 C I J R 34 [(0, aR (some x0)), (1, aI x1), (2, aI x2), (3, aI x3)] [aI s0]) {x0 : Nat} {x1 : Int32} {x2 : Int32} {x3 : Int32}
    (h : ((x2 < (1 : Int32) →
      Q21 x0 x1 x2 x3 C I J R) ∧
      (¬ x2 < (1 : Int32) →
      (((60 : Int32) < x2 →
      Q21 x0 x1 x2 x3 C I J R) ∧
      (¬ (60 : Int32) < x2 →
      ((x3 < (1 : Int32) →
      Q21 x0 x1 x2 x3 C I J R) ∧
      (¬ x3 < (1 : Int32) →
      ((x3 ≤ (3 : Int32) →
      (C x0).1 = 3 ∧
      F_X2_wrongParts [aR (some x0), aI x1, aI (-1 : Int32), aI (-1 : Int32), aI (-1 : Int32), aI (1 : Int32)] C I J R (fun o C6 I7 J8 R9 =>
      ∃ r10 : Int32, o = .inl (some (aI r10)) ∧
      Q34 x0 x1 x2 x3 r10 C6 I7 J8 R9)) ∧
      (¬ x3 ≤ (3 : Int32) →
      Q21 x0 x1 x2 x3 C I J R))))))))) :
    AW Γ 0 0 C I J R 0 [(0, aR (some x0)), (1, aI x1), (2, aI x2), (3, aI x3)] [] := by
  have G0 := G.1
  refine aw_iload_n G0 2 rfl dX2_retry_0 ?_
  refine aw_iconst (v := (1 : Int32)) G0 dX2_retry_1 (by decide) ?_
  refine aw_icmp_lt G0 21 dX2_retry_2 (by decide) (fun c1 => ?_) (fun c1 => ?_)
  · have h := h.1 c1
    exact (w21 x0 x1 x2 x3 C I J R h)
  · have h := h.2 c1
    refine aw_iload_n G0 2 rfl dX2_retry_5 ?_
    refine aw_bipush (v := (60 : Int32)) G0 dX2_retry_6 (by decide) ?_
    refine aw_icmp_gt G0 21 dX2_retry_8 (by decide) (fun c2 => ?_) (fun c2 => ?_)
    · have h := h.1 c2
      exact (w21 x0 x1 x2 x3 C I J R h)
    · have h := h.2 c2
      refine aw_iload_n G0 3 rfl dX2_retry_11 ?_
      refine aw_iconst (v := (1 : Int32)) G0 dX2_retry_12 (by decide) ?_
      refine aw_icmp_lt G0 21 dX2_retry_13 (by decide) (fun c3 => ?_) (fun c3 => ?_)
      · have h := h.1 c3
        exact (w21 x0 x1 x2 x3 C I J R h)
      · have h := h.2 c3
        refine aw_iload_n G0 3 rfl dX2_retry_16 ?_
        refine aw_iconst (v := (3 : Int32)) G0 dX2_retry_17 (by decide) ?_
        refine aw_icmp_le G0 25 dX2_retry_18 (by decide) (fun c4 => ?_) (fun c4 => ?_)
        · have h := h.1 c4
          refine aw_aload_n G0 0 rfl dX2_retry_25 ?_
          refine aw_iload_n G0 1 rfl dX2_retry_26 ?_
          refine aw_iconst (v := (-1 : Int32)) G0 dX2_retry_27 (by decide) ?_
          refine aw_iconst (v := (-1 : Int32)) G0 dX2_retry_28 (by decide) ?_
          refine aw_iconst (v := (-1 : Int32)) G0 dX2_retry_29 (by decide) ?_
          refine aw_iconst (v := (1 : Int32)) G0 dX2_retry_30 (by decide) ?_
          obtain ⟨k5, h⟩ := h
          refine aw_callV (k1 := 1) (n1 := 4) (k2 := 0) (n2 := 0) (st := []) G0 S_X2_wrongParts gi_X2_159 (Or.inl (by rw [k5]; decide)) (by rw [k5]; rfl) md_X2_wrongParts (Nat.le_of_ble_eq_true rfl) (by decide) (by rw [G.2.1]; decide) (by rw [G.2.1]; decide) [aI x1, aI (-1 : Int32), aI (-1 : Int32), aI (-1 : Int32), aI (1 : Int32)] rfl rfl dX2_retry_31 h (fun o C6 I7 J8 R9 h => ?_)
          obtain ⟨r10, rfl, h⟩ := h
          show AW Γ 1 4 C6 I7 J8 R9 (31 + 3) [(0, aR (some x0)), (1, aI x1), (2, aI x2), (3, aI x3)] [aI r10]
          exact (w34 x0 x1 x2 x3 r10 C6 I7 J8 R9 h)
        · have h := h.2 c4
          exact (w21 x0 x1 x2 x3 C I J R h)
theorem bX2_retry_21 (G : Gb Γ yX2_retry cX2_retry 5 (some .int) [] rmX2_retry bdX2_retry)
    {Q34 : Nat → Int32 → Int32 → Int32 → Int32 → MC → MI → MJ → MR → Prop} (w34 : ∀ (x0 : Nat) (x1 : Int32) (x2 : Int32) (x3 : Int32) (s0 : Int32) (C : MC) (I : MI) (J : MJ) (R : MR), Q34 x0 x1 x2 x3 s0 C I J R → AW Γ 1 4 C I J R 34 [(0, aR (some x0)), (1, aI x1), (2, aI x2), (3, aI x3)] [aI s0]) {x0 : Nat} {x1 : Int32} {x2 : Int32} {x3 : Int32}
    (h : Q34 x0 x1 x2 x3 (1 : Int32) C I J R) :
    AW Γ 0 0 C I J R 21 [(0, aR (some x0)), (1, aI x1), (2, aI x2), (3, aI x3)] [] := by
  have G0 := G.1
  refine aw_iconst (v := (1 : Int32)) G0 dX2_retry_21 (by decide) ?_
  refine aw_goto G0 34 dX2_retry_22 (by decide) ?_
  exact (aw_wide (by decide) (by decide) (w34 x0 x1 x2 x3 (1 : Int32) C I J R h))
theorem bX2_retry_34 (G : Gb Γ yX2_retry cX2_retry 5 (some .int) [] rmX2_retry bdX2_retry) {F_X2_adds : SPF} (S_X2_adds : SpX2_adds (gL Γ) F_X2_adds) {F_X2_refuse : SPF} (S_X2_refuse : SpX2_refuse (gL Γ) F_X2_refuse) {x0 : Nat} {x1 : Int32} {x2 : Int32} {x3 : Int32} {s0 : Int32}
    (h : ((s0 ≤ 0 →
      (C x0).1 = 3 ∧
      F_X2_adds [aR (some x0), aI (4 : Int32), aI x1, aI (-1 : Int32), aI (-1 : Int32), aI (-1 : Int32), aI x2, aI x3] C I J R (fun o C3 I4 J5 R6 =>
      ∃ r7 : Int32, o = .inl (some (aI r7)) ∧
      gK Γ (.inl (some (aI r7))) C3 I4 J5 R6)) ∧
      (¬ s0 ≤ 0 →
      (C x0).1 = 3 ∧
      F_X2_refuse [aR (some x0), aI s0] C I J R (fun o C9 I10 J11 R12 =>
      ∃ r13 : Int32, o = .inl (some (aI r13)) ∧
      gK Γ (.inl (some (aI r13))) C9 I10 J11 R12)))) :
    AW Γ 1 4 C I J R 34 [(0, aR (some x0)), (1, aI x1), (2, aI x2), (3, aI x3)] [aI s0] := by
  have G0 := G.1
  refine aw_istore (lv' := [(4, aI s0), (0, aR (some x0)), (1, aI x1), (2, aI x2), (3, aI x3)]) G0 (by decide) rfl dX2_retry_34 ?_
  refine aw_iload G0 0 rfl dX2_retry_36 ?_
  refine aw_if_le G0 50 dX2_retry_38 (by decide) (fun c1 => ?_) (fun c1 => ?_)
  · have h := h.1 c1
    refine aw_aload_n G0 1 rfl dX2_retry_50 ?_
    refine aw_iconst (v := (4 : Int32)) G0 dX2_retry_51 (by decide) ?_
    refine aw_iload_n G0 2 rfl dX2_retry_52 ?_
    refine aw_iconst (v := (-1 : Int32)) G0 dX2_retry_53 (by decide) ?_
    refine aw_iconst (v := (-1 : Int32)) G0 dX2_retry_54 (by decide) ?_
    refine aw_iconst (v := (-1 : Int32)) G0 dX2_retry_55 (by decide) ?_
    refine aw_iload_n G0 3 rfl dX2_retry_56 ?_
    refine aw_iload_n G0 4 rfl dX2_retry_57 ?_
    obtain ⟨k2, h⟩ := h
    refine aw_callV (k1 := 1) (n1 := 4) (k2 := 1) (n2 := 4) (st := []) G0 S_X2_adds gi_X2_155 (Or.inl (by rw [k2]; decide)) (by rw [k2]; rfl) md_X2_adds (Nat.le_of_ble_eq_true rfl) (by decide) (by rw [G.2.1]; decide) (by rw [G.2.1]; decide) [aI (4 : Int32), aI x1, aI (-1 : Int32), aI (-1 : Int32), aI (-1 : Int32), aI x2, aI x3] rfl rfl dX2_retry_58 h (fun o C3 I4 J5 R6 h => ?_)
    obtain ⟨r7, rfl, h⟩ := h
    show AW Γ 1 4 C3 I4 J5 R6 (58 + 3) [(4, aI s0), (0, aR (some x0)), (1, aI x1), (2, aI x2), (3, aI x3)] [aI r7]
    exact aw_ireturn G0 (Or.inl rfl) (by rw [G.2.2]; decide) (by rw [G.2.1]; decide) dX2_retry_61 h
  · have h := h.2 c1
    refine aw_aload_n G0 1 rfl dX2_retry_41 ?_
    refine aw_iload G0 0 rfl dX2_retry_42 ?_
    obtain ⟨k8, h⟩ := h
    refine aw_callV (k1 := 1) (n1 := 4) (k2 := 1) (n2 := 4) (st := []) G0 S_X2_refuse gi_X2_147 (Or.inl (by rw [k8]; decide)) (by rw [k8]; rfl) md_X2_refuse (Nat.le_of_ble_eq_true rfl) (by decide) (by rw [G.2.1]; decide) (by rw [G.2.1]; decide) [aI s0] rfl rfl dX2_retry_44 h (fun o C9 I10 J11 R12 h => ?_)
    obtain ⟨r13, rfl, h⟩ := h
    show AW Γ 1 4 C9 I10 J11 R12 (44 + 3) [(4, aI s0), (0, aR (some x0)), (1, aI x1), (2, aI x2), (3, aI x3)] [aI r13]
    refine aw_goto G0 61 dX2_retry_47 (by decide) ?_
    exact aw_ireturn G0 (Or.inl rfl) (by rw [G.2.2]; decide) (by rw [G.2.1]; decide) dX2_retry_61 h
theorem bX2_hedge_0 (G : Gb Γ yX2_hedge cX2_hedge 4 (some .int) [] rmX2_hedge bdX2_hedge) {F_X2_wrongParts : SPF} (S_X2_wrongParts : SpX2_wrongParts (gL Γ) F_X2_wrongParts)
    {Q10 : Nat → Int32 → Int32 → MC → MI → MJ → MR → Prop} (w10 : ∀ (x0 : Nat) (x1 : Int32) (x2 : Int32) (C : MC) (I : MI) (J : MJ) (R : MR), Q10 x0 x1 x2 C I J R → AW Γ 0 0 C I J R 10 [(0, aR (some x0)), (1, aI x1), (2, aI x2)] [])
    {Q23 : Nat → Int32 → Int32 → Int32 → MC → MI → MJ → MR → Prop} (w23 : ∀ (x0 : Nat) (x1 : Int32) (x2 : Int32) (s0 : Int32) (C : MC) (I : MI) (J : MJ) (R : MR), Q23 x0 x1 x2 s0 C I J R → AW Γ 1 4 C I J R 23 [(0, aR (some x0)), (1, aI x1), (2, aI x2)] [aI s0]) {x0 : Nat} {x1 : Int32} {x2 : Int32}
    (h : ((x2 < 0 →
      Q10 x0 x1 x2 C I J R) ∧
      (¬ x2 < 0 →
      ((x2 ≤ (60 : Int32) →
      (C x0).1 = 3 ∧
      F_X2_wrongParts [aR (some x0), aI x1, aI (-1 : Int32), aI (-1 : Int32), aI (-1 : Int32), aI (1 : Int32)] C I J R (fun o C4 I5 J6 R7 =>
      ∃ r8 : Int32, o = .inl (some (aI r8)) ∧
      Q23 x0 x1 x2 r8 C4 I5 J6 R7)) ∧
      (¬ x2 ≤ (60 : Int32) →
      Q10 x0 x1 x2 C I J R))))) :
    AW Γ 0 0 C I J R 0 [(0, aR (some x0)), (1, aI x1), (2, aI x2)] [] := by
  have G0 := G.1
  refine aw_iload_n G0 2 rfl dX2_hedge_0 ?_
  refine aw_if_lt G0 10 dX2_hedge_1 (by decide) (fun c1 => ?_) (fun c1 => ?_)
  · have h := h.1 c1
    exact (w10 x0 x1 x2 C I J R h)
  · have h := h.2 c1
    refine aw_iload_n G0 2 rfl dX2_hedge_4 ?_
    refine aw_bipush (v := (60 : Int32)) G0 dX2_hedge_5 (by decide) ?_
    refine aw_icmp_le G0 14 dX2_hedge_7 (by decide) (fun c2 => ?_) (fun c2 => ?_)
    · have h := h.1 c2
      refine aw_aload_n G0 0 rfl dX2_hedge_14 ?_
      refine aw_iload_n G0 1 rfl dX2_hedge_15 ?_
      refine aw_iconst (v := (-1 : Int32)) G0 dX2_hedge_16 (by decide) ?_
      refine aw_iconst (v := (-1 : Int32)) G0 dX2_hedge_17 (by decide) ?_
      refine aw_iconst (v := (-1 : Int32)) G0 dX2_hedge_18 (by decide) ?_
      refine aw_iconst (v := (1 : Int32)) G0 dX2_hedge_19 (by decide) ?_
      obtain ⟨k3, h⟩ := h
      refine aw_callV (k1 := 1) (n1 := 4) (k2 := 0) (n2 := 0) (st := []) G0 S_X2_wrongParts gi_X2_159 (Or.inl (by rw [k3]; decide)) (by rw [k3]; rfl) md_X2_wrongParts (Nat.le_of_ble_eq_true rfl) (by decide) (by rw [G.2.1]; decide) (by rw [G.2.1]; decide) [aI x1, aI (-1 : Int32), aI (-1 : Int32), aI (-1 : Int32), aI (1 : Int32)] rfl rfl dX2_hedge_20 h (fun o C4 I5 J6 R7 h => ?_)
      obtain ⟨r8, rfl, h⟩ := h
      show AW Γ 1 4 C4 I5 J6 R7 (20 + 3) [(0, aR (some x0)), (1, aI x1), (2, aI x2)] [aI r8]
      exact (w23 x0 x1 x2 r8 C4 I5 J6 R7 h)
    · have h := h.2 c2
      exact (w10 x0 x1 x2 C I J R h)
theorem bX2_hedge_10 (G : Gb Γ yX2_hedge cX2_hedge 4 (some .int) [] rmX2_hedge bdX2_hedge)
    {Q23 : Nat → Int32 → Int32 → Int32 → MC → MI → MJ → MR → Prop} (w23 : ∀ (x0 : Nat) (x1 : Int32) (x2 : Int32) (s0 : Int32) (C : MC) (I : MI) (J : MJ) (R : MR), Q23 x0 x1 x2 s0 C I J R → AW Γ 1 4 C I J R 23 [(0, aR (some x0)), (1, aI x1), (2, aI x2)] [aI s0]) {x0 : Nat} {x1 : Int32} {x2 : Int32}
    (h : Q23 x0 x1 x2 (1 : Int32) C I J R) :
    AW Γ 0 0 C I J R 10 [(0, aR (some x0)), (1, aI x1), (2, aI x2)] [] := by
  have G0 := G.1
  refine aw_iconst (v := (1 : Int32)) G0 dX2_hedge_10 (by decide) ?_
  refine aw_goto G0 23 dX2_hedge_11 (by decide) ?_
  exact (aw_wide (by decide) (by decide) (w23 x0 x1 x2 (1 : Int32) C I J R h))
theorem bX2_hedge_23 (G : Gb Γ yX2_hedge cX2_hedge 4 (some .int) [] rmX2_hedge bdX2_hedge) {F_X2_adds : SPF} (S_X2_adds : SpX2_adds (gL Γ) F_X2_adds) {F_X2_refuse : SPF} (S_X2_refuse : SpX2_refuse (gL Γ) F_X2_refuse) {x0 : Nat} {x1 : Int32} {x2 : Int32} {s0 : Int32}
    (h : ((s0 ≤ 0 →
      (C x0).1 = 3 ∧
      F_X2_adds [aR (some x0), aI (5 : Int32), aI x1, aI (-1 : Int32), aI (-1 : Int32), aI (-1 : Int32), aI x2, aI (0 : Int32)] C I J R (fun o C3 I4 J5 R6 =>
      ∃ r7 : Int32, o = .inl (some (aI r7)) ∧
      gK Γ (.inl (some (aI r7))) C3 I4 J5 R6)) ∧
      (¬ s0 ≤ 0 →
      (C x0).1 = 3 ∧
      F_X2_refuse [aR (some x0), aI s0] C I J R (fun o C9 I10 J11 R12 =>
      ∃ r13 : Int32, o = .inl (some (aI r13)) ∧
      gK Γ (.inl (some (aI r13))) C9 I10 J11 R12)))) :
    AW Γ 1 4 C I J R 23 [(0, aR (some x0)), (1, aI x1), (2, aI x2)] [aI s0] := by
  have G0 := G.1
  refine aw_istore_n (lv' := [(3, aI s0), (0, aR (some x0)), (1, aI x1), (2, aI x2)]) G0 (by decide) rfl dX2_hedge_23 ?_
  refine aw_iload_n G0 0 rfl dX2_hedge_24 ?_
  refine aw_if_le G0 36 dX2_hedge_25 (by decide) (fun c1 => ?_) (fun c1 => ?_)
  · have h := h.1 c1
    refine aw_aload_n G0 1 rfl dX2_hedge_36 ?_
    refine aw_iconst (v := (5 : Int32)) G0 dX2_hedge_37 (by decide) ?_
    refine aw_iload_n G0 2 rfl dX2_hedge_38 ?_
    refine aw_iconst (v := (-1 : Int32)) G0 dX2_hedge_39 (by decide) ?_
    refine aw_iconst (v := (-1 : Int32)) G0 dX2_hedge_40 (by decide) ?_
    refine aw_iconst (v := (-1 : Int32)) G0 dX2_hedge_41 (by decide) ?_
    refine aw_iload_n G0 3 rfl dX2_hedge_42 ?_
    refine aw_iconst (v := (0 : Int32)) G0 dX2_hedge_43 (by decide) ?_
    obtain ⟨k2, h⟩ := h
    refine aw_callV (k1 := 1) (n1 := 4) (k2 := 1) (n2 := 4) (st := []) G0 S_X2_adds gi_X2_155 (Or.inl (by rw [k2]; decide)) (by rw [k2]; rfl) md_X2_adds (Nat.le_of_ble_eq_true rfl) (by decide) (by rw [G.2.1]; decide) (by rw [G.2.1]; decide) [aI (5 : Int32), aI x1, aI (-1 : Int32), aI (-1 : Int32), aI (-1 : Int32), aI x2, aI (0 : Int32)] rfl rfl dX2_hedge_44 h (fun o C3 I4 J5 R6 h => ?_)
    obtain ⟨r7, rfl, h⟩ := h
    show AW Γ 1 4 C3 I4 J5 R6 (44 + 3) [(3, aI s0), (0, aR (some x0)), (1, aI x1), (2, aI x2)] [aI r7]
    exact aw_ireturn G0 (Or.inl rfl) (by rw [G.2.2]; decide) (by rw [G.2.1]; decide) dX2_hedge_47 h
  · have h := h.2 c1
    refine aw_aload_n G0 1 rfl dX2_hedge_28 ?_
    refine aw_iload_n G0 0 rfl dX2_hedge_29 ?_
    obtain ⟨k8, h⟩ := h
    refine aw_callV (k1 := 1) (n1 := 4) (k2 := 1) (n2 := 4) (st := []) G0 S_X2_refuse gi_X2_147 (Or.inl (by rw [k8]; decide)) (by rw [k8]; rfl) md_X2_refuse (Nat.le_of_ble_eq_true rfl) (by decide) (by rw [G.2.1]; decide) (by rw [G.2.1]; decide) [aI s0] rfl rfl dX2_hedge_30 h (fun o C9 I10 J11 R12 h => ?_)
    obtain ⟨r13, rfl, h⟩ := h
    show AW Γ 1 4 C9 I10 J11 R12 (30 + 3) [(3, aI s0), (0, aR (some x0)), (1, aI x1), (2, aI x2)] [aI r13]
    refine aw_goto G0 47 dX2_hedge_33 (by decide) ?_
    exact aw_ireturn G0 (Or.inl rfl) (by rw [G.2.2]; decide) (by rw [G.2.1]; decide) dX2_hedge_47 h
end BL
set_option linter.unusedVariables false
def PX2_init_279 (K : AK) (x0 : Nat) (C : MC) (I : MI) (J : MJ) (R : MR) : Prop :=
      ∃ q1 : Nat, (C q1).1 = 0 ∧
      ∀ (C3 : MC) (I4 : MI) (J5 : MJ) (R6 : MR), C3 = va_up C q1 (20, 20) → I4 = va_up I q1 (fun _ => 0) → J5 = va_up J q1 (fun _ => 0) → R6 = va_up R q1 (fun _ => none) → 
      (C3 x0).1 = 3 ∧
      ∀ R8 : MR, R8 = va_up R6 x0 (va_up (R6 x0) 37 (some q1)) →
      K (.inl none) C3 I4 J5 R8
def PX2_init_204 (K : AK) (x0 : Nat) (C : MC) (I : MI) (J : MJ) (R : MR) : Prop :=
      ∃ q1 : Nat, (C q1).1 = 0 ∧
      ∀ (C3 : MC) (I4 : MI) (J5 : MJ) (R6 : MR), C3 = va_up C q1 (21, 600) → I4 = va_up I q1 (fun _ => 0) → J5 = va_up J q1 (fun _ => 0) → R6 = va_up R q1 (fun _ => none) → 
      (C3 x0).1 = 3 ∧
      ∀ R8 : MR, R8 = va_up R6 x0 (va_up (R6 x0) 27 (some q1)) →
      ∃ q9 : Nat, (C3 q9).1 = 0 ∧
      ∀ (C11 : MC) (I12 : MI) (J13 : MJ) (R14 : MR), C11 = va_up C3 q9 (21, 600) → I12 = va_up I4 q9 (fun _ => 0) → J13 = va_up J5 q9 (fun _ => 0) → R14 = va_up R8 q9 (fun _ => none) → 
      (C11 x0).1 = 3 ∧
      ∀ R16 : MR, R16 = va_up R14 x0 (va_up (R14 x0) 28 (some q9)) →
      ∃ q17 : Nat, (C11 q17).1 = 0 ∧
      ∀ (C19 : MC) (I20 : MI) (J21 : MJ) (R22 : MR), C19 = va_up C11 q17 (21, 600) → I20 = va_up I12 q17 (fun _ => 0) → J21 = va_up J13 q17 (fun _ => 0) → R22 = va_up R16 q17 (fun _ => none) → 
      (C19 x0).1 = 3 ∧
      ∀ R24 : MR, R24 = va_up R22 x0 (va_up (R22 x0) 29 (some q17)) →
      ∃ q25 : Nat, (C19 q25).1 = 0 ∧
      ∀ (C27 : MC) (I28 : MI) (J29 : MJ) (R30 : MR), C27 = va_up C19 q25 (21, 5) → I28 = va_up I20 q25 (fun _ => 0) → J29 = va_up J21 q25 (fun _ => 0) → R30 = va_up R24 q25 (fun _ => none) → 
      (C27 x0).1 = 3 ∧
      ∀ R32 : MR, R32 = va_up R30 x0 (va_up (R30 x0) 31 (some q25)) →
      ∃ q33 : Nat, (C27 q33).1 = 0 ∧
      ∀ (C35 : MC) (I36 : MI) (J37 : MJ) (R38 : MR), C35 = va_up C27 q33 (21, 2420) → I36 = va_up I28 q33 (fun _ => 0) → J37 = va_up J29 q33 (fun _ => 0) → R38 = va_up R32 q33 (fun _ => none) → 
      (C35 x0).1 = 3 ∧
      ∀ R40 : MR, R40 = va_up R38 x0 (va_up (R38 x0) 32 (some q33)) →
      ∃ q41 : Nat, (C35 q41).1 = 0 ∧
      ∀ (C43 : MC) (I44 : MI) (J45 : MJ) (R46 : MR), C43 = va_up C35 q41 (21, 20) → I44 = va_up I36 q41 (fun _ => 0) → J45 = va_up J37 q41 (fun _ => 0) → R46 = va_up R40 q41 (fun _ => none) → 
      (C43 x0).1 = 3 ∧
      ∀ R48 : MR, R48 = va_up R46 x0 (va_up (R46 x0) 33 (some q41)) →
      ∃ q49 : Nat, (C43 q49).1 = 0 ∧
      ∀ (C51 : MC) (I52 : MI) (J53 : MJ) (R54 : MR), C51 = va_up C43 q49 (21, 121) → I52 = va_up I44 q49 (fun _ => 0) → J53 = va_up J45 q49 (fun _ => 0) → R54 = va_up R48 q49 (fun _ => none) → 
      (C51 x0).1 = 3 ∧
      ∀ R56 : MR, R56 = va_up R54 x0 (va_up (R54 x0) 34 (some q49)) →
      ∃ q57 : Nat, (C51 q57).1 = 0 ∧
      ∀ (C59 : MC) (I60 : MI) (J61 : MJ) (R62 : MR), C59 = va_up C51 q57 (21, 121) → I60 = va_up I52 q57 (fun _ => 0) → J61 = va_up J53 q57 (fun _ => 0) → R62 = va_up R56 q57 (fun _ => none) → 
      (C59 x0).1 = 3 ∧
      ∀ R64 : MR, R64 = va_up R62 x0 (va_up (R62 x0) 35 (some q57)) →
      ∃ q65 : Nat, (C59 q65).1 = 0 ∧
      ∀ (C67 : MC) (I68 : MI) (J69 : MJ) (R70 : MR), C67 = va_up C59 q65 (24, 20) → I68 = va_up I60 q65 (fun _ => 0) → J69 = va_up J61 q65 (fun _ => 0) → R70 = va_up R64 q65 (fun _ => none) → 
      (C67 x0).1 = 3 ∧
      ∀ R72 : MR, R72 = va_up R70 x0 (va_up (R70 x0) 36 (some q65)) →
      PX2_init_279 K x0 C67 I68 J69 R72
def PX2_init_129 (K : AK) (x0 : Nat) (C : MC) (I : MI) (J : MJ) (R : MR) : Prop :=
      ∃ q1 : Nat, (C q1).1 = 0 ∧
      ∀ (C3 : MC) (I4 : MI) (J5 : MJ) (R6 : MR), C3 = va_up C q1 (20, 20) → I4 = va_up I q1 (fun _ => 0) → J5 = va_up J q1 (fun _ => 0) → R6 = va_up R q1 (fun _ => none) → 
      (C3 x0).1 = 3 ∧
      ∀ R8 : MR, R8 = va_up R6 x0 (va_up (R6 x0) 17 (some q1)) →
      ∃ q9 : Nat, (C3 q9).1 = 0 ∧
      ∀ (C11 : MC) (I12 : MI) (J13 : MJ) (R14 : MR), C11 = va_up C3 q9 (20, 20) → I12 = va_up I4 q9 (fun _ => 0) → J13 = va_up J5 q9 (fun _ => 0) → R14 = va_up R8 q9 (fun _ => none) → 
      (C11 x0).1 = 3 ∧
      ∀ R16 : MR, R16 = va_up R14 x0 (va_up (R14 x0) 18 (some q9)) →
      ∃ q17 : Nat, (C11 q17).1 = 0 ∧
      ∀ (C19 : MC) (I20 : MI) (J21 : MJ) (R22 : MR), C19 = va_up C11 q17 (20, 20) → I20 = va_up I12 q17 (fun _ => 0) → J21 = va_up J13 q17 (fun _ => 0) → R22 = va_up R16 q17 (fun _ => none) → 
      (C19 x0).1 = 3 ∧
      ∀ R24 : MR, R24 = va_up R22 x0 (va_up (R22 x0) 19 (some q17)) →
      ∃ q25 : Nat, (C19 q25).1 = 0 ∧
      ∀ (C27 : MC) (I28 : MI) (J29 : MJ) (R30 : MR), C27 = va_up C19 q25 (20, 20) → I28 = va_up I20 q25 (fun _ => 0) → J29 = va_up J21 q25 (fun _ => 0) → R30 = va_up R24 q25 (fun _ => none) → 
      (C27 x0).1 = 3 ∧
      ∀ R32 : MR, R32 = va_up R30 x0 (va_up (R30 x0) 20 (some q25)) →
      ∃ q33 : Nat, (C27 q33).1 = 0 ∧
      ∀ (C35 : MC) (I36 : MI) (J37 : MJ) (R38 : MR), C35 = va_up C27 q33 (21, 2420) → I36 = va_up I28 q33 (fun _ => 0) → J37 = va_up J29 q33 (fun _ => 0) → R38 = va_up R32 q33 (fun _ => none) → 
      (C35 x0).1 = 3 ∧
      ∀ R40 : MR, R40 = va_up R38 x0 (va_up (R38 x0) 22 (some q33)) →
      ∃ q41 : Nat, (C35 q41).1 = 0 ∧
      ∀ (C43 : MC) (I44 : MI) (J45 : MJ) (R46 : MR), C43 = va_up C35 q41 (21, 2420) → I44 = va_up I36 q41 (fun _ => 0) → J45 = va_up J37 q41 (fun _ => 0) → R46 = va_up R40 q41 (fun _ => none) → 
      (C43 x0).1 = 3 ∧
      ∀ R48 : MR, R48 = va_up R46 x0 (va_up (R46 x0) 23 (some q41)) →
      ∃ q49 : Nat, (C43 q49).1 = 0 ∧
      ∀ (C51 : MC) (I52 : MI) (J53 : MJ) (R54 : MR), C51 = va_up C43 q49 (21, 20) → I52 = va_up I44 q49 (fun _ => 0) → J53 = va_up J45 q49 (fun _ => 0) → R54 = va_up R48 q49 (fun _ => none) → 
      (C51 x0).1 = 3 ∧
      ∀ R56 : MR, R56 = va_up R54 x0 (va_up (R54 x0) 24 (some q49)) →
      ∃ q57 : Nat, (C51 q57).1 = 0 ∧
      ∀ (C59 : MC) (I60 : MI) (J61 : MJ) (R62 : MR), C59 = va_up C51 q57 (24, 20) → I60 = va_up I52 q57 (fun _ => 0) → J61 = va_up J53 q57 (fun _ => 0) → R62 = va_up R56 q57 (fun _ => none) → 
      (C59 x0).1 = 3 ∧
      ∀ R64 : MR, R64 = va_up R62 x0 (va_up (R62 x0) 25 (some q57)) →
      ∃ q65 : Nat, (C59 q65).1 = 0 ∧
      ∀ (C67 : MC) (I68 : MI) (J69 : MJ) (R70 : MR), C67 = va_up C59 q65 (21, 600) → I68 = va_up I60 q65 (fun _ => 0) → J69 = va_up J61 q65 (fun _ => 0) → R70 = va_up R64 q65 (fun _ => none) → 
      (C67 x0).1 = 3 ∧
      ∀ R72 : MR, R72 = va_up R70 x0 (va_up (R70 x0) 26 (some q65)) →
      PX2_init_204 K x0 C67 I68 J69 R72
def PX2_init_56 (K : AK) (x0 : Nat) (C : MC) (I : MI) (J : MJ) (R : MR) : Prop :=
      ∃ q1 : Nat, (C q1).1 = 0 ∧
      ∀ (C3 : MC) (I4 : MI) (J5 : MJ) (R6 : MR), C3 = va_up C q1 (20, 80) → I4 = va_up I q1 (fun _ => 0) → J5 = va_up J q1 (fun _ => 0) → R6 = va_up R q1 (fun _ => none) → 
      (C3 x0).1 = 3 ∧
      ∀ R8 : MR, R8 = va_up R6 x0 (va_up (R6 x0) 8 (some q1)) →
      ∃ q9 : Nat, (C3 q9).1 = 0 ∧
      ∀ (C11 : MC) (I12 : MI) (J13 : MJ) (R14 : MR), C11 = va_up C3 q9 (20, 20) → I12 = va_up I4 q9 (fun _ => 0) → J13 = va_up J5 q9 (fun _ => 0) → R14 = va_up R8 q9 (fun _ => none) → 
      (C11 x0).1 = 3 ∧
      ∀ R16 : MR, R16 = va_up R14 x0 (va_up (R14 x0) 9 (some q9)) →
      ∃ q17 : Nat, (C11 q17).1 = 0 ∧
      ∀ (C19 : MC) (I20 : MI) (J21 : MJ) (R22 : MR), C19 = va_up C11 q17 (20, 20) → I20 = va_up I12 q17 (fun _ => 0) → J21 = va_up J13 q17 (fun _ => 0) → R22 = va_up R16 q17 (fun _ => none) → 
      (C19 x0).1 = 3 ∧
      ∀ R24 : MR, R24 = va_up R22 x0 (va_up (R22 x0) 10 (some q17)) →
      ∃ q25 : Nat, (C19 q25).1 = 0 ∧
      ∀ (C27 : MC) (I28 : MI) (J29 : MJ) (R30 : MR), C27 = va_up C19 q25 (20, 20) → I28 = va_up I20 q25 (fun _ => 0) → J29 = va_up J21 q25 (fun _ => 0) → R30 = va_up R24 q25 (fun _ => none) → 
      (C27 x0).1 = 3 ∧
      ∀ R32 : MR, R32 = va_up R30 x0 (va_up (R30 x0) 11 (some q25)) →
      ∃ q33 : Nat, (C27 q33).1 = 0 ∧
      ∀ (C35 : MC) (I36 : MI) (J37 : MJ) (R38 : MR), C35 = va_up C27 q33 (20, 20) → I36 = va_up I28 q33 (fun _ => 0) → J37 = va_up J29 q33 (fun _ => 0) → R38 = va_up R32 q33 (fun _ => none) → 
      (C35 x0).1 = 3 ∧
      ∀ R40 : MR, R40 = va_up R38 x0 (va_up (R38 x0) 12 (some q33)) →
      ∃ q41 : Nat, (C35 q41).1 = 0 ∧
      ∀ (C43 : MC) (I44 : MI) (J45 : MJ) (R46 : MR), C43 = va_up C35 q41 (20, 60) → I44 = va_up I36 q41 (fun _ => 0) → J45 = va_up J37 q41 (fun _ => 0) → R46 = va_up R40 q41 (fun _ => none) → 
      (C43 x0).1 = 3 ∧
      ∀ R48 : MR, R48 = va_up R46 x0 (va_up (R46 x0) 13 (some q41)) →
      ∃ q49 : Nat, (C43 q49).1 = 0 ∧
      ∀ (C51 : MC) (I52 : MI) (J53 : MJ) (R54 : MR), C51 = va_up C43 q49 (20, 3600) → I52 = va_up I44 q49 (fun _ => 0) → J53 = va_up J45 q49 (fun _ => 0) → R54 = va_up R48 q49 (fun _ => none) → 
      (C51 x0).1 = 3 ∧
      ∀ R56 : MR, R56 = va_up R54 x0 (va_up (R54 x0) 14 (some q49)) →
      ∃ q57 : Nat, (C51 q57).1 = 0 ∧
      ∀ (C59 : MC) (I60 : MI) (J61 : MJ) (R62 : MR), C59 = va_up C51 q57 (20, 20) → I60 = va_up I52 q57 (fun _ => 0) → J61 = va_up J53 q57 (fun _ => 0) → R62 = va_up R56 q57 (fun _ => none) → 
      (C59 x0).1 = 3 ∧
      ∀ R64 : MR, R64 = va_up R62 x0 (va_up (R62 x0) 15 (some q57)) →
      ∃ q65 : Nat, (C59 q65).1 = 0 ∧
      ∀ (C67 : MC) (I68 : MI) (J69 : MJ) (R70 : MR), C67 = va_up C59 q65 (20, 20) → I68 = va_up I60 q65 (fun _ => 0) → J69 = va_up J61 q65 (fun _ => 0) → R70 = va_up R64 q65 (fun _ => none) → 
      (C67 x0).1 = 3 ∧
      ∀ R72 : MR, R72 = va_up R70 x0 (va_up (R70 x0) 16 (some q65)) →
      PX2_init_129 K x0 C67 I68 J69 R72
def PX2_init_0 (K : AK) (x0 : Nat) (C : MC) (I : MI) (J : MJ) (R : MR) : Prop :=
      (C x0).1 = 3 ∧
      ∀ J2 : MJ, J2 = va_up J x0 (va_up (J x0) 2 (1 : Int64)) →
      ∃ q3 : Nat, (C q3).1 = 0 ∧
      ∀ (C5 : MC) (I6 : MI) (J7 : MJ) (R8 : MR), C5 = va_up C q3 (20, 4) → I6 = va_up I q3 (fun _ => 0) → J7 = va_up J2 q3 (fun _ => 0) → R8 = va_up R q3 (fun _ => none) → 
      (C5 x0).1 = 3 ∧
      ∀ R10 : MR, R10 = va_up R8 x0 (va_up (R8 x0) 3 (some q3)) →
      ∃ q11 : Nat, (C5 q11).1 = 0 ∧
      ∀ (C13 : MC) (I14 : MI) (J15 : MJ) (R16 : MR), C13 = va_up C5 q11 (20, 4) → I14 = va_up I6 q11 (fun _ => 0) → J15 = va_up J7 q11 (fun _ => 0) → R16 = va_up R10 q11 (fun _ => none) → 
      (C13 q11).1 = 20 ∧
      vp_in (0 : Int32) (C13 q11).2 ∧
      ∀ I19 : MI, I19 = va_up I14 q11 (va_up (I14 q11) (0 : Int32).toNatClampNeg (-1 : Int32)) →
      vp_in (1 : Int32) (C13 q11).2 ∧
      ∀ I21 : MI, I21 = va_up I19 q11 (va_up (I19 q11) (1 : Int32).toNatClampNeg (-1 : Int32)) →
      vp_in (2 : Int32) (C13 q11).2 ∧
      ∀ I23 : MI, I23 = va_up I21 q11 (va_up (I21 q11) (2 : Int32).toNatClampNeg (-1 : Int32)) →
      vp_in (3 : Int32) (C13 q11).2 ∧
      ∀ I25 : MI, I25 = va_up I23 q11 (va_up (I23 q11) (3 : Int32).toNatClampNeg (-1 : Int32)) →
      (C13 x0).1 = 3 ∧
      ∀ R27 : MR, R27 = va_up R16 x0 (va_up (R16 x0) 4 (some q11)) →
      ∃ q28 : Nat, (C13 q28).1 = 0 ∧
      ∀ (C30 : MC) (I31 : MI) (J32 : MJ) (R33 : MR), C30 = va_up C13 q28 (21, 240) → I31 = va_up I25 q28 (fun _ => 0) → J32 = va_up J15 q28 (fun _ => 0) → R33 = va_up R27 q28 (fun _ => none) → 
      (C30 x0).1 = 3 ∧
      ∀ R35 : MR, R35 = va_up R33 x0 (va_up (R33 x0) 5 (some q28)) →
      ∃ q36 : Nat, (C30 q36).1 = 0 ∧
      ∀ (C38 : MC) (I39 : MI) (J40 : MJ) (R41 : MR), C38 = va_up C30 q36 (20, 20) → I39 = va_up I31 q36 (fun _ => 0) → J40 = va_up J32 q36 (fun _ => 0) → R41 = va_up R35 q36 (fun _ => none) → 
      (C38 x0).1 = 3 ∧
      ∀ R43 : MR, R43 = va_up R41 x0 (va_up (R41 x0) 7 (some q36)) →
      PX2_init_56 K x0 C38 I39 J40 R43
theorem wX2_init {l : Launch}  {F : SPF}
    (h0 : ∀ (As : List AV) (C : MC) (I : MI) (J : MJ) (R : MR) (K : AK), F As C I J R K → ∃ (x0 : Nat), As = [aR (some x0)] ∧ PX2_init_0 K x0 C I J R) : SpX2_init l F := by
  refine Spec.of (by rfl) ?_
  intro Γ C I J R As Gd gl gr _ _ gb hF
  subst gl
  have G : Gb Γ yX2_init cX2_init 1 (none) [] rmX2_init bdX2_init := ⟨Gd, gr, gb⟩
  have w279 : ∀ (x0 : Nat) (C : MC) (I : MI) (J : MJ) (R : MR), PX2_init_279 (gK Γ) x0 C I J R → AW Γ 31 14195 C I J R 279 [(0, aR (some x0))] [] := fun x0 C I J R h => bX2_init_279 G h
  have w204 : ∀ (x0 : Nat) (C : MC) (I : MI) (J : MJ) (R : MR), PX2_init_204 (gK Γ) x0 C I J R → AW Γ 22 9688 C I J R 204 [(0, aR (some x0))] [] := fun x0 C I J R h => bX2_init_204 G w279 h
  have w129 : ∀ (x0 : Nat) (C : MC) (I : MI) (J : MJ) (R : MR), PX2_init_129 (gK Γ) x0 C I J R → AW Γ 13 4128 C I J R 129 [(0, aR (some x0))] [] := fun x0 C I J R h => bX2_init_129 G w204 h
  have w56 : ∀ (x0 : Nat) (C : MC) (I : MI) (J : MJ) (R : MR), PX2_init_56 (gK Γ) x0 C I J R → AW Γ 4 268 C I J R 56 [(0, aR (some x0))] [] := fun x0 C I J R h => bX2_init_56 G w129 h
  obtain ⟨x0, rfl, h⟩ := h0 As C I J R (gK Γ) hF
  exact ⟨Nat.le_of_ble_eq_true rfl, bX2_init_0 G w56 h⟩
def PX2_status_0 (K : AK) (x0 : Nat) (C : MC) (I : MI) (J : MJ) (R : MR) : Prop :=
      (C x0).1 = 3 ∧
      K (.inl (some (aI (I x0 0)))) C I J R
theorem wX2_status {l : Launch}  {F : SPF}
    (h0 : ∀ (As : List AV) (C : MC) (I : MI) (J : MJ) (R : MR) (K : AK), F As C I J R K → ∃ (x0 : Nat), As = [aR (some x0)] ∧ PX2_status_0 K x0 C I J R) : SpX2_status l F := by
  refine Spec.of (by rfl) ?_
  intro Γ C I J R As Gd gl gr _ _ gb hF
  subst gl
  have G : Gb Γ yX2_status cX2_status 1 (some .int) [] rmX2_status bdX2_status := ⟨Gd, gr, gb⟩
  obtain ⟨x0, rfl, h⟩ := h0 As C I J R (gK Γ) hF
  exact ⟨Nat.le_of_ble_eq_true rfl, bX2_status_0 G h⟩
def PX2_top_0 (K : AK) (x0 : Nat) (C : MC) (I : MI) (J : MJ) (R : MR) : Prop :=
      (C x0).1 = 3 ∧
      K (.inl (some (aJ (J x0 1)))) C I J R
theorem wX2_top {l : Launch}  {F : SPF}
    (h0 : ∀ (As : List AV) (C : MC) (I : MI) (J : MJ) (R : MR) (K : AK), F As C I J R K → ∃ (x0 : Nat), As = [aR (some x0)] ∧ PX2_top_0 K x0 C I J R) : SpX2_top l F := by
  refine Spec.of (by rfl) ?_
  intro Γ C I J R As Gd gl gr _ _ gb hF
  subst gl
  have G : Gb Γ yX2_top cX2_top 1 (some .long) [] rmX2_top bdX2_top := ⟨Gd, gr, gb⟩
  obtain ⟨x0, rfl, h⟩ := h0 As C I J R (gK Γ) hF
  exact ⟨Nat.le_of_ble_eq_true rfl, bX2_top_0 G h⟩
def PX2_bottom_0 (K : AK) (x0 : Nat) (C : MC) (I : MI) (J : MJ) (R : MR) : Prop :=
      (C x0).1 = 3 ∧
      K (.inl (some (aJ (J x0 2)))) C I J R
theorem wX2_bottom {l : Launch}  {F : SPF}
    (h0 : ∀ (As : List AV) (C : MC) (I : MI) (J : MJ) (R : MR) (K : AK), F As C I J R K → ∃ (x0 : Nat), As = [aR (some x0)] ∧ PX2_bottom_0 K x0 C I J R) : SpX2_bottom l F := by
  refine Spec.of (by rfl) ?_
  intro Γ C I J R As Gd gl gr _ _ gb hF
  subst gl
  have G : Gb Γ yX2_bottom cX2_bottom 1 (some .long) [] rmX2_bottom bdX2_bottom := ⟨Gd, gr, gb⟩
  obtain ⟨x0, rfl, h⟩ := h0 As C I J R (gK Γ) hF
  exact ⟨Nat.le_of_ble_eq_true rfl, bX2_bottom_0 G h⟩
def PX2_tray_49 (F_X2_isTray : SPF) (F_X2_is : SPF) (Q49 : Nat → Int32 → Int32 → Int32 → MC → MI → MJ → MR → Prop) (K : AK) (x0 : Nat) (x1 : Int32) (x3 : Int32) (x4 : Int32) (C : MC) (I : MI) (J : MJ) (R : MR) : Prop :=
      ((x3 ≤ x4 →
      (C x0).1 = 3 ∧
      F_X2_is [aR (some x0), aI (0 : Int32)] C I J R (fun o C3 I4 J5 R6 =>
      ∃ r7 : Int32, o = .inl (some (aI r7)) ∧
      (r7 = 0 ∨ r7 = 1) ∧ K (.inl (some (aI r7))) C3 I4 J5 R6)) ∧
      (¬ x3 ≤ x4 →
      (C x0).1 = 3 ∧
      ∃ q10 : Nat, R x0 5 = some q10 ∧
      (C q10).1 = 21 ∧
      vp_in (((60 : Int32) * x1) + x4) (C q10).2 ∧
      ∀ J13 : MJ, J13 = va_up J q10 (va_up (J q10) (((60 : Int32) * x1) + x4).toNatClampNeg (0 : Int64)) →
      Q49 x0 x1 x3 (x4 + 1) C I J13 R))
def PX2_tray_0 (F_X2_isTray : SPF) (F_X2_is : SPF) (Q49 : Nat → Int32 → Int32 → Int32 → MC → MI → MJ → MR → Prop) (K : AK) (x0 : Nat) (x1 : Int32) (x2 : Int32) (x3 : Int32) (C : MC) (I : MI) (J : MJ) (R : MR) : Prop :=
      F_X2_isTray [aI x1] C I J R (fun o C1 I2 J3 R4 =>
      ∃ r5 : Int32, o = .inl (some (aI r5)) ∧
      ((r5 = 0 →
      (C1 x0).1 = 3 ∧
      F_X2_is [aR (some x0), aI (1 : Int32)] C1 I2 J3 R4 (fun o C8 I9 J10 R11 =>
      ∃ r12 : Int32, o = .inl (some (aI r12)) ∧
      (r12 = 0 ∨ r12 = 1) ∧ K (.inl (some (aI r12))) C8 I9 J10 R11)) ∧
      (¬ r5 = 0 →
      ((x2 < 0 →
      (C1 x0).1 = 3 ∧
      F_X2_is [aR (some x0), aI (1 : Int32)] C1 I2 J3 R4 (fun o C16 I17 J18 R19 =>
      ∃ r20 : Int32, o = .inl (some (aI r20)) ∧
      (r20 = 0 ∨ r20 = 1) ∧ K (.inl (some (aI r20))) C16 I17 J18 R19)) ∧
      (¬ x2 < 0 →
      (((3 : Int32) < x2 →
      (C1 x0).1 = 3 ∧
      F_X2_is [aR (some x0), aI (1 : Int32)] C1 I2 J3 R4 (fun o C24 I25 J26 R27 =>
      ∃ r28 : Int32, o = .inl (some (aI r28)) ∧
      (r28 = 0 ∨ r28 = 1) ∧ K (.inl (some (aI r28))) C24 I25 J26 R27)) ∧
      (¬ (3 : Int32) < x2 →
      ((x3 < 0 →
      (C1 x0).1 = 3 ∧
      F_X2_is [aR (some x0), aI (1 : Int32)] C1 I2 J3 R4 (fun o C32 I33 J34 R35 =>
      ∃ r36 : Int32, o = .inl (some (aI r36)) ∧
      (r36 = 0 ∨ r36 = 1) ∧ K (.inl (some (aI r36))) C32 I33 J34 R35)) ∧
      (¬ x3 < 0 →
      ((x3 ≤ (60 : Int32) →
      (C1 x0).1 = 3 ∧
      ∃ q40 : Nat, R4 x0 3 = some q40 ∧
      (C1 q40).1 = 20 ∧
      vp_in x1 (C1 q40).2 ∧
      ∀ I43 : MI, I43 = va_up I2 q40 (va_up (I2 q40) x1.toNatClampNeg x2) →
      ∃ q44 : Nat, R4 x0 4 = some q44 ∧
      (C1 q44).1 = 20 ∧
      vp_in x1 (C1 q44).2 ∧
      ∀ I47 : MI, I47 = va_up I43 q44 (va_up (I43 q44) x1.toNatClampNeg x3) →
      Q49 x0 x1 x3 (0 : Int32) C1 I47 J3 R4) ∧
      (¬ x3 ≤ (60 : Int32) →
      (C1 x0).1 = 3 ∧
      F_X2_is [aR (some x0), aI (1 : Int32)] C1 I2 J3 R4 (fun o C49 I50 J51 R52 =>
      ∃ r53 : Int32, o = .inl (some (aI r53)) ∧
      (r53 = 0 ∨ r53 = 1) ∧ K (.inl (some (aI r53))) C49 I50 J51 R52))))))))))))
theorem wX2_tray {l : Launch}  {F_X2_isTray : SPF} (S_X2_isTray : SpX2_isTray l F_X2_isTray) {F_X2_is : SPF} (S_X2_is : SpX2_is l F_X2_is)
    (Q49 : Nat → AK → Nat → Int32 → Int32 → Int32 → MC → MI → MJ → MR → Prop) {F : SPF}
    (h0 : ∀ (As : List AV) (C : MC) (I : MI) (J : MJ) (R : MR) (K : AK), F As C I J R K → ∃ (x0 : Nat) (x1 : Int32) (x2 : Int32) (x3 : Int32), As = [aR (some x0), aI x1, aI x2, aI x3] ∧ PX2_tray_0 F_X2_isTray F_X2_is (fun (x0 : Nat) (x1 : Int32) (x3 : Int32) (x4 : Int32) (C : MC) (I : MI) (J : MJ) (R : MR) => ∃ n, Q49 n K x0 x1 x3 x4 C I J R) K x0 x1 x2 x3 C I J R)
    (h49 : ∀ (n : Nat) (K : AK) (x0 : Nat) (x1 : Int32) (x3 : Int32) (x4 : Int32) (C : MC) (I : MI) (J : MJ) (R : MR), Q49 n K x0 x1 x3 x4 C I J R → PX2_tray_49 F_X2_isTray F_X2_is (fun (x0 : Nat) (x1 : Int32) (x3 : Int32) (x4 : Int32) (C : MC) (I : MI) (J : MJ) (R : MR) => ∃ m, m < n ∧ Q49 m K x0 x1 x3 x4 C I J R) K x0 x1 x3 x4 C I J R) : SpX2_tray l F := by
  refine Spec.of (by rfl) ?_
  intro Γ C I J R As Gd gl gr _ _ gb hF
  subst gl
  have G : Gb Γ yX2_tray cX2_tray 5 (some .boolean) [] rmX2_tray bdX2_tray := ⟨Gd, gr, gb⟩
  have key : ∀ n : Nat, (∀ (x0 : Nat) (x1 : Int32) (x3 : Int32) (x4 : Int32) (C : MC) (I : MI) (J : MJ) (R : MR), Q49 n (gK Γ) x0 x1 x3 x4 C I J R → AW Γ 0 0 C I J R 49 [(0, aR (some x0)), (1, aI x1), (3, aI x3), (4, aI x4)] []) := by
    intro n
    induction n using Nat.strongRecOn with
    | ind n ih =>
    have w49 : ∀ (x0 : Nat) (x1 : Int32) (x3 : Int32) (x4 : Int32) (C : MC) (I : MI) (J : MJ) (R : MR), (∃ m, m < n ∧ Q49 m (gK Γ) x0 x1 x3 x4 C I J R) → AW Γ 0 0 C I J R 49 [(0, aR (some x0)), (1, aI x1), (3, aI x3), (4, aI x4)] [] := fun x0 x1 x3 x4 C I J R ⟨m, hm, hq⟩ => (ih m hm) x0 x1 x3 x4 C I J R hq
    exact fun x0 x1 x3 x4 C I J R h => bX2_tray_49 G S_X2_is w49 (h49 n (gK Γ) x0 x1 x3 x4 C I J R h)
  have w49 : ∀ (x0 : Nat) (x1 : Int32) (x3 : Int32) (x4 : Int32) (C : MC) (I : MI) (J : MJ) (R : MR), (∃ n, Q49 n (gK Γ) x0 x1 x3 x4 C I J R) → AW Γ 0 0 C I J R 49 [(0, aR (some x0)), (1, aI x1), (3, aI x3), (4, aI x4)] [] := fun x0 x1 x3 x4 C I J R ⟨m, hq⟩ => (key m) x0 x1 x3 x4 C I J R hq
  obtain ⟨x0, x1, x2, x3, rfl, h⟩ := h0 As C I J R (gK Γ) hF
  exact ⟨Nat.le_of_ble_eq_true rfl, bX2_tray_0 G S_X2_isTray S_X2_is w49 h⟩
def PX2_isTray_0 (K : AK) (x0 : Int32) (C : MC) (I : MI) (J : MJ) (R : MR) : Prop :=
      ((x0 < 0 →
      K (.inl (some (aI (0 : Int32)))) C I J R) ∧
      (¬ x0 < 0 →
      (((4 : Int32) ≤ x0 →
      K (.inl (some (aI (0 : Int32)))) C I J R) ∧
      (¬ (4 : Int32) ≤ x0 →
      K (.inl (some (aI (1 : Int32)))) C I J R))))
theorem wX2_isTray {l : Launch}  {F : SPF}
    (h0 : ∀ (As : List AV) (C : MC) (I : MI) (J : MJ) (R : MR) (K : AK), F As C I J R K → ∃ (x0 : Int32), As = [aI x0] ∧ PX2_isTray_0 K x0 C I J R) : SpX2_isTray l F := by
  refine Spec.of (by rfl) ?_
  intro Γ C I J R As Gd gl gr _ _ gb hF
  subst gl
  have G : Gb Γ yX2_isTray cX2_isTray 1 (some .boolean) [] rmX2_isTray bdX2_isTray := ⟨Gd, gr, gb⟩
  obtain ⟨x0, rfl, h⟩ := h0 As C I J R (gK Γ) hF
  exact ⟨Nat.le_of_ble_eq_true rfl, bX2_isTray_0 G h⟩
def PX2_is_0 (K : AK) (x0 : Nat) (x1 : Int32) (C : MC) (I : MI) (J : MJ) (R : MR) : Prop :=
      (C x0).1 = 3 ∧
      ∀ I2 : MI, I2 = va_up I x0 (va_up (I x0) 0 x1) →
      ((¬ x1 = 0 →
      K (.inl (some (aI (0 : Int32)))) C I2 J R) ∧
      (x1 = 0 →
      K (.inl (some (aI (1 : Int32)))) C I2 J R))
theorem wX2_is {l : Launch}  {F : SPF}
    (h0 : ∀ (As : List AV) (C : MC) (I : MI) (J : MJ) (R : MR) (K : AK), F As C I J R K → ∃ (x0 : Nat) (x1 : Int32), As = [aR (some x0), aI x1] ∧ PX2_is_0 K x0 x1 C I J R) : SpX2_is l F := by
  refine Spec.of (by rfl) ?_
  intro Γ C I J R As Gd gl gr _ _ gb hF
  subst gl
  have G : Gb Γ yX2_is cX2_is 2 (some .boolean) [] rmX2_is bdX2_is := ⟨Gd, gr, gb⟩
  obtain ⟨x0, x1, rfl, h⟩ := h0 As C I J R (gK Γ) hF
  exact ⟨Nat.le_of_ble_eq_true rfl, bX2_is_0 G h⟩
def PX2_write_0 (F_X2_wrong : SPF) (F_X2_is : SPF) (F_X2_cut : SPF) (K : AK) (x0 : Nat) (x1 : Int32) (x2 : Int32) (x3 : Int64) (C : MC) (I : MI) (J : MJ) (R : MR) : Prop :=
      (C x0).1 = 3 ∧
      F_X2_wrong [aR (some x0), aI x1, aI x2] C I J R (fun o C2 I3 J4 R5 =>
      ∃ r6 : Int32, o = .inl (some (aI r6)) ∧
      ((¬ r6 = 0 →
      (C2 x0).1 = 3 ∧
      F_X2_is [aR (some x0), aI r6] C2 I3 J4 R5 (fun o C9 I10 J11 R12 =>
      ∃ r13 : Int32, o = .inl (some (aI r13)) ∧
      (r13 = 0 ∨ r13 = 1) ∧ K (.inl (some (aI r13))) C9 I10 J11 R12)) ∧
      (r6 = 0 →
      (C2 x0).1 = 3 ∧
      ∃ q16 : Nat, R5 x0 3 = some q16 ∧
      (C2 q16).1 = 20 ∧
      vp_in x1 (C2 q16).2 ∧
      F_X2_cut [aJ x3, aI (I3 q16 x1.toNatClampNeg)] C2 I3 J4 R5 (fun o C19 I20 J21 R22 =>
      ∃ r23 : Int64, o = .inl (some (aJ r23)) ∧
      ∃ q24 : Nat, R5 x0 5 = some q24 ∧
      (C19 q24).1 = 21 ∧
      vp_in (((60 : Int32) * x1) + x2) (C19 q24).2 ∧
      ∀ J27 : MJ, J27 = va_up J21 q24 (va_up (J21 q24) (((60 : Int32) * x1) + x2).toNatClampNeg r23) →
      (C19 x0).1 = 3 ∧
      F_X2_is [aR (some x0), aI r6] C19 I20 J27 R22 (fun o C29 I30 J31 R32 =>
      ∃ r33 : Int32, o = .inl (some (aI r33)) ∧
      (r33 = 0 ∨ r33 = 1) ∧ K (.inl (some (aI r33))) C29 I30 J31 R32)))))
theorem wX2_write {l : Launch}  {F_X2_wrong : SPF} (S_X2_wrong : SpX2_wrong l F_X2_wrong) {F_X2_is : SPF} (S_X2_is : SpX2_is l F_X2_is) {F_X2_cut : SPF} (S_X2_cut : SpX2_cut l F_X2_cut) {F : SPF}
    (h0 : ∀ (As : List AV) (C : MC) (I : MI) (J : MJ) (R : MR) (K : AK), F As C I J R K → ∃ (x0 : Nat) (x1 : Int32) (x2 : Int32) (x3 : Int64), As = [aR (some x0), aI x1, aI x2, aJ x3] ∧ PX2_write_0 F_X2_wrong F_X2_is F_X2_cut K x0 x1 x2 x3 C I J R) : SpX2_write l F := by
  refine Spec.of (by rfl) ?_
  intro Γ C I J R As Gd gl gr _ _ gb hF
  subst gl
  have G : Gb Γ yX2_write cX2_write 6 (some .boolean) [] rmX2_write bdX2_write := ⟨Gd, gr, gb⟩
  obtain ⟨x0, x1, x2, x3, rfl, h⟩ := h0 As C I J R (gK Γ) hF
  exact ⟨Nat.le_of_ble_eq_true rfl, bX2_write_0 G S_X2_wrong S_X2_is S_X2_cut h⟩
def PX2_wrong_0 (F_X2_isTray : SPF) (K : AK) (x0 : Nat) (x1 : Int32) (x2 : Int32) (C : MC) (I : MI) (J : MJ) (R : MR) : Prop :=
      F_X2_isTray [aI x1] C I J R (fun o C1 I2 J3 R4 =>
      ∃ r5 : Int32, o = .inl (some (aI r5)) ∧
      ((¬ r5 = 0 →
      (C1 x0).1 = 3 ∧
      ∃ q8 : Nat, R4 x0 4 = some q8 ∧
      (C1 q8).1 = 20 ∧
      vp_in x1 (C1 q8).2 ∧
      ((¬ (I2 q8 x1.toNatClampNeg) = (-1 : Int32) →
      ((x2 < 0 →
      K (.inl (some (aI (3 : Int32)))) C1 I2 J3 R4) ∧
      (¬ x2 < 0 →
      ((x2 < (I2 q8 x1.toNatClampNeg) →
      K (.inl (some (aI (0 : Int32)))) C1 I2 J3 R4) ∧
      (¬ x2 < (I2 q8 x1.toNatClampNeg) →
      K (.inl (some (aI (3 : Int32)))) C1 I2 J3 R4))))) ∧
      ((I2 q8 x1.toNatClampNeg) = (-1 : Int32) →
      K (.inl (some (aI (2 : Int32)))) C1 I2 J3 R4))) ∧
      (r5 = 0 →
      K (.inl (some (aI (1 : Int32)))) C1 I2 J3 R4)))
theorem wX2_wrong {l : Launch}  {F_X2_isTray : SPF} (S_X2_isTray : SpX2_isTray l F_X2_isTray) {F : SPF}
    (h0 : ∀ (As : List AV) (C : MC) (I : MI) (J : MJ) (R : MR) (K : AK), F As C I J R K → ∃ (x0 : Nat) (x1 : Int32) (x2 : Int32), As = [aR (some x0), aI x1, aI x2] ∧ PX2_wrong_0 F_X2_isTray K x0 x1 x2 C I J R) : SpX2_wrong l F := by
  refine Spec.of (by rfl) ?_
  intro Γ C I J R As Gd gl gr _ _ gb hF
  subst gl
  have G : Gb Γ yX2_wrong cX2_wrong 3 (some .int) [] rmX2_wrong bdX2_wrong := ⟨Gd, gr, gb⟩
  obtain ⟨x0, x1, x2, rfl, h⟩ := h0 As C I J R (gK Γ) hF
  exact ⟨Nat.le_of_ble_eq_true rfl, bX2_wrong_0 G S_X2_isTray h⟩
def PX2_cut_0 (K : AK) (x0 : Int64) (x2 : Int32) (C : MC) (I : MI) (J : MJ) (R : MR) : Prop :=
      ((¬ x2 = 0 →
      ((¬ x2 = (1 : Int32) →
      ((¬ x2 = (2 : Int32) →
      K (.inl (some (aJ x0))) C I J R) ∧
      (x2 = (2 : Int32) →
      K (.inl (some (aJ x0.toInt32.toInt64))) C I J R))) ∧
      (x2 = (1 : Int32) →
      K (.inl (some (aJ x0.toInt32.toInt16.toInt32.toInt64))) C I J R))) ∧
      (x2 = 0 →
      K (.inl (some (aJ x0.toInt32.toInt8.toInt32.toInt64))) C I J R))
theorem wX2_cut {l : Launch}  {F : SPF}
    (h0 : ∀ (As : List AV) (C : MC) (I : MI) (J : MJ) (R : MR) (K : AK), F As C I J R K → ∃ (x0 : Int64) (x2 : Int32), As = [aJ x0, aI x2] ∧ PX2_cut_0 K x0 x2 C I J R) : SpX2_cut l F := by
  refine Spec.of (by rfl) ?_
  intro Γ C I J R As Gd gl gr _ _ gb hF
  subst gl
  have G : Gb Γ yX2_cut cX2_cut 3 (some .long) [] rmX2_cut bdX2_cut := ⟨Gd, gr, gb⟩
  obtain ⟨x0, x2, rfl, h⟩ := h0 As C I J R (gK Γ) hF
  exact ⟨Nat.le_of_ble_eq_true rfl, bX2_cut_0 G h⟩
def PX2_read_0 (F_X2_wrong : SPF) (K : AK) (x0 : Nat) (x1 : Int32) (x2 : Int32) (C : MC) (I : MI) (J : MJ) (R : MR) : Prop :=
      (C x0).1 = 3 ∧
      F_X2_wrong [aR (some x0), aI x1, aI x2] C I J R (fun o C2 I3 J4 R5 =>
      ∃ r6 : Int32, o = .inl (some (aI r6)) ∧
      (C2 x0).1 = 3 ∧
      ∀ I8 : MI, I8 = va_up I3 x0 (va_up (I3 x0) 0 r6) →
      (((I8 x0 0) ≤ 0 →
      ∃ q10 : Nat, R5 x0 5 = some q10 ∧
      (C2 q10).1 = 21 ∧
      vp_in (((60 : Int32) * x1) + x2) (C2 q10).2 ∧
      K (.inl (some (aJ (J4 q10 (((60 : Int32) * x1) + x2).toNatClampNeg)))) C2 I8 J4 R5) ∧
      (¬ (I8 x0 0) ≤ 0 →
      K (.inl (some (aJ (-1 : Int64)))) C2 I8 J4 R5)))
theorem wX2_read {l : Launch}  {F_X2_wrong : SPF} (S_X2_wrong : SpX2_wrong l F_X2_wrong) {F : SPF}
    (h0 : ∀ (As : List AV) (C : MC) (I : MI) (J : MJ) (R : MR) (K : AK), F As C I J R K → ∃ (x0 : Nat) (x1 : Int32) (x2 : Int32), As = [aR (some x0), aI x1, aI x2] ∧ PX2_read_0 F_X2_wrong K x0 x1 x2 C I J R) : SpX2_read l F := by
  refine Spec.of (by rfl) ?_
  intro Γ C I J R As Gd gl gr _ _ gb hF
  subst gl
  have G : Gb Γ yX2_read cX2_read 3 (some .long) [] rmX2_read bdX2_read := ⟨Gd, gr, gb⟩
  obtain ⟨x0, x1, x2, rfl, h⟩ := h0 As C I J R (gK Γ) hF
  exact ⟨Nat.le_of_ble_eq_true rfl, bX2_read_0 G S_X2_wrong h⟩
def PX2_pour_143 (F_X2_isTray : SPF) (F_X2_is : SPF) (Q118 : Nat → Int32 → Int32 → Int32 → Int32 → Int32 → Int32 → MC → MI → MJ → MR → Prop) (K : AK) (x0 : Nat) (x1 : Int32) (x2 : Int32) (x3 : Int32) (x4 : Int32) (x5 : Int32) (x6 : Int32) (s0 : Int32) (C : MC) (I : MI) (J : MJ) (R : MR) : Prop :=
      (C x0).1 = 3 ∧
      ∃ q2 : Nat, R x0 5 = some q2 ∧
      (C q2).1 = 21 ∧
      vp_in ((((60 : Int32) * x1) + x2) + s0) (C q2).2 ∧
      vp_in ((((60 : Int32) * x3) + x4) + s0) (C q2).2 ∧
      ∀ J6 : MJ, J6 = va_up J q2 (va_up (J q2) ((((60 : Int32) * x3) + x4) + s0).toNatClampNeg (J q2 ((((60 : Int32) * x1) + x2) + s0).toNatClampNeg)) →
      Q118 x0 x1 x2 x3 x4 x5 (x6 + 1) C I J6 R
def PX2_pour_118 (F_X2_isTray : SPF) (F_X2_is : SPF) (Q118 : Nat → Int32 → Int32 → Int32 → Int32 → Int32 → Int32 → MC → MI → MJ → MR → Prop) (K : AK) (x0 : Nat) (x1 : Int32) (x2 : Int32) (x3 : Int32) (x4 : Int32) (x5 : Int32) (x6 : Int32) (C : MC) (I : MI) (J : MJ) (R : MR) : Prop :=
      ((x5 ≤ x6 →
      (C x0).1 = 3 ∧
      F_X2_is [aR (some x0), aI (0 : Int32)] C I J R (fun o C3 I4 J5 R6 =>
      ∃ r7 : Int32, o = .inl (some (aI r7)) ∧
      (r7 = 0 ∨ r7 = 1) ∧ K (.inl (some (aI r7))) C3 I4 J5 R6)) ∧
      (¬ x5 ≤ x6 →
      ((x4 ≤ x2 →
      PX2_pour_143 F_X2_isTray F_X2_is Q118 K x0 x1 x2 x3 x4 x5 x6 x6 C I J R) ∧
      (¬ x4 ≤ x2 →
      PX2_pour_143 F_X2_isTray F_X2_is Q118 K x0 x1 x2 x3 x4 x5 x6 ((x5 - (1 : Int32)) - x6) C I J R))))
def PX2_pour_0 (F_X2_isTray : SPF) (F_X2_is : SPF) (Q118 : Nat → Int32 → Int32 → Int32 → Int32 → Int32 → Int32 → MC → MI → MJ → MR → Prop) (K : AK) (x0 : Nat) (x1 : Int32) (x2 : Int32) (x3 : Int32) (x4 : Int32) (x5 : Int32) (C : MC) (I : MI) (J : MJ) (R : MR) : Prop :=
      F_X2_isTray [aI x1] C I J R (fun o C1 I2 J3 R4 =>
      ∃ r5 : Int32, o = .inl (some (aI r5)) ∧
      ((r5 = 0 →
      (C1 x0).1 = 3 ∧
      F_X2_is [aR (some x0), aI (1 : Int32)] C1 I2 J3 R4 (fun o C8 I9 J10 R11 =>
      ∃ r12 : Int32, o = .inl (some (aI r12)) ∧
      (r12 = 0 ∨ r12 = 1) ∧ K (.inl (some (aI r12))) C8 I9 J10 R11)) ∧
      (¬ r5 = 0 →
      F_X2_isTray [aI x3] C1 I2 J3 R4 (fun o C14 I15 J16 R17 =>
      ∃ r18 : Int32, o = .inl (some (aI r18)) ∧
      ((r18 = 0 →
      (C14 x0).1 = 3 ∧
      F_X2_is [aR (some x0), aI (1 : Int32)] C14 I15 J16 R17 (fun o C21 I22 J23 R24 =>
      ∃ r25 : Int32, o = .inl (some (aI r25)) ∧
      (r25 = 0 ∨ r25 = 1) ∧ K (.inl (some (aI r25))) C21 I22 J23 R24)) ∧
      (¬ r18 = 0 →
      ((x2 < 0 →
      (C14 x0).1 = 3 ∧
      F_X2_is [aR (some x0), aI (1 : Int32)] C14 I15 J16 R17 (fun o C29 I30 J31 R32 =>
      ∃ r33 : Int32, o = .inl (some (aI r33)) ∧
      (r33 = 0 ∨ r33 = 1) ∧ K (.inl (some (aI r33))) C29 I30 J31 R32)) ∧
      (¬ x2 < 0 →
      ((x4 < 0 →
      (C14 x0).1 = 3 ∧
      F_X2_is [aR (some x0), aI (1 : Int32)] C14 I15 J16 R17 (fun o C37 I38 J39 R40 =>
      ∃ r41 : Int32, o = .inl (some (aI r41)) ∧
      (r41 = 0 ∨ r41 = 1) ∧ K (.inl (some (aI r41))) C37 I38 J39 R40)) ∧
      (¬ x4 < 0 →
      ((0 ≤ x5 →
      (C14 x0).1 = 3 ∧
      ∃ q45 : Nat, R17 x0 4 = some q45 ∧
      (C14 q45).1 = 20 ∧
      vp_in x1 (C14 q45).2 ∧
      (((I15 q45 x1.toNatClampNeg) = (-1 : Int32) →
      F_X2_is [aR (some x0), aI (2 : Int32)] C14 I15 J16 R17 (fun o C49 I50 J51 R52 =>
      ∃ r53 : Int32, o = .inl (some (aI r53)) ∧
      (r53 = 0 ∨ r53 = 1) ∧ K (.inl (some (aI r53))) C49 I50 J51 R52)) ∧
      (¬ (I15 q45 x1.toNatClampNeg) = (-1 : Int32) →
      vp_in x3 (C14 q45).2 ∧
      ((¬ (I15 q45 x3.toNatClampNeg) = (-1 : Int32) →
      ∃ q57 : Nat, R17 x0 3 = some q57 ∧
      (C14 q57).1 = 20 ∧
      vp_in x1 (C14 q57).2 ∧
      vp_in x3 (C14 q57).2 ∧
      (((I15 q57 x1.toNatClampNeg) = (I15 q57 x3.toNatClampNeg) →
      ((((I15 q45 x1.toNatClampNeg) - x2) < x5 →
      F_X2_is [aR (some x0), aI (3 : Int32)] C14 I15 J16 R17 (fun o C63 I64 J65 R66 =>
      ∃ r67 : Int32, o = .inl (some (aI r67)) ∧
      (r67 = 0 ∨ r67 = 1) ∧ K (.inl (some (aI r67))) C63 I64 J65 R66)) ∧
      (¬ ((I15 q45 x1.toNatClampNeg) - x2) < x5 →
      ((x5 ≤ ((I15 q45 x3.toNatClampNeg) - x4) →
      Q118 x0 x1 x2 x3 x4 x5 (0 : Int32) C14 I15 J16 R17) ∧
      (¬ x5 ≤ ((I15 q45 x3.toNatClampNeg) - x4) →
      F_X2_is [aR (some x0), aI (3 : Int32)] C14 I15 J16 R17 (fun o C70 I71 J72 R73 =>
      ∃ r74 : Int32, o = .inl (some (aI r74)) ∧
      (r74 = 0 ∨ r74 = 1) ∧ K (.inl (some (aI r74))) C70 I71 J72 R73)))))) ∧
      (¬ (I15 q57 x1.toNatClampNeg) = (I15 q57 x3.toNatClampNeg) →
      F_X2_is [aR (some x0), aI (7 : Int32)] C14 I15 J16 R17 (fun o C76 I77 J78 R79 =>
      ∃ r80 : Int32, o = .inl (some (aI r80)) ∧
      (r80 = 0 ∨ r80 = 1) ∧ K (.inl (some (aI r80))) C76 I77 J78 R79)))) ∧
      ((I15 q45 x3.toNatClampNeg) = (-1 : Int32) →
      F_X2_is [aR (some x0), aI (2 : Int32)] C14 I15 J16 R17 (fun o C82 I83 J84 R85 =>
      ∃ r86 : Int32, o = .inl (some (aI r86)) ∧
      (r86 = 0 ∨ r86 = 1) ∧ K (.inl (some (aI r86))) C82 I83 J84 R85)))))) ∧
      (¬ 0 ≤ x5 →
      (C14 x0).1 = 3 ∧
      F_X2_is [aR (some x0), aI (1 : Int32)] C14 I15 J16 R17 (fun o C89 I90 J91 R92 =>
      ∃ r93 : Int32, o = .inl (some (aI r93)) ∧
      (r93 = 0 ∨ r93 = 1) ∧ K (.inl (some (aI r93))) C89 I90 J91 R92)))))))))))))
theorem wX2_pour {l : Launch}  {F_X2_isTray : SPF} (S_X2_isTray : SpX2_isTray l F_X2_isTray) {F_X2_is : SPF} (S_X2_is : SpX2_is l F_X2_is)
    (Q118 : Nat → AK → Nat → Int32 → Int32 → Int32 → Int32 → Int32 → Int32 → MC → MI → MJ → MR → Prop) {F : SPF}
    (h0 : ∀ (As : List AV) (C : MC) (I : MI) (J : MJ) (R : MR) (K : AK), F As C I J R K → ∃ (x0 : Nat) (x1 : Int32) (x2 : Int32) (x3 : Int32) (x4 : Int32) (x5 : Int32), As = [aR (some x0), aI x1, aI x2, aI x3, aI x4, aI x5] ∧ PX2_pour_0 F_X2_isTray F_X2_is (fun (x0 : Nat) (x1 : Int32) (x2 : Int32) (x3 : Int32) (x4 : Int32) (x5 : Int32) (x6 : Int32) (C : MC) (I : MI) (J : MJ) (R : MR) => ∃ n, Q118 n K x0 x1 x2 x3 x4 x5 x6 C I J R) K x0 x1 x2 x3 x4 x5 C I J R)
    (h118 : ∀ (n : Nat) (K : AK) (x0 : Nat) (x1 : Int32) (x2 : Int32) (x3 : Int32) (x4 : Int32) (x5 : Int32) (x6 : Int32) (C : MC) (I : MI) (J : MJ) (R : MR), Q118 n K x0 x1 x2 x3 x4 x5 x6 C I J R → PX2_pour_118 F_X2_isTray F_X2_is (fun (x0 : Nat) (x1 : Int32) (x2 : Int32) (x3 : Int32) (x4 : Int32) (x5 : Int32) (x6 : Int32) (C : MC) (I : MI) (J : MJ) (R : MR) => ∃ m, m < n ∧ Q118 m K x0 x1 x2 x3 x4 x5 x6 C I J R) K x0 x1 x2 x3 x4 x5 x6 C I J R) : SpX2_pour l F := by
  refine Spec.of (by rfl) ?_
  intro Γ C I J R As Gd gl gr _ _ gb hF
  subst gl
  have G : Gb Γ yX2_pour cX2_pour 8 (some .boolean) [] rmX2_pour bdX2_pour := ⟨Gd, gr, gb⟩
  have key : ∀ n : Nat, (∀ (x0 : Nat) (x1 : Int32) (x2 : Int32) (x3 : Int32) (x4 : Int32) (x5 : Int32) (x6 : Int32) (C : MC) (I : MI) (J : MJ) (R : MR), Q118 n (gK Γ) x0 x1 x2 x3 x4 x5 x6 C I J R → AW Γ 0 0 C I J R 118 [(0, aR (some x0)), (1, aI x1), (2, aI x2), (3, aI x3), (4, aI x4), (5, aI x5), (6, aI x6)] []) := by
    intro n
    induction n using Nat.strongRecOn with
    | ind n ih =>
    have w118 : ∀ (x0 : Nat) (x1 : Int32) (x2 : Int32) (x3 : Int32) (x4 : Int32) (x5 : Int32) (x6 : Int32) (C : MC) (I : MI) (J : MJ) (R : MR), (∃ m, m < n ∧ Q118 m (gK Γ) x0 x1 x2 x3 x4 x5 x6 C I J R) → AW Γ 0 0 C I J R 118 [(0, aR (some x0)), (1, aI x1), (2, aI x2), (3, aI x3), (4, aI x4), (5, aI x5), (6, aI x6)] [] := fun x0 x1 x2 x3 x4 x5 x6 C I J R ⟨m, hm, hq⟩ => (ih m hm) x0 x1 x2 x3 x4 x5 x6 C I J R hq
    have w143 : ∀ (x0 : Nat) (x1 : Int32) (x2 : Int32) (x3 : Int32) (x4 : Int32) (x5 : Int32) (x6 : Int32) (s0 : Int32) (C : MC) (I : MI) (J : MJ) (R : MR), PX2_pour_143 F_X2_isTray F_X2_is (fun (x0 : Nat) (x1 : Int32) (x2 : Int32) (x3 : Int32) (x4 : Int32) (x5 : Int32) (x6 : Int32) (C : MC) (I : MI) (J : MJ) (R : MR) => ∃ m, m < n ∧ Q118 m (gK Γ) x0 x1 x2 x3 x4 x5 x6 C I J R) (gK Γ) x0 x1 x2 x3 x4 x5 x6 s0 C I J R → AW Γ 0 0 C I J R 143 [(0, aR (some x0)), (1, aI x1), (2, aI x2), (3, aI x3), (4, aI x4), (5, aI x5), (6, aI x6)] [aI s0] := fun x0 x1 x2 x3 x4 x5 x6 s0 C I J R h => bX2_pour_143 G w118 h
    exact fun x0 x1 x2 x3 x4 x5 x6 C I J R h => bX2_pour_118 G S_X2_is w143 (h118 n (gK Γ) x0 x1 x2 x3 x4 x5 x6 C I J R h)
  have w118 : ∀ (x0 : Nat) (x1 : Int32) (x2 : Int32) (x3 : Int32) (x4 : Int32) (x5 : Int32) (x6 : Int32) (C : MC) (I : MI) (J : MJ) (R : MR), (∃ n, Q118 n (gK Γ) x0 x1 x2 x3 x4 x5 x6 C I J R) → AW Γ 0 0 C I J R 118 [(0, aR (some x0)), (1, aI x1), (2, aI x2), (3, aI x3), (4, aI x4), (5, aI x5), (6, aI x6)] [] := fun x0 x1 x2 x3 x4 x5 x6 C I J R ⟨m, hq⟩ => (key m) x0 x1 x2 x3 x4 x5 x6 C I J R hq
  have w143 : ∀ (x0 : Nat) (x1 : Int32) (x2 : Int32) (x3 : Int32) (x4 : Int32) (x5 : Int32) (x6 : Int32) (s0 : Int32) (C : MC) (I : MI) (J : MJ) (R : MR), PX2_pour_143 F_X2_isTray F_X2_is (fun (x0 : Nat) (x1 : Int32) (x2 : Int32) (x3 : Int32) (x4 : Int32) (x5 : Int32) (x6 : Int32) (C : MC) (I : MI) (J : MJ) (R : MR) => ∃ n, Q118 n (gK Γ) x0 x1 x2 x3 x4 x5 x6 C I J R) (gK Γ) x0 x1 x2 x3 x4 x5 x6 s0 C I J R → AW Γ 0 0 C I J R 143 [(0, aR (some x0)), (1, aI x1), (2, aI x2), (3, aI x3), (4, aI x4), (5, aI x5), (6, aI x6)] [aI s0] := fun x0 x1 x2 x3 x4 x5 x6 s0 C I J R h => bX2_pour_143 G w118 h
  obtain ⟨x0, x1, x2, x3, x4, x5, rfl, h⟩ := h0 As C I J R (gK Γ) hF
  exact ⟨Nat.le_of_ble_eq_true rfl, bX2_pour_0 G S_X2_isTray S_X2_is w118 h⟩
def PX2_leaf_22 (F_X2_wrongWeights : SPF) (F_X2_takeWeights : SPF) (F_X2_adds : SPF) (F_X2_refuse : SPF) (K : AK) (x0 : Nat) (x1 : Int32) (x2 : Int32) (x3 : Int32) (C : MC) (I : MI) (J : MJ) (R : MR) : Prop :=
      ((x3 ≤ 0 →
      (C x0).1 = 3 ∧
      F_X2_takeWeights [aR (some x0), aI (I x0 6), aI (0 : Int32), aI x1, aI x2] C I J R (fun o C3 I4 J5 R6 =>
      o = .inl none ∧
      (C3 x0).1 = 3 ∧
      F_X2_adds [aR (some x0), aI (0 : Int32), aI (-1 : Int32), aI (-1 : Int32), aI (-1 : Int32), aI (-1 : Int32), aI (0 : Int32), aI (0 : Int32)] C3 I4 J5 R6 (fun o C9 I10 J11 R12 =>
      ∃ r13 : Int32, o = .inl (some (aI r13)) ∧
      K (.inl (some (aI r13))) C9 I10 J11 R12))) ∧
      (¬ x3 ≤ 0 →
      (C x0).1 = 3 ∧
      F_X2_refuse [aR (some x0), aI x3] C I J R (fun o C15 I16 J17 R18 =>
      ∃ r19 : Int32, o = .inl (some (aI r19)) ∧
      K (.inl (some (aI r19))) C15 I16 J17 R18)))
def PX2_leaf_0 (F_X2_wrongWeights : SPF) (F_X2_takeWeights : SPF) (F_X2_adds : SPF) (F_X2_refuse : SPF) (K : AK) (x0 : Nat) (x1 : Int32) (x2 : Int32) (C : MC) (I : MI) (J : MJ) (R : MR) : Prop :=
      (C x0).1 = 3 ∧
      F_X2_wrongWeights [aR (some x0), aI x1, aI x2] C I J R (fun o C2 I3 J4 R5 =>
      ∃ r6 : Int32, o = .inl (some (aI r6)) ∧
      ((¬ r6 = 0 →
      PX2_leaf_22 F_X2_wrongWeights F_X2_takeWeights F_X2_adds F_X2_refuse K x0 x1 x2 r6 C2 I3 J4 R5) ∧
      (r6 = 0 →
      (C2 x0).1 = 3 ∧
      ((¬ (I3 x0 6) = (20 : Int32) →
      PX2_leaf_22 F_X2_wrongWeights F_X2_takeWeights F_X2_adds F_X2_refuse K x0 x1 x2 r6 C2 I3 J4 R5) ∧
      ((I3 x0 6) = (20 : Int32) →
      PX2_leaf_22 F_X2_wrongWeights F_X2_takeWeights F_X2_adds F_X2_refuse K x0 x1 x2 (4 : Int32) C2 I3 J4 R5)))))
theorem wX2_leaf {l : Launch}  {F_X2_wrongWeights : SPF} (S_X2_wrongWeights : SpX2_wrongWeights l F_X2_wrongWeights) {F_X2_takeWeights : SPF} (S_X2_takeWeights : SpX2_takeWeights l F_X2_takeWeights) {F_X2_adds : SPF} (S_X2_adds : SpX2_adds l F_X2_adds) {F_X2_refuse : SPF} (S_X2_refuse : SpX2_refuse l F_X2_refuse) {F : SPF}
    (h0 : ∀ (As : List AV) (C : MC) (I : MI) (J : MJ) (R : MR) (K : AK), F As C I J R K → ∃ (x0 : Nat) (x1 : Int32) (x2 : Int32), As = [aR (some x0), aI x1, aI x2] ∧ PX2_leaf_0 F_X2_wrongWeights F_X2_takeWeights F_X2_adds F_X2_refuse K x0 x1 x2 C I J R) : SpX2_leaf l F := by
  refine Spec.of (by rfl) ?_
  intro Γ C I J R As Gd gl gr _ _ gb hF
  subst gl
  have G : Gb Γ yX2_leaf cX2_leaf 4 (some .int) [] rmX2_leaf bdX2_leaf := ⟨Gd, gr, gb⟩
  have w22 : ∀ (x0 : Nat) (x1 : Int32) (x2 : Int32) (x3 : Int32) (C : MC) (I : MI) (J : MJ) (R : MR), PX2_leaf_22 F_X2_wrongWeights F_X2_takeWeights F_X2_adds F_X2_refuse (gK Γ) x0 x1 x2 x3 C I J R → AW Γ 0 0 C I J R 22 [(0, aR (some x0)), (1, aI x1), (2, aI x2), (3, aI x3)] [] := fun x0 x1 x2 x3 C I J R h => bX2_leaf_22 G S_X2_takeWeights S_X2_adds S_X2_refuse h
  obtain ⟨x0, x1, x2, rfl, h⟩ := h0 As C I J R (gK Γ) hF
  exact ⟨Nat.le_of_ble_eq_true rfl, bX2_leaf_0 G S_X2_wrongWeights w22 h⟩
def PX2_wrongWeights_49 (F_X2_isTray : SPF) (Q49 : Nat → Int32 → Int32 → Int64 → Int32 → MC → MI → MJ → MR → Prop) (K : AK) (x0 : Nat) (x1 : Int32) (x2 : Int32) (x3 : Int64) (x5 : Int32) (C : MC) (I : MI) (J : MJ) (R : MR) : Prop :=
      ((x2 ≤ x5 →
      ((x3 < (1 : Int64) →
      K (.inl (some (aI (1 : Int32)))) C I J R) ∧
      (¬ x3 < (1 : Int64) →
      ((x3 ≤ (1000 : Int64) →
      K (.inl (some (aI (0 : Int32)))) C I J R) ∧
      (¬ x3 ≤ (1000 : Int64) →
      K (.inl (some (aI (1 : Int32)))) C I J R))))) ∧
      (¬ x2 ≤ x5 →
      (C x0).1 = 3 ∧
      ∃ q5 : Nat, R x0 5 = some q5 ∧
      (C q5).1 = 21 ∧
      vp_in (((60 : Int32) * x1) + x5) (C q5).2 ∧
      (((J q5 (((60 : Int32) * x1) + x5).toNatClampNeg) < (0 : Int64) →
      K (.inl (some (aI (1 : Int32)))) C I J R) ∧
      (¬ (J q5 (((60 : Int32) * x1) + x5).toNatClampNeg) < (0 : Int64) →
      (((J q5 (((60 : Int32) * x1) + x5).toNatClampNeg) ≤ (1000 : Int64) →
      Q49 x0 x1 x2 (x3 + (J q5 (((60 : Int32) * x1) + x5).toNatClampNeg)) (x5 + 1) C I J R) ∧
      (¬ (J q5 (((60 : Int32) * x1) + x5).toNatClampNeg) ≤ (1000 : Int64) →
      K (.inl (some (aI (1 : Int32)))) C I J R))))))
def PX2_wrongWeights_0 (F_X2_isTray : SPF) (Q49 : Nat → Int32 → Int32 → Int64 → Int32 → MC → MI → MJ → MR → Prop) (K : AK) (x0 : Nat) (x1 : Int32) (x2 : Int32) (C : MC) (I : MI) (J : MJ) (R : MR) : Prop :=
      F_X2_isTray [aI x1] C I J R (fun o C1 I2 J3 R4 =>
      ∃ r5 : Int32, o = .inl (some (aI r5)) ∧
      ((r5 = 0 →
      K (.inl (some (aI (1 : Int32)))) C1 I2 J3 R4) ∧
      (¬ r5 = 0 →
      ((x2 < (1 : Int32) →
      K (.inl (some (aI (1 : Int32)))) C1 I2 J3 R4) ∧
      (¬ x2 < (1 : Int32) →
      ((x2 ≤ (60 : Int32) →
      (C1 x0).1 = 3 ∧
      ∃ q10 : Nat, R4 x0 4 = some q10 ∧
      (C1 q10).1 = 20 ∧
      vp_in x1 (C1 q10).2 ∧
      ((¬ (I2 q10 x1.toNatClampNeg) = (-1 : Int32) →
      ((x2 ≤ (I2 q10 x1.toNatClampNeg) →
      Q49 x0 x1 x2 (0 : Int64) (0 : Int32) C1 I2 J3 R4) ∧
      (¬ x2 ≤ (I2 q10 x1.toNatClampNeg) →
      K (.inl (some (aI (3 : Int32)))) C1 I2 J3 R4))) ∧
      ((I2 q10 x1.toNatClampNeg) = (-1 : Int32) →
      K (.inl (some (aI (2 : Int32)))) C1 I2 J3 R4))) ∧
      (¬ x2 ≤ (60 : Int32) →
      K (.inl (some (aI (1 : Int32)))) C1 I2 J3 R4)))))))
theorem wX2_wrongWeights {l : Launch}  {F_X2_isTray : SPF} (S_X2_isTray : SpX2_isTray l F_X2_isTray)
    (Q49 : Nat → AK → Nat → Int32 → Int32 → Int64 → Int32 → MC → MI → MJ → MR → Prop) {F : SPF}
    (h0 : ∀ (As : List AV) (C : MC) (I : MI) (J : MJ) (R : MR) (K : AK), F As C I J R K → ∃ (x0 : Nat) (x1 : Int32) (x2 : Int32), As = [aR (some x0), aI x1, aI x2] ∧ PX2_wrongWeights_0 F_X2_isTray (fun (x0 : Nat) (x1 : Int32) (x2 : Int32) (x3 : Int64) (x5 : Int32) (C : MC) (I : MI) (J : MJ) (R : MR) => ∃ n, Q49 n K x0 x1 x2 x3 x5 C I J R) K x0 x1 x2 C I J R)
    (h49 : ∀ (n : Nat) (K : AK) (x0 : Nat) (x1 : Int32) (x2 : Int32) (x3 : Int64) (x5 : Int32) (C : MC) (I : MI) (J : MJ) (R : MR), Q49 n K x0 x1 x2 x3 x5 C I J R → PX2_wrongWeights_49 F_X2_isTray (fun (x0 : Nat) (x1 : Int32) (x2 : Int32) (x3 : Int64) (x5 : Int32) (C : MC) (I : MI) (J : MJ) (R : MR) => ∃ m, m < n ∧ Q49 m K x0 x1 x2 x3 x5 C I J R) K x0 x1 x2 x3 x5 C I J R) : SpX2_wrongWeights l F := by
  refine Spec.of (by rfl) ?_
  intro Γ C I J R As Gd gl gr _ _ gb hF
  subst gl
  have G : Gb Γ yX2_wrongWeights cX2_wrongWeights 8 (some .int) [] rmX2_wrongWeights bdX2_wrongWeights := ⟨Gd, gr, gb⟩
  have key : ∀ n : Nat, (∀ (x0 : Nat) (x1 : Int32) (x2 : Int32) (x3 : Int64) (x5 : Int32) (C : MC) (I : MI) (J : MJ) (R : MR), Q49 n (gK Γ) x0 x1 x2 x3 x5 C I J R → AW Γ 0 0 C I J R 49 [(0, aR (some x0)), (1, aI x1), (2, aI x2), (3, aJ x3), (5, aI x5)] []) := by
    intro n
    induction n using Nat.strongRecOn with
    | ind n ih =>
    have w49 : ∀ (x0 : Nat) (x1 : Int32) (x2 : Int32) (x3 : Int64) (x5 : Int32) (C : MC) (I : MI) (J : MJ) (R : MR), (∃ m, m < n ∧ Q49 m (gK Γ) x0 x1 x2 x3 x5 C I J R) → AW Γ 0 0 C I J R 49 [(0, aR (some x0)), (1, aI x1), (2, aI x2), (3, aJ x3), (5, aI x5)] [] := fun x0 x1 x2 x3 x5 C I J R ⟨m, hm, hq⟩ => (ih m hm) x0 x1 x2 x3 x5 C I J R hq
    exact fun x0 x1 x2 x3 x5 C I J R h => bX2_wrongWeights_49 G w49 (h49 n (gK Γ) x0 x1 x2 x3 x5 C I J R h)
  have w49 : ∀ (x0 : Nat) (x1 : Int32) (x2 : Int32) (x3 : Int64) (x5 : Int32) (C : MC) (I : MI) (J : MJ) (R : MR), (∃ n, Q49 n (gK Γ) x0 x1 x2 x3 x5 C I J R) → AW Γ 0 0 C I J R 49 [(0, aR (some x0)), (1, aI x1), (2, aI x2), (3, aJ x3), (5, aI x5)] [] := fun x0 x1 x2 x3 x5 C I J R ⟨m, hq⟩ => (key m) x0 x1 x2 x3 x5 C I J R hq
  obtain ⟨x0, x1, x2, rfl, h⟩ := h0 As C I J R (gK Γ) hF
  exact ⟨Nat.le_of_ble_eq_true rfl, bX2_wrongWeights_0 G S_X2_isTray w49 h⟩
def PX2_refuse_0 (K : AK) (x0 : Nat) (x1 : Int32) (C : MC) (I : MI) (J : MJ) (R : MR) : Prop :=
      (C x0).1 = 3 ∧
      ∀ I2 : MI, I2 = va_up I x0 (va_up (I x0) 0 x1) →
      K (.inl (some (aI (-1 : Int32)))) C I2 J R
theorem wX2_refuse {l : Launch}  {F : SPF}
    (h0 : ∀ (As : List AV) (C : MC) (I : MI) (J : MJ) (R : MR) (K : AK), F As C I J R K → ∃ (x0 : Nat) (x1 : Int32), As = [aR (some x0), aI x1] ∧ PX2_refuse_0 K x0 x1 C I J R) : SpX2_refuse l F := by
  refine Spec.of (by rfl) ?_
  intro Γ C I J R As Gd gl gr _ _ gb hF
  subst gl
  have G : Gb Γ yX2_refuse cX2_refuse 2 (some .int) [] rmX2_refuse bdX2_refuse := ⟨Gd, gr, gb⟩
  obtain ⟨x0, x1, rfl, h⟩ := h0 As C I J R (gK Γ) hF
  exact ⟨Nat.le_of_ble_eq_true rfl, bX2_refuse_0 G h⟩
def PX2_takeWeights_49 (Q3 : Nat → Int32 → Int32 → Int32 → Int32 → Int32 → MC → MI → MJ → MR → Prop) (K : AK) (x0 : Nat) (x1 : Int32) (x2 : Int32) (x3 : Int32) (x4 : Int32) (x5 : Int32) (s0 : Option Nat) (s1 : Int32) (s2 : Int32) (C : MC) (I : MI) (J : MJ) (R : MR) : Prop :=
      ∃ q1 : Nat, s0 = some q1 ∧
      (C q1).1 = 20 ∧
      vp_in s1 (C q1).2 ∧
      ∀ I4 : MI, I4 = va_up I q1 (va_up (I q1) s1.toNatClampNeg s2) →
      Q3 x0 x1 x2 x3 x4 (x5 + 1) C I4 J R
def PX2_takeWeights_3 (Q3 : Nat → Int32 → Int32 → Int32 → Int32 → Int32 → MC → MI → MJ → MR → Prop) (K : AK) (x0 : Nat) (x1 : Int32) (x2 : Int32) (x3 : Int32) (x4 : Int32) (x5 : Int32) (C : MC) (I : MI) (J : MJ) (R : MR) : Prop :=
      (((60 : Int32) ≤ x5 →
      K (.inl none) C I J R) ∧
      (¬ (60 : Int32) ≤ x5 →
      (C x0).1 = 3 ∧
      ((x4 ≤ x5 →
      PX2_takeWeights_49 Q3 K x0 x1 x2 x3 x4 x5 (R x0 14) (((60 : Int32) * (((3 : Int32) * x1) + x2)) + x5) (0 : Int32) C I J R) ∧
      (¬ x4 ≤ x5 →
      ∃ q4 : Nat, R x0 5 = some q4 ∧
      (C q4).1 = 21 ∧
      vp_in (((60 : Int32) * x3) + x5) (C q4).2 ∧
      PX2_takeWeights_49 Q3 K x0 x1 x2 x3 x4 x5 (R x0 14) (((60 : Int32) * (((3 : Int32) * x1) + x2)) + x5) ((J q4 (((60 : Int32) * x3) + x5).toNatClampNeg).toInt32) C I J R))))
def PX2_takeWeights_0 (Q3 : Nat → Int32 → Int32 → Int32 → Int32 → Int32 → MC → MI → MJ → MR → Prop) (K : AK) (x0 : Nat) (x1 : Int32) (x2 : Int32) (x3 : Int32) (x4 : Int32) (C : MC) (I : MI) (J : MJ) (R : MR) : Prop :=
      Q3 x0 x1 x2 x3 x4 (0 : Int32) C I J R
theorem wX2_takeWeights {l : Launch} 
    (Q3 : Nat → AK → Nat → Int32 → Int32 → Int32 → Int32 → Int32 → MC → MI → MJ → MR → Prop) {F : SPF}
    (h0 : ∀ (As : List AV) (C : MC) (I : MI) (J : MJ) (R : MR) (K : AK), F As C I J R K → ∃ (x0 : Nat) (x1 : Int32) (x2 : Int32) (x3 : Int32) (x4 : Int32), As = [aR (some x0), aI x1, aI x2, aI x3, aI x4] ∧ PX2_takeWeights_0 (fun (x0 : Nat) (x1 : Int32) (x2 : Int32) (x3 : Int32) (x4 : Int32) (x5 : Int32) (C : MC) (I : MI) (J : MJ) (R : MR) => ∃ n, Q3 n K x0 x1 x2 x3 x4 x5 C I J R) K x0 x1 x2 x3 x4 C I J R)
    (h3 : ∀ (n : Nat) (K : AK) (x0 : Nat) (x1 : Int32) (x2 : Int32) (x3 : Int32) (x4 : Int32) (x5 : Int32) (C : MC) (I : MI) (J : MJ) (R : MR), Q3 n K x0 x1 x2 x3 x4 x5 C I J R → PX2_takeWeights_3 (fun (x0 : Nat) (x1 : Int32) (x2 : Int32) (x3 : Int32) (x4 : Int32) (x5 : Int32) (C : MC) (I : MI) (J : MJ) (R : MR) => ∃ m, m < n ∧ Q3 m K x0 x1 x2 x3 x4 x5 C I J R) K x0 x1 x2 x3 x4 x5 C I J R) : SpX2_takeWeights l F := by
  refine Spec.of (by rfl) ?_
  intro Γ C I J R As Gd gl gr _ _ gb hF
  subst gl
  have G : Gb Γ yX2_takeWeights cX2_takeWeights 6 (none) [] rmX2_takeWeights bdX2_takeWeights := ⟨Gd, gr, gb⟩
  have key : ∀ n : Nat, (∀ (x0 : Nat) (x1 : Int32) (x2 : Int32) (x3 : Int32) (x4 : Int32) (x5 : Int32) (C : MC) (I : MI) (J : MJ) (R : MR), Q3 n (gK Γ) x0 x1 x2 x3 x4 x5 C I J R → AW Γ 0 0 C I J R 3 [(0, aR (some x0)), (1, aI x1), (2, aI x2), (3, aI x3), (4, aI x4), (5, aI x5)] []) := by
    intro n
    induction n using Nat.strongRecOn with
    | ind n ih =>
    have w3 : ∀ (x0 : Nat) (x1 : Int32) (x2 : Int32) (x3 : Int32) (x4 : Int32) (x5 : Int32) (C : MC) (I : MI) (J : MJ) (R : MR), (∃ m, m < n ∧ Q3 m (gK Γ) x0 x1 x2 x3 x4 x5 C I J R) → AW Γ 0 0 C I J R 3 [(0, aR (some x0)), (1, aI x1), (2, aI x2), (3, aI x3), (4, aI x4), (5, aI x5)] [] := fun x0 x1 x2 x3 x4 x5 C I J R ⟨m, hm, hq⟩ => (ih m hm) x0 x1 x2 x3 x4 x5 C I J R hq
    have w49 : ∀ (x0 : Nat) (x1 : Int32) (x2 : Int32) (x3 : Int32) (x4 : Int32) (x5 : Int32) (s0 : Option Nat) (s1 : Int32) (s2 : Int32) (C : MC) (I : MI) (J : MJ) (R : MR), PX2_takeWeights_49 (fun (x0 : Nat) (x1 : Int32) (x2 : Int32) (x3 : Int32) (x4 : Int32) (x5 : Int32) (C : MC) (I : MI) (J : MJ) (R : MR) => ∃ m, m < n ∧ Q3 m (gK Γ) x0 x1 x2 x3 x4 x5 C I J R) (gK Γ) x0 x1 x2 x3 x4 x5 s0 s1 s2 C I J R → AW Γ 0 0 C I J R 49 [(0, aR (some x0)), (1, aI x1), (2, aI x2), (3, aI x3), (4, aI x4), (5, aI x5)] [aI s2, aI s1, aR s0] := fun x0 x1 x2 x3 x4 x5 s0 s1 s2 C I J R h => bX2_takeWeights_49 G w3 h
    exact fun x0 x1 x2 x3 x4 x5 C I J R h => bX2_takeWeights_3 G w49 (h3 n (gK Γ) x0 x1 x2 x3 x4 x5 C I J R h)
  have w3 : ∀ (x0 : Nat) (x1 : Int32) (x2 : Int32) (x3 : Int32) (x4 : Int32) (x5 : Int32) (C : MC) (I : MI) (J : MJ) (R : MR), (∃ n, Q3 n (gK Γ) x0 x1 x2 x3 x4 x5 C I J R) → AW Γ 0 0 C I J R 3 [(0, aR (some x0)), (1, aI x1), (2, aI x2), (3, aI x3), (4, aI x4), (5, aI x5)] [] := fun x0 x1 x2 x3 x4 x5 C I J R ⟨m, hq⟩ => (key m) x0 x1 x2 x3 x4 x5 C I J R hq
  have w49 : ∀ (x0 : Nat) (x1 : Int32) (x2 : Int32) (x3 : Int32) (x4 : Int32) (x5 : Int32) (s0 : Option Nat) (s1 : Int32) (s2 : Int32) (C : MC) (I : MI) (J : MJ) (R : MR), PX2_takeWeights_49 (fun (x0 : Nat) (x1 : Int32) (x2 : Int32) (x3 : Int32) (x4 : Int32) (x5 : Int32) (C : MC) (I : MI) (J : MJ) (R : MR) => ∃ n, Q3 n (gK Γ) x0 x1 x2 x3 x4 x5 C I J R) (gK Γ) x0 x1 x2 x3 x4 x5 s0 s1 s2 C I J R → AW Γ 0 0 C I J R 49 [(0, aR (some x0)), (1, aI x1), (2, aI x2), (3, aI x3), (4, aI x4), (5, aI x5)] [aI s2, aI s1, aR s0] := fun x0 x1 x2 x3 x4 x5 s0 s1 s2 C I J R h => bX2_takeWeights_49 G w3 h
  obtain ⟨x0, x1, x2, x3, x4, rfl, h⟩ := h0 As C I J R (gK Γ) hF
  exact ⟨Nat.le_of_ble_eq_true rfl, bX2_takeWeights_0 G w3 h⟩
def PX2_adds_132 (Q91 : Nat → Int32 → Int32 → MC → MI → MJ → MR → Prop) (K : AK) (x0 : Nat) (x8 : Int32) (x9 : Int32) (C : MC) (I : MI) (J : MJ) (R : MR) : Prop :=
      Q91 x0 x8 (x9 + 1) C I J R
def PX2_adds_91 (Q91 : Nat → Int32 → Int32 → MC → MI → MJ → MR → Prop) (K : AK) (x0 : Nat) (x8 : Int32) (x9 : Int32) (C : MC) (I : MI) (J : MJ) (R : MR) : Prop :=
      (((4 : Int32) ≤ x9 →
      (C x0).1 = 3 ∧
      ∃ q3 : Nat, R x0 12 = some q3 ∧
      (C q3).1 = 20 ∧
      vp_in x8 (C q3).2 ∧
      ∀ I6 : MI, I6 = va_up I q3 (va_up (I q3) x8.toNatClampNeg (1 : Int32)) →
      ∃ q7 : Nat, R x0 13 = some q7 ∧
      (C q7).1 = 20 ∧
      vp_in ((3 : Int32) * x8) (C q7).2 ∧
      ∀ I10 : MI, I10 = va_up I6 q7 (va_up (I6 q7) ((3 : Int32) * x8).toNatClampNeg (0 : Int32)) →
      ∃ q11 : Nat, R x0 15 = some q11 ∧
      (C q11).1 = 20 ∧
      vp_in x8 (C q11).2 ∧
      ∀ I14 : MI, I14 = va_up I10 q11 (va_up (I10 q11) x8.toNatClampNeg (0 : Int32)) →
      ∃ q15 : Nat, R x0 16 = some q15 ∧
      (C q15).1 = 20 ∧
      vp_in x8 (C q15).2 ∧
      ∀ I18 : MI, I18 = va_up I14 q15 (va_up (I14 q15) x8.toNatClampNeg (-1 : Int32)) →
      ∃ q19 : Nat, R x0 17 = some q19 ∧
      (C q19).1 = 20 ∧
      vp_in x8 (C q19).2 ∧
      ∀ I22 : MI, I22 = va_up I18 q19 (va_up (I18 q19) x8.toNatClampNeg (-1 : Int32)) →
      ∃ q23 : Nat, R x0 18 = some q23 ∧
      (C q23).1 = 20 ∧
      vp_in x8 (C q23).2 ∧
      ∀ I26 : MI, I26 = va_up I22 q23 (va_up (I22 q23) x8.toNatClampNeg (0 : Int32)) →
      ∃ q27 : Nat, R x0 19 = some q27 ∧
      (C q27).1 = 20 ∧
      vp_in x8 (C q27).2 ∧
      ∀ I30 : MI, I30 = va_up I26 q27 (va_up (I26 q27) x8.toNatClampNeg (0 : Int32)) →
      ∃ q31 : Nat, R x0 20 = some q31 ∧
      (C q31).1 = 20 ∧
      vp_in x8 (C q31).2 ∧
      ∀ I34 : MI, I34 = va_up I30 q31 (va_up (I30 q31) x8.toNatClampNeg (0 : Int32)) →
      ∀ I35 : MI, I35 = va_up I34 x0 (va_up (I34 x0) 6 ((I34 x0 6) + (1 : Int32))) →
      ∀ I36 : MI, I36 = va_up I35 x0 (va_up (I35 x0) 0 (0 : Int32)) →
      K (.inl (some (aI x8))) C I36 J R) ∧
      (¬ (4 : Int32) ≤ x9 →
      (C x0).1 = 3 ∧
      ∃ q38 : Nat, R x0 8 = some q38 ∧
      (C q38).1 = 20 ∧
      vp_in (((4 : Int32) * x8) + x9) (C q38).2 ∧
      (((I q38 (((4 : Int32) * x8) + x9).toNatClampNeg) = (-1 : Int32) →
      PX2_adds_132 Q91 K x0 x8 x9 C I J R) ∧
      (¬ (I q38 (((4 : Int32) * x8) + x9).toNatClampNeg) = (-1 : Int32) →
      ∃ q42 : Nat, R x0 11 = some q42 ∧
      (C q42).1 = 20 ∧
      vp_in (I q38 (((4 : Int32) * x8) + x9).toNatClampNeg) (C q42).2 ∧
      ∀ I45 : MI, I45 = va_up I q42 (va_up (I q42) (I q38 (((4 : Int32) * x8) + x9).toNatClampNeg).toNatClampNeg x8) →
      PX2_adds_132 Q91 K x0 x8 x9 C I45 J R))))
def PX2_adds_0 (Q91 : Nat → Int32 → Int32 → MC → MI → MJ → MR → Prop) (K : AK) (x0 : Nat) (x1 : Int32) (x2 : Int32) (x3 : Int32) (x4 : Int32) (x5 : Int32) (x6 : Int32) (x7 : Int32) (C : MC) (I : MI) (J : MJ) (R : MR) : Prop :=
      (C x0).1 = 3 ∧
      ∃ q2 : Nat, R x0 7 = some q2 ∧
      (C q2).1 = 20 ∧
      vp_in (I x0 6) (C q2).2 ∧
      ∀ I5 : MI, I5 = va_up I q2 (va_up (I q2) (I x0 6).toNatClampNeg x1) →
      ∃ q6 : Nat, R x0 8 = some q6 ∧
      (C q6).1 = 20 ∧
      vp_in ((4 : Int32) * (I x0 6)) (C q6).2 ∧
      ∀ I9 : MI, I9 = va_up I5 q6 (va_up (I5 q6) ((4 : Int32) * (I x0 6)).toNatClampNeg x2) →
      vp_in (((4 : Int32) * (I x0 6)) + (1 : Int32)) (C q6).2 ∧
      ∀ I11 : MI, I11 = va_up I9 q6 (va_up (I9 q6) (((4 : Int32) * (I x0 6)) + (1 : Int32)).toNatClampNeg x3) →
      vp_in (((4 : Int32) * (I x0 6)) + (2 : Int32)) (C q6).2 ∧
      ∀ I13 : MI, I13 = va_up I11 q6 (va_up (I11 q6) (((4 : Int32) * (I x0 6)) + (2 : Int32)).toNatClampNeg x4) →
      vp_in (((4 : Int32) * (I x0 6)) + (3 : Int32)) (C q6).2 ∧
      ∀ I15 : MI, I15 = va_up I13 q6 (va_up (I13 q6) (((4 : Int32) * (I x0 6)) + (3 : Int32)).toNatClampNeg x5) →
      ∃ q16 : Nat, R x0 9 = some q16 ∧
      (C q16).1 = 20 ∧
      vp_in (I x0 6) (C q16).2 ∧
      ∀ I19 : MI, I19 = va_up I15 q16 (va_up (I15 q16) (I x0 6).toNatClampNeg x6) →
      ∃ q20 : Nat, R x0 10 = some q20 ∧
      (C q20).1 = 20 ∧
      vp_in (I x0 6) (C q20).2 ∧
      ∀ I23 : MI, I23 = va_up I19 q20 (va_up (I19 q20) (I x0 6).toNatClampNeg x7) →
      ∃ q24 : Nat, R x0 11 = some q24 ∧
      (C q24).1 = 20 ∧
      vp_in (I x0 6) (C q24).2 ∧
      ∀ I27 : MI, I27 = va_up I23 q24 (va_up (I23 q24) (I x0 6).toNatClampNeg (-1 : Int32)) →
      Q91 x0 (I x0 6) (0 : Int32) C I27 J R
theorem wX2_adds {l : Launch} 
    (Q91 : Nat → AK → Nat → Int32 → Int32 → MC → MI → MJ → MR → Prop) {F : SPF}
    (h0 : ∀ (As : List AV) (C : MC) (I : MI) (J : MJ) (R : MR) (K : AK), F As C I J R K → ∃ (x0 : Nat) (x1 : Int32) (x2 : Int32) (x3 : Int32) (x4 : Int32) (x5 : Int32) (x6 : Int32) (x7 : Int32), As = [aR (some x0), aI x1, aI x2, aI x3, aI x4, aI x5, aI x6, aI x7] ∧ PX2_adds_0 (fun (x0 : Nat) (x8 : Int32) (x9 : Int32) (C : MC) (I : MI) (J : MJ) (R : MR) => ∃ n, Q91 n K x0 x8 x9 C I J R) K x0 x1 x2 x3 x4 x5 x6 x7 C I J R)
    (h91 : ∀ (n : Nat) (K : AK) (x0 : Nat) (x8 : Int32) (x9 : Int32) (C : MC) (I : MI) (J : MJ) (R : MR), Q91 n K x0 x8 x9 C I J R → PX2_adds_91 (fun (x0 : Nat) (x8 : Int32) (x9 : Int32) (C : MC) (I : MI) (J : MJ) (R : MR) => ∃ m, m < n ∧ Q91 m K x0 x8 x9 C I J R) K x0 x8 x9 C I J R) : SpX2_adds l F := by
  refine Spec.of (by rfl) ?_
  intro Γ C I J R As Gd gl gr _ _ gb hF
  subst gl
  have G : Gb Γ yX2_adds cX2_adds 10 (some .int) [] rmX2_adds bdX2_adds := ⟨Gd, gr, gb⟩
  have key : ∀ n : Nat, (∀ (x0 : Nat) (x8 : Int32) (x9 : Int32) (C : MC) (I : MI) (J : MJ) (R : MR), Q91 n (gK Γ) x0 x8 x9 C I J R → AW Γ 0 0 C I J R 91 [(0, aR (some x0)), (8, aI x8), (9, aI x9)] []) := by
    intro n
    induction n using Nat.strongRecOn with
    | ind n ih =>
    have w91 : ∀ (x0 : Nat) (x8 : Int32) (x9 : Int32) (C : MC) (I : MI) (J : MJ) (R : MR), (∃ m, m < n ∧ Q91 m (gK Γ) x0 x8 x9 C I J R) → AW Γ 0 0 C I J R 91 [(0, aR (some x0)), (8, aI x8), (9, aI x9)] [] := fun x0 x8 x9 C I J R ⟨m, hm, hq⟩ => (ih m hm) x0 x8 x9 C I J R hq
    have w132 : ∀ (x0 : Nat) (x8 : Int32) (x9 : Int32) (C : MC) (I : MI) (J : MJ) (R : MR), PX2_adds_132 (fun (x0 : Nat) (x8 : Int32) (x9 : Int32) (C : MC) (I : MI) (J : MJ) (R : MR) => ∃ m, m < n ∧ Q91 m (gK Γ) x0 x8 x9 C I J R) (gK Γ) x0 x8 x9 C I J R → AW Γ 0 0 C I J R 132 [(0, aR (some x0)), (8, aI x8), (9, aI x9)] [] := fun x0 x8 x9 C I J R h => bX2_adds_132 G w91 h
    exact fun x0 x8 x9 C I J R h => bX2_adds_91 G w132 (h91 n (gK Γ) x0 x8 x9 C I J R h)
  have w91 : ∀ (x0 : Nat) (x8 : Int32) (x9 : Int32) (C : MC) (I : MI) (J : MJ) (R : MR), (∃ n, Q91 n (gK Γ) x0 x8 x9 C I J R) → AW Γ 0 0 C I J R 91 [(0, aR (some x0)), (8, aI x8), (9, aI x9)] [] := fun x0 x8 x9 C I J R ⟨m, hq⟩ => (key m) x0 x8 x9 C I J R hq
  have w132 : ∀ (x0 : Nat) (x8 : Int32) (x9 : Int32) (C : MC) (I : MI) (J : MJ) (R : MR), PX2_adds_132 (fun (x0 : Nat) (x8 : Int32) (x9 : Int32) (C : MC) (I : MI) (J : MJ) (R : MR) => ∃ n, Q91 n (gK Γ) x0 x8 x9 C I J R) (gK Γ) x0 x8 x9 C I J R → AW Γ 0 0 C I J R 132 [(0, aR (some x0)), (8, aI x8), (9, aI x9)] [] := fun x0 x8 x9 C I J R h => bX2_adds_132 G w91 h
  obtain ⟨x0, x1, x2, x3, x4, x5, x6, x7, rfl, h⟩ := h0 As C I J R (gK Γ) hF
  exact ⟨Nat.le_of_ble_eq_true rfl, bX2_adds_0 G w91 h⟩
def PX2_row_0 (F_X2_wrongParts : SPF) (F_X2_adds : SPF) (F_X2_refuse : SPF) (K : AK) (x0 : Nat) (x1 : Int32) (x2 : Int32) (x3 : Int32) (x4 : Int32) (C : MC) (I : MI) (J : MJ) (R : MR) : Prop :=
      (C x0).1 = 3 ∧
      F_X2_wrongParts [aR (some x0), aI x1, aI x2, aI x3, aI x4, aI (2 : Int32)] C I J R (fun o C2 I3 J4 R5 =>
      ∃ r6 : Int32, o = .inl (some (aI r6)) ∧
      ((r6 ≤ 0 →
      (C2 x0).1 = 3 ∧
      F_X2_adds [aR (some x0), aI (1 : Int32), aI x1, aI x2, aI x3, aI x4, aI (0 : Int32), aI (0 : Int32)] C2 I3 J4 R5 (fun o C9 I10 J11 R12 =>
      ∃ r13 : Int32, o = .inl (some (aI r13)) ∧
      K (.inl (some (aI r13))) C9 I10 J11 R12)) ∧
      (¬ r6 ≤ 0 →
      (C2 x0).1 = 3 ∧
      F_X2_refuse [aR (some x0), aI r6] C2 I3 J4 R5 (fun o C15 I16 J17 R18 =>
      ∃ r19 : Int32, o = .inl (some (aI r19)) ∧
      K (.inl (some (aI r19))) C15 I16 J17 R18))))
theorem wX2_row {l : Launch}  {F_X2_wrongParts : SPF} (S_X2_wrongParts : SpX2_wrongParts l F_X2_wrongParts) {F_X2_adds : SPF} (S_X2_adds : SpX2_adds l F_X2_adds) {F_X2_refuse : SPF} (S_X2_refuse : SpX2_refuse l F_X2_refuse) {F : SPF}
    (h0 : ∀ (As : List AV) (C : MC) (I : MI) (J : MJ) (R : MR) (K : AK), F As C I J R K → ∃ (x0 : Nat) (x1 : Int32) (x2 : Int32) (x3 : Int32) (x4 : Int32), As = [aR (some x0), aI x1, aI x2, aI x3, aI x4] ∧ PX2_row_0 F_X2_wrongParts F_X2_adds F_X2_refuse K x0 x1 x2 x3 x4 C I J R) : SpX2_row l F := by
  refine Spec.of (by rfl) ?_
  intro Γ C I J R As Gd gl gr _ _ gb hF
  subst gl
  have G : Gb Γ yX2_row cX2_row 6 (some .int) [] rmX2_row bdX2_row := ⟨Gd, gr, gb⟩
  obtain ⟨x0, x1, x2, x3, x4, rfl, h⟩ := h0 As C I J R (gK Γ) hF
  exact ⟨Nat.le_of_ble_eq_true rfl, bX2_row_0 G S_X2_wrongParts S_X2_adds S_X2_refuse h⟩
def PX2_wrongParts_164 (F_X2_isThing : SPF) (Q32 : Nat → Int32 → Nat → Int32 → Int32 → MC → MI → MJ → MR → Prop) (Q99 : Nat → Nat → Int32 → MC → MI → MJ → MR → Prop) (Q136 : Nat → Nat → Int32 → Int32 → MC → MI → MJ → MR → Prop) (K : AK) (x0 : Nat) (x6 : Nat) (x8 : Int32) (C : MC) (I : MI) (J : MJ) (R : MR) : Prop :=
      Q99 x0 x6 (x8 + 1) C I J R
def PX2_wrongParts_136 (F_X2_isThing : SPF) (Q32 : Nat → Int32 → Nat → Int32 → Int32 → MC → MI → MJ → MR → Prop) (Q99 : Nat → Nat → Int32 → MC → MI → MJ → MR → Prop) (Q136 : Nat → Nat → Int32 → Int32 → MC → MI → MJ → MR → Prop) (K : AK) (x0 : Nat) (x6 : Nat) (x8 : Int32) (x9 : Int32) (C : MC) (I : MI) (J : MJ) (R : MR) : Prop :=
      ((x8 ≤ x9 →
      PX2_wrongParts_164 F_X2_isThing Q32 Q99 Q136 K x0 x6 x8 C I J R) ∧
      (¬ x8 ≤ x9 →
      (C x6).1 = 20 ∧
      vp_in x9 (C x6).2 ∧
      vp_in x8 (C x6).2 ∧
      ((¬ (I x6 x9.toNatClampNeg) = (I x6 x8.toNatClampNeg) →
      Q136 x0 x6 x8 (x9 + 1) C I J R) ∧
      ((I x6 x9.toNatClampNeg) = (I x6 x8.toNatClampNeg) →
      K (.inl (some (aI (5 : Int32)))) C I J R))))
def PX2_wrongParts_99 (F_X2_isThing : SPF) (Q32 : Nat → Int32 → Nat → Int32 → Int32 → MC → MI → MJ → MR → Prop) (Q99 : Nat → Nat → Int32 → MC → MI → MJ → MR → Prop) (Q136 : Nat → Nat → Int32 → Int32 → MC → MI → MJ → MR → Prop) (K : AK) (x0 : Nat) (x6 : Nat) (x8 : Int32) (C : MC) (I : MI) (J : MJ) (R : MR) : Prop :=
      (((4 : Int32) ≤ x8 →
      K (.inl (some (aI (0 : Int32)))) C I J R) ∧
      (¬ (4 : Int32) ≤ x8 →
      (C x6).1 = 20 ∧
      vp_in x8 (C x6).2 ∧
      ((¬ (I x6 x8.toNatClampNeg) = (-1 : Int32) →
      (C x0).1 = 3 ∧
      ∃ q6 : Nat, R x0 11 = some q6 ∧
      (C q6).1 = 20 ∧
      vp_in (I x6 x8.toNatClampNeg) (C q6).2 ∧
      (((I q6 (I x6 x8.toNatClampNeg).toNatClampNeg) = (-1 : Int32) →
      Q136 x0 x6 x8 (0 : Int32) C I J R) ∧
      (¬ (I q6 (I x6 x8.toNatClampNeg).toNatClampNeg) = (-1 : Int32) →
      K (.inl (some (aI (5 : Int32)))) C I J R))) ∧
      ((I x6 x8.toNatClampNeg) = (-1 : Int32) →
      PX2_wrongParts_164 F_X2_isThing Q32 Q99 Q136 K x0 x6 x8 C I J R))))
def PX2_wrongParts_79 (F_X2_isThing : SPF) (Q32 : Nat → Int32 → Nat → Int32 → Int32 → MC → MI → MJ → MR → Prop) (Q99 : Nat → Nat → Int32 → MC → MI → MJ → MR → Prop) (Q136 : Nat → Nat → Int32 → Int32 → MC → MI → MJ → MR → Prop) (K : AK) (x0 : Nat) (x5 : Int32) (x6 : Nat) (x7 : Int32) (x8 : Int32) (C : MC) (I : MI) (J : MJ) (R : MR) : Prop :=
      Q32 x0 x5 x6 x7 (x8 + 1) C I J R
def PX2_wrongParts_60 (F_X2_isThing : SPF) (Q32 : Nat → Int32 → Nat → Int32 → Int32 → MC → MI → MJ → MR → Prop) (Q99 : Nat → Nat → Int32 → MC → MI → MJ → MR → Prop) (Q136 : Nat → Nat → Int32 → Int32 → MC → MI → MJ → MR → Prop) (K : AK) (x0 : Nat) (x5 : Int32) (x6 : Nat) (x7 : Int32) (x8 : Int32) (C : MC) (I : MI) (J : MJ) (R : MR) : Prop :=
      ((¬ x7 = 0 →
      K (.inl (some (aI (1 : Int32)))) C I J R) ∧
      (x7 = 0 →
      (C x6).1 = 20 ∧
      vp_in x8 (C x6).2 ∧
      (C x0).1 = 3 ∧
      F_X2_isThing [aR (some x0), aI (I x6 x8.toNatClampNeg)] C I J R (fun o C5 I6 J7 R8 =>
      ∃ r9 : Int32, o = .inl (some (aI r9)) ∧
      ((¬ r9 = 0 →
      PX2_wrongParts_79 F_X2_isThing Q32 Q99 Q136 K x0 x5 x6 x7 x8 C5 I6 J7 R8) ∧
      (r9 = 0 →
      K (.inl (some (aI (1 : Int32)))) C5 I6 J7 R8)))))
def PX2_wrongParts_32 (F_X2_isThing : SPF) (Q32 : Nat → Int32 → Nat → Int32 → Int32 → MC → MI → MJ → MR → Prop) (Q99 : Nat → Nat → Int32 → MC → MI → MJ → MR → Prop) (Q136 : Nat → Nat → Int32 → Int32 → MC → MI → MJ → MR → Prop) (K : AK) (x0 : Nat) (x5 : Int32) (x6 : Nat) (x7 : Int32) (x8 : Int32) (C : MC) (I : MI) (J : MJ) (R : MR) : Prop :=
      (((4 : Int32) ≤ x8 →
      (C x0).1 = 3 ∧
      ((¬ (I x0 6) = (20 : Int32) →
      Q99 x0 x6 (0 : Int32) C I J R) ∧
      ((I x0 6) = (20 : Int32) →
      K (.inl (some (aI (4 : Int32)))) C I J R))) ∧
      (¬ (4 : Int32) ≤ x8 →
      (C x6).1 = 20 ∧
      vp_in x8 (C x6).2 ∧
      ((¬ (I x6 x8.toNatClampNeg) = (-1 : Int32) →
      PX2_wrongParts_60 F_X2_isThing Q32 Q99 Q136 K x0 x5 x6 x7 x8 C I J R) ∧
      ((I x6 x8.toNatClampNeg) = (-1 : Int32) →
      ((x8 < x5 →
      PX2_wrongParts_60 F_X2_isThing Q32 Q99 Q136 K x0 x5 x6 x7 x8 C I J R) ∧
      (¬ x8 < x5 →
      PX2_wrongParts_79 F_X2_isThing Q32 Q99 Q136 K x0 x5 x6 (1 : Int32) x8 C I J R))))))
def PX2_wrongParts_0 (F_X2_isThing : SPF) (Q32 : Nat → Int32 → Nat → Int32 → Int32 → MC → MI → MJ → MR → Prop) (Q99 : Nat → Nat → Int32 → MC → MI → MJ → MR → Prop) (Q136 : Nat → Nat → Int32 → Int32 → MC → MI → MJ → MR → Prop) (K : AK) (x0 : Nat) (x1 : Int32) (x2 : Int32) (x3 : Int32) (x4 : Int32) (x5 : Int32) (C : MC) (I : MI) (J : MJ) (R : MR) : Prop :=
      ∃ q1 : Nat, (C q1).1 = 0 ∧
      ∀ (C3 : MC) (I4 : MI) (J5 : MJ) (R6 : MR), C3 = va_up C q1 (20, 4) → I4 = va_up I q1 (fun _ => 0) → J5 = va_up J q1 (fun _ => 0) → R6 = va_up R q1 (fun _ => none) → 
      (C3 q1).1 = 20 ∧
      vp_in (0 : Int32) (C3 q1).2 ∧
      ∀ I9 : MI, I9 = va_up I4 q1 (va_up (I4 q1) (0 : Int32).toNatClampNeg x1) →
      vp_in (1 : Int32) (C3 q1).2 ∧
      ∀ I11 : MI, I11 = va_up I9 q1 (va_up (I9 q1) (1 : Int32).toNatClampNeg x2) →
      vp_in (2 : Int32) (C3 q1).2 ∧
      ∀ I13 : MI, I13 = va_up I11 q1 (va_up (I11 q1) (2 : Int32).toNatClampNeg x3) →
      vp_in (3 : Int32) (C3 q1).2 ∧
      ∀ I15 : MI, I15 = va_up I13 q1 (va_up (I13 q1) (3 : Int32).toNatClampNeg x4) →
      Q32 x0 x5 q1 (0 : Int32) (0 : Int32) C3 I15 J5 R6
theorem wX2_wrongParts {l : Launch}  {F_X2_isThing : SPF} (S_X2_isThing : SpX2_isThing l F_X2_isThing)
    (Q32 : Nat → AK → Nat → Int32 → Nat → Int32 → Int32 → MC → MI → MJ → MR → Prop)
    (Q99 : Nat → AK → Nat → Nat → Int32 → MC → MI → MJ → MR → Prop)
    (Q136 : Nat → AK → Nat → Nat → Int32 → Int32 → MC → MI → MJ → MR → Prop) {F : SPF}
    (h0 : ∀ (As : List AV) (C : MC) (I : MI) (J : MJ) (R : MR) (K : AK), F As C I J R K → ∃ (x0 : Nat) (x1 : Int32) (x2 : Int32) (x3 : Int32) (x4 : Int32) (x5 : Int32), As = [aR (some x0), aI x1, aI x2, aI x3, aI x4, aI x5] ∧ PX2_wrongParts_0 F_X2_isThing (fun (x0 : Nat) (x5 : Int32) (x6 : Nat) (x7 : Int32) (x8 : Int32) (C : MC) (I : MI) (J : MJ) (R : MR) => ∃ n, Q32 n K x0 x5 x6 x7 x8 C I J R) (fun (x0 : Nat) (x6 : Nat) (x8 : Int32) (C : MC) (I : MI) (J : MJ) (R : MR) => ∃ n, Q99 n K x0 x6 x8 C I J R) (fun (x0 : Nat) (x6 : Nat) (x8 : Int32) (x9 : Int32) (C : MC) (I : MI) (J : MJ) (R : MR) => ∃ n, Q136 n K x0 x6 x8 x9 C I J R) K x0 x1 x2 x3 x4 x5 C I J R)
    (h32 : ∀ (n : Nat) (K : AK) (x0 : Nat) (x5 : Int32) (x6 : Nat) (x7 : Int32) (x8 : Int32) (C : MC) (I : MI) (J : MJ) (R : MR), Q32 n K x0 x5 x6 x7 x8 C I J R → PX2_wrongParts_32 F_X2_isThing (fun (x0 : Nat) (x5 : Int32) (x6 : Nat) (x7 : Int32) (x8 : Int32) (C : MC) (I : MI) (J : MJ) (R : MR) => ∃ m, m < n ∧ Q32 m K x0 x5 x6 x7 x8 C I J R) (fun (x0 : Nat) (x6 : Nat) (x8 : Int32) (C : MC) (I : MI) (J : MJ) (R : MR) => ∃ m, m < n ∧ Q99 m K x0 x6 x8 C I J R) (fun (x0 : Nat) (x6 : Nat) (x8 : Int32) (x9 : Int32) (C : MC) (I : MI) (J : MJ) (R : MR) => ∃ m, m < n ∧ Q136 m K x0 x6 x8 x9 C I J R) K x0 x5 x6 x7 x8 C I J R)
    (h99 : ∀ (n : Nat) (K : AK) (x0 : Nat) (x6 : Nat) (x8 : Int32) (C : MC) (I : MI) (J : MJ) (R : MR), Q99 n K x0 x6 x8 C I J R → PX2_wrongParts_99 F_X2_isThing (fun (x0 : Nat) (x5 : Int32) (x6 : Nat) (x7 : Int32) (x8 : Int32) (C : MC) (I : MI) (J : MJ) (R : MR) => ∃ m, m < n ∧ Q32 m K x0 x5 x6 x7 x8 C I J R) (fun (x0 : Nat) (x6 : Nat) (x8 : Int32) (C : MC) (I : MI) (J : MJ) (R : MR) => ∃ m, m < n ∧ Q99 m K x0 x6 x8 C I J R) (fun (x0 : Nat) (x6 : Nat) (x8 : Int32) (x9 : Int32) (C : MC) (I : MI) (J : MJ) (R : MR) => ∃ m, m < n ∧ Q136 m K x0 x6 x8 x9 C I J R) K x0 x6 x8 C I J R)
    (h136 : ∀ (n : Nat) (K : AK) (x0 : Nat) (x6 : Nat) (x8 : Int32) (x9 : Int32) (C : MC) (I : MI) (J : MJ) (R : MR), Q136 n K x0 x6 x8 x9 C I J R → PX2_wrongParts_136 F_X2_isThing (fun (x0 : Nat) (x5 : Int32) (x6 : Nat) (x7 : Int32) (x8 : Int32) (C : MC) (I : MI) (J : MJ) (R : MR) => ∃ m, m < n ∧ Q32 m K x0 x5 x6 x7 x8 C I J R) (fun (x0 : Nat) (x6 : Nat) (x8 : Int32) (C : MC) (I : MI) (J : MJ) (R : MR) => ∃ m, m < n ∧ Q99 m K x0 x6 x8 C I J R) (fun (x0 : Nat) (x6 : Nat) (x8 : Int32) (x9 : Int32) (C : MC) (I : MI) (J : MJ) (R : MR) => ∃ m, m < n ∧ Q136 m K x0 x6 x8 x9 C I J R) K x0 x6 x8 x9 C I J R) : SpX2_wrongParts l F := by
  refine Spec.of (by rfl) ?_
  intro Γ C I J R As Gd gl gr _ _ gb hF
  subst gl
  have G : Gb Γ yX2_wrongParts cX2_wrongParts 10 (some .int) [] rmX2_wrongParts bdX2_wrongParts := ⟨Gd, gr, gb⟩
  have key : ∀ n : Nat, (∀ (x0 : Nat) (x5 : Int32) (x6 : Nat) (x7 : Int32) (x8 : Int32) (C : MC) (I : MI) (J : MJ) (R : MR), Q32 n (gK Γ) x0 x5 x6 x7 x8 C I J R → AW Γ 1 4 C I J R 32 [(0, aR (some x0)), (5, aI x5), (6, aR (some x6)), (7, aI x7), (8, aI x8)] []) ∧ (∀ (x0 : Nat) (x6 : Nat) (x8 : Int32) (C : MC) (I : MI) (J : MJ) (R : MR), Q99 n (gK Γ) x0 x6 x8 C I J R → AW Γ 1 4 C I J R 99 [(0, aR (some x0)), (6, aR (some x6)), (8, aI x8)] []) ∧ (∀ (x0 : Nat) (x6 : Nat) (x8 : Int32) (x9 : Int32) (C : MC) (I : MI) (J : MJ) (R : MR), Q136 n (gK Γ) x0 x6 x8 x9 C I J R → AW Γ 1 4 C I J R 136 [(0, aR (some x0)), (6, aR (some x6)), (8, aI x8), (9, aI x9)] []) := by
    intro n
    induction n using Nat.strongRecOn with
    | ind n ih =>
    have w32 : ∀ (x0 : Nat) (x5 : Int32) (x6 : Nat) (x7 : Int32) (x8 : Int32) (C : MC) (I : MI) (J : MJ) (R : MR), (∃ m, m < n ∧ Q32 m (gK Γ) x0 x5 x6 x7 x8 C I J R) → AW Γ 1 4 C I J R 32 [(0, aR (some x0)), (5, aI x5), (6, aR (some x6)), (7, aI x7), (8, aI x8)] [] := fun x0 x5 x6 x7 x8 C I J R ⟨m, hm, hq⟩ => (ih m hm).1 x0 x5 x6 x7 x8 C I J R hq
    have w99 : ∀ (x0 : Nat) (x6 : Nat) (x8 : Int32) (C : MC) (I : MI) (J : MJ) (R : MR), (∃ m, m < n ∧ Q99 m (gK Γ) x0 x6 x8 C I J R) → AW Γ 1 4 C I J R 99 [(0, aR (some x0)), (6, aR (some x6)), (8, aI x8)] [] := fun x0 x6 x8 C I J R ⟨m, hm, hq⟩ => (ih m hm).2.1 x0 x6 x8 C I J R hq
    have w136 : ∀ (x0 : Nat) (x6 : Nat) (x8 : Int32) (x9 : Int32) (C : MC) (I : MI) (J : MJ) (R : MR), (∃ m, m < n ∧ Q136 m (gK Γ) x0 x6 x8 x9 C I J R) → AW Γ 1 4 C I J R 136 [(0, aR (some x0)), (6, aR (some x6)), (8, aI x8), (9, aI x9)] [] := fun x0 x6 x8 x9 C I J R ⟨m, hm, hq⟩ => (ih m hm).2.2 x0 x6 x8 x9 C I J R hq
    have w164 : ∀ (x0 : Nat) (x6 : Nat) (x8 : Int32) (C : MC) (I : MI) (J : MJ) (R : MR), PX2_wrongParts_164 F_X2_isThing (fun (x0 : Nat) (x5 : Int32) (x6 : Nat) (x7 : Int32) (x8 : Int32) (C : MC) (I : MI) (J : MJ) (R : MR) => ∃ m, m < n ∧ Q32 m (gK Γ) x0 x5 x6 x7 x8 C I J R) (fun (x0 : Nat) (x6 : Nat) (x8 : Int32) (C : MC) (I : MI) (J : MJ) (R : MR) => ∃ m, m < n ∧ Q99 m (gK Γ) x0 x6 x8 C I J R) (fun (x0 : Nat) (x6 : Nat) (x8 : Int32) (x9 : Int32) (C : MC) (I : MI) (J : MJ) (R : MR) => ∃ m, m < n ∧ Q136 m (gK Γ) x0 x6 x8 x9 C I J R) (gK Γ) x0 x6 x8 C I J R → AW Γ 1 4 C I J R 164 [(0, aR (some x0)), (6, aR (some x6)), (8, aI x8)] [] := fun x0 x6 x8 C I J R h => bX2_wrongParts_164 G w99 h
    have w79 : ∀ (x0 : Nat) (x5 : Int32) (x6 : Nat) (x7 : Int32) (x8 : Int32) (C : MC) (I : MI) (J : MJ) (R : MR), PX2_wrongParts_79 F_X2_isThing (fun (x0 : Nat) (x5 : Int32) (x6 : Nat) (x7 : Int32) (x8 : Int32) (C : MC) (I : MI) (J : MJ) (R : MR) => ∃ m, m < n ∧ Q32 m (gK Γ) x0 x5 x6 x7 x8 C I J R) (fun (x0 : Nat) (x6 : Nat) (x8 : Int32) (C : MC) (I : MI) (J : MJ) (R : MR) => ∃ m, m < n ∧ Q99 m (gK Γ) x0 x6 x8 C I J R) (fun (x0 : Nat) (x6 : Nat) (x8 : Int32) (x9 : Int32) (C : MC) (I : MI) (J : MJ) (R : MR) => ∃ m, m < n ∧ Q136 m (gK Γ) x0 x6 x8 x9 C I J R) (gK Γ) x0 x5 x6 x7 x8 C I J R → AW Γ 1 4 C I J R 79 [(0, aR (some x0)), (5, aI x5), (6, aR (some x6)), (7, aI x7), (8, aI x8)] [] := fun x0 x5 x6 x7 x8 C I J R h => bX2_wrongParts_79 G w32 h
    have w60 : ∀ (x0 : Nat) (x5 : Int32) (x6 : Nat) (x7 : Int32) (x8 : Int32) (C : MC) (I : MI) (J : MJ) (R : MR), PX2_wrongParts_60 F_X2_isThing (fun (x0 : Nat) (x5 : Int32) (x6 : Nat) (x7 : Int32) (x8 : Int32) (C : MC) (I : MI) (J : MJ) (R : MR) => ∃ m, m < n ∧ Q32 m (gK Γ) x0 x5 x6 x7 x8 C I J R) (fun (x0 : Nat) (x6 : Nat) (x8 : Int32) (C : MC) (I : MI) (J : MJ) (R : MR) => ∃ m, m < n ∧ Q99 m (gK Γ) x0 x6 x8 C I J R) (fun (x0 : Nat) (x6 : Nat) (x8 : Int32) (x9 : Int32) (C : MC) (I : MI) (J : MJ) (R : MR) => ∃ m, m < n ∧ Q136 m (gK Γ) x0 x6 x8 x9 C I J R) (gK Γ) x0 x5 x6 x7 x8 C I J R → AW Γ 1 4 C I J R 60 [(0, aR (some x0)), (5, aI x5), (6, aR (some x6)), (7, aI x7), (8, aI x8)] [] := fun x0 x5 x6 x7 x8 C I J R h => bX2_wrongParts_60 G S_X2_isThing w79 h
    exact ⟨fun x0 x5 x6 x7 x8 C I J R h => bX2_wrongParts_32 G w60 w79 w99 (h32 n (gK Γ) x0 x5 x6 x7 x8 C I J R h), fun x0 x6 x8 C I J R h => bX2_wrongParts_99 G w136 w164 (h99 n (gK Γ) x0 x6 x8 C I J R h), fun x0 x6 x8 x9 C I J R h => bX2_wrongParts_136 G w136 w164 (h136 n (gK Γ) x0 x6 x8 x9 C I J R h)⟩
  have w32 : ∀ (x0 : Nat) (x5 : Int32) (x6 : Nat) (x7 : Int32) (x8 : Int32) (C : MC) (I : MI) (J : MJ) (R : MR), (∃ n, Q32 n (gK Γ) x0 x5 x6 x7 x8 C I J R) → AW Γ 1 4 C I J R 32 [(0, aR (some x0)), (5, aI x5), (6, aR (some x6)), (7, aI x7), (8, aI x8)] [] := fun x0 x5 x6 x7 x8 C I J R ⟨m, hq⟩ => (key m).1 x0 x5 x6 x7 x8 C I J R hq
  have w99 : ∀ (x0 : Nat) (x6 : Nat) (x8 : Int32) (C : MC) (I : MI) (J : MJ) (R : MR), (∃ n, Q99 n (gK Γ) x0 x6 x8 C I J R) → AW Γ 1 4 C I J R 99 [(0, aR (some x0)), (6, aR (some x6)), (8, aI x8)] [] := fun x0 x6 x8 C I J R ⟨m, hq⟩ => (key m).2.1 x0 x6 x8 C I J R hq
  have w136 : ∀ (x0 : Nat) (x6 : Nat) (x8 : Int32) (x9 : Int32) (C : MC) (I : MI) (J : MJ) (R : MR), (∃ n, Q136 n (gK Γ) x0 x6 x8 x9 C I J R) → AW Γ 1 4 C I J R 136 [(0, aR (some x0)), (6, aR (some x6)), (8, aI x8), (9, aI x9)] [] := fun x0 x6 x8 x9 C I J R ⟨m, hq⟩ => (key m).2.2 x0 x6 x8 x9 C I J R hq
  have w164 : ∀ (x0 : Nat) (x6 : Nat) (x8 : Int32) (C : MC) (I : MI) (J : MJ) (R : MR), PX2_wrongParts_164 F_X2_isThing (fun (x0 : Nat) (x5 : Int32) (x6 : Nat) (x7 : Int32) (x8 : Int32) (C : MC) (I : MI) (J : MJ) (R : MR) => ∃ n, Q32 n (gK Γ) x0 x5 x6 x7 x8 C I J R) (fun (x0 : Nat) (x6 : Nat) (x8 : Int32) (C : MC) (I : MI) (J : MJ) (R : MR) => ∃ n, Q99 n (gK Γ) x0 x6 x8 C I J R) (fun (x0 : Nat) (x6 : Nat) (x8 : Int32) (x9 : Int32) (C : MC) (I : MI) (J : MJ) (R : MR) => ∃ n, Q136 n (gK Γ) x0 x6 x8 x9 C I J R) (gK Γ) x0 x6 x8 C I J R → AW Γ 1 4 C I J R 164 [(0, aR (some x0)), (6, aR (some x6)), (8, aI x8)] [] := fun x0 x6 x8 C I J R h => bX2_wrongParts_164 G w99 h
  have w79 : ∀ (x0 : Nat) (x5 : Int32) (x6 : Nat) (x7 : Int32) (x8 : Int32) (C : MC) (I : MI) (J : MJ) (R : MR), PX2_wrongParts_79 F_X2_isThing (fun (x0 : Nat) (x5 : Int32) (x6 : Nat) (x7 : Int32) (x8 : Int32) (C : MC) (I : MI) (J : MJ) (R : MR) => ∃ n, Q32 n (gK Γ) x0 x5 x6 x7 x8 C I J R) (fun (x0 : Nat) (x6 : Nat) (x8 : Int32) (C : MC) (I : MI) (J : MJ) (R : MR) => ∃ n, Q99 n (gK Γ) x0 x6 x8 C I J R) (fun (x0 : Nat) (x6 : Nat) (x8 : Int32) (x9 : Int32) (C : MC) (I : MI) (J : MJ) (R : MR) => ∃ n, Q136 n (gK Γ) x0 x6 x8 x9 C I J R) (gK Γ) x0 x5 x6 x7 x8 C I J R → AW Γ 1 4 C I J R 79 [(0, aR (some x0)), (5, aI x5), (6, aR (some x6)), (7, aI x7), (8, aI x8)] [] := fun x0 x5 x6 x7 x8 C I J R h => bX2_wrongParts_79 G w32 h
  have w60 : ∀ (x0 : Nat) (x5 : Int32) (x6 : Nat) (x7 : Int32) (x8 : Int32) (C : MC) (I : MI) (J : MJ) (R : MR), PX2_wrongParts_60 F_X2_isThing (fun (x0 : Nat) (x5 : Int32) (x6 : Nat) (x7 : Int32) (x8 : Int32) (C : MC) (I : MI) (J : MJ) (R : MR) => ∃ n, Q32 n (gK Γ) x0 x5 x6 x7 x8 C I J R) (fun (x0 : Nat) (x6 : Nat) (x8 : Int32) (C : MC) (I : MI) (J : MJ) (R : MR) => ∃ n, Q99 n (gK Γ) x0 x6 x8 C I J R) (fun (x0 : Nat) (x6 : Nat) (x8 : Int32) (x9 : Int32) (C : MC) (I : MI) (J : MJ) (R : MR) => ∃ n, Q136 n (gK Γ) x0 x6 x8 x9 C I J R) (gK Γ) x0 x5 x6 x7 x8 C I J R → AW Γ 1 4 C I J R 60 [(0, aR (some x0)), (5, aI x5), (6, aR (some x6)), (7, aI x7), (8, aI x8)] [] := fun x0 x5 x6 x7 x8 C I J R h => bX2_wrongParts_60 G S_X2_isThing w79 h
  obtain ⟨x0, x1, x2, x3, x4, x5, rfl, h⟩ := h0 As C I J R (gK Γ) hF
  exact ⟨Nat.le_of_ble_eq_true rfl, bX2_wrongParts_0 G w32 h⟩
def PX2_isThing_0 (K : AK) (x0 : Nat) (x1 : Int32) (C : MC) (I : MI) (J : MJ) (R : MR) : Prop :=
      ((x1 < 0 →
      K (.inl (some (aI (0 : Int32)))) C I J R) ∧
      (¬ x1 < 0 →
      (C x0).1 = 3 ∧
      (((I x0 6) ≤ x1 →
      K (.inl (some (aI (0 : Int32)))) C I J R) ∧
      (¬ (I x0 6) ≤ x1 →
      K (.inl (some (aI (1 : Int32)))) C I J R))))
theorem wX2_isThing {l : Launch}  {F : SPF}
    (h0 : ∀ (As : List AV) (C : MC) (I : MI) (J : MJ) (R : MR) (K : AK), F As C I J R K → ∃ (x0 : Nat) (x1 : Int32), As = [aR (some x0), aI x1] ∧ PX2_isThing_0 K x0 x1 C I J R) : SpX2_isThing l F := by
  refine Spec.of (by rfl) ?_
  intro Γ C I J R As Gd gl gr _ _ gb hF
  subst gl
  have G : Gb Γ yX2_isThing cX2_isThing 2 (some .boolean) [] rmX2_isThing bdX2_isThing := ⟨Gd, gr, gb⟩
  obtain ⟨x0, x1, rfl, h⟩ := h0 As C I J R (gK Γ) hF
  exact ⟨Nat.le_of_ble_eq_true rfl, bX2_isThing_0 G h⟩
def PX2_fan_64 (F_X2_wrongParts : SPF) (F_X2_adds : SPF) (F_X2_refuse : SPF) (K : AK) (x0 : Nat) (x1 : Int32) (x2 : Int32) (x3 : Int32) (x4 : Int32) (x5 : Int32) (s0 : Int32) (C : MC) (I : MI) (J : MJ) (R : MR) : Prop :=
      ((s0 ≤ 0 →
      (C x0).1 = 3 ∧
      F_X2_adds [aR (some x0), aI (2 : Int32), aI x2, aI x3, aI x4, aI x5, aI x1, aI (0 : Int32)] C I J R (fun o C3 I4 J5 R6 =>
      ∃ r7 : Int32, o = .inl (some (aI r7)) ∧
      K (.inl (some (aI r7))) C3 I4 J5 R6)) ∧
      (¬ s0 ≤ 0 →
      (C x0).1 = 3 ∧
      F_X2_refuse [aR (some x0), aI s0] C I J R (fun o C9 I10 J11 R12 =>
      ∃ r13 : Int32, o = .inl (some (aI r13)) ∧
      K (.inl (some (aI r13))) C9 I10 J11 R12)))
def PX2_fan_49 (F_X2_wrongParts : SPF) (F_X2_adds : SPF) (F_X2_refuse : SPF) (K : AK) (x0 : Nat) (x1 : Int32) (x2 : Int32) (x3 : Int32) (x4 : Int32) (x5 : Int32) (C : MC) (I : MI) (J : MJ) (R : MR) : Prop :=
      PX2_fan_64 F_X2_wrongParts F_X2_adds F_X2_refuse K x0 x1 x2 x3 x4 x5 (1 : Int32) C I J R
def PX2_fan_35 (F_X2_wrongParts : SPF) (F_X2_adds : SPF) (F_X2_refuse : SPF) (K : AK) (x0 : Nat) (x1 : Int32) (x2 : Int32) (x3 : Int32) (x4 : Int32) (x5 : Int32) (s0 : Int32) (s1 : Int32) (C : MC) (I : MI) (J : MJ) (R : MR) : Prop :=
      ((x1 < (1 : Int32) →
      PX2_fan_49 F_X2_wrongParts F_X2_adds F_X2_refuse K x0 x1 x2 x3 x4 x5 C I J R) ∧
      (¬ x1 < (1 : Int32) →
      ((x1 ≤ (s0 + s1) →
      (C x0).1 = 3 ∧
      F_X2_wrongParts [aR (some x0), aI x2, aI x3, aI x4, aI x5, aI (1 : Int32)] C I J R (fun o C4 I5 J6 R7 =>
      ∃ r8 : Int32, o = .inl (some (aI r8)) ∧
      PX2_fan_64 F_X2_wrongParts F_X2_adds F_X2_refuse K x0 x1 x2 x3 x4 x5 r8 C4 I5 J6 R7)) ∧
      (¬ x1 ≤ (s0 + s1) →
      PX2_fan_49 F_X2_wrongParts F_X2_adds F_X2_refuse K x0 x1 x2 x3 x4 x5 C I J R))))
def PX2_fan_23 (F_X2_wrongParts : SPF) (F_X2_adds : SPF) (F_X2_refuse : SPF) (K : AK) (x0 : Nat) (x1 : Int32) (x2 : Int32) (x3 : Int32) (x4 : Int32) (x5 : Int32) (s0 : Int32) (s1 : Int32) (C : MC) (I : MI) (J : MJ) (R : MR) : Prop :=
      ((¬ x5 = (-1 : Int32) →
      PX2_fan_35 F_X2_wrongParts F_X2_adds F_X2_refuse K x0 x1 x2 x3 x4 x5 (s0 + s1) (1 : Int32) C I J R) ∧
      (x5 = (-1 : Int32) →
      PX2_fan_35 F_X2_wrongParts F_X2_adds F_X2_refuse K x0 x1 x2 x3 x4 x5 (s0 + s1) (0 : Int32) C I J R))
def PX2_fan_11 (F_X2_wrongParts : SPF) (F_X2_adds : SPF) (F_X2_refuse : SPF) (K : AK) (x0 : Nat) (x1 : Int32) (x2 : Int32) (x3 : Int32) (x4 : Int32) (x5 : Int32) (s0 : Int32) (s1 : Int32) (C : MC) (I : MI) (J : MJ) (R : MR) : Prop :=
      ((¬ x4 = (-1 : Int32) →
      PX2_fan_23 F_X2_wrongParts F_X2_adds F_X2_refuse K x0 x1 x2 x3 x4 x5 (s0 + s1) (1 : Int32) C I J R) ∧
      (x4 = (-1 : Int32) →
      PX2_fan_23 F_X2_wrongParts F_X2_adds F_X2_refuse K x0 x1 x2 x3 x4 x5 (s0 + s1) (0 : Int32) C I J R))
def PX2_fan_0 (F_X2_wrongParts : SPF) (F_X2_adds : SPF) (F_X2_refuse : SPF) (K : AK) (x0 : Nat) (x1 : Int32) (x2 : Int32) (x3 : Int32) (x4 : Int32) (x5 : Int32) (C : MC) (I : MI) (J : MJ) (R : MR) : Prop :=
      ((¬ x3 = (-1 : Int32) →
      PX2_fan_11 F_X2_wrongParts F_X2_adds F_X2_refuse K x0 x1 x2 x3 x4 x5 (1 : Int32) (1 : Int32) C I J R) ∧
      (x3 = (-1 : Int32) →
      PX2_fan_11 F_X2_wrongParts F_X2_adds F_X2_refuse K x0 x1 x2 x3 x4 x5 (1 : Int32) (0 : Int32) C I J R))
theorem wX2_fan {l : Launch}  {F_X2_wrongParts : SPF} (S_X2_wrongParts : SpX2_wrongParts l F_X2_wrongParts) {F_X2_adds : SPF} (S_X2_adds : SpX2_adds l F_X2_adds) {F_X2_refuse : SPF} (S_X2_refuse : SpX2_refuse l F_X2_refuse) {F : SPF}
    (h0 : ∀ (As : List AV) (C : MC) (I : MI) (J : MJ) (R : MR) (K : AK), F As C I J R K → ∃ (x0 : Nat) (x1 : Int32) (x2 : Int32) (x3 : Int32) (x4 : Int32) (x5 : Int32), As = [aR (some x0), aI x1, aI x2, aI x3, aI x4, aI x5] ∧ PX2_fan_0 F_X2_wrongParts F_X2_adds F_X2_refuse K x0 x1 x2 x3 x4 x5 C I J R) : SpX2_fan l F := by
  refine Spec.of (by rfl) ?_
  intro Γ C I J R As Gd gl gr _ _ gb hF
  subst gl
  have G : Gb Γ yX2_fan cX2_fan 8 (some .int) [] rmX2_fan bdX2_fan := ⟨Gd, gr, gb⟩
  have w64 : ∀ (x0 : Nat) (x1 : Int32) (x2 : Int32) (x3 : Int32) (x4 : Int32) (x5 : Int32) (s0 : Int32) (C : MC) (I : MI) (J : MJ) (R : MR), PX2_fan_64 F_X2_wrongParts F_X2_adds F_X2_refuse (gK Γ) x0 x1 x2 x3 x4 x5 s0 C I J R → AW Γ 1 4 C I J R 64 [(0, aR (some x0)), (1, aI x1), (2, aI x2), (3, aI x3), (4, aI x4), (5, aI x5)] [aI s0] := fun x0 x1 x2 x3 x4 x5 s0 C I J R h => bX2_fan_64 G S_X2_adds S_X2_refuse h
  have w49 : ∀ (x0 : Nat) (x1 : Int32) (x2 : Int32) (x3 : Int32) (x4 : Int32) (x5 : Int32) (C : MC) (I : MI) (J : MJ) (R : MR), PX2_fan_49 F_X2_wrongParts F_X2_adds F_X2_refuse (gK Γ) x0 x1 x2 x3 x4 x5 C I J R → AW Γ 0 0 C I J R 49 [(0, aR (some x0)), (1, aI x1), (2, aI x2), (3, aI x3), (4, aI x4), (5, aI x5)] [] := fun x0 x1 x2 x3 x4 x5 C I J R h => bX2_fan_49 G w64 h
  have w35 : ∀ (x0 : Nat) (x1 : Int32) (x2 : Int32) (x3 : Int32) (x4 : Int32) (x5 : Int32) (s0 : Int32) (s1 : Int32) (C : MC) (I : MI) (J : MJ) (R : MR), PX2_fan_35 F_X2_wrongParts F_X2_adds F_X2_refuse (gK Γ) x0 x1 x2 x3 x4 x5 s0 s1 C I J R → AW Γ 0 0 C I J R 35 [(0, aR (some x0)), (1, aI x1), (2, aI x2), (3, aI x3), (4, aI x4), (5, aI x5)] [aI s1, aI s0] := fun x0 x1 x2 x3 x4 x5 s0 s1 C I J R h => bX2_fan_35 G S_X2_wrongParts w49 w64 h
  have w23 : ∀ (x0 : Nat) (x1 : Int32) (x2 : Int32) (x3 : Int32) (x4 : Int32) (x5 : Int32) (s0 : Int32) (s1 : Int32) (C : MC) (I : MI) (J : MJ) (R : MR), PX2_fan_23 F_X2_wrongParts F_X2_adds F_X2_refuse (gK Γ) x0 x1 x2 x3 x4 x5 s0 s1 C I J R → AW Γ 0 0 C I J R 23 [(0, aR (some x0)), (1, aI x1), (2, aI x2), (3, aI x3), (4, aI x4), (5, aI x5)] [aI s1, aI s0] := fun x0 x1 x2 x3 x4 x5 s0 s1 C I J R h => bX2_fan_23 G w35 h
  have w11 : ∀ (x0 : Nat) (x1 : Int32) (x2 : Int32) (x3 : Int32) (x4 : Int32) (x5 : Int32) (s0 : Int32) (s1 : Int32) (C : MC) (I : MI) (J : MJ) (R : MR), PX2_fan_11 F_X2_wrongParts F_X2_adds F_X2_refuse (gK Γ) x0 x1 x2 x3 x4 x5 s0 s1 C I J R → AW Γ 0 0 C I J R 11 [(0, aR (some x0)), (1, aI x1), (2, aI x2), (3, aI x3), (4, aI x4), (5, aI x5)] [aI s1, aI s0] := fun x0 x1 x2 x3 x4 x5 s0 s1 C I J R h => bX2_fan_11 G w23 h
  obtain ⟨x0, x1, x2, x3, x4, x5, rfl, h⟩ := h0 As C I J R (gK Γ) hF
  exact ⟨Nat.le_of_ble_eq_true rfl, bX2_fan_0 G w11 h⟩
def PX2_cache_36 (F_X2_wrongParts : SPF) (F_X2_adds : SPF) (F_X2_refuse : SPF) (K : AK) (x0 : Nat) (x1 : Int32) (x2 : Int32) (x3 : Int32) (x4 : Int32) (s0 : Int32) (C : MC) (I : MI) (J : MJ) (R : MR) : Prop :=
      ((s0 ≤ 0 →
      (C x0).1 = 3 ∧
      F_X2_adds [aR (some x0), aI (3 : Int32), aI x1, aI x2, aI (-1 : Int32), aI (-1 : Int32), aI x3, aI x4] C I J R (fun o C3 I4 J5 R6 =>
      ∃ r7 : Int32, o = .inl (some (aI r7)) ∧
      K (.inl (some (aI r7))) C3 I4 J5 R6)) ∧
      (¬ s0 ≤ 0 →
      (C x0).1 = 3 ∧
      F_X2_refuse [aR (some x0), aI s0] C I J R (fun o C9 I10 J11 R12 =>
      ∃ r13 : Int32, o = .inl (some (aI r13)) ∧
      K (.inl (some (aI r13))) C9 I10 J11 R12)))
def PX2_cache_23 (F_X2_wrongParts : SPF) (F_X2_adds : SPF) (F_X2_refuse : SPF) (K : AK) (x0 : Nat) (x1 : Int32) (x2 : Int32) (x3 : Int32) (x4 : Int32) (C : MC) (I : MI) (J : MJ) (R : MR) : Prop :=
      PX2_cache_36 F_X2_wrongParts F_X2_adds F_X2_refuse K x0 x1 x2 x3 x4 (1 : Int32) C I J R
def PX2_cache_0 (F_X2_wrongParts : SPF) (F_X2_adds : SPF) (F_X2_refuse : SPF) (K : AK) (x0 : Nat) (x1 : Int32) (x2 : Int32) (x3 : Int32) (x4 : Int32) (C : MC) (I : MI) (J : MJ) (R : MR) : Prop :=
      ((x4 < (1 : Int32) →
      PX2_cache_23 F_X2_wrongParts F_X2_adds F_X2_refuse K x0 x1 x2 x3 x4 C I J R) ∧
      (¬ x4 < (1 : Int32) →
      (((100 : Int32) < x4 →
      PX2_cache_23 F_X2_wrongParts F_X2_adds F_X2_refuse K x0 x1 x2 x3 x4 C I J R) ∧
      (¬ (100 : Int32) < x4 →
      ((x3 < 0 →
      PX2_cache_23 F_X2_wrongParts F_X2_adds F_X2_refuse K x0 x1 x2 x3 x4 C I J R) ∧
      (¬ x3 < 0 →
      ((x3 ≤ x4 →
      (C x0).1 = 3 ∧
      F_X2_wrongParts [aR (some x0), aI x1, aI x2, aI (-1 : Int32), aI (-1 : Int32), aI (2 : Int32)] C I J R (fun o C6 I7 J8 R9 =>
      ∃ r10 : Int32, o = .inl (some (aI r10)) ∧
      PX2_cache_36 F_X2_wrongParts F_X2_adds F_X2_refuse K x0 x1 x2 x3 x4 r10 C6 I7 J8 R9)) ∧
      (¬ x3 ≤ x4 →
      PX2_cache_23 F_X2_wrongParts F_X2_adds F_X2_refuse K x0 x1 x2 x3 x4 C I J R))))))))
theorem wX2_cache {l : Launch}  {F_X2_wrongParts : SPF} (S_X2_wrongParts : SpX2_wrongParts l F_X2_wrongParts) {F_X2_adds : SPF} (S_X2_adds : SpX2_adds l F_X2_adds) {F_X2_refuse : SPF} (S_X2_refuse : SpX2_refuse l F_X2_refuse) {F : SPF}
    (h0 : ∀ (As : List AV) (C : MC) (I : MI) (J : MJ) (R : MR) (K : AK), F As C I J R K → ∃ (x0 : Nat) (x1 : Int32) (x2 : Int32) (x3 : Int32) (x4 : Int32), As = [aR (some x0), aI x1, aI x2, aI x3, aI x4] ∧ PX2_cache_0 F_X2_wrongParts F_X2_adds F_X2_refuse K x0 x1 x2 x3 x4 C I J R) : SpX2_cache l F := by
  refine Spec.of (by rfl) ?_
  intro Γ C I J R As Gd gl gr _ _ gb hF
  subst gl
  have G : Gb Γ yX2_cache cX2_cache 6 (some .int) [] rmX2_cache bdX2_cache := ⟨Gd, gr, gb⟩
  have w36 : ∀ (x0 : Nat) (x1 : Int32) (x2 : Int32) (x3 : Int32) (x4 : Int32) (s0 : Int32) (C : MC) (I : MI) (J : MJ) (R : MR), PX2_cache_36 F_X2_wrongParts F_X2_adds F_X2_refuse (gK Γ) x0 x1 x2 x3 x4 s0 C I J R → AW Γ 1 4 C I J R 36 [(0, aR (some x0)), (1, aI x1), (2, aI x2), (3, aI x3), (4, aI x4)] [aI s0] := fun x0 x1 x2 x3 x4 s0 C I J R h => bX2_cache_36 G S_X2_adds S_X2_refuse h
  have w23 : ∀ (x0 : Nat) (x1 : Int32) (x2 : Int32) (x3 : Int32) (x4 : Int32) (C : MC) (I : MI) (J : MJ) (R : MR), PX2_cache_23 F_X2_wrongParts F_X2_adds F_X2_refuse (gK Γ) x0 x1 x2 x3 x4 C I J R → AW Γ 0 0 C I J R 23 [(0, aR (some x0)), (1, aI x1), (2, aI x2), (3, aI x3), (4, aI x4)] [] := fun x0 x1 x2 x3 x4 C I J R h => bX2_cache_23 G w36 h
  obtain ⟨x0, x1, x2, x3, x4, rfl, h⟩ := h0 As C I J R (gK Γ) hF
  exact ⟨Nat.le_of_ble_eq_true rfl, bX2_cache_0 G S_X2_wrongParts w23 w36 h⟩
def PX2_retry_34 (F_X2_wrongParts : SPF) (F_X2_adds : SPF) (F_X2_refuse : SPF) (K : AK) (x0 : Nat) (x1 : Int32) (x2 : Int32) (x3 : Int32) (s0 : Int32) (C : MC) (I : MI) (J : MJ) (R : MR) : Prop :=
      ((s0 ≤ 0 →
      (C x0).1 = 3 ∧
      F_X2_adds [aR (some x0), aI (4 : Int32), aI x1, aI (-1 : Int32), aI (-1 : Int32), aI (-1 : Int32), aI x2, aI x3] C I J R (fun o C3 I4 J5 R6 =>
      ∃ r7 : Int32, o = .inl (some (aI r7)) ∧
      K (.inl (some (aI r7))) C3 I4 J5 R6)) ∧
      (¬ s0 ≤ 0 →
      (C x0).1 = 3 ∧
      F_X2_refuse [aR (some x0), aI s0] C I J R (fun o C9 I10 J11 R12 =>
      ∃ r13 : Int32, o = .inl (some (aI r13)) ∧
      K (.inl (some (aI r13))) C9 I10 J11 R12)))
def PX2_retry_21 (F_X2_wrongParts : SPF) (F_X2_adds : SPF) (F_X2_refuse : SPF) (K : AK) (x0 : Nat) (x1 : Int32) (x2 : Int32) (x3 : Int32) (C : MC) (I : MI) (J : MJ) (R : MR) : Prop :=
      PX2_retry_34 F_X2_wrongParts F_X2_adds F_X2_refuse K x0 x1 x2 x3 (1 : Int32) C I J R
def PX2_retry_0 (F_X2_wrongParts : SPF) (F_X2_adds : SPF) (F_X2_refuse : SPF) (K : AK) (x0 : Nat) (x1 : Int32) (x2 : Int32) (x3 : Int32) (C : MC) (I : MI) (J : MJ) (R : MR) : Prop :=
      ((x2 < (1 : Int32) →
      PX2_retry_21 F_X2_wrongParts F_X2_adds F_X2_refuse K x0 x1 x2 x3 C I J R) ∧
      (¬ x2 < (1 : Int32) →
      (((60 : Int32) < x2 →
      PX2_retry_21 F_X2_wrongParts F_X2_adds F_X2_refuse K x0 x1 x2 x3 C I J R) ∧
      (¬ (60 : Int32) < x2 →
      ((x3 < (1 : Int32) →
      PX2_retry_21 F_X2_wrongParts F_X2_adds F_X2_refuse K x0 x1 x2 x3 C I J R) ∧
      (¬ x3 < (1 : Int32) →
      ((x3 ≤ (3 : Int32) →
      (C x0).1 = 3 ∧
      F_X2_wrongParts [aR (some x0), aI x1, aI (-1 : Int32), aI (-1 : Int32), aI (-1 : Int32), aI (1 : Int32)] C I J R (fun o C6 I7 J8 R9 =>
      ∃ r10 : Int32, o = .inl (some (aI r10)) ∧
      PX2_retry_34 F_X2_wrongParts F_X2_adds F_X2_refuse K x0 x1 x2 x3 r10 C6 I7 J8 R9)) ∧
      (¬ x3 ≤ (3 : Int32) →
      PX2_retry_21 F_X2_wrongParts F_X2_adds F_X2_refuse K x0 x1 x2 x3 C I J R))))))))
theorem wX2_retry {l : Launch}  {F_X2_wrongParts : SPF} (S_X2_wrongParts : SpX2_wrongParts l F_X2_wrongParts) {F_X2_adds : SPF} (S_X2_adds : SpX2_adds l F_X2_adds) {F_X2_refuse : SPF} (S_X2_refuse : SpX2_refuse l F_X2_refuse) {F : SPF}
    (h0 : ∀ (As : List AV) (C : MC) (I : MI) (J : MJ) (R : MR) (K : AK), F As C I J R K → ∃ (x0 : Nat) (x1 : Int32) (x2 : Int32) (x3 : Int32), As = [aR (some x0), aI x1, aI x2, aI x3] ∧ PX2_retry_0 F_X2_wrongParts F_X2_adds F_X2_refuse K x0 x1 x2 x3 C I J R) : SpX2_retry l F := by
  refine Spec.of (by rfl) ?_
  intro Γ C I J R As Gd gl gr _ _ gb hF
  subst gl
  have G : Gb Γ yX2_retry cX2_retry 5 (some .int) [] rmX2_retry bdX2_retry := ⟨Gd, gr, gb⟩
  have w34 : ∀ (x0 : Nat) (x1 : Int32) (x2 : Int32) (x3 : Int32) (s0 : Int32) (C : MC) (I : MI) (J : MJ) (R : MR), PX2_retry_34 F_X2_wrongParts F_X2_adds F_X2_refuse (gK Γ) x0 x1 x2 x3 s0 C I J R → AW Γ 1 4 C I J R 34 [(0, aR (some x0)), (1, aI x1), (2, aI x2), (3, aI x3)] [aI s0] := fun x0 x1 x2 x3 s0 C I J R h => bX2_retry_34 G S_X2_adds S_X2_refuse h
  have w21 : ∀ (x0 : Nat) (x1 : Int32) (x2 : Int32) (x3 : Int32) (C : MC) (I : MI) (J : MJ) (R : MR), PX2_retry_21 F_X2_wrongParts F_X2_adds F_X2_refuse (gK Γ) x0 x1 x2 x3 C I J R → AW Γ 0 0 C I J R 21 [(0, aR (some x0)), (1, aI x1), (2, aI x2), (3, aI x3)] [] := fun x0 x1 x2 x3 C I J R h => bX2_retry_21 G w34 h
  obtain ⟨x0, x1, x2, x3, rfl, h⟩ := h0 As C I J R (gK Γ) hF
  exact ⟨Nat.le_of_ble_eq_true rfl, bX2_retry_0 G S_X2_wrongParts w21 w34 h⟩
def PX2_hedge_23 (F_X2_wrongParts : SPF) (F_X2_adds : SPF) (F_X2_refuse : SPF) (K : AK) (x0 : Nat) (x1 : Int32) (x2 : Int32) (s0 : Int32) (C : MC) (I : MI) (J : MJ) (R : MR) : Prop :=
      ((s0 ≤ 0 →
      (C x0).1 = 3 ∧
      F_X2_adds [aR (some x0), aI (5 : Int32), aI x1, aI (-1 : Int32), aI (-1 : Int32), aI (-1 : Int32), aI x2, aI (0 : Int32)] C I J R (fun o C3 I4 J5 R6 =>
      ∃ r7 : Int32, o = .inl (some (aI r7)) ∧
      K (.inl (some (aI r7))) C3 I4 J5 R6)) ∧
      (¬ s0 ≤ 0 →
      (C x0).1 = 3 ∧
      F_X2_refuse [aR (some x0), aI s0] C I J R (fun o C9 I10 J11 R12 =>
      ∃ r13 : Int32, o = .inl (some (aI r13)) ∧
      K (.inl (some (aI r13))) C9 I10 J11 R12)))
def PX2_hedge_10 (F_X2_wrongParts : SPF) (F_X2_adds : SPF) (F_X2_refuse : SPF) (K : AK) (x0 : Nat) (x1 : Int32) (x2 : Int32) (C : MC) (I : MI) (J : MJ) (R : MR) : Prop :=
      PX2_hedge_23 F_X2_wrongParts F_X2_adds F_X2_refuse K x0 x1 x2 (1 : Int32) C I J R
def PX2_hedge_0 (F_X2_wrongParts : SPF) (F_X2_adds : SPF) (F_X2_refuse : SPF) (K : AK) (x0 : Nat) (x1 : Int32) (x2 : Int32) (C : MC) (I : MI) (J : MJ) (R : MR) : Prop :=
      ((x2 < 0 →
      PX2_hedge_10 F_X2_wrongParts F_X2_adds F_X2_refuse K x0 x1 x2 C I J R) ∧
      (¬ x2 < 0 →
      ((x2 ≤ (60 : Int32) →
      (C x0).1 = 3 ∧
      F_X2_wrongParts [aR (some x0), aI x1, aI (-1 : Int32), aI (-1 : Int32), aI (-1 : Int32), aI (1 : Int32)] C I J R (fun o C4 I5 J6 R7 =>
      ∃ r8 : Int32, o = .inl (some (aI r8)) ∧
      PX2_hedge_23 F_X2_wrongParts F_X2_adds F_X2_refuse K x0 x1 x2 r8 C4 I5 J6 R7)) ∧
      (¬ x2 ≤ (60 : Int32) →
      PX2_hedge_10 F_X2_wrongParts F_X2_adds F_X2_refuse K x0 x1 x2 C I J R))))
theorem wX2_hedge {l : Launch}  {F_X2_wrongParts : SPF} (S_X2_wrongParts : SpX2_wrongParts l F_X2_wrongParts) {F_X2_adds : SPF} (S_X2_adds : SpX2_adds l F_X2_adds) {F_X2_refuse : SPF} (S_X2_refuse : SpX2_refuse l F_X2_refuse) {F : SPF}
    (h0 : ∀ (As : List AV) (C : MC) (I : MI) (J : MJ) (R : MR) (K : AK), F As C I J R K → ∃ (x0 : Nat) (x1 : Int32) (x2 : Int32), As = [aR (some x0), aI x1, aI x2] ∧ PX2_hedge_0 F_X2_wrongParts F_X2_adds F_X2_refuse K x0 x1 x2 C I J R) : SpX2_hedge l F := by
  refine Spec.of (by rfl) ?_
  intro Γ C I J R As Gd gl gr _ _ gb hF
  subst gl
  have G : Gb Γ yX2_hedge cX2_hedge 4 (some .int) [] rmX2_hedge bdX2_hedge := ⟨Gd, gr, gb⟩
  have w23 : ∀ (x0 : Nat) (x1 : Int32) (x2 : Int32) (s0 : Int32) (C : MC) (I : MI) (J : MJ) (R : MR), PX2_hedge_23 F_X2_wrongParts F_X2_adds F_X2_refuse (gK Γ) x0 x1 x2 s0 C I J R → AW Γ 1 4 C I J R 23 [(0, aR (some x0)), (1, aI x1), (2, aI x2)] [aI s0] := fun x0 x1 x2 s0 C I J R h => bX2_hedge_23 G S_X2_adds S_X2_refuse h
  have w10 : ∀ (x0 : Nat) (x1 : Int32) (x2 : Int32) (C : MC) (I : MI) (J : MJ) (R : MR), PX2_hedge_10 F_X2_wrongParts F_X2_adds F_X2_refuse (gK Γ) x0 x1 x2 C I J R → AW Γ 0 0 C I J R 10 [(0, aR (some x0)), (1, aI x1), (2, aI x2)] [] := fun x0 x1 x2 C I J R h => bX2_hedge_10 G w23 h
  obtain ⟨x0, x1, x2, rfl, h⟩ := h0 As C I J R (gK Γ) hF
  exact ⟨Nat.le_of_ble_eq_true rfl, bX2_hedge_0 G S_X2_wrongParts w10 w23 h⟩
