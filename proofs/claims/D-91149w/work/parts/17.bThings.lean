/-! WALKS of X1_init X1_by X11_init J1_init J2_init_2 J8_bitCount X4_init X4_leaves X4_bounds X4_asks X5_init X5_kind X5_leaves X5_table X6_init X6_kind X6_table X6_tops X6_bounds X7_init X7_kind X7_table X7_bound (printed by gen/blocks.py) -/
set_option maxRecDepth 100000
section BL
variable {Γ : Gm} {C : MC} {I : MI} {J : MJ} {R : MR}
set_option maxHeartbeats 1000000
theorem bX1_init_0 (G : Gb Γ yX1_init cX1_init 1 (none) [] rmX1_init bdX1_init) {F_J1_init : SPF} (S_J1_init : SpJ1_init (gL Γ) F_J1_init) {x0 : Nat}
    (h : F_J1_init [aR (some x0), aR none, aR none, aI (0 : Int32), aI (0 : Int32)] C I J R (fun o C1 I2 J3 R4 =>
      o = .inl none ∧
      gK Γ (.inl none) C1 I2 J3 R4)) :
    AW Γ 0 0 C I J R 0 [(0, aR (some x0))] [] := by
  have G0 := G.1
  refine aw_aload_n G0 0 rfl dX1_init_0 ?_
  refine aw_null G0 dX1_init_1 ?_
  refine aw_null G0 dX1_init_2 ?_
  refine aw_iconst (v := (0 : Int32)) G0 dX1_init_3 (by decide) ?_
  refine aw_iconst (v := (0 : Int32)) G0 dX1_init_4 (by decide) ?_
  refine aw_callI (k1 := 0) (n1 := 0) (k2 := 0) (n2 := 0) (st := []) G0 S_J1_init gw_J1_init q52 q127 q128 rfl md_J1_init (Nat.le_of_ble_eq_true rfl) (by decide) (by rw [G.2.1]; decide) (by rw [G.2.1]; decide) [aR none, aR none, aI (0 : Int32), aI (0 : Int32)] rfl rfl dX1_init_5 h (fun o C1 I2 J3 R4 h => ?_)
  obtain ⟨rfl, h⟩ := h
  show AW Γ 0 0 C1 I2 J3 R4 (5 + 3) [(0, aR (some x0))] []
  exact aw_return G0 (by rw [G.2.2]; decide) (by rw [G.2.1]; decide) dX1_init_8 h
theorem bX1_by_0 (G : Gb Γ yX1_by cX1_by 2 (some (.object "TickShare$Refused")) [] rmX1_by bdX1_by) {x0 : Nat} {x1 : Int32}
    (h : (C x0).1 = 2 ∧
      ∀ I2 : MI, I2 = va_up I x0 (va_up (I x0) 6 x1) →
      gK Γ (.inl (some (aR (some x0)))) C I2 J R) :
    AW Γ 0 0 C I J R 0 [(0, aR (some x0)), (1, aI x1)] [] := by
  have G0 := G.1
  refine aw_aload_n G0 0 rfl dX1_by_0 ?_
  refine aw_iload_n G0 1 rfl dX1_by_1 ?_
  obtain ⟨k1, h⟩ := h
  refine aw_putI (f := 6) G0 (by rw [k1]; exact fp_X1_7 _) dX1_by_2 ?_
  generalize gI2 : va_up I x0 (va_up (I x0) 6 x1) = I2
  have h := h I2 gI2.symm
  refine aw_aload_n G0 0 rfl dX1_by_5 ?_
  exact aw_areturn G0 ⟨_, rfl, rfl⟩ (by rw [G.2.2]; decide) (by rw [G.2.1]; decide) dX1_by_6 h
theorem bX11_init_0 (G : Gb Γ yX11_init cX11_init 1 (none) [] rmX11_init bdX11_init) {F_J2_init_2 : SPF} (S_J2_init_2 : SpJ2_init_2 (gL Γ) F_J2_init_2) {x0 : Nat}
    (h : F_J2_init_2 [aR (some x0), aR none, aR none, aI (0 : Int32), aI (0 : Int32)] C I J R (fun o C1 I2 J3 R4 =>
      o = .inl none ∧
      gK Γ (.inl none) C1 I2 J3 R4)) :
    AW Γ 0 0 C I J R 0 [(0, aR (some x0))] [] := by
  have G0 := G.1
  refine aw_aload_n G0 0 rfl dX11_init_0 ?_
  refine aw_null G0 dX11_init_1 ?_
  refine aw_null G0 dX11_init_2 ?_
  refine aw_iconst (v := (0 : Int32)) G0 dX11_init_3 (by decide) ?_
  refine aw_iconst (v := (0 : Int32)) G0 dX11_init_4 (by decide) ?_
  refine aw_callI (k1 := 0) (n1 := 0) (k2 := 0) (n2 := 0) (st := []) G0 S_J2_init_2 gw_J2_init_2 q55 q672 q673 rfl md_J2_init_2 (Nat.le_of_ble_eq_true rfl) (by decide) (by rw [G.2.1]; decide) (by rw [G.2.1]; decide) [aR none, aR none, aI (0 : Int32), aI (0 : Int32)] rfl rfl dX11_init_5 h (fun o C1 I2 J3 R4 h => ?_)
  obtain ⟨rfl, h⟩ := h
  show AW Γ 0 0 C1 I2 J3 R4 (5 + 3) [(0, aR (some x0))] []
  exact aw_return G0 (by rw [G.2.2]; decide) (by rw [G.2.1]; decide) dX11_init_8 h
theorem bJ1_init_0 (G : Gb Γ yJ1_init cJ1_init 5 (none) [] rmJ1_init bdJ1_init) {F_J0_init_2 : SPF} (S_J0_init_2 : SpJ0_init_2 (gL Γ) F_J0_init_2) {x0 : Nat} {x1 : Option Nat} {x2 : Option Nat} {x3 : Int32} {x4 : Int32}
    (h : F_J0_init_2 [aR (some x0), aR x1, aR x2, aI x3, aI x4] C I J R (fun o C1 I2 J3 R4 =>
      o = .inl none ∧
      gK Γ (.inl none) C1 I2 J3 R4)) :
    AW Γ 0 0 C I J R 0 [(0, aR (some x0)), (1, aR x1), (2, aR x2), (3, aI x3), (4, aI x4)] [] := by
  have G0 := G.1
  refine aw_aload_n G0 0 rfl dJ1_init_0 ?_
  refine aw_aload_n G0 1 rfl dJ1_init_1 ?_
  refine aw_aload_n G0 2 rfl dJ1_init_2 ?_
  refine aw_iload_n G0 3 rfl dJ1_init_3 ?_
  refine aw_iload G0 4 rfl dJ1_init_4 ?_
  refine aw_callI (k1 := 0) (n1 := 0) (k2 := 0) (n2 := 0) (st := []) G0 S_J0_init_2 gw_J0_init_2 q51 q130 q131 rfl md_J0_init_2 (Nat.le_of_ble_eq_true rfl) (by decide) (by rw [G.2.1]; decide) (by rw [G.2.1]; decide) [aR x1, aR x2, aI x3, aI x4] rfl rfl dJ1_init_6 h (fun o C1 I2 J3 R4 h => ?_)
  obtain ⟨rfl, h⟩ := h
  show AW Γ 0 0 C1 I2 J3 R4 (6 + 3) [(0, aR (some x0)), (1, aR x1), (2, aR x2), (3, aI x3), (4, aI x4)] []
  exact aw_return G0 (by rw [G.2.2]; decide) (by rw [G.2.1]; decide) dJ1_init_9 h
theorem bJ2_init_2_0 (G : Gb Γ yJ2_init_2 cJ2_init_2 5 (none) [] rmJ2_init_2 bdJ2_init_2) {F_J1_init : SPF} (S_J1_init : SpJ1_init (gL Γ) F_J1_init) {x0 : Nat} {x1 : Option Nat} {x2 : Option Nat} {x3 : Int32} {x4 : Int32}
    (h : F_J1_init [aR (some x0), aR x1, aR x2, aI x3, aI x4] C I J R (fun o C1 I2 J3 R4 =>
      o = .inl none ∧
      gK Γ (.inl none) C1 I2 J3 R4)) :
    AW Γ 0 0 C I J R 0 [(0, aR (some x0)), (1, aR x1), (2, aR x2), (3, aI x3), (4, aI x4)] [] := by
  have G0 := G.1
  refine aw_aload_n G0 0 rfl dJ2_init_2_0 ?_
  refine aw_aload_n G0 1 rfl dJ2_init_2_1 ?_
  refine aw_aload_n G0 2 rfl dJ2_init_2_2 ?_
  refine aw_iload_n G0 3 rfl dJ2_init_2_3 ?_
  refine aw_iload G0 4 rfl dJ2_init_2_4 ?_
  refine aw_callI (k1 := 0) (n1 := 0) (k2 := 0) (n2 := 0) (st := []) G0 S_J1_init gw_J1_init q52 q675 q128 rfl md_J1_init (Nat.le_of_ble_eq_true rfl) (by decide) (by rw [G.2.1]; decide) (by rw [G.2.1]; decide) [aR x1, aR x2, aI x3, aI x4] rfl rfl dJ2_init_2_6 h (fun o C1 I2 J3 R4 h => ?_)
  obtain ⟨rfl, h⟩ := h
  show AW Γ 0 0 C1 I2 J3 R4 (6 + 3) [(0, aR (some x0)), (1, aR x1), (2, aR x2), (3, aI x3), (4, aI x4)] []
  exact aw_return G0 (by rw [G.2.2]; decide) (by rw [G.2.1]; decide) dJ2_init_2_9 h
theorem bJ8_bitCount_0 (G : Gb Γ yJ8_bitCount cJ8_bitCount 1 (some .int) [] rmJ8_bitCount bdJ8_bitCount) {x0 : Int32}
    (h : gK Γ (.inl (some (aI ((((((((x0 - (((x0.toUInt32 >>> ((1 : Int32).toUInt32 &&& Int32.toUInt32 31)).toInt32) &&& (1431655765 : Int32))) &&& (858993459 : Int32)) + ((((x0 - (((x0.toUInt32 >>> ((1 : Int32).toUInt32 &&& Int32.toUInt32 31)).toInt32) &&& (1431655765 : Int32))).toUInt32 >>> ((2 : Int32).toUInt32 &&& Int32.toUInt32 31)).toInt32) &&& (858993459 : Int32))) + (((((x0 - (((x0.toUInt32 >>> ((1 : Int32).toUInt32 &&& Int32.toUInt32 31)).toInt32) &&& (1431655765 : Int32))) &&& (858993459 : Int32)) + ((((x0 - (((x0.toUInt32 >>> ((1 : Int32).toUInt32 &&& Int32.toUInt32 31)).toInt32) &&& (1431655765 : Int32))).toUInt32 >>> ((2 : Int32).toUInt32 &&& Int32.toUInt32 31)).toInt32) &&& (858993459 : Int32))).toUInt32 >>> ((4 : Int32).toUInt32 &&& Int32.toUInt32 31)).toInt32)) &&& (252645135 : Int32)) + (((((((x0 - (((x0.toUInt32 >>> ((1 : Int32).toUInt32 &&& Int32.toUInt32 31)).toInt32) &&& (1431655765 : Int32))) &&& (858993459 : Int32)) + ((((x0 - (((x0.toUInt32 >>> ((1 : Int32).toUInt32 &&& Int32.toUInt32 31)).toInt32) &&& (1431655765 : Int32))).toUInt32 >>> ((2 : Int32).toUInt32 &&& Int32.toUInt32 31)).toInt32) &&& (858993459 : Int32))) + (((((x0 - (((x0.toUInt32 >>> ((1 : Int32).toUInt32 &&& Int32.toUInt32 31)).toInt32) &&& (1431655765 : Int32))) &&& (858993459 : Int32)) + ((((x0 - (((x0.toUInt32 >>> ((1 : Int32).toUInt32 &&& Int32.toUInt32 31)).toInt32) &&& (1431655765 : Int32))).toUInt32 >>> ((2 : Int32).toUInt32 &&& Int32.toUInt32 31)).toInt32) &&& (858993459 : Int32))).toUInt32 >>> ((4 : Int32).toUInt32 &&& Int32.toUInt32 31)).toInt32)) &&& (252645135 : Int32)).toUInt32 >>> ((8 : Int32).toUInt32 &&& Int32.toUInt32 31)).toInt32)) + ((((((((x0 - (((x0.toUInt32 >>> ((1 : Int32).toUInt32 &&& Int32.toUInt32 31)).toInt32) &&& (1431655765 : Int32))) &&& (858993459 : Int32)) + ((((x0 - (((x0.toUInt32 >>> ((1 : Int32).toUInt32 &&& Int32.toUInt32 31)).toInt32) &&& (1431655765 : Int32))).toUInt32 >>> ((2 : Int32).toUInt32 &&& Int32.toUInt32 31)).toInt32) &&& (858993459 : Int32))) + (((((x0 - (((x0.toUInt32 >>> ((1 : Int32).toUInt32 &&& Int32.toUInt32 31)).toInt32) &&& (1431655765 : Int32))) &&& (858993459 : Int32)) + ((((x0 - (((x0.toUInt32 >>> ((1 : Int32).toUInt32 &&& Int32.toUInt32 31)).toInt32) &&& (1431655765 : Int32))).toUInt32 >>> ((2 : Int32).toUInt32 &&& Int32.toUInt32 31)).toInt32) &&& (858993459 : Int32))).toUInt32 >>> ((4 : Int32).toUInt32 &&& Int32.toUInt32 31)).toInt32)) &&& (252645135 : Int32)) + (((((((x0 - (((x0.toUInt32 >>> ((1 : Int32).toUInt32 &&& Int32.toUInt32 31)).toInt32) &&& (1431655765 : Int32))) &&& (858993459 : Int32)) + ((((x0 - (((x0.toUInt32 >>> ((1 : Int32).toUInt32 &&& Int32.toUInt32 31)).toInt32) &&& (1431655765 : Int32))).toUInt32 >>> ((2 : Int32).toUInt32 &&& Int32.toUInt32 31)).toInt32) &&& (858993459 : Int32))) + (((((x0 - (((x0.toUInt32 >>> ((1 : Int32).toUInt32 &&& Int32.toUInt32 31)).toInt32) &&& (1431655765 : Int32))) &&& (858993459 : Int32)) + ((((x0 - (((x0.toUInt32 >>> ((1 : Int32).toUInt32 &&& Int32.toUInt32 31)).toInt32) &&& (1431655765 : Int32))).toUInt32 >>> ((2 : Int32).toUInt32 &&& Int32.toUInt32 31)).toInt32) &&& (858993459 : Int32))).toUInt32 >>> ((4 : Int32).toUInt32 &&& Int32.toUInt32 31)).toInt32)) &&& (252645135 : Int32)).toUInt32 >>> ((8 : Int32).toUInt32 &&& Int32.toUInt32 31)).toInt32)).toUInt32 >>> ((16 : Int32).toUInt32 &&& Int32.toUInt32 31)).toInt32)) &&& (63 : Int32))))) C I J R) :
    AW Γ 0 0 C I J R 0 [(0, aI x0)] [] := by
  have G0 := G.1
  refine aw_iload_n G0 0 rfl dJ8_bitCount_0 ?_
  refine aw_iload_n G0 0 rfl dJ8_bitCount_1 ?_
  refine aw_iconst (v := (1 : Int32)) G0 dJ8_bitCount_2 (by decide) ?_
  refine aw_iushr G0 rfl dJ8_bitCount_3 ?_
  refine aw_ldcw (v := (1431655765 : Int32)) G0 q711 dJ8_bitCount_4 ?_
  refine aw_iand G0 dJ8_bitCount_7 ?_
  refine aw_isub G0 dJ8_bitCount_8 ?_
  refine aw_istore_n (lv' := [(0, aI (x0 - (((x0.toUInt32 >>> ((1 : Int32).toUInt32 &&& Int32.toUInt32 31)).toInt32) &&& (1431655765 : Int32))))]) G0 (by decide) rfl dJ8_bitCount_9 ?_
  refine aw_iload_n G0 0 rfl dJ8_bitCount_10 ?_
  refine aw_ldcw (v := (858993459 : Int32)) G0 q712 dJ8_bitCount_11 ?_
  refine aw_iand G0 dJ8_bitCount_14 ?_
  refine aw_iload_n G0 0 rfl dJ8_bitCount_15 ?_
  refine aw_iconst (v := (2 : Int32)) G0 dJ8_bitCount_16 (by decide) ?_
  refine aw_iushr G0 rfl dJ8_bitCount_17 ?_
  refine aw_ldcw (v := (858993459 : Int32)) G0 q712 dJ8_bitCount_18 ?_
  refine aw_iand G0 dJ8_bitCount_21 ?_
  refine aw_iadd G0 dJ8_bitCount_22 ?_
  refine aw_istore_n (lv' := [(0, aI (((x0 - (((x0.toUInt32 >>> ((1 : Int32).toUInt32 &&& Int32.toUInt32 31)).toInt32) &&& (1431655765 : Int32))) &&& (858993459 : Int32)) + ((((x0 - (((x0.toUInt32 >>> ((1 : Int32).toUInt32 &&& Int32.toUInt32 31)).toInt32) &&& (1431655765 : Int32))).toUInt32 >>> ((2 : Int32).toUInt32 &&& Int32.toUInt32 31)).toInt32) &&& (858993459 : Int32))))]) G0 (by decide) rfl dJ8_bitCount_23 ?_
  refine aw_iload_n G0 0 rfl dJ8_bitCount_24 ?_
  refine aw_iload_n G0 0 rfl dJ8_bitCount_25 ?_
  refine aw_iconst (v := (4 : Int32)) G0 dJ8_bitCount_26 (by decide) ?_
  refine aw_iushr G0 rfl dJ8_bitCount_27 ?_
  refine aw_iadd G0 dJ8_bitCount_28 ?_
  refine aw_ldcw (v := (252645135 : Int32)) G0 q713 dJ8_bitCount_29 ?_
  refine aw_iand G0 dJ8_bitCount_32 ?_
  refine aw_istore_n (lv' := [(0, aI (((((x0 - (((x0.toUInt32 >>> ((1 : Int32).toUInt32 &&& Int32.toUInt32 31)).toInt32) &&& (1431655765 : Int32))) &&& (858993459 : Int32)) + ((((x0 - (((x0.toUInt32 >>> ((1 : Int32).toUInt32 &&& Int32.toUInt32 31)).toInt32) &&& (1431655765 : Int32))).toUInt32 >>> ((2 : Int32).toUInt32 &&& Int32.toUInt32 31)).toInt32) &&& (858993459 : Int32))) + (((((x0 - (((x0.toUInt32 >>> ((1 : Int32).toUInt32 &&& Int32.toUInt32 31)).toInt32) &&& (1431655765 : Int32))) &&& (858993459 : Int32)) + ((((x0 - (((x0.toUInt32 >>> ((1 : Int32).toUInt32 &&& Int32.toUInt32 31)).toInt32) &&& (1431655765 : Int32))).toUInt32 >>> ((2 : Int32).toUInt32 &&& Int32.toUInt32 31)).toInt32) &&& (858993459 : Int32))).toUInt32 >>> ((4 : Int32).toUInt32 &&& Int32.toUInt32 31)).toInt32)) &&& (252645135 : Int32)))]) G0 (by decide) rfl dJ8_bitCount_33 ?_
  refine aw_iload_n G0 0 rfl dJ8_bitCount_34 ?_
  refine aw_iload_n G0 0 rfl dJ8_bitCount_35 ?_
  refine aw_bipush (v := (8 : Int32)) G0 dJ8_bitCount_36 (by decide) ?_
  refine aw_iushr G0 rfl dJ8_bitCount_38 ?_
  refine aw_iadd G0 dJ8_bitCount_39 ?_
  refine aw_istore_n (lv' := [(0, aI ((((((x0 - (((x0.toUInt32 >>> ((1 : Int32).toUInt32 &&& Int32.toUInt32 31)).toInt32) &&& (1431655765 : Int32))) &&& (858993459 : Int32)) + ((((x0 - (((x0.toUInt32 >>> ((1 : Int32).toUInt32 &&& Int32.toUInt32 31)).toInt32) &&& (1431655765 : Int32))).toUInt32 >>> ((2 : Int32).toUInt32 &&& Int32.toUInt32 31)).toInt32) &&& (858993459 : Int32))) + (((((x0 - (((x0.toUInt32 >>> ((1 : Int32).toUInt32 &&& Int32.toUInt32 31)).toInt32) &&& (1431655765 : Int32))) &&& (858993459 : Int32)) + ((((x0 - (((x0.toUInt32 >>> ((1 : Int32).toUInt32 &&& Int32.toUInt32 31)).toInt32) &&& (1431655765 : Int32))).toUInt32 >>> ((2 : Int32).toUInt32 &&& Int32.toUInt32 31)).toInt32) &&& (858993459 : Int32))).toUInt32 >>> ((4 : Int32).toUInt32 &&& Int32.toUInt32 31)).toInt32)) &&& (252645135 : Int32)) + (((((((x0 - (((x0.toUInt32 >>> ((1 : Int32).toUInt32 &&& Int32.toUInt32 31)).toInt32) &&& (1431655765 : Int32))) &&& (858993459 : Int32)) + ((((x0 - (((x0.toUInt32 >>> ((1 : Int32).toUInt32 &&& Int32.toUInt32 31)).toInt32) &&& (1431655765 : Int32))).toUInt32 >>> ((2 : Int32).toUInt32 &&& Int32.toUInt32 31)).toInt32) &&& (858993459 : Int32))) + (((((x0 - (((x0.toUInt32 >>> ((1 : Int32).toUInt32 &&& Int32.toUInt32 31)).toInt32) &&& (1431655765 : Int32))) &&& (858993459 : Int32)) + ((((x0 - (((x0.toUInt32 >>> ((1 : Int32).toUInt32 &&& Int32.toUInt32 31)).toInt32) &&& (1431655765 : Int32))).toUInt32 >>> ((2 : Int32).toUInt32 &&& Int32.toUInt32 31)).toInt32) &&& (858993459 : Int32))).toUInt32 >>> ((4 : Int32).toUInt32 &&& Int32.toUInt32 31)).toInt32)) &&& (252645135 : Int32)).toUInt32 >>> ((8 : Int32).toUInt32 &&& Int32.toUInt32 31)).toInt32)))]) G0 (by decide) rfl dJ8_bitCount_40 ?_
  refine aw_iload_n G0 0 rfl dJ8_bitCount_41 ?_
  refine aw_iload_n G0 0 rfl dJ8_bitCount_42 ?_
  refine aw_bipush (v := (16 : Int32)) G0 dJ8_bitCount_43 (by decide) ?_
  refine aw_iushr G0 rfl dJ8_bitCount_45 ?_
  refine aw_iadd G0 dJ8_bitCount_46 ?_
  refine aw_istore_n (lv' := [(0, aI (((((((x0 - (((x0.toUInt32 >>> ((1 : Int32).toUInt32 &&& Int32.toUInt32 31)).toInt32) &&& (1431655765 : Int32))) &&& (858993459 : Int32)) + ((((x0 - (((x0.toUInt32 >>> ((1 : Int32).toUInt32 &&& Int32.toUInt32 31)).toInt32) &&& (1431655765 : Int32))).toUInt32 >>> ((2 : Int32).toUInt32 &&& Int32.toUInt32 31)).toInt32) &&& (858993459 : Int32))) + (((((x0 - (((x0.toUInt32 >>> ((1 : Int32).toUInt32 &&& Int32.toUInt32 31)).toInt32) &&& (1431655765 : Int32))) &&& (858993459 : Int32)) + ((((x0 - (((x0.toUInt32 >>> ((1 : Int32).toUInt32 &&& Int32.toUInt32 31)).toInt32) &&& (1431655765 : Int32))).toUInt32 >>> ((2 : Int32).toUInt32 &&& Int32.toUInt32 31)).toInt32) &&& (858993459 : Int32))).toUInt32 >>> ((4 : Int32).toUInt32 &&& Int32.toUInt32 31)).toInt32)) &&& (252645135 : Int32)) + (((((((x0 - (((x0.toUInt32 >>> ((1 : Int32).toUInt32 &&& Int32.toUInt32 31)).toInt32) &&& (1431655765 : Int32))) &&& (858993459 : Int32)) + ((((x0 - (((x0.toUInt32 >>> ((1 : Int32).toUInt32 &&& Int32.toUInt32 31)).toInt32) &&& (1431655765 : Int32))).toUInt32 >>> ((2 : Int32).toUInt32 &&& Int32.toUInt32 31)).toInt32) &&& (858993459 : Int32))) + (((((x0 - (((x0.toUInt32 >>> ((1 : Int32).toUInt32 &&& Int32.toUInt32 31)).toInt32) &&& (1431655765 : Int32))) &&& (858993459 : Int32)) + ((((x0 - (((x0.toUInt32 >>> ((1 : Int32).toUInt32 &&& Int32.toUInt32 31)).toInt32) &&& (1431655765 : Int32))).toUInt32 >>> ((2 : Int32).toUInt32 &&& Int32.toUInt32 31)).toInt32) &&& (858993459 : Int32))).toUInt32 >>> ((4 : Int32).toUInt32 &&& Int32.toUInt32 31)).toInt32)) &&& (252645135 : Int32)).toUInt32 >>> ((8 : Int32).toUInt32 &&& Int32.toUInt32 31)).toInt32)) + ((((((((x0 - (((x0.toUInt32 >>> ((1 : Int32).toUInt32 &&& Int32.toUInt32 31)).toInt32) &&& (1431655765 : Int32))) &&& (858993459 : Int32)) + ((((x0 - (((x0.toUInt32 >>> ((1 : Int32).toUInt32 &&& Int32.toUInt32 31)).toInt32) &&& (1431655765 : Int32))).toUInt32 >>> ((2 : Int32).toUInt32 &&& Int32.toUInt32 31)).toInt32) &&& (858993459 : Int32))) + (((((x0 - (((x0.toUInt32 >>> ((1 : Int32).toUInt32 &&& Int32.toUInt32 31)).toInt32) &&& (1431655765 : Int32))) &&& (858993459 : Int32)) + ((((x0 - (((x0.toUInt32 >>> ((1 : Int32).toUInt32 &&& Int32.toUInt32 31)).toInt32) &&& (1431655765 : Int32))).toUInt32 >>> ((2 : Int32).toUInt32 &&& Int32.toUInt32 31)).toInt32) &&& (858993459 : Int32))).toUInt32 >>> ((4 : Int32).toUInt32 &&& Int32.toUInt32 31)).toInt32)) &&& (252645135 : Int32)) + (((((((x0 - (((x0.toUInt32 >>> ((1 : Int32).toUInt32 &&& Int32.toUInt32 31)).toInt32) &&& (1431655765 : Int32))) &&& (858993459 : Int32)) + ((((x0 - (((x0.toUInt32 >>> ((1 : Int32).toUInt32 &&& Int32.toUInt32 31)).toInt32) &&& (1431655765 : Int32))).toUInt32 >>> ((2 : Int32).toUInt32 &&& Int32.toUInt32 31)).toInt32) &&& (858993459 : Int32))) + (((((x0 - (((x0.toUInt32 >>> ((1 : Int32).toUInt32 &&& Int32.toUInt32 31)).toInt32) &&& (1431655765 : Int32))) &&& (858993459 : Int32)) + ((((x0 - (((x0.toUInt32 >>> ((1 : Int32).toUInt32 &&& Int32.toUInt32 31)).toInt32) &&& (1431655765 : Int32))).toUInt32 >>> ((2 : Int32).toUInt32 &&& Int32.toUInt32 31)).toInt32) &&& (858993459 : Int32))).toUInt32 >>> ((4 : Int32).toUInt32 &&& Int32.toUInt32 31)).toInt32)) &&& (252645135 : Int32)).toUInt32 >>> ((8 : Int32).toUInt32 &&& Int32.toUInt32 31)).toInt32)).toUInt32 >>> ((16 : Int32).toUInt32 &&& Int32.toUInt32 31)).toInt32)))]) G0 (by decide) rfl dJ8_bitCount_47 ?_
  refine aw_iload_n G0 0 rfl dJ8_bitCount_48 ?_
  refine aw_bipush (v := (63 : Int32)) G0 dJ8_bitCount_49 (by decide) ?_
  refine aw_iand G0 dJ8_bitCount_51 ?_
  exact aw_ireturn G0 (Or.inl rfl) (by rw [G.2.2]; decide) (by rw [G.2.1]; decide) dJ8_bitCount_52 h
theorem bX4_init_0 (G : Gb Γ yX4_init cX4_init 6 (none) [] rmX4_init bdX4_init) {F_X3_init : SPF} (S_X3_init : SpX3_init (gL Γ) F_X3_init)
    {Q39 : Nat → Nat → Int32 → Int32 → MC → MI → MJ → MR → Prop} (w39 : ∀ (x0 : Nat) (x2 : Nat) (x3 : Int32) (x4 : Int32) (C : MC) (I : MI) (J : MJ) (R : MR), Q39 x0 x2 x3 x4 C I J R → AW Γ 6 490 C I J R 39 [(0, aR (some x0)), (2, aR (some x2)), (3, aI x3), (4, aI x4)] []) {x0 : Nat} {x1 : Nat}
    (h : ∃ q1 : Nat, (C q1).1 = 0 ∧
      ∀ (C3 : MC) (I4 : MI) (J5 : MJ) (R6 : MR), C3 = va_up C q1 (4, 0) → I4 = va_up I q1 (fun _ => 0) → J5 = va_up J q1 (fun _ => 0) → R6 = va_up R q1 (fun _ => none) → 
      F_X3_init [aR (some q1)] C3 I4 J5 R6 (fun o C7 I8 J9 R10 =>
      o = .inl none ∧
      kTh (C7 x0).1 ∧
      ∀ R13 : MR, R13 = va_up R10 x0 (va_up (R10 x0) 1 (some q1)) →
      ∃ q14 : Nat, (C7 q14).1 = 0 ∧
      ∀ (C16 : MC) (I17 : MI) (J18 : MJ) (R19 : MR), C16 = va_up C7 q14 (4, 0) → I17 = va_up I8 q14 (fun _ => 0) → J18 = va_up J9 q14 (fun _ => 0) → R19 = va_up R13 q14 (fun _ => none) → 
      F_X3_init [aR (some q14)] C16 I17 J18 R19 (fun o C20 I21 J22 R23 =>
      o = .inl none ∧
      kTh (C20 x0).1 ∧
      ∀ R26 : MR, R26 = va_up R23 x0 (va_up (R23 x0) 2 (some q14)) →
      ∀ R27 : MR, R27 = va_up R26 x0 (va_up (R26 x0) 0 (some x1)) →
      (20 ≤ (C20 x1).1 ∧ (C20 x1).1 ≤ 30) ∧
      Q39 x0 x1 (nI (C20 x1).2) (0 : Int32) C20 I21 J22 R27))) :
    AW Γ 0 0 C I J R 0 [(0, aR (some x0)), (1, aR (some x1))] [] := by
  have G0 := G.1
  refine aw_aload_n G0 0 rfl dX4_init_0 ?_
  refine aw_objinit G0 q364 q78 q79 (by rw [G.2.1]; decide) (by rw [G.2.1]; exact Nat.le_of_ble_eq_true rfl) dX4_init_1 ?_
  refine aw_aload_n G0 0 rfl dX4_init_4 ?_
  obtain ⟨q1, z2, h⟩ := h
  refine aw_new (q := q1) (k' := 1) (n' := 3) G0 cl_3 (by decide) q365 q312 q61 nt_3 (by decide) (by decide) (by rw [G.2.1]; exact Nat.le_of_ble_eq_true rfl) (by rw [G.2.1]; exact Nat.le_of_ble_eq_true rfl) z2 dX4_init_5 ?_
  generalize gC3 : va_up C q1 (4, 0) = C3
  generalize gI4 : va_up I q1 (fun _ => 0) = I4
  generalize gJ5 : va_up J q1 (fun _ => 0) = J5
  generalize gR6 : va_up R q1 (fun _ => none) = R6
  have h := h C3 I4 J5 R6 gC3.symm gI4.symm gJ5.symm gR6.symm
  refine aw_dupR G0 dX4_init_8 ?_
  refine aw_callIN (k1 := 3) (n1 := 245) (k2 := 1) (n2 := 3) (st := [aR (some q1), aR (some x0)]) G0 S_X3_init q366 gw_X3_init q61 q314 rfl md_X3_init (Nat.le_of_ble_eq_true rfl) (by decide) (by rw [G.2.1]; decide) (by rw [G.2.1]; decide) [] rfl rfl dX4_init_9 h (fun o C7 I8 J9 R10 h => ?_)
  obtain ⟨rfl, h⟩ := h
  show AW Γ 3 245 C7 I8 J9 R10 (9 + 3) [(0, aR (some x0)), (1, aR (some x1))] [aR (some q1), aR (some x0)]
  obtain ⟨k12, h⟩ := h
  refine aw_putR (f := 1) G0 (fp_X4_12 _ k12) dX4_init_12 ?_
  generalize gR13 : va_up R10 x0 (va_up (R10 x0) 1 (some q1)) = R13
  have h := h R13 gR13.symm
  refine aw_aload_n G0 0 rfl dX4_init_15 ?_
  obtain ⟨q14, z15, h⟩ := h
  refine aw_new (q := q14) (k' := 4) (n' := 248) G0 cl_3 (by decide) q365 q312 q61 nt_3 (by decide) (by decide) (by rw [G.2.1]; exact Nat.le_of_ble_eq_true rfl) (by rw [G.2.1]; exact Nat.le_of_ble_eq_true rfl) z15 dX4_init_16 ?_
  generalize gC16 : va_up C7 q14 (4, 0) = C16
  generalize gI17 : va_up I8 q14 (fun _ => 0) = I17
  generalize gJ18 : va_up J9 q14 (fun _ => 0) = J18
  generalize gR19 : va_up R13 q14 (fun _ => none) = R19
  have h := h C16 I17 J18 R19 gC16.symm gI17.symm gJ18.symm gR19.symm
  refine aw_dupR G0 dX4_init_19 ?_
  refine aw_callIN (k1 := 6) (n1 := 490) (k2 := 4) (n2 := 248) (st := [aR (some q14), aR (some x0)]) G0 S_X3_init q366 gw_X3_init q61 q314 rfl md_X3_init (Nat.le_of_ble_eq_true rfl) (by decide) (by rw [G.2.1]; decide) (by rw [G.2.1]; decide) [] rfl rfl dX4_init_20 h (fun o C20 I21 J22 R23 h => ?_)
  obtain ⟨rfl, h⟩ := h
  show AW Γ 6 490 C20 I21 J22 R23 (20 + 3) [(0, aR (some x0)), (1, aR (some x1))] [aR (some q14), aR (some x0)]
  obtain ⟨k25, h⟩ := h
  refine aw_putR (f := 2) G0 (fp_X4_18 _ k25) dX4_init_23 ?_
  generalize gR26 : va_up R23 x0 (va_up (R23 x0) 2 (some q14)) = R26
  have h := h R26 gR26.symm
  refine aw_aload_n G0 0 rfl dX4_init_26 ?_
  refine aw_aload_n G0 1 rfl dX4_init_27 ?_
  refine aw_putR (f := 0) G0 (fp_X4_21 _ k25) dX4_init_28 ?_
  generalize gR27 : va_up R26 x0 (va_up (R26 x0) 0 (some x1)) = R27
  have h := h R27 gR27.symm
  refine aw_aload_n G0 1 rfl dX4_init_31 ?_
  refine aw_astore_n (lv' := [(2, aR (some x1)), (0, aR (some x0)), (1, aR (some x1))]) G0 (by decide) rfl dX4_init_32 ?_
  refine aw_aload_n G0 0 rfl dX4_init_33 ?_
  obtain ⟨k28, h⟩ := h
  refine aw_alen (v := nI (C20 x1).2) G0 k28 rfl dX4_init_34 ?_
  refine aw_istore_n (lv' := [(3, aI (nI (C20 x1).2)), (2, aR (some x1)), (0, aR (some x0)), (1, aR (some x1))]) G0 (by decide) rfl dX4_init_35 ?_
  refine aw_iconst (v := (0 : Int32)) G0 dX4_init_36 (by decide) ?_
  refine aw_istore (lv' := [(4, aI (0 : Int32)), (3, aI (nI (C20 x1).2)), (2, aR (some x1)), (0, aR (some x0)), (1, aR (some x1))]) G0 (by decide) rfl dX4_init_37 ?_
  exact (aw_lv [3, 2, 1, 0] rfl (w39 x0 x1 (nI (C20 x1).2) (0 : Int32) C20 I21 J22 R27 h))
theorem bX4_init_39 (G : Gb Γ yX4_init cX4_init 6 (none) [] rmX4_init bdX4_init)
    {Q39 : Nat → Nat → Int32 → Int32 → MC → MI → MJ → MR → Prop} (w39 : ∀ (x0 : Nat) (x2 : Nat) (x3 : Int32) (x4 : Int32) (C : MC) (I : MI) (J : MJ) (R : MR), Q39 x0 x2 x3 x4 C I J R → AW Γ 6 490 C I J R 39 [(0, aR (some x0)), (2, aR (some x2)), (3, aI x3), (4, aI x4)] []) {x0 : Nat} {x2 : Nat} {x3 : Int32} {x4 : Int32}
    (h : ((x3 ≤ x4 →
      gK Γ (.inl none) C I J R) ∧
      (¬ x3 ≤ x4 →
      (25 ≤ (C x2).1 ∧ (C x2).1 < 30) ∧
      vp_in x4 (C x2).2 ∧
      ∃ q4 : Nat, R x2 x4.toNatClampNeg = some q4 ∧
      kTh (C q4).1 ∧
      ∀ R6 : MR, R6 = va_up R q4 (va_up (R q4) 3 (some x0)) →
      Q39 x0 x2 x3 (x4 + 1) C I J R6))) :
    AW Γ 6 490 C I J R 39 [(0, aR (some x0)), (2, aR (some x2)), (3, aI x3), (4, aI x4)] [] := by
  have G0 := G.1
  refine aw_iload G0 3 rfl dX4_init_39 ?_
  refine aw_iload_n G0 2 rfl dX4_init_41 ?_
  refine aw_icmp_ge G0 63 dX4_init_42 (by decide) (fun c1 => ?_) (fun c1 => ?_)
  · have h := h.1 c1
    exact aw_return G0 (by rw [G.2.2]; decide) (by rw [G.2.1]; decide) dX4_init_63 h
  · have h := h.2 c1
    refine aw_aload_n G0 1 rfl dX4_init_45 ?_
    refine aw_iload G0 3 rfl dX4_init_46 ?_
    obtain ⟨k2, h⟩ := h
    obtain ⟨k3, h⟩ := h
    refine aw_aald G0 k2 k3 dX4_init_48 ?_
    refine aw_astore (lv' := [(5, aR (R x2 x4.toNatClampNeg)), (0, aR (some x0)), (2, aR (some x2)), (3, aI x3), (4, aI x4)]) G0 (by decide) rfl dX4_init_49 ?_
    refine aw_aload G0 0 rfl dX4_init_51 ?_
    refine aw_aload_n G0 1 rfl dX4_init_53 ?_
    obtain ⟨q4, e4, h⟩ := h
    refine aw_dr1 e4 ?_
    obtain ⟨k5, h⟩ := h
    refine aw_putR (f := 3) G0 (fp_X4_25 _ _ k5) dX4_init_54 ?_
    generalize gR6 : va_up R q4 (va_up (R q4) 3 (some x0)) = R6
    have h := h R6 gR6.symm
    refine aw_iinc (v := x4 + 1) (lv' := [(4, aI (x4 + 1)), (5, aR (R x2 x4.toNatClampNeg)), (0, aR (some x0)), (2, aR (some x2)), (3, aI x3)]) G0 4 rfl rfl (by decide) rfl dX4_init_57 ?_
    refine aw_goto G0 39 dX4_init_60 (by decide) ?_
    exact (aw_lv [2, 3, 4, 0] rfl (w39 x0 x2 x3 (x4 + 1) C I J R6 h))
theorem bX4_leaves_0 {d : Nat} (G : Gb Γ yX4_leaves cX4_leaves 6 (some .int) [] (rmLv (d + 1)) bdX4_leaves)
    {Q13 : Int32 → Option Nat → Int32 → Int32 → MC → MI → MJ → MR → Prop} (w13 : ∀ (x1 : Int32) (x2 : Option Nat) (x3 : Int32) (x4 : Int32) (C : MC) (I : MI) (J : MJ) (R : MR), Q13 x1 x2 x3 x4 C I J R → AW Γ 0 0 C I J R 13 [(1, aI x1), (2, aR x2), (3, aI x3), (4, aI x4)] []) {x0 : Nat}
    (h : kTh (C x0).1 ∧
      ∃ q2 : Nat, R x0 0 = some q2 ∧
      (20 ≤ (C q2).1 ∧ (C q2).1 ≤ 30) ∧
      Q13 (0 : Int32) (R x0 0) (nI (C q2).2) (0 : Int32) C I J R) :
    AW Γ 0 0 C I J R 0 [(0, aR (some x0))] [] := by
  have G0 := G.1
  refine aw_iconst (v := (0 : Int32)) G0 dX4_leaves_0 (by decide) ?_
  refine aw_istore_n (lv' := [(1, aI (0 : Int32)), (0, aR (some x0))]) G0 (by decide) rfl dX4_leaves_1 ?_
  refine aw_aload_n G0 1 rfl dX4_leaves_2 ?_
  obtain ⟨k1, h⟩ := h
  refine aw_getR (f := 0) G0 (fb_X4_21 _ k1) dX4_leaves_3 ?_
  refine aw_astore_n (lv' := [(2, aR (R x0 0)), (1, aI (0 : Int32)), (0, aR (some x0))]) G0 (by decide) rfl dX4_leaves_6 ?_
  refine aw_aload_n G0 0 rfl dX4_leaves_7 ?_
  obtain ⟨q2, e2, h⟩ := h
  refine aw_dr0 e2 ?_
  obtain ⟨k3, h⟩ := h
  refine aw_alen (v := nI (C q2).2) G0 k3 rfl dX4_leaves_8 ?_
  refine aw_istore_n (lv' := [(3, aI (nI (C q2).2)), (2, aR (R x0 0)), (1, aI (0 : Int32)), (0, aR (some x0))]) G0 (by decide) rfl dX4_leaves_9 ?_
  refine aw_iconst (v := (0 : Int32)) G0 dX4_leaves_10 (by decide) ?_
  refine aw_istore (lv' := [(4, aI (0 : Int32)), (3, aI (nI (C q2).2)), (2, aR (R x0 0)), (1, aI (0 : Int32)), (0, aR (some x0))]) G0 (by decide) rfl dX4_leaves_11 ?_
  exact (aw_lv [3, 2, 1, 0] rfl (w13 (0 : Int32) (R x0 0) (nI (C q2).2) (0 : Int32) C I J R h))
theorem bX4_leaves_13 {d : Nat} (G : Gb Γ yX4_leaves cX4_leaves 6 (some .int) [] (rmLv (d + 1)) bdX4_leaves) {F_Vleaves : SPF} (S_Vleaves : SpVleaves (gL Γ) d F_Vleaves)
    {Q13 : Int32 → Option Nat → Int32 → Int32 → MC → MI → MJ → MR → Prop} (w13 : ∀ (x1 : Int32) (x2 : Option Nat) (x3 : Int32) (x4 : Int32) (C : MC) (I : MI) (J : MJ) (R : MR), Q13 x1 x2 x3 x4 C I J R → AW Γ 0 0 C I J R 13 [(1, aI x1), (2, aR x2), (3, aI x3), (4, aI x4)] []) {x1 : Int32} {x2 : Option Nat} {x3 : Int32} {x4 : Int32}
    (h : ((x3 ≤ x4 →
      gK Γ (.inl (some (aI x1))) C I J R) ∧
      (¬ x3 ≤ x4 →
      ∃ q2 : Nat, x2 = some q2 ∧
      (25 ≤ (C q2).1 ∧ (C q2).1 < 30) ∧
      vp_in x4 (C q2).2 ∧
      ∃ q5 : Nat, R q2 x4.toNatClampNeg = some q5 ∧
      kTh (C q5).1 ∧
      F_Vleaves [aR (some q5)] C I J R (fun o C7 I8 J9 R10 =>
      ∃ r11 : Int32, o = .inl (some (aI r11)) ∧
      Q13 (x1 + r11) x2 x3 (x4 + 1) C7 I8 J9 R10)))) :
    AW Γ 0 0 C I J R 13 [(1, aI x1), (2, aR x2), (3, aI x3), (4, aI x4)] [] := by
  have G0 := G.1
  refine aw_iload G0 3 rfl dX4_leaves_13 ?_
  refine aw_iload_n G0 2 rfl dX4_leaves_15 ?_
  refine aw_icmp_ge G0 39 dX4_leaves_16 (by decide) (fun c1 => ?_) (fun c1 => ?_)
  · have h := h.1 c1
    refine aw_iload_n G0 0 rfl dX4_leaves_39 ?_
    exact aw_ireturn G0 (Or.inl rfl) (by rw [G.2.2]; exact ⟨by decide, by decide⟩) (by rw [G.2.1]; exact ⟨Nat.zero_le _, Nat.zero_le _⟩) dX4_leaves_40 h
  · have h := h.2 c1
    refine aw_aload_n G0 1 rfl dX4_leaves_19 ?_
    refine aw_iload G0 3 rfl dX4_leaves_20 ?_
    obtain ⟨q2, e2, h⟩ := h
    refine aw_dr1 e2 ?_
    obtain ⟨k3, h⟩ := h
    obtain ⟨k4, h⟩ := h
    refine aw_aald G0 k3 k4 dX4_leaves_22 ?_
    refine aw_astore (lv' := [(5, aR (R q2 x4.toNatClampNeg)), (1, aI x1), (2, aR x2), (3, aI x3), (4, aI x4)]) G0 (by decide) rfl dX4_leaves_23 ?_
    refine aw_iload_n G0 1 rfl dX4_leaves_25 ?_
    refine aw_aload G0 0 rfl dX4_leaves_26 ?_
    obtain ⟨q5, e5, h⟩ := h
    refine aw_dr0 e5 ?_
    obtain ⟨k6, h⟩ := h
    refine vc_X4_29 (k1 := 0) (n1 := 0) (k2 := 0) (n2 := 0) (st := [aI x1]) G0 S_Vleaves k6 (Nat.le_of_ble_eq_true rfl) (by decide) (by rw [G.2.1]; dsimp only [rmTb, rmBo, rmTo, rmLv, bdv]; omega) (by rw [G.2.1]; dsimp only [rmTb, rmBo, rmTo, rmLv, bdv]; omega) [] rfl rfl dX4_leaves_28 h (fun o C7 I8 J9 R10 h => ?_)
    obtain ⟨r11, rfl, h⟩ := h
    show AW Γ 0 0 C7 I8 J9 R10 (28 + 3) [(5, aR (R q2 x4.toNatClampNeg)), (1, aI x1), (2, aR x2), (3, aI x3), (4, aI x4)] [aI r11, aI x1]
    refine aw_iadd G0 dX4_leaves_31 ?_
    refine aw_istore_n (lv' := [(1, aI (x1 + r11)), (5, aR (R q2 x4.toNatClampNeg)), (2, aR x2), (3, aI x3), (4, aI x4)]) G0 (by decide) rfl dX4_leaves_32 ?_
    refine aw_iinc (v := x4 + 1) (lv' := [(4, aI (x4 + 1)), (1, aI (x1 + r11)), (5, aR (R q2 x4.toNatClampNeg)), (2, aR x2), (3, aI x3)]) G0 4 rfl rfl (by decide) rfl dX4_leaves_33 ?_
    refine aw_goto G0 13 dX4_leaves_36 (by decide) ?_
    exact (aw_lv [1, 3, 4, 0] rfl (w13 (x1 + r11) x2 x3 (x4 + 1) C7 I8 J9 R10 h))
theorem bX4_bounds_0 {d : Nat} (G : Gb Γ yX4_bounds cX4_bounds 4 (some .long) [] (rmBo d) bdX4_bounds) {F_Vtable : SPF} (S_Vtable : SpVtable (gL Γ) d F_Vtable)
    {Q7 : Nat → Nat → Int32 → MC → MI → MJ → MR → Prop} (w7 : ∀ (x1 : Nat) (x2 : Nat) (x3 : Int32) (C : MC) (I : MI) (J : MJ) (R : MR), Q7 x1 x2 x3 C I J R → AW Γ 0 0 C I J R 7 [(1, aR (some x1)), (2, aR (some x2)), (3, aI x3)] []) {x0 : Nat} {x1 : Nat}
    (h : kTh (C x0).1 ∧
      F_Vtable [aR (some x0)] C I J R (fun o C2 I3 J4 R5 =>
      (∃ r6 : Nat, o = .inl (some (aR (some r6))) ∧
      Q7 x1 r6 (0 : Int32) C2 I3 J4 R5) ∨
      (∃ q7 : Nat, o = .inr q7 ∧
      ((C2 q7).1 = 11 ∧
      gK Γ (.inr q7) C2 I3 J4 R5)))) :
    AW Γ 0 0 C I J R 0 [(0, aR (some x0)), (1, aR (some x1))] [] := by
  have G0 := G.1
  refine aw_aload_n G0 0 rfl dX4_bounds_0 ?_
  obtain ⟨k1, h⟩ := h
  refine vc_X4_33 (k1 := 0) (n1 := 0) (k2 := 1) (n2 := 6) (st := []) G0 S_Vtable k1 (Nat.le_of_ble_eq_true rfl) (by decide) (by rw [G.2.1]; dsimp only [rmTb, rmBo, rmTo, rmLv, bdv]; omega) (by rw [G.2.1]; dsimp only [rmTb, rmBo, rmTo, rmLv, bdv]; omega) [] rfl rfl dX4_bounds_1 h (fun o C2 I3 J4 R5 h => ?_)
  rcases h with ⟨r6, rfl, h⟩ | ⟨q7, rfl, h⟩
  · show AW Γ 0 0 C2 I3 J4 R5 (1 + 3) [(0, aR (some x0)), (1, aR (some x1))] [aR (some r6)]
    refine aw_astore_n (lv' := [(2, aR (some r6)), (0, aR (some x0)), (1, aR (some x1))]) G0 (by decide) rfl dX4_bounds_4 ?_
    refine aw_iconst (v := (0 : Int32)) G0 dX4_bounds_5 (by decide) ?_
    refine aw_istore_n (lv' := [(3, aI (0 : Int32)), (2, aR (some r6)), (0, aR (some x0)), (1, aR (some x1))]) G0 (by decide) rfl dX4_bounds_6 ?_
    exact (aw_lv [3, 1, 0] rfl (w7 x1 r6 (0 : Int32) C2 I3 J4 R5 h))
  · show AX Γ 1 6 C2 I3 J4 R5 1 [(0, aR (some x0)), (1, aR (some x1))] q7
    obtain ⟨k8, h⟩ := h
    exact ax_out G0 rfl (Or.inr (Or.inl k8)) (by rw [G.2.2]; exact ⟨by decide, by decide⟩) (by rw [G.2.1]; exact ⟨Nat.le_refl 1, Nat.le_refl 6⟩) h
theorem bX4_bounds_7 {d : Nat} (G : Gb Γ yX4_bounds cX4_bounds 4 (some .long) [] (rmBo d) bdX4_bounds) {F_X0_bounded : SPF} (S_X0_bounded : SpX0_bounded (gL Γ) F_X0_bounded) {F_X3_by : SPF} (S_X3_by : SpX3_by (gL Γ) F_X3_by)
    {Q7 : Nat → Nat → Int32 → MC → MI → MJ → MR → Prop} (w7 : ∀ (x1 : Nat) (x2 : Nat) (x3 : Int32) (C : MC) (I : MI) (J : MJ) (R : MR), Q7 x1 x2 x3 C I J R → AW Γ 0 0 C I J R 7 [(1, aR (some x1)), (2, aR (some x2)), (3, aI x3)] []) {x1 : Nat} {x2 : Nat} {x3 : Int32}
    (h : (((120 : Int32) < x3 →
      (C x2).1 = 4 ∧
      F_X0_bounded [aJ (J x2 2)] C I J R (fun o C3 I4 J5 R6 =>
      (∃ r7 : Int64, o = .inl (some (aJ r7)) ∧
      gK Γ (.inl (some (aJ r7))) C3 I4 J5 R6) ∨
      (∃ q8 : Nat, o = .inr q8 ∧
      ((C3 q8).1 = 11 ∧
      gK Γ (.inr q8) C3 I4 J5 R6)))) ∧
      (¬ (120 : Int32) < x3 →
      (C x2).1 = 4 ∧
      F_X3_by [aR (some x2), aI x3] C I J R (fun o C11 I12 J13 R14 =>
      ∃ r15 : Int64, o = .inl (some (aJ r15)) ∧
      (C11 x1).1 = 21 ∧
      vp_in x3 (C11 x1).2 ∧
      ∀ J18 : MJ, J18 = va_up J13 x1 (va_up (J13 x1) x3.toNatClampNeg ((J x2 2) - r15)) →
      Q7 x1 x2 (x3 + 1) C11 I12 J18 R14)))) :
    AW Γ 0 0 C I J R 7 [(1, aR (some x1)), (2, aR (some x2)), (3, aI x3)] [] := by
  have G0 := G.1
  refine aw_iload_n G0 2 rfl dX4_bounds_7 ?_
  refine aw_bipush (v := (120 : Int32)) G0 dX4_bounds_8 (by decide) ?_
  refine aw_icmp_gt G0 32 dX4_bounds_10 (by decide) (fun c1 => ?_) (fun c1 => ?_)
  · have h := h.1 c1
    refine aw_aload_n G0 1 rfl dX4_bounds_32 ?_
    obtain ⟨k2, h⟩ := h
    refine aw_getJ (f := 2) G0 (by rw [k2]; exact fb_X4_37) dX4_bounds_33 ?_
    refine aw_callSN (k1 := 0) (n1 := 0) (k2 := 1) (n2 := 6) (st := []) G0 S_X0_bounded q812 q800 q50 gw_X0_bounded md_X0_bounded (Nat.le_of_ble_eq_true rfl) (by decide) (by rw [G.2.1]; dsimp only [rmTb, rmBo, rmTo, rmLv, rmX0_bounded]; omega) (by rw [G.2.1]; dsimp only [rmTb, rmBo, rmTo, rmLv, rmX0_bounded]; omega) [aJ (J x2 2)] rfl rfl dX4_bounds_36 h (fun o C3 I4 J5 R6 h => ?_)
    rcases h with ⟨r7, rfl, h⟩ | ⟨q8, rfl, h⟩
    · show AW Γ 0 0 C3 I4 J5 R6 (36 + 3) [(1, aR (some x1)), (2, aR (some x2)), (3, aI x3)] [aJ r7]
      exact aw_lreturn G0 (by rw [G.2.2]; exact ⟨by decide, by decide⟩) (by rw [G.2.1]; exact ⟨Nat.zero_le _, Nat.zero_le _⟩) dX4_bounds_39 h
    · show AX Γ 1 6 C3 I4 J5 R6 36 [(1, aR (some x1)), (2, aR (some x2)), (3, aI x3)] q8
      obtain ⟨k9, h⟩ := h
      exact ax_out G0 rfl (Or.inr (Or.inl k9)) (by rw [G.2.2]; exact ⟨by decide, by decide⟩) (by rw [G.2.1]; exact ⟨Nat.le_refl 1, Nat.le_refl 6⟩) h
  · have h := h.2 c1
    refine aw_aload_n G0 0 rfl dX4_bounds_13 ?_
    refine aw_iload_n G0 2 rfl dX4_bounds_14 ?_
    refine aw_aload_n G0 1 rfl dX4_bounds_15 ?_
    obtain ⟨k10, h⟩ := h
    refine aw_getJ (f := 2) G0 (by rw [k10]; exact fb_X4_37) dX4_bounds_16 ?_
    refine aw_aload_n G0 1 rfl dX4_bounds_19 ?_
    refine aw_iload_n G0 2 rfl dX4_bounds_20 ?_
    refine aw_callV (k1 := 0) (n1 := 0) (k2 := 0) (n2 := 0) (st := [aJ (J x2 2), aI x3, aR (some x1)]) G0 S_X3_by gi_X4_41 (Or.inl (by rw [k10]; decide)) (by rw [k10]; rfl) md_X3_by (Nat.le_of_ble_eq_true rfl) (by decide) (by rw [G.2.1]; dsimp only [rmTb, rmBo, rmTo, rmLv, rmX3_by]; omega) (by rw [G.2.1]; dsimp only [rmTb, rmBo, rmTo, rmLv, rmX3_by]; omega) [aI x3] rfl rfl dX4_bounds_21 h (fun o C11 I12 J13 R14 h => ?_)
    obtain ⟨r15, rfl, h⟩ := h
    show AW Γ 0 0 C11 I12 J13 R14 (21 + 3) [(1, aR (some x1)), (2, aR (some x2)), (3, aI x3)] [aJ r15, aJ (J x2 2), aI x3, aR (some x1)]
    refine aw_lsub G0 dX4_bounds_24 ?_
    obtain ⟨k16, h⟩ := h
    obtain ⟨k17, h⟩ := h
    refine aw_last G0 k16 k17 dX4_bounds_25 ?_
    generalize gJ18 : va_up J13 x1 (va_up (J13 x1) x3.toNatClampNeg ((J x2 2) - r15)) = J18
    have h := h J18 gJ18.symm
    refine aw_iinc (v := x3 + 1) (lv' := [(3, aI (x3 + 1)), (1, aR (some x1)), (2, aR (some x2))]) G0 2 rfl rfl (by decide) rfl dX4_bounds_26 ?_
    refine aw_goto G0 7 dX4_bounds_29 (by decide) ?_
    exact (aw_lv [1, 2, 0] rfl (w7 x1 x2 (x3 + 1) C11 I12 J18 R14 h))
theorem bX4_asks_0 (G : Gb Γ yX4_asks cX4_asks 1 (some .int) [] rmX4_asks bdX4_asks) {x0 : Nat}
    (h : gK Γ (.inl (some (aI (1 : Int32)))) C I J R) :
    AW Γ 0 0 C I J R 0 [(0, aR (some x0))] [] := by
  have G0 := G.1
  refine aw_iconst (v := (1 : Int32)) G0 dX4_asks_0 (by decide) ?_
  exact aw_ireturn G0 (Or.inl rfl) (by rw [G.2.2]; decide) (by rw [G.2.1]; decide) dX4_asks_1 h
theorem bX5_init_0 (G : Gb Γ yX5_init cX5_init 2 (none) [] rmX5_init bdX5_init) {F_X4_init : SPF} (S_X4_init : SpX4_init (gL Γ) F_X4_init) {x0 : Nat} {x1 : Nat}
    (h : ∃ q1 : Nat, (C q1).1 = 0 ∧
      ∀ (C3 : MC) (I4 : MI) (J5 : MJ) (R6 : MR), C3 = va_up C q1 (26, 0) → I4 = va_up I q1 (fun _ => 0) → J5 = va_up J q1 (fun _ => 0) → R6 = va_up R q1 (fun _ => none) → 
      F_X4_init [aR (some x0), aR (some q1)] C3 I4 J5 R6 (fun o C7 I8 J9 R10 =>
      o = .inl none ∧
      ∃ q12 : Nat, (C7 q12).1 = 0 ∧
      ∀ (C14 : MC) (I15 : MI) (J16 : MJ) (R17 : MR), C14 = va_up C7 q12 (27, 3) → I15 = va_up I8 q12 (fun _ => 0) → J16 = va_up J9 q12 (fun _ => 0) → R17 = va_up R10 q12 (fun _ => none) → 
      (C14 x0).1 = 5 ∧
      ∀ R19 : MR, R19 = va_up R17 x0 (va_up (R17 x0) 6 (some q12)) →
      ∃ q20 : Nat, (C14 q20).1 = 0 ∧
      ∀ (C22 : MC) (I23 : MI) (J24 : MJ) (R25 : MR), C22 = va_up C14 q20 (20, 3) → I23 = va_up I15 q20 (fun _ => 0) → J24 = va_up J16 q20 (fun _ => 0) → R25 = va_up R19 q20 (fun _ => none) → 
      (C22 x0).1 = 5 ∧
      ∀ R27 : MR, R27 = va_up R25 x0 (va_up (R25 x0) 7 (some q20)) →
      ∀ I28 : MI, I28 = va_up I23 x0 (va_up (I23 x0) 8 (1 : Int32)) →
      ∀ I29 : MI, I29 = va_up I28 x0 (va_up (I28 x0) 10 (-1 : Int32)) →
      ∀ I30 : MI, I30 = va_up I29 x0 (va_up (I29 x0) 11 (-1 : Int32)) →
      ∃ q31 : Nat, R27 x0 6 = some q31 ∧
      (25 ≤ (C22 q31).1 ∧ (C22 q31).1 < 29) ∧
      kFit (C22 q31).1 (C22 x1).1 ∧
      vp_in (0 : Int32) (C22 q31).2 ∧
      ∀ R35 : MR, R35 = va_up R27 q31 (va_up (R27 q31) (0 : Int32).toNatClampNeg (some x1)) →
      gK Γ (.inl none) C22 I30 J24 R35)) :
    AW Γ 0 0 C I J R 0 [(0, aR (some x0)), (1, aR (some x1))] [] := by
  have G0 := G.1
  refine aw_aload_n G0 0 rfl dX5_init_0 ?_
  refine aw_iconst (v := (0 : Int32)) G0 dX5_init_1 (by decide) ?_
  obtain ⟨q1, z2, h⟩ := h
  refine aw_newqT (q := q1) (k' := 1) (n' := 0) (N := 0) G0 q360 (by decide) (by decide) (by decide) (by decide) (by decide) (by rw [G.2.1]; decide) (by rw [G.2.1]; decide) z2 dX5_init_2 ?_
  generalize gC3 : va_up C q1 (26, 0) = C3
  generalize gI4 : va_up I q1 (fun _ => 0) = I4
  generalize gJ5 : va_up J q1 (fun _ => 0) = J5
  generalize gR6 : va_up R q1 (fun _ => none) = R6
  have h := h C3 I4 J5 R6 gC3.symm gI4.symm gJ5.symm gR6.symm
  refine aw_callI (k1 := 7) (n1 := 490) (k2 := 1) (n2 := 0) (st := []) G0 S_X4_init gw_X4_init q63 q361 q362 rfl md_X4_init (Nat.le_of_ble_eq_true rfl) (by decide) (by rw [G.2.1]; decide) (by rw [G.2.1]; decide) [aR (some q1)] rfl rfl dX5_init_5 h (fun o C7 I8 J9 R10 h => ?_)
  obtain ⟨rfl, h⟩ := h
  show AW Γ 7 490 C7 I8 J9 R10 (5 + 3) [(0, aR (some x0)), (1, aR (some x1))] []
  refine aw_aload_n G0 0 rfl dX5_init_8 ?_
  refine aw_iconst (v := (3 : Int32)) G0 dX5_init_9 (by decide) ?_
  obtain ⟨q12, z13, h⟩ := h
  refine aw_newqB (q := q12) (k' := 8) (n' := 493) (N := 3) G0 q367 (by decide) (by decide) (by decide) (by decide) (by decide) (by rw [G.2.1]; decide) (by rw [G.2.1]; decide) z13 dX5_init_10 ?_
  generalize gC14 : va_up C7 q12 (27, 3) = C14
  generalize gI15 : va_up I8 q12 (fun _ => 0) = I15
  generalize gJ16 : va_up J9 q12 (fun _ => 0) = J16
  generalize gR17 : va_up R10 q12 (fun _ => none) = R17
  have h := h C14 I15 J16 R17 gC14.symm gI15.symm gJ16.symm gR17.symm
  obtain ⟨k18, h⟩ := h
  refine aw_putR (f := 6) G0 (by rw [k18]; exact fp_X5_11) dX5_init_13 ?_
  generalize gR19 : va_up R17 x0 (va_up (R17 x0) 6 (some q12)) = R19
  have h := h R19 gR19.symm
  refine aw_aload_n G0 0 rfl dX5_init_16 ?_
  refine aw_iconst (v := (3 : Int32)) G0 dX5_init_17 (by decide) ?_
  obtain ⟨q20, z21, h⟩ := h
  refine aw_newaI (q := q20) (k' := 9) (n' := 496) (N := 3) G0 (by decide) (by decide) (by decide) (by decide) (by decide) (by rw [G.2.1]; decide) (by rw [G.2.1]; decide) z21 dX5_init_18 ?_
  generalize gC22 : va_up C14 q20 (20, 3) = C22
  generalize gI23 : va_up I15 q20 (fun _ => 0) = I23
  generalize gJ24 : va_up J16 q20 (fun _ => 0) = J24
  generalize gR25 : va_up R19 q20 (fun _ => none) = R25
  have h := h C22 I23 J24 R25 gC22.symm gI23.symm gJ24.symm gR25.symm
  obtain ⟨k26, h⟩ := h
  refine aw_putR (f := 7) G0 (by rw [k26]; exact fp_X5_17) dX5_init_20 ?_
  generalize gR27 : va_up R25 x0 (va_up (R25 x0) 7 (some q20)) = R27
  have h := h R27 gR27.symm
  refine aw_aload_n G0 0 rfl dX5_init_23 ?_
  refine aw_iconst (v := (1 : Int32)) G0 dX5_init_24 (by decide) ?_
  refine aw_putI (f := 8) G0 (by rw [k26]; exact fp_X5_21 _) dX5_init_25 ?_
  generalize gI28 : va_up I23 x0 (va_up (I23 x0) 8 (1 : Int32)) = I28
  have h := h I28 gI28.symm
  refine aw_aload_n G0 0 rfl dX5_init_28 ?_
  refine aw_iconst (v := (-1 : Int32)) G0 dX5_init_29 (by decide) ?_
  refine aw_putI (f := 10) G0 (by rw [k26]; exact fp_X5_25 _) dX5_init_30 ?_
  generalize gI29 : va_up I28 x0 (va_up (I28 x0) 10 (-1 : Int32)) = I29
  have h := h I29 gI29.symm
  refine aw_aload_n G0 0 rfl dX5_init_33 ?_
  refine aw_iconst (v := (-1 : Int32)) G0 dX5_init_34 (by decide) ?_
  refine aw_putI (f := 11) G0 (by rw [k26]; exact fp_X5_28 _) dX5_init_35 ?_
  generalize gI30 : va_up I29 x0 (va_up (I29 x0) 11 (-1 : Int32)) = I30
  have h := h I30 gI30.symm
  refine aw_aload_n G0 0 rfl dX5_init_38 ?_
  refine aw_getR (f := 6) G0 (by rw [k26]; exact fb_X5_11) dX5_init_39 ?_
  refine aw_iconst (v := (0 : Int32)) G0 dX5_init_42 (by decide) ?_
  refine aw_aload_n G0 1 rfl dX5_init_43 ?_
  obtain ⟨q31, e31, h⟩ := h
  refine aw_dr2 e31 ?_
  obtain ⟨k32, h⟩ := h
  obtain ⟨k33, h⟩ := h
  obtain ⟨k34, h⟩ := h
  refine aw_aast G0 k32 (kFit_1 k33) (kFit_2 k33) k34 dX5_init_44 ?_
  generalize gR35 : va_up R27 q31 (va_up (R27 q31) (0 : Int32).toNatClampNeg (some x1)) = R35
  have h := h R35 gR35.symm
  exact aw_return G0 (by rw [G.2.2]; decide) (by rw [G.2.1]; decide) dX5_init_45 h
theorem bX5_kind_0 (G : Gb Γ yX5_kind cX5_kind 1 (some .int) [] rmX5_kind bdX5_kind) {x0 : Nat}
    (h : gK Γ (.inl (some (aI (0 : Int32)))) C I J R) :
    AW Γ 0 0 C I J R 0 [(0, aR (some x0))] [] := by
  have G0 := G.1
  refine aw_iconst (v := (0 : Int32)) G0 dX5_kind_0 (by decide) ?_
  exact aw_ireturn G0 (Or.inl rfl) (by rw [G.2.2]; decide) (by rw [G.2.1]; decide) dX5_kind_1 h
theorem bX5_leaves_0 {d : Nat} (G : Gb Γ yX5_leaves cX5_leaves 1 (some .int) [] (rmLv d) bdX5_leaves) {x0 : Nat}
    (h : gK Γ (.inl (some (aI (1 : Int32)))) C I J R) :
    AW Γ 0 0 C I J R 0 [(0, aR (some x0))] [] := by
  have G0 := G.1
  refine aw_iconst (v := (1 : Int32)) G0 dX5_leaves_0 (by decide) ?_
  exact aw_ireturn G0 (Or.inl rfl) (by rw [G.2.2]; exact ⟨by decide, by decide⟩) (by rw [G.2.1]; exact ⟨Nat.zero_le _, Nat.zero_le _⟩) dX5_leaves_1 h
theorem bX5_table_0 {d : Nat} (G : Gb Γ yX5_table cX5_table 1 (some (.object "TickShare$Table")) [] (rmTb d) bdX5_table) {x0 : Nat}
    (h : (C x0).1 = 5 ∧
      ∃ q2 : Nat, R x0 6 = some q2 ∧
      (25 ≤ (C q2).1 ∧ (C q2).1 < 30) ∧
      vp_in (I x0 9) (C q2).2 ∧
      gK Γ (.inl (some (aR (R q2 (I x0 9).toNatClampNeg)))) C I J R) :
    AW Γ 0 0 C I J R 0 [(0, aR (some x0))] [] := by
  have G0 := G.1
  refine aw_aload_n G0 0 rfl dX5_table_0 ?_
  obtain ⟨k1, h⟩ := h
  refine aw_getR (f := 6) G0 (by rw [k1]; exact fb_X5_11) dX5_table_1 ?_
  refine aw_aload_n G0 0 rfl dX5_table_4 ?_
  refine aw_getI (f := 9) G0 (by rw [k1]; exact fb_X5_31) dX5_table_5 ?_
  obtain ⟨q2, e2, h⟩ := h
  refine aw_dr1 e2 ?_
  obtain ⟨k3, h⟩ := h
  obtain ⟨k4, h⟩ := h
  refine aw_aald G0 k3 k4 dX5_table_8 ?_
  exact aw_areturn G0 ⟨_, rfl, rfl⟩ (by rw [G.2.2]; exact ⟨by decide, by decide⟩) (by rw [G.2.1]; exact ⟨Nat.zero_le _, Nat.zero_le _⟩) dX5_table_9 h
theorem bX6_init_0 (G : Gb Γ yX6_init cX6_init 2 (none) [] rmX6_init bdX6_init) {F_X4_init : SPF} (S_X4_init : SpX4_init (gL Γ) F_X4_init) {x0 : Nat} {x1 : Nat}
    (h : F_X4_init [aR (some x0), aR (some x1)] C I J R (fun o C1 I2 J3 R4 =>
      o = .inl none ∧
      (20 ≤ (C1 x1).1 ∧ (C1 x1).1 ≤ 30) ∧
      AW Γ 6 490 C1 I2 J3 R4 12 [(0, aR (some x0)), (1, aR (some x1))] [aI (121 : Int32), aI ((nI (C1 x1).2) + (1 : Int32)), aR (some x0)])) :
    AW Γ 0 0 C I J R 0 [(0, aR (some x0)), (1, aR (some x1))] [] := by
  have G0 := G.1
  refine aw_aload_n G0 0 rfl dX6_init_0 ?_
  refine aw_aload_n G0 1 rfl dX6_init_1 ?_
  refine aw_callI (k1 := 6) (n1 := 490) (k2 := 0) (n2 := 0) (st := []) G0 S_X4_init gw_X4_init q63 q466 q362 rfl md_X4_init (Nat.le_of_ble_eq_true rfl) (by decide) (by rw [G.2.1]; decide) (by rw [G.2.1]; decide) [aR (some x1)] rfl rfl dX6_init_2 h (fun o C1 I2 J3 R4 h => ?_)
  obtain ⟨rfl, h⟩ := h
  show AW Γ 6 490 C1 I2 J3 R4 (2 + 3) [(0, aR (some x0)), (1, aR (some x1))] []
  refine aw_aload_n G0 0 rfl dX6_init_5 ?_
  refine aw_aload_n G0 1 rfl dX6_init_6 ?_
  obtain ⟨k6, h⟩ := h
  refine aw_alen (v := nI (C1 x1).2) G0 k6 rfl dX6_init_7 ?_
  refine aw_iconst (v := (1 : Int32)) G0 dX6_init_8 (by decide) ?_
  refine aw_iadd G0 dX6_init_9 ?_
  refine aw_bipush (v := (121 : Int32)) G0 dX6_init_10 (by decide) ?_
  exact h
theorem bX6_kind_0 (G : Gb Γ yX6_kind cX6_kind 1 (some .int) [] rmX6_kind bdX6_kind) {x0 : Nat}
    (h : gK Γ (.inl (some (aI (1 : Int32)))) C I J R) :
    AW Γ 0 0 C I J R 0 [(0, aR (some x0))] [] := by
  have G0 := G.1
  refine aw_iconst (v := (1 : Int32)) G0 dX6_kind_0 (by decide) ?_
  exact aw_ireturn G0 (Or.inl rfl) (by rw [G.2.2]; decide) (by rw [G.2.1]; decide) dX6_kind_1 h
theorem bX6_table_0 {d : Nat} (G : Gb Γ yX6_table cX6_table 5 (some (.object "TickShare$Table")) [] (rmTb (d + 1)) bdX6_table) {F_Vtable : SPF} (S_Vtable : SpVtable (gL Γ) d F_Vtable)
    {Q12 : Nat → Nat → Int32 → MC → MI → MJ → MR → Prop} (w12 : ∀ (x0 : Nat) (x1 : Nat) (x2 : Int32) (C : MC) (I : MI) (J : MJ) (R : MR), Q12 x0 x1 x2 C I J R → AW Γ 0 0 C I J R 12 [(0, aR (some x0)), (1, aR (some x1)), (2, aI x2)] []) {x0 : Nat}
    (h : kRF (C x0).1 ∧
      ∃ q2 : Nat, R x0 0 = some q2 ∧
      (25 ≤ (C q2).1 ∧ (C q2).1 < 30) ∧
      vp_in (0 : Int32) (C q2).2 ∧
      ∃ q5 : Nat, R q2 (0 : Int32).toNatClampNeg = some q5 ∧
      kTh (C q5).1 ∧
      F_Vtable [aR (some q5)] C I J R (fun o C7 I8 J9 R10 =>
      (∃ r11 : Nat, o = .inl (some (aR (some r11))) ∧
      Q12 x0 r11 (1 : Int32) C7 I8 J9 R10) ∨
      (∃ q12 : Nat, o = .inr q12 ∧
      ((C7 q12).1 = 11 ∧
      gK Γ (.inr q12) C7 I8 J9 R10)))) :
    AW Γ 0 0 C I J R 0 [(0, aR (some x0))] [] := by
  have G0 := G.1
  refine aw_aload_n G0 0 rfl dX6_table_0 ?_
  obtain ⟨k1, h⟩ := h
  refine aw_getR (f := 0) G0 (fb_X6_20 _ k1) dX6_table_1 ?_
  refine aw_iconst (v := (0 : Int32)) G0 dX6_table_4 (by decide) ?_
  obtain ⟨q2, e2, h⟩ := h
  refine aw_dr1 e2 ?_
  obtain ⟨k3, h⟩ := h
  obtain ⟨k4, h⟩ := h
  refine aw_aald G0 k3 k4 dX6_table_5 ?_
  obtain ⟨q5, e5, h⟩ := h
  refine aw_dr0 e5 ?_
  obtain ⟨k6, h⟩ := h
  refine vc_X6_24 (k1 := 0) (n1 := 0) (k2 := 1) (n2 := 6) (st := []) G0 S_Vtable k6 (Nat.le_of_ble_eq_true rfl) (by decide) (by rw [G.2.1]; dsimp only [rmTb, rmBo, rmTo, rmLv, bdv]; omega) (by rw [G.2.1]; dsimp only [rmTb, rmBo, rmTo, rmLv, bdv]; omega) [] rfl rfl dX6_table_6 h (fun o C7 I8 J9 R10 h => ?_)
  rcases h with ⟨r11, rfl, h⟩ | ⟨q12, rfl, h⟩
  · show AW Γ 0 0 C7 I8 J9 R10 (6 + 3) [(0, aR (some x0))] [aR (some r11)]
    refine aw_astore_n (lv' := [(1, aR (some r11)), (0, aR (some x0))]) G0 (by decide) rfl dX6_table_9 ?_
    refine aw_iconst (v := (1 : Int32)) G0 dX6_table_10 (by decide) ?_
    refine aw_istore_n (lv' := [(2, aI (1 : Int32)), (1, aR (some r11)), (0, aR (some x0))]) G0 (by decide) rfl dX6_table_11 ?_
    exact (aw_lv [2, 1, 0] rfl (w12 x0 r11 (1 : Int32) C7 I8 J9 R10 h))
  · show AX Γ 1 6 C7 I8 J9 R10 6 [(0, aR (some x0))] q12
    obtain ⟨k13, h⟩ := h
    exact ax_out G0 rfl (Or.inr (Or.inl k13)) (by rw [G.2.2]; exact ⟨by decide, by decide⟩) (by rw [G.2.1]; exact ⟨Nat.le_refl 1, Nat.le_refl 6⟩) h
theorem bX6_table_12 {d : Nat} (G : Gb Γ yX6_table cX6_table 5 (some (.object "TickShare$Table")) [] (rmTb (d + 1)) bdX6_table) {F_X3_less : SPF} (S_X3_less : SpX3_less (gL Γ) F_X3_less) {F_Vtable : SPF} (S_Vtable : SpVtable (gL Γ) d F_Vtable)
    {Q48 : Nat → Nat → Int32 → Nat → Option Nat → MC → MI → MJ → MR → Prop} (w48 : ∀ (x0 : Nat) (x1 : Nat) (x2 : Int32) (x3 : Nat) (s0 : Option Nat) (C : MC) (I : MI) (J : MJ) (R : MR), Q48 x0 x1 x2 x3 s0 C I J R → AW Γ 0 0 C I J R 48 [(0, aR (some x0)), (1, aR (some x1)), (2, aI x2), (3, aR (some x3))] [aR s0]) {x0 : Nat} {x1 : Nat} {x2 : Int32}
    (h : kRF (C x0).1 ∧
      ∃ q2 : Nat, R x0 0 = some q2 ∧
      (20 ≤ (C q2).1 ∧ (C q2).1 ≤ 30) ∧
      (((nI (C q2).2) ≤ x2 →
      (C x1).1 = 4 ∧
      F_X3_less [aR (some x1)] C I J R (fun o C6 I7 J8 R9 =>
      ∃ r10 : Nat, o = .inl (some (aR (some r10))) ∧
      gK Γ (.inl (some (aR (some r10)))) C6 I7 J8 R9)) ∧
      (¬ (nI (C q2).2) ≤ x2 →
      (25 ≤ (C q2).1 ∧ (C q2).1 < 30) ∧
      vp_in x2 (C q2).2 ∧
      ∃ q13 : Nat, R q2 x2.toNatClampNeg = some q13 ∧
      kTh (C q13).1 ∧
      F_Vtable [aR (some q13)] C I J R (fun o C15 I16 J17 R18 =>
      (∃ r19 : Nat, o = .inl (some (aR (some r19))) ∧
      ((¬ (x2 - x2 / (2 : Int32) * (2 : Int32)) = 0 →
      kRF (C15 x0).1 ∧
      Q48 x0 x1 x2 r19 (R18 x0 1) C15 I16 J17 R18) ∧
      ((x2 - x2 / (2 : Int32) * (2 : Int32)) = 0 →
      kRF (C15 x0).1 ∧
      Q48 x0 x1 x2 r19 (R18 x0 2) C15 I16 J17 R18))) ∨
      (∃ q23 : Nat, o = .inr q23 ∧
      ((C15 q23).1 = 11 ∧
      gK Γ (.inr q23) C15 I16 J17 R18)))))) :
    AW Γ 0 0 C I J R 12 [(0, aR (some x0)), (1, aR (some x1)), (2, aI x2)] [] := by
  have G0 := G.1
  refine aw_iload_n G0 2 rfl dX6_table_12 ?_
  refine aw_aload_n G0 0 rfl dX6_table_13 ?_
  obtain ⟨k1, h⟩ := h
  refine aw_getR (f := 0) G0 (fb_X6_20 _ k1) dX6_table_14 ?_
  obtain ⟨q2, e2, h⟩ := h
  refine aw_dr0 e2 ?_
  obtain ⟨k3, h⟩ := h
  refine aw_alen (v := nI (C q2).2) G0 k3 rfl dX6_table_17 ?_
  refine aw_icmp_ge G0 81 dX6_table_18 (by decide) (fun c4 => ?_) (fun c4 => ?_)
  · have h := h.1 c4
    refine aw_aload_n G0 1 rfl dX6_table_81 ?_
    obtain ⟨k5, h⟩ := h
    refine aw_callV (k1 := 0) (n1 := 0) (k2 := 0) (n2 := 0) (st := []) G0 S_X3_less gi_X6_53 (Or.inl (by rw [k5]; decide)) (by rw [k5]; rfl) md_X3_less (Nat.le_of_ble_eq_true rfl) (by decide) (by rw [G.2.1]; dsimp only [rmTb, rmBo, rmTo, rmLv, rmX3_less]; omega) (by rw [G.2.1]; dsimp only [rmTb, rmBo, rmTo, rmLv, rmX3_less]; omega) [] rfl rfl dX6_table_82 h (fun o C6 I7 J8 R9 h => ?_)
    obtain ⟨r10, rfl, h⟩ := h
    show AW Γ 0 0 C6 I7 J8 R9 (82 + 3) [(0, aR (some x0)), (1, aR (some x1)), (2, aI x2)] [aR (some r10)]
    exact aw_areturn G0 ⟨_, rfl, rfl⟩ (by rw [G.2.2]; exact ⟨by decide, by decide⟩) (by rw [G.2.1]; exact ⟨Nat.zero_le _, Nat.zero_le _⟩) dX6_table_85 h
  · have h := h.2 c4
    refine aw_aload_n G0 0 rfl dX6_table_21 ?_
    refine aw_getR (f := 0) G0 (fb_X6_20 _ k1) dX6_table_22 ?_
    refine aw_iload_n G0 2 rfl dX6_table_25 ?_
    refine aw_dr1 e2 ?_
    obtain ⟨k11, h⟩ := h
    obtain ⟨k12, h⟩ := h
    refine aw_aald G0 k11 k12 dX6_table_26 ?_
    obtain ⟨q13, e13, h⟩ := h
    refine aw_dr0 e13 ?_
    obtain ⟨k14, h⟩ := h
    refine vc_X6_24 (k1 := 0) (n1 := 0) (k2 := 1) (n2 := 6) (st := []) G0 S_Vtable k14 (Nat.le_of_ble_eq_true rfl) (by decide) (by rw [G.2.1]; dsimp only [rmTb, rmBo, rmTo, rmLv, bdv]; omega) (by rw [G.2.1]; dsimp only [rmTb, rmBo, rmTo, rmLv, bdv]; omega) [] rfl rfl dX6_table_27 h (fun o C15 I16 J17 R18 h => ?_)
    rcases h with ⟨r19, rfl, h⟩ | ⟨q23, rfl, h⟩
    · show AW Γ 0 0 C15 I16 J17 R18 (27 + 3) [(0, aR (some x0)), (1, aR (some x1)), (2, aI x2)] [aR (some r19)]
      refine aw_astore_n (lv' := [(3, aR (some r19)), (0, aR (some x0)), (1, aR (some x1)), (2, aI x2)]) G0 (by decide) rfl dX6_table_30 ?_
      refine aw_iload_n G0 3 rfl dX6_table_31 ?_
      refine aw_iconst (v := (2 : Int32)) G0 dX6_table_32 (by decide) ?_
      refine aw_irem G0 (by decide) dX6_table_33 ?_
      refine aw_if_ne G0 44 dX6_table_34 (by decide) (fun c20 => ?_) (fun c20 => ?_)
      · have h := h.1 c20
        refine aw_aload_n G0 1 rfl dX6_table_44 ?_
        obtain ⟨k21, h⟩ := h
        refine aw_getR (f := 1) G0 (fb_X6_32 _ k21) dX6_table_45 ?_
        exact (aw_lv [1, 2, 3, 0] rfl (w48 x0 x1 x2 r19 (R18 x0 1) C15 I16 J17 R18 h))
      · have h := h.2 c20
        refine aw_aload_n G0 1 rfl dX6_table_37 ?_
        obtain ⟨k22, h⟩ := h
        refine aw_getR (f := 2) G0 (fb_X6_28 _ k22) dX6_table_38 ?_
        refine aw_goto G0 48 dX6_table_41 (by decide) ?_
        exact (aw_lv [1, 2, 3, 0] rfl (w48 x0 x1 x2 r19 (R18 x0 2) C15 I16 J17 R18 h))
    · show AX Γ 1 6 C15 I16 J17 R18 27 [(0, aR (some x0)), (1, aR (some x1)), (2, aI x2)] q23
      obtain ⟨k24, h⟩ := h
      exact ax_out G0 rfl (Or.inr (Or.inl k24)) (by rw [G.2.2]; exact ⟨by decide, by decide⟩) (by rw [G.2.1]; exact ⟨Nat.le_refl 1, Nat.le_refl 6⟩) h
theorem bX6_table_48 {d : Nat} (G : Gb Γ yX6_table cX6_table 5 (some (.object "TickShare$Table")) [] (rmTb (d + 1)) bdX6_table) {F_X0_times : SPF} (S_X0_times : SpX0_times (gL Γ) F_X0_times) {F_X3_anew : SPF} (S_X3_anew : SpX3_anew (gL Γ) F_X3_anew) {F_X0_fold : SPF} (S_X0_fold : SpX0_fold (gL Γ) F_X0_fold)
    {Q12 : Nat → Nat → Int32 → MC → MI → MJ → MR → Prop} (w12 : ∀ (x0 : Nat) (x1 : Nat) (x2 : Int32) (C : MC) (I : MI) (J : MJ) (R : MR), Q12 x0 x1 x2 C I J R → AW Γ 0 0 C I J R 12 [(0, aR (some x0)), (1, aR (some x1)), (2, aI x2)] []) {x0 : Nat} {x1 : Nat} {x2 : Int32} {x3 : Nat} {s0 : Option Nat}
    (h : (C x1).1 = 4 ∧
      (C x3).1 = 4 ∧
      F_X0_times [aJ (J x1 2), aJ (J x3 2)] C I J R (fun o C3 I4 J5 R6 =>
      (∃ r7 : Int64, o = .inl (some (aJ r7)) ∧
      ∃ q8 : Nat, s0 = some q8 ∧
      (C3 q8).1 = 4 ∧
      F_X3_anew [aR (some q8), aJ r7] C3 I4 J5 R6 (fun o C10 I11 J12 R13 =>
      ∃ r14 : Nat, o = .inl (some (aR (some r14))) ∧
      F_X0_fold [aR (some x1), aR (some x3), aJ (1 : Int64), aR (some r14)] C10 I11 J12 R13 (fun o C15 I16 J17 R18 =>
      (o = .inl none ∧
      Q12 x0 r14 (x2 + 1) C15 I16 J17 R18) ∨
      (∃ q20 : Nat, o = .inr q20 ∧
      ((C15 q20).1 = 11 ∧
      gK Γ (.inr q20) C15 I16 J17 R18))))) ∨
      (∃ q22 : Nat, o = .inr q22 ∧
      ((C3 q22).1 = 11 ∧
      gK Γ (.inr q22) C3 I4 J5 R6)))) :
    AW Γ 0 0 C I J R 48 [(0, aR (some x0)), (1, aR (some x1)), (2, aI x2), (3, aR (some x3))] [aR s0] := by
  have G0 := G.1
  refine aw_aload_n G0 1 rfl dX6_table_48 ?_
  obtain ⟨k1, h⟩ := h
  refine aw_getJ (f := 2) G0 (by rw [k1]; exact fb_X6_35) dX6_table_49 ?_
  refine aw_aload_n G0 3 rfl dX6_table_52 ?_
  obtain ⟨k2, h⟩ := h
  refine aw_getJ (f := 2) G0 (by rw [k2]; exact fb_X6_35) dX6_table_53 ?_
  refine aw_callSN (k1 := 0) (n1 := 0) (k2 := 1) (n2 := 6) (st := [aR s0]) G0 S_X0_times q657 q658 q50 gw_X0_times md_X0_times (Nat.le_of_ble_eq_true rfl) (by decide) (by rw [G.2.1]; dsimp only [rmTb, rmBo, rmTo, rmLv, rmX0_times]; omega) (by rw [G.2.1]; dsimp only [rmTb, rmBo, rmTo, rmLv, rmX0_times]; omega) [aJ (J x1 2), aJ (J x3 2)] rfl rfl dX6_table_56 h (fun o C3 I4 J5 R6 h => ?_)
  rcases h with ⟨r7, rfl, h⟩ | ⟨q22, rfl, h⟩
  · show AW Γ 0 0 C3 I4 J5 R6 (56 + 3) [(0, aR (some x0)), (1, aR (some x1)), (2, aI x2), (3, aR (some x3))] [aJ r7, aR s0]
    obtain ⟨q8, e8, h⟩ := h
    refine aw_dr1 e8 ?_
    obtain ⟨k9, h⟩ := h
    refine aw_callV (k1 := 0) (n1 := 0) (k2 := 0) (n2 := 0) (st := []) G0 S_X3_anew gi_X6_45 (Or.inl (by rw [k9]; decide)) (by rw [k9]; rfl) md_X3_anew (Nat.le_of_ble_eq_true rfl) (by decide) (by rw [G.2.1]; dsimp only [rmTb, rmBo, rmTo, rmLv, rmX3_anew]; omega) (by rw [G.2.1]; dsimp only [rmTb, rmBo, rmTo, rmLv, rmX3_anew]; omega) [aJ r7] rfl rfl dX6_table_59 h (fun o C10 I11 J12 R13 h => ?_)
    obtain ⟨r14, rfl, h⟩ := h
    show AW Γ 0 0 C10 I11 J12 R13 (59 + 3) [(0, aR (some x0)), (1, aR (some x1)), (2, aI x2), (3, aR (some x3))] [aR (some r14)]
    refine aw_astore (lv' := [(4, aR (some r14)), (0, aR (some x0)), (1, aR (some x1)), (2, aI x2), (3, aR (some x3))]) G0 (by decide) rfl dX6_table_62 ?_
    refine aw_aload_n G0 2 rfl dX6_table_64 ?_
    refine aw_aload_n G0 4 rfl dX6_table_65 ?_
    refine aw_lconst (v := (1 : Int64)) G0 dX6_table_66 (by decide) ?_
    refine aw_aload G0 0 rfl dX6_table_67 ?_
    refine aw_callSN (k1 := 0) (n1 := 0) (k2 := 1) (n2 := 6) (st := []) G0 S_X0_fold q679 q680 q50 gw_X0_fold md_X0_fold (Nat.le_of_ble_eq_true rfl) (by decide) (by rw [G.2.1]; dsimp only [rmTb, rmBo, rmTo, rmLv, rmX0_fold]; omega) (by rw [G.2.1]; dsimp only [rmTb, rmBo, rmTo, rmLv, rmX0_fold]; omega) [aR (some x1), aR (some x3), aJ (1 : Int64), aR (some r14)] rfl rfl dX6_table_69 h (fun o C15 I16 J17 R18 h => ?_)
    rcases h with ⟨rfl, h⟩ | ⟨q20, rfl, h⟩
    · show AW Γ 0 0 C15 I16 J17 R18 (69 + 3) [(4, aR (some r14)), (0, aR (some x0)), (1, aR (some x1)), (2, aI x2), (3, aR (some x3))] []
      refine aw_aload G0 0 rfl dX6_table_72 ?_
      refine aw_astore_n (lv' := [(1, aR (some r14)), (4, aR (some r14)), (0, aR (some x0)), (2, aI x2), (3, aR (some x3))]) G0 (by decide) rfl dX6_table_74 ?_
      refine aw_iinc (v := x2 + 1) (lv' := [(2, aI (x2 + 1)), (1, aR (some r14)), (4, aR (some r14)), (0, aR (some x0)), (3, aR (some x3))]) G0 3 rfl rfl (by decide) rfl dX6_table_75 ?_
      refine aw_goto G0 12 dX6_table_78 (by decide) ?_
      exact (aw_lv [3, 1, 0] rfl (w12 x0 r14 (x2 + 1) C15 I16 J17 R18 h))
    · show AX Γ 1 6 C15 I16 J17 R18 69 [(4, aR (some r14)), (0, aR (some x0)), (1, aR (some x1)), (2, aI x2), (3, aR (some x3))] q20
      obtain ⟨k21, h⟩ := h
      exact ax_out G0 rfl (Or.inr (Or.inl k21)) (by rw [G.2.2]; exact ⟨by decide, by decide⟩) (by rw [G.2.1]; exact ⟨Nat.le_refl 1, Nat.le_refl 6⟩) h
  · show AX Γ 1 6 C3 I4 J5 R6 56 [(0, aR (some x0)), (1, aR (some x1)), (2, aI x2), (3, aR (some x3))] q22
    obtain ⟨k23, h⟩ := h
    exact ax_out G0 rfl (Or.inr (Or.inl k23)) (by rw [G.2.2]; exact ⟨by decide, by decide⟩) (by rw [G.2.1]; exact ⟨Nat.le_refl 1, Nat.le_refl 6⟩) h
theorem bX6_tops_0 {d : Nat} (G : Gb Γ yX6_tops cX6_tops 5 (some (.array (.array (.long)))) [] (rmTo (d + 1)) bdX6_tops)
    {Q4 : Nat → Int64 → Int32 → MC → MI → MJ → MR → Prop} (w4 : ∀ (x0 : Nat) (x1 : Int64) (x3 : Int32) (C : MC) (I : MI) (J : MJ) (R : MR), Q4 x0 x1 x3 C I J R → AW Γ 0 0 C I J R 4 [(0, aR (some x0)), (1, aJ x1), (3, aI x3)] []) {x0 : Nat}
    (h : Q4 x0 (1 : Int64) (0 : Int32) C I J R) :
    AW Γ 0 0 C I J R 0 [(0, aR (some x0))] [] := by
  have G0 := G.1
  refine aw_lconst (v := (1 : Int64)) G0 dX6_tops_0 (by decide) ?_
  refine aw_lstore_n (lv' := [(1, aJ (1 : Int64)), (0, aR (some x0))]) G0 (by decide) rfl dX6_tops_1 ?_
  refine aw_iconst (v := (0 : Int32)) G0 dX6_tops_2 (by decide) ?_
  refine aw_istore_n (lv' := [(3, aI (0 : Int32)), (1, aJ (1 : Int64)), (0, aR (some x0))]) G0 (by decide) rfl dX6_tops_3 ?_
  exact (aw_lv [2, 1, 0] rfl (w4 x0 (1 : Int64) (0 : Int32) C I J R h))
theorem bX6_tops_4 {d : Nat} (G : Gb Γ yX6_tops cX6_tops 5 (some (.array (.array (.long)))) [] (rmTo (d + 1)) bdX6_tops) {F_Vbounds : SPF} (S_Vbounds : SpVbounds (gL Γ) d F_Vbounds) {F_X0_times : SPF} (S_X0_times : SpX0_times (gL Γ) F_X0_times) {F_X0_bounded : SPF} (S_X0_bounded : SpX0_bounded (gL Γ) F_X0_bounded)
    {Q4 : Nat → Int64 → Int32 → MC → MI → MJ → MR → Prop} (w4 : ∀ (x0 : Nat) (x1 : Int64) (x3 : Int32) (C : MC) (I : MI) (J : MJ) (R : MR), Q4 x0 x1 x3 C I J R → AW Γ 0 0 C I J R 4 [(0, aR (some x0)), (1, aJ x1), (3, aI x3)] [])
    {Q56 : Nat → Int64 → Int32 → MC → MI → MJ → MR → Prop} (w56 : ∀ (x0 : Nat) (x1 : Int64) (x3 : Int32) (C : MC) (I : MI) (J : MJ) (R : MR), Q56 x0 x1 x3 C I J R → AW Γ 0 0 C I J R 56 [(0, aR (some x0)), (1, aJ x1), (3, aI x3)] []) {x0 : Nat} {x1 : Int64} {x3 : Int32}
    (h : kRF (C x0).1 ∧
      ∃ q2 : Nat, R x0 0 = some q2 ∧
      (20 ≤ (C q2).1 ∧ (C q2).1 ≤ 30) ∧
      (((nI (C q2).2) ≤ x3 →
      Q56 x0 x1 (0 : Int32) C I J R) ∧
      (¬ (nI (C q2).2) ≤ x3 →
      (25 ≤ (C q2).1 ∧ (C q2).1 < 30) ∧
      vp_in x3 (C q2).2 ∧
      ∃ q7 : Nat, R x0 6 = some q7 ∧
      (25 ≤ (C q7).1 ∧ (C q7).1 < 30) ∧
      vp_in x3 (C q7).2 ∧
      ∃ q10 : Nat, R q2 x3.toNatClampNeg = some q10 ∧
      kTh (C q10).1 ∧
      F_Vbounds [aR (some q10), aR (R q7 x3.toNatClampNeg)] C I J R (fun o C12 I13 J14 R15 =>
      (∃ r16 : Int64, o = .inl (some (aJ r16)) ∧
      ∃ q17 : Nat, R x0 7 = some q17 ∧
      (C12 q17).1 = 21 ∧
      vp_in x3 (C12 q17).2 ∧
      ∀ J20 : MJ, J20 = va_up J14 q17 (va_up (J14 q17) x3.toNatClampNeg r16) →
      kRF (C12 x0).1 ∧
      ∃ q22 : Nat, R15 x0 7 = some q22 ∧
      (C12 q22).1 = 21 ∧
      vp_in x3 (C12 q22).2 ∧
      F_X0_times [aJ x1, aJ (J20 q22 x3.toNatClampNeg)] C12 I13 J20 R15 (fun o C25 I26 J27 R28 =>
      (∃ r29 : Int64, o = .inl (some (aJ r29)) ∧
      F_X0_bounded [aJ r29] C25 I26 J27 R28 (fun o C30 I31 J32 R33 =>
      (∃ r34 : Int64, o = .inl (some (aJ r34)) ∧
      Q4 x0 r34 (x3 + 1) C30 I31 J32 R33) ∨
      (∃ q35 : Nat, o = .inr q35 ∧
      ((C30 q35).1 = 11 ∧
      gK Γ (.inr q35) C30 I31 J32 R33)))) ∨
      (∃ q37 : Nat, o = .inr q37 ∧
      ((C25 q37).1 = 11 ∧
      gK Γ (.inr q37) C25 I26 J27 R28)))) ∨
      (∃ q39 : Nat, o = .inr q39 ∧
      ((C12 q39).1 = 11 ∧
      gK Γ (.inr q39) C12 I13 J14 R15)))))) :
    AW Γ 0 0 C I J R 4 [(0, aR (some x0)), (1, aJ x1), (3, aI x3)] [] := by
  have G0 := G.1
  refine aw_iload_n G0 2 rfl dX6_tops_4 ?_
  refine aw_aload_n G0 0 rfl dX6_tops_5 ?_
  obtain ⟨k1, h⟩ := h
  refine aw_getR (f := 0) G0 (fb_X6_20 _ k1) dX6_tops_6 ?_
  obtain ⟨q2, e2, h⟩ := h
  refine aw_dr0 e2 ?_
  obtain ⟨k3, h⟩ := h
  refine aw_alen (v := nI (C q2).2) G0 k3 rfl dX6_tops_9 ?_
  refine aw_icmp_ge G0 54 dX6_tops_10 (by decide) (fun c4 => ?_) (fun c4 => ?_)
  · have h := h.1 c4
    refine aw_iconst (v := (0 : Int32)) G0 dX6_tops_54 (by decide) ?_
    refine aw_istore_n (lv' := [(3, aI (0 : Int32)), (0, aR (some x0)), (1, aJ x1)]) G0 (by decide) rfl dX6_tops_55 ?_
    exact (aw_lv [1, 2, 0] rfl (w56 x0 x1 (0 : Int32) C I J R h))
  · have h := h.2 c4
    refine aw_aload_n G0 0 rfl dX6_tops_13 ?_
    refine aw_getR (f := 7) G0 (fb_X6_16 _ k1) dX6_tops_14 ?_
    refine aw_iload_n G0 2 rfl dX6_tops_17 ?_
    refine aw_aload_n G0 0 rfl dX6_tops_18 ?_
    refine aw_getR (f := 0) G0 (fb_X6_20 _ k1) dX6_tops_19 ?_
    refine aw_iload_n G0 2 rfl dX6_tops_22 ?_
    refine aw_dr1 e2 ?_
    obtain ⟨k5, h⟩ := h
    obtain ⟨k6, h⟩ := h
    refine aw_aald G0 k5 k6 dX6_tops_23 ?_
    refine aw_aload_n G0 0 rfl dX6_tops_24 ?_
    refine aw_getR (f := 6) G0 (fb_X6_11 _ k1) dX6_tops_25 ?_
    refine aw_iload_n G0 2 rfl dX6_tops_28 ?_
    obtain ⟨q7, e7, h⟩ := h
    refine aw_dr1 e7 ?_
    obtain ⟨k8, h⟩ := h
    obtain ⟨k9, h⟩ := h
    refine aw_aald G0 k8 k9 dX6_tops_29 ?_
    obtain ⟨q10, e10, h⟩ := h
    refine aw_dr1 e10 ?_
    obtain ⟨k11, h⟩ := h
    refine vc_X6_56 (k1 := 0) (n1 := 0) (k2 := 1) (n2 := 6) (st := [aI x3, aR (R x0 7)]) G0 S_Vbounds k11 (Nat.le_of_ble_eq_true rfl) (by decide) (by rw [G.2.1]; dsimp only [rmTb, rmBo, rmTo, rmLv, bdv]; omega) (by rw [G.2.1]; dsimp only [rmTb, rmBo, rmTo, rmLv, bdv]; omega) [aR (R q7 x3.toNatClampNeg)] rfl rfl dX6_tops_30 h (fun o C12 I13 J14 R15 h => ?_)
    rcases h with ⟨r16, rfl, h⟩ | ⟨q39, rfl, h⟩
    · show AW Γ 0 0 C12 I13 J14 R15 (30 + 3) [(0, aR (some x0)), (1, aJ x1), (3, aI x3)] [aJ r16, aI x3, aR (R x0 7)]
      obtain ⟨q17, e17, h⟩ := h
      refine aw_dr2 e17 ?_
      obtain ⟨k18, h⟩ := h
      obtain ⟨k19, h⟩ := h
      refine aw_last G0 k18 k19 dX6_tops_33 ?_
      generalize gJ20 : va_up J14 q17 (va_up (J14 q17) x3.toNatClampNeg r16) = J20
      have h := h J20 gJ20.symm
      refine aw_lload_n G0 1 rfl dX6_tops_34 ?_
      refine aw_aload_n G0 0 rfl dX6_tops_35 ?_
      obtain ⟨k21, h⟩ := h
      refine aw_getR (f := 7) G0 (fb_X6_16 _ k21) dX6_tops_36 ?_
      refine aw_iload_n G0 2 rfl dX6_tops_39 ?_
      obtain ⟨q22, e22, h⟩ := h
      refine aw_dr1 e22 ?_
      obtain ⟨k23, h⟩ := h
      obtain ⟨k24, h⟩ := h
      refine aw_lald G0 k23 k24 dX6_tops_40 ?_
      refine aw_callSN (k1 := 0) (n1 := 0) (k2 := 1) (n2 := 6) (st := []) G0 S_X0_times q657 q658 q50 gw_X0_times md_X0_times (Nat.le_of_ble_eq_true rfl) (by decide) (by rw [G.2.1]; dsimp only [rmTb, rmBo, rmTo, rmLv, rmX0_times]; omega) (by rw [G.2.1]; dsimp only [rmTb, rmBo, rmTo, rmLv, rmX0_times]; omega) [aJ x1, aJ (J20 q22 x3.toNatClampNeg)] rfl rfl dX6_tops_41 h (fun o C25 I26 J27 R28 h => ?_)
      rcases h with ⟨r29, rfl, h⟩ | ⟨q37, rfl, h⟩
      · show AW Γ 0 0 C25 I26 J27 R28 (41 + 3) [(0, aR (some x0)), (1, aJ x1), (3, aI x3)] [aJ r29]
        refine aw_callSN (k1 := 0) (n1 := 0) (k2 := 1) (n2 := 6) (st := []) G0 S_X0_bounded q799 q800 q50 gw_X0_bounded md_X0_bounded (Nat.le_of_ble_eq_true rfl) (by decide) (by rw [G.2.1]; dsimp only [rmTb, rmBo, rmTo, rmLv, rmX0_bounded]; omega) (by rw [G.2.1]; dsimp only [rmTb, rmBo, rmTo, rmLv, rmX0_bounded]; omega) [aJ r29] rfl rfl dX6_tops_44 h (fun o C30 I31 J32 R33 h => ?_)
        rcases h with ⟨r34, rfl, h⟩ | ⟨q35, rfl, h⟩
        · show AW Γ 0 0 C30 I31 J32 R33 (44 + 3) [(0, aR (some x0)), (1, aJ x1), (3, aI x3)] [aJ r34]
          refine aw_lstore_n (lv' := [(1, aJ r34), (0, aR (some x0)), (3, aI x3)]) G0 (by decide) rfl dX6_tops_47 ?_
          refine aw_iinc (v := x3 + 1) (lv' := [(3, aI (x3 + 1)), (1, aJ r34), (0, aR (some x0))]) G0 2 rfl rfl (by decide) rfl dX6_tops_48 ?_
          refine aw_goto G0 4 dX6_tops_51 (by decide) ?_
          exact (aw_lv [2, 1, 0] rfl (w4 x0 r34 (x3 + 1) C30 I31 J32 R33 h))
        · show AX Γ 1 6 C30 I31 J32 R33 44 [(0, aR (some x0)), (1, aJ x1), (3, aI x3)] q35
          obtain ⟨k36, h⟩ := h
          exact ax_out G0 rfl (Or.inr (Or.inl k36)) (by rw [G.2.2]; exact ⟨by decide, by decide⟩) (by rw [G.2.1]; exact ⟨Nat.le_refl 1, Nat.le_refl 6⟩) h
      · show AX Γ 1 6 C25 I26 J27 R28 41 [(0, aR (some x0)), (1, aJ x1), (3, aI x3)] q37
        obtain ⟨k38, h⟩ := h
        exact ax_out G0 rfl (Or.inr (Or.inl k38)) (by rw [G.2.2]; exact ⟨by decide, by decide⟩) (by rw [G.2.1]; exact ⟨Nat.le_refl 1, Nat.le_refl 6⟩) h
    · show AX Γ 1 6 C12 I13 J14 R15 30 [(0, aR (some x0)), (1, aJ x1), (3, aI x3)] q39
      obtain ⟨k40, h⟩ := h
      exact ax_out G0 rfl (Or.inr (Or.inl k40)) (by rw [G.2.2]; exact ⟨by decide, by decide⟩) (by rw [G.2.1]; exact ⟨Nat.le_refl 1, Nat.le_refl 6⟩) h
theorem bX6_tops_56 {d : Nat} (G : Gb Γ yX6_tops cX6_tops 5 (some (.array (.array (.long)))) [] (rmTo (d + 1)) bdX6_tops)
    {Q68 : Nat → Int64 → Int32 → Int32 → MC → MI → MJ → MR → Prop} (w68 : ∀ (x0 : Nat) (x1 : Int64) (x3 : Int32) (x4 : Int32) (C : MC) (I : MI) (J : MJ) (R : MR), Q68 x0 x1 x3 x4 C I J R → AW Γ 0 0 C I J R 68 [(0, aR (some x0)), (1, aJ x1), (3, aI x3), (4, aI x4)] []) {x0 : Nat} {x1 : Int64} {x3 : Int32}
    (h : kRF (C x0).1 ∧
      ∃ q2 : Nat, R x0 0 = some q2 ∧
      (20 ≤ (C q2).1 ∧ (C q2).1 ≤ 30) ∧
      (((nI (C q2).2) ≤ x3 →
      ∃ q5 : Nat, R x0 6 = some q5 ∧
      (25 ≤ (C q5).1 ∧ (C q5).1 < 30) ∧
      vp_in (nI (C q2).2) (C q5).2 ∧
      ∃ q8 : Nat, R q5 (nI (C q2).2).toNatClampNeg = some q8 ∧
      (C q8).1 = 21 ∧
      vp_in (0 : Int32) (C q8).2 ∧
      ∀ J11 : MJ, J11 = va_up J q8 (va_up (J q8) (0 : Int32).toNatClampNeg x1) →
      gK Γ (.inl (some (aR (R x0 6)))) C I J11 R) ∧
      (¬ (nI (C q2).2) ≤ x3 →
      Q68 x0 x1 x3 (0 : Int32) C I J R))) :
    AW Γ 0 0 C I J R 56 [(0, aR (some x0)), (1, aJ x1), (3, aI x3)] [] := by
  have G0 := G.1
  refine aw_iload_n G0 2 rfl dX6_tops_56 ?_
  refine aw_aload_n G0 0 rfl dX6_tops_57 ?_
  obtain ⟨k1, h⟩ := h
  refine aw_getR (f := 0) G0 (fb_X6_20 _ k1) dX6_tops_58 ?_
  obtain ⟨q2, e2, h⟩ := h
  refine aw_dr0 e2 ?_
  obtain ⟨k3, h⟩ := h
  refine aw_alen (v := nI (C q2).2) G0 k3 rfl dX6_tops_61 ?_
  refine aw_icmp_ge G0 107 dX6_tops_62 (by decide) (fun c4 => ?_) (fun c4 => ?_)
  · have h := h.1 c4
    refine aw_aload_n G0 0 rfl dX6_tops_107 ?_
    refine aw_getR (f := 6) G0 (fb_X6_11 _ k1) dX6_tops_108 ?_
    refine aw_aload_n G0 0 rfl dX6_tops_111 ?_
    refine aw_getR (f := 0) G0 (fb_X6_20 _ k1) dX6_tops_112 ?_
    refine aw_dr0 e2 ?_
    refine aw_alen (v := nI (C q2).2) G0 k3 rfl dX6_tops_115 ?_
    obtain ⟨q5, e5, h⟩ := h
    refine aw_dr1 e5 ?_
    obtain ⟨k6, h⟩ := h
    obtain ⟨k7, h⟩ := h
    refine aw_aald G0 k6 k7 dX6_tops_116 ?_
    refine aw_iconst (v := (0 : Int32)) G0 dX6_tops_117 (by decide) ?_
    refine aw_lload_n G0 1 rfl dX6_tops_118 ?_
    obtain ⟨q8, e8, h⟩ := h
    refine aw_dr2 e8 ?_
    obtain ⟨k9, h⟩ := h
    obtain ⟨k10, h⟩ := h
    refine aw_last G0 k9 k10 dX6_tops_119 ?_
    generalize gJ11 : va_up J q8 (va_up (J q8) (0 : Int32).toNatClampNeg x1) = J11
    have h := h J11 gJ11.symm
    refine aw_aload_n G0 0 rfl dX6_tops_120 ?_
    refine aw_getR (f := 6) G0 (fb_X6_11 _ k1) dX6_tops_121 ?_
    exact aw_areturn G0 ⟨_, rfl, rfl⟩ (by rw [G.2.2]; exact ⟨by decide, by decide⟩) (by rw [G.2.1]; exact ⟨Nat.zero_le _, Nat.zero_le _⟩) dX6_tops_124 h
  · have h := h.2 c4
    refine aw_iconst (v := (0 : Int32)) G0 dX6_tops_65 (by decide) ?_
    refine aw_istore (lv' := [(4, aI (0 : Int32)), (0, aR (some x0)), (1, aJ x1), (3, aI x3)]) G0 (by decide) rfl dX6_tops_66 ?_
    exact (aw_lv [1, 2, 3, 0] rfl (w68 x0 x1 x3 (0 : Int32) C I J R h))
theorem bX6_tops_68 {d : Nat} (G : Gb Γ yX6_tops cX6_tops 5 (some (.array (.array (.long)))) [] (rmTo (d + 1)) bdX6_tops)
    {Q56 : Nat → Int64 → Int32 → MC → MI → MJ → MR → Prop} (w56 : ∀ (x0 : Nat) (x1 : Int64) (x3 : Int32) (C : MC) (I : MI) (J : MJ) (R : MR), Q56 x0 x1 x3 C I J R → AW Γ 0 0 C I J R 56 [(0, aR (some x0)), (1, aJ x1), (3, aI x3)] [])
    {Q68 : Nat → Int64 → Int32 → Int32 → MC → MI → MJ → MR → Prop} (w68 : ∀ (x0 : Nat) (x1 : Int64) (x3 : Int32) (x4 : Int32) (C : MC) (I : MI) (J : MJ) (R : MR), Q68 x0 x1 x3 x4 C I J R → AW Γ 0 0 C I J R 68 [(0, aR (some x0)), (1, aJ x1), (3, aI x3), (4, aI x4)] []) {x0 : Nat} {x1 : Int64} {x3 : Int32} {x4 : Int32}
    (h : (((120 : Int32) < x4 →
      Q56 x0 x1 (x3 + 1) C I J R) ∧
      (¬ (120 : Int32) < x4 →
      kRF (C x0).1 ∧
      ∃ q3 : Nat, R x0 6 = some q3 ∧
      (25 ≤ (C q3).1 ∧ (C q3).1 < 30) ∧
      vp_in x3 (C q3).2 ∧
      ∃ q6 : Nat, R q3 x3.toNatClampNeg = some q6 ∧
      (C q6).1 = 21 ∧
      vp_in x4 (C q6).2 ∧
      ∃ q9 : Nat, R x0 7 = some q9 ∧
      (C q9).1 = 21 ∧
      vp_in x3 (C q9).2 ∧
      ¬ (J q9 x3.toNatClampNeg) = 0 ∧
      ∀ J13 : MJ, J13 = va_up J q6 (va_up (J q6) x4.toNatClampNeg ((J q6 x4.toNatClampNeg) * (x1 / (J q9 x3.toNatClampNeg)))) →
      Q68 x0 x1 x3 (x4 + 1) C I J13 R))) :
    AW Γ 0 0 C I J R 68 [(0, aR (some x0)), (1, aJ x1), (3, aI x3), (4, aI x4)] [] := by
  have G0 := G.1
  refine aw_iload G0 3 rfl dX6_tops_68 ?_
  refine aw_bipush (v := (120 : Int32)) G0 dX6_tops_70 (by decide) ?_
  refine aw_icmp_gt G0 101 dX6_tops_72 (by decide) (fun c1 => ?_) (fun c1 => ?_)
  · have h := h.1 c1
    refine aw_iinc (v := x3 + 1) (lv' := [(3, aI (x3 + 1)), (0, aR (some x0)), (1, aJ x1), (4, aI x4)]) G0 2 rfl rfl (by decide) rfl dX6_tops_101 ?_
    refine aw_goto G0 56 dX6_tops_104 (by decide) ?_
    exact (aw_lv [1, 2, 0] rfl (w56 x0 x1 (x3 + 1) C I J R h))
  · have h := h.2 c1
    refine aw_aload_n G0 0 rfl dX6_tops_75 ?_
    obtain ⟨k2, h⟩ := h
    refine aw_getR (f := 6) G0 (fb_X6_11 _ k2) dX6_tops_76 ?_
    refine aw_iload_n G0 2 rfl dX6_tops_79 ?_
    obtain ⟨q3, e3, h⟩ := h
    refine aw_dr1 e3 ?_
    obtain ⟨k4, h⟩ := h
    obtain ⟨k5, h⟩ := h
    refine aw_aald G0 k4 k5 dX6_tops_80 ?_
    refine aw_iload G0 3 rfl dX6_tops_81 ?_
    refine aw_dup2IR G0 dX6_tops_83 ?_
    obtain ⟨q6, e6, h⟩ := h
    refine aw_dr1 e6 ?_
    obtain ⟨k7, h⟩ := h
    obtain ⟨k8, h⟩ := h
    refine aw_lald G0 k7 k8 dX6_tops_84 ?_
    refine aw_lload_n G0 1 rfl dX6_tops_85 ?_
    refine aw_aload_n G0 0 rfl dX6_tops_86 ?_
    refine aw_getR (f := 7) G0 (fb_X6_16 _ k2) dX6_tops_87 ?_
    refine aw_iload_n G0 2 rfl dX6_tops_90 ?_
    obtain ⟨q9, e9, h⟩ := h
    refine aw_dr1 e9 ?_
    obtain ⟨k10, h⟩ := h
    obtain ⟨k11, h⟩ := h
    refine aw_lald G0 k10 k11 dX6_tops_91 ?_
    obtain ⟨k12, h⟩ := h
    refine aw_ldiv G0 k12 dX6_tops_92 ?_
    refine aw_lmul G0 dX6_tops_93 ?_
    refine aw_dr2 e6 ?_
    refine aw_last G0 k7 k8 dX6_tops_94 ?_
    generalize gJ13 : va_up J q6 (va_up (J q6) x4.toNatClampNeg ((J q6 x4.toNatClampNeg) * (x1 / (J q9 x3.toNatClampNeg)))) = J13
    have h := h J13 gJ13.symm
    refine aw_iinc (v := x4 + 1) (lv' := [(4, aI (x4 + 1)), (0, aR (some x0)), (1, aJ x1), (3, aI x3)]) G0 3 rfl rfl (by decide) rfl dX6_tops_95 ?_
    refine aw_goto G0 68 dX6_tops_98 (by decide) ?_
    exact (aw_lv [1, 2, 3, 0] rfl (w68 x0 x1 x3 (x4 + 1) C I J13 R h))
theorem bX6_bounds_0 {d : Nat} (G : Gb Γ yX6_bounds cX6_bounds 10 (some .long) [] (rmBo (d + 1)) bdX6_bounds) {F_X6_tops : SPF} (S_X6_tops : SpX6_tops (gL Γ) (d + 1) F_X6_tops)
    {Q29 : Nat → Nat → Nat → Int64 → Int32 → MC → MI → MJ → MR → Prop} (w29 : ∀ (x0 : Nat) (x1 : Nat) (x2 : Nat) (x3 : Int64) (x5 : Int32) (C : MC) (I : MI) (J : MJ) (R : MR), Q29 x0 x1 x2 x3 x5 C I J R → AW Γ 0 0 C I J R 29 [(0, aR (some x0)), (1, aR (some x1)), (2, aR (some x2)), (3, aJ x3), (5, aI x5)] []) {x0 : Nat} {x1 : Nat}
    (h : (C x0).1 = 6 ∧
      F_X6_tops [aR (some x0)] C I J R (fun o C2 I3 J4 R5 =>
      (∃ r6 : Nat, o = .inl (some (aR (some r6))) ∧
      kRF (C2 x0).1 ∧
      ∃ q8 : Nat, R5 x0 0 = some q8 ∧
      (20 ≤ (C2 q8).1 ∧ (C2 q8).1 ≤ 30) ∧
      (25 ≤ (C2 r6).1 ∧ (C2 r6).1 < 30) ∧
      vp_in (nI (C2 q8).2) (C2 r6).2 ∧
      ∃ q12 : Nat, R5 r6 (nI (C2 q8).2).toNatClampNeg = some q12 ∧
      (C2 q12).1 = 21 ∧
      vp_in (0 : Int32) (C2 q12).2 ∧
      vp_in (0 : Int32) (C2 r6).2 ∧
      ∃ q16 : Nat, R5 r6 (0 : Int32).toNatClampNeg = some q16 ∧
      (C2 q16).1 = 21 ∧
      (C2 x1).1 = 21 ∧
      (0 : Int32).toNatClampNeg + (121 : Int32).toNatClampNeg ≤ (C2 q16).2 ∧
      (0 : Int32).toNatClampNeg + (121 : Int32).toNatClampNeg ≤ (C2 x1).2 ∧
      ∀ J21 : MJ, J21 = va_up J4 x1 (va_cpy (J4 q16) (J4 x1) (0 : Int32).toNatClampNeg (0 : Int32).toNatClampNeg (121 : Int32).toNatClampNeg) →
      Q29 x0 x1 r6 (J4 q12 (0 : Int32).toNatClampNeg) (1 : Int32) C2 I3 J21 R5) ∨
      (∃ q22 : Nat, o = .inr q22 ∧
      ((C2 q22).1 = 11 ∧
      gK Γ (.inr q22) C2 I3 J4 R5)))) :
    AW Γ 0 0 C I J R 0 [(0, aR (some x0)), (1, aR (some x1))] [] := by
  have G0 := G.1
  refine aw_aload_n G0 0 rfl dX6_bounds_0 ?_
  obtain ⟨k1, h⟩ := h
  refine aw_callV (k1 := 0) (n1 := 0) (k2 := 1) (n2 := 6) (st := []) G0 S_X6_tops gi_X6_64 (Or.inl (by rw [k1]; decide)) (by rw [k1]; rfl) md_X6_tops (Nat.le_of_ble_eq_true rfl) (by decide) (by rw [G.2.1]; dsimp only [rmTb, rmBo, rmTo, rmLv, bdv]; omega) (by rw [G.2.1]; dsimp only [rmTb, rmBo, rmTo, rmLv, bdv]; omega) [] rfl rfl dX6_bounds_1 h (fun o C2 I3 J4 R5 h => ?_)
  rcases h with ⟨r6, rfl, h⟩ | ⟨q22, rfl, h⟩
  · show AW Γ 0 0 C2 I3 J4 R5 (1 + 3) [(0, aR (some x0)), (1, aR (some x1))] [aR (some r6)]
    refine aw_astore_n (lv' := [(2, aR (some r6)), (0, aR (some x0)), (1, aR (some x1))]) G0 (by decide) rfl dX6_bounds_4 ?_
    refine aw_aload_n G0 0 rfl dX6_bounds_5 ?_
    refine aw_aload_n G0 1 rfl dX6_bounds_6 ?_
    obtain ⟨k7, h⟩ := h
    refine aw_getR (f := 0) G0 (fb_X6_20 _ k7) dX6_bounds_7 ?_
    obtain ⟨q8, e8, h⟩ := h
    refine aw_dr0 e8 ?_
    obtain ⟨k9, h⟩ := h
    refine aw_alen (v := nI (C2 q8).2) G0 k9 rfl dX6_bounds_10 ?_
    obtain ⟨k10, h⟩ := h
    obtain ⟨k11, h⟩ := h
    refine aw_aald G0 k10 k11 dX6_bounds_11 ?_
    refine aw_iconst (v := (0 : Int32)) G0 dX6_bounds_12 (by decide) ?_
    obtain ⟨q12, e12, h⟩ := h
    refine aw_dr1 e12 ?_
    obtain ⟨k13, h⟩ := h
    obtain ⟨k14, h⟩ := h
    refine aw_lald G0 k13 k14 dX6_bounds_13 ?_
    refine aw_lstore_n (lv' := [(3, aJ (J4 q12 (0 : Int32).toNatClampNeg)), (2, aR (some r6)), (0, aR (some x0)), (1, aR (some x1))]) G0 (by decide) rfl dX6_bounds_14 ?_
    refine aw_aload_n G0 1 rfl dX6_bounds_15 ?_
    refine aw_iconst (v := (0 : Int32)) G0 dX6_bounds_16 (by decide) ?_
    obtain ⟨k15, h⟩ := h
    refine aw_aald G0 k10 k15 dX6_bounds_17 ?_
    refine aw_iconst (v := (0 : Int32)) G0 dX6_bounds_18 (by decide) ?_
    refine aw_aload_n G0 3 rfl dX6_bounds_19 ?_
    refine aw_iconst (v := (0 : Int32)) G0 dX6_bounds_20 (by decide) ?_
    refine aw_bipush (v := (121 : Int32)) G0 dX6_bounds_21 (by decide) ?_
    obtain ⟨q16, e16, h⟩ := h
    refine aw_dr4 e16 ?_
    obtain ⟨k17, h⟩ := h
    obtain ⟨k18, h⟩ := h
    obtain ⟨k19, h⟩ := h
    obtain ⟨k20, h⟩ := h
    refine aw_copyJ G0 q794 k17 k18 (by decide) (by decide) (by decide) k19 k20 (by rw [G.2.1]; dsimp only [rmTb, rmBo, rmTo, rmLv]; omega) (by rw [G.2.1]; have h9 := nfw; dsimp only [rmTb, rmBo, rmTo, rmLv]; simp only [List.map_nil, List.map_cons, List.sum_nil, List.sum_cons, acat]; omega) dX6_bounds_23 ?_
    generalize gJ21 : va_up J4 x1 (va_cpy (J4 q16) (J4 x1) (0 : Int32).toNatClampNeg (0 : Int32).toNatClampNeg (121 : Int32).toNatClampNeg) = J21
    have h := h J21 gJ21.symm
    refine aw_iconst (v := (1 : Int32)) G0 dX6_bounds_26 (by decide) ?_
    refine aw_istore (lv' := [(5, aI (1 : Int32)), (3, aJ (J4 q12 (0 : Int32).toNatClampNeg)), (2, aR (some r6)), (0, aR (some x0)), (1, aR (some x1))]) G0 (by decide) rfl dX6_bounds_27 ?_
    exact (aw_lv [3, 4, 2, 1, 0] rfl (w29 x0 x1 r6 (J4 q12 (0 : Int32).toNatClampNeg) (1 : Int32) C2 I3 J21 R5 h))
  · show AX Γ 1 6 C2 I3 J4 R5 1 [(0, aR (some x0)), (1, aR (some x1))] q22
    obtain ⟨k23, h⟩ := h
    exact ax_out G0 rfl (Or.inr (Or.inl k23)) (by rw [G.2.2]; exact ⟨by decide, by decide⟩) (by rw [G.2.1]; exact ⟨Nat.le_refl 1, Nat.le_refl 6⟩) h
theorem bX6_bounds_29 {d : Nat} (G : Gb Γ yX6_bounds cX6_bounds 10 (some .long) [] (rmBo (d + 1)) bdX6_bounds)
    {Q43 : Nat → Nat → Nat → Int64 → Int32 → Int32 → MC → MI → MJ → MR → Prop} (w43 : ∀ (x0 : Nat) (x1 : Nat) (x2 : Nat) (x3 : Int64) (x5 : Int32) (x6 : Int32) (C : MC) (I : MI) (J : MJ) (R : MR), Q43 x0 x1 x2 x3 x5 x6 C I J R → AW Γ 0 0 C I J R 43 [(0, aR (some x0)), (1, aR (some x1)), (2, aR (some x2)), (3, aJ x3), (5, aI x5), (6, aI x6)] [])
    {Q112 : Nat → Int64 → Int32 → MC → MI → MJ → MR → Prop} (w112 : ∀ (x1 : Nat) (x3 : Int64) (x5 : Int32) (C : MC) (I : MI) (J : MJ) (R : MR), Q112 x1 x3 x5 C I J R → AW Γ 0 0 C I J R 112 [(1, aR (some x1)), (3, aJ x3), (5, aI x5)] []) {x0 : Nat} {x1 : Nat} {x2 : Nat} {x3 : Int64} {x5 : Int32}
    (h : kRF (C x0).1 ∧
      ∃ q2 : Nat, R x0 0 = some q2 ∧
      (20 ≤ (C q2).1 ∧ (C q2).1 ≤ 30) ∧
      (((nI (C q2).2) ≤ x5 →
      Q112 x1 x3 (0 : Int32) C I J R) ∧
      (¬ (nI (C q2).2) ≤ x5 →
      Q43 x0 x1 x2 x3 x5 (120 : Int32) C I J R))) :
    AW Γ 0 0 C I J R 29 [(0, aR (some x0)), (1, aR (some x1)), (2, aR (some x2)), (3, aJ x3), (5, aI x5)] [] := by
  have G0 := G.1
  refine aw_iload G0 4 rfl dX6_bounds_29 ?_
  refine aw_aload_n G0 0 rfl dX6_bounds_31 ?_
  obtain ⟨k1, h⟩ := h
  refine aw_getR (f := 0) G0 (fb_X6_20 _ k1) dX6_bounds_32 ?_
  obtain ⟨q2, e2, h⟩ := h
  refine aw_dr0 e2 ?_
  obtain ⟨k3, h⟩ := h
  refine aw_alen (v := nI (C q2).2) G0 k3 rfl dX6_bounds_35 ?_
  refine aw_icmp_ge G0 109 dX6_bounds_36 (by decide) (fun c4 => ?_) (fun c4 => ?_)
  · have h := h.1 c4
    refine aw_iconst (v := (0 : Int32)) G0 dX6_bounds_109 (by decide) ?_
    refine aw_istore (lv' := [(5, aI (0 : Int32)), (0, aR (some x0)), (1, aR (some x1)), (2, aR (some x2)), (3, aJ x3)]) G0 (by decide) rfl dX6_bounds_110 ?_
    exact (aw_lv [2, 4, 0] rfl (w112 x1 x3 (0 : Int32) C I J R h))
  · have h := h.2 c4
    refine aw_bipush (v := (120 : Int32)) G0 dX6_bounds_39 (by decide) ?_
    refine aw_istore (lv' := [(6, aI (120 : Int32)), (0, aR (some x0)), (1, aR (some x1)), (2, aR (some x2)), (3, aJ x3), (5, aI x5)]) G0 (by decide) rfl dX6_bounds_41 ?_
    exact (aw_lv [1, 2, 3, 4, 5, 0] rfl (w43 x0 x1 x2 x3 x5 (120 : Int32) C I J R h))
theorem bX6_bounds_43 {d : Nat} (G : Gb Γ yX6_bounds cX6_bounds 10 (some .long) [] (rmBo (d + 1)) bdX6_bounds)
    {Q29 : Nat → Nat → Nat → Int64 → Int32 → MC → MI → MJ → MR → Prop} (w29 : ∀ (x0 : Nat) (x1 : Nat) (x2 : Nat) (x3 : Int64) (x5 : Int32) (C : MC) (I : MI) (J : MJ) (R : MR), Q29 x0 x1 x2 x3 x5 C I J R → AW Γ 0 0 C I J R 29 [(0, aR (some x0)), (1, aR (some x1)), (2, aR (some x2)), (3, aJ x3), (5, aI x5)] [])
    {Q56 : Nat → Nat → Nat → Int64 → Int32 → Int32 → Int64 → Int32 → MC → MI → MJ → MR → Prop} (w56 : ∀ (x0 : Nat) (x1 : Nat) (x2 : Nat) (x3 : Int64) (x5 : Int32) (x6 : Int32) (x7 : Int64) (x9 : Int32) (C : MC) (I : MI) (J : MJ) (R : MR), Q56 x0 x1 x2 x3 x5 x6 x7 x9 C I J R → AW Γ 0 0 C I J R 56 [(0, aR (some x0)), (1, aR (some x1)), (2, aR (some x2)), (3, aJ x3), (5, aI x5), (6, aI x6), (7, aJ x7), (9, aI x9)] []) {x0 : Nat} {x1 : Nat} {x2 : Nat} {x3 : Int64} {x5 : Int32} {x6 : Int32}
    (h : ((x6 < 0 →
      Q29 x0 x1 x2 x3 (x5 + 1) C I J R) ∧
      (¬ x6 < 0 →
      Q56 x0 x1 x2 x3 x5 x6 (9223372036854775807 : Int64) (0 : Int32) C I J R))) :
    AW Γ 0 0 C I J R 43 [(0, aR (some x0)), (1, aR (some x1)), (2, aR (some x2)), (3, aJ x3), (5, aI x5), (6, aI x6)] [] := by
  have G0 := G.1
  refine aw_iload G0 5 rfl dX6_bounds_43 ?_
  refine aw_if_lt G0 103 dX6_bounds_45 (by decide) (fun c1 => ?_) (fun c1 => ?_)
  · have h := h.1 c1
    refine aw_iinc (v := x5 + 1) (lv' := [(5, aI (x5 + 1)), (0, aR (some x0)), (1, aR (some x1)), (2, aR (some x2)), (3, aJ x3), (6, aI x6)]) G0 4 rfl rfl (by decide) rfl dX6_bounds_103 ?_
    refine aw_goto G0 29 dX6_bounds_106 (by decide) ?_
    exact (aw_lv [1, 2, 3, 4, 0] rfl (w29 x0 x1 x2 x3 (x5 + 1) C I J R h))
  · have h := h.2 c1
    refine aw_ldc2 (v := (9223372036854775807 : Int64)) G0 q795 dX6_bounds_48 ?_
    refine aw_lstore (lv' := [(7, aJ (9223372036854775807 : Int64)), (0, aR (some x0)), (1, aR (some x1)), (2, aR (some x2)), (3, aJ x3), (5, aI x5), (6, aI x6)]) G0 (by decide) rfl dX6_bounds_51 ?_
    refine aw_iconst (v := (0 : Int32)) G0 dX6_bounds_53 (by decide) ?_
    refine aw_istore (lv' := [(9, aI (0 : Int32)), (7, aJ (9223372036854775807 : Int64)), (0, aR (some x0)), (1, aR (some x1)), (2, aR (some x2)), (3, aJ x3), (5, aI x5), (6, aI x6)]) G0 (by decide) rfl dX6_bounds_54 ?_
    exact (aw_lv [2, 3, 4, 5, 6, 7, 1, 0] rfl (w56 x0 x1 x2 x3 x5 x6 (9223372036854775807 : Int64) (0 : Int32) C I J R h))
theorem bX6_bounds_56 {d : Nat} (G : Gb Γ yX6_bounds cX6_bounds 10 (some .long) [] (rmBo (d + 1)) bdX6_bounds)
    {Q43 : Nat → Nat → Nat → Int64 → Int32 → Int32 → MC → MI → MJ → MR → Prop} (w43 : ∀ (x0 : Nat) (x1 : Nat) (x2 : Nat) (x3 : Int64) (x5 : Int32) (x6 : Int32) (C : MC) (I : MI) (J : MJ) (R : MR), Q43 x0 x1 x2 x3 x5 x6 C I J R → AW Γ 0 0 C I J R 43 [(0, aR (some x0)), (1, aR (some x1)), (2, aR (some x2)), (3, aJ x3), (5, aI x5), (6, aI x6)] [])
    {Q56 : Nat → Nat → Nat → Int64 → Int32 → Int32 → Int64 → Int32 → MC → MI → MJ → MR → Prop} (w56 : ∀ (x0 : Nat) (x1 : Nat) (x2 : Nat) (x3 : Int64) (x5 : Int32) (x6 : Int32) (x7 : Int64) (x9 : Int32) (C : MC) (I : MI) (J : MJ) (R : MR), Q56 x0 x1 x2 x3 x5 x6 x7 x9 C I J R → AW Γ 0 0 C I J R 56 [(0, aR (some x0)), (1, aR (some x1)), (2, aR (some x2)), (3, aJ x3), (5, aI x5), (6, aI x6), (7, aJ x7), (9, aI x9)] []) {x0 : Nat} {x1 : Nat} {x2 : Nat} {x3 : Int64} {x5 : Int32} {x6 : Int32} {x7 : Int64} {x9 : Int32}
    (h : ((x6 < x9 →
      (C x1).1 = 21 ∧
      vp_in x6 (C x1).2 ∧
      ∀ J4 : MJ, J4 = va_up J x1 (va_up (J x1) x6.toNatClampNeg x7) →
      Q43 x0 x1 x2 x3 x5 (x6 + (-1)) C I J4 R) ∧
      (¬ x6 < x9 →
      (C x1).1 = 21 ∧
      vp_in x9 (C x1).2 ∧
      (25 ≤ (C x2).1 ∧ (C x2).1 < 30) ∧
      vp_in x5 (C x2).2 ∧
      ∃ q9 : Nat, R x2 x5.toNatClampNeg = some q9 ∧
      (C q9).1 = 21 ∧
      vp_in (x6 - x9) (C q9).2 ∧
      Q56 x0 x1 x2 x3 x5 x6 (if ((J x1 x9.toNatClampNeg) + (J q9 (x6 - x9).toNatClampNeg)) < x7 then ((J x1 x9.toNatClampNeg) + (J q9 (x6 - x9).toNatClampNeg)) else x7) (x9 + 1) C I J R))) :
    AW Γ 0 0 C I J R 56 [(0, aR (some x0)), (1, aR (some x1)), (2, aR (some x2)), (3, aJ x3), (5, aI x5), (6, aI x6), (7, aJ x7), (9, aI x9)] [] := by
  have G0 := G.1
  refine aw_iload G0 7 rfl dX6_bounds_56 ?_
  refine aw_iload G0 5 rfl dX6_bounds_58 ?_
  refine aw_icmp_gt G0 91 dX6_bounds_60 (by decide) (fun c1 => ?_) (fun c1 => ?_)
  · have h := h.1 c1
    refine aw_aload_n G0 1 rfl dX6_bounds_91 ?_
    refine aw_iload G0 5 rfl dX6_bounds_92 ?_
    refine aw_lload G0 6 rfl dX6_bounds_94 ?_
    obtain ⟨k2, h⟩ := h
    obtain ⟨k3, h⟩ := h
    refine aw_last G0 k2 k3 dX6_bounds_96 ?_
    generalize gJ4 : va_up J x1 (va_up (J x1) x6.toNatClampNeg x7) = J4
    have h := h J4 gJ4.symm
    refine aw_iinc (v := x6 + (-1)) (lv' := [(6, aI (x6 + (-1))), (0, aR (some x0)), (1, aR (some x1)), (2, aR (some x2)), (3, aJ x3), (5, aI x5), (7, aJ x7), (9, aI x9)]) G0 5 rfl (congrArg (fun w9 => x6 + w9) (show Int32.ofInt (-1) = (-1) by decide)) (by decide) rfl dX6_bounds_97 ?_
    refine aw_goto G0 43 dX6_bounds_100 (by decide) ?_
    exact (aw_lv [1, 2, 3, 4, 5, 0] rfl (w43 x0 x1 x2 x3 x5 (x6 + (-1)) C I J4 R h))
  · have h := h.2 c1
    refine aw_lload G0 6 rfl dX6_bounds_63 ?_
    refine aw_aload_n G0 1 rfl dX6_bounds_65 ?_
    refine aw_iload G0 7 rfl dX6_bounds_66 ?_
    obtain ⟨k5, h⟩ := h
    obtain ⟨k6, h⟩ := h
    refine aw_lald G0 k5 k6 dX6_bounds_68 ?_
    refine aw_aload_n G0 2 rfl dX6_bounds_69 ?_
    refine aw_iload G0 4 rfl dX6_bounds_70 ?_
    obtain ⟨k7, h⟩ := h
    obtain ⟨k8, h⟩ := h
    refine aw_aald G0 k7 k8 dX6_bounds_72 ?_
    refine aw_iload G0 5 rfl dX6_bounds_73 ?_
    refine aw_iload G0 7 rfl dX6_bounds_75 ?_
    refine aw_isub G0 dX6_bounds_77 ?_
    obtain ⟨q9, e9, h⟩ := h
    refine aw_dr1 e9 ?_
    obtain ⟨k10, h⟩ := h
    obtain ⟨k11, h⟩ := h
    refine aw_lald G0 k10 k11 dX6_bounds_78 ?_
    refine aw_ladd G0 dX6_bounds_79 ?_
    refine aw_mminl G0 q796 (by rw [G.2.1]; dsimp only [rmTb, rmBo, rmTo, rmLv]; omega) (by rw [G.2.1]; have h9 := nfw; dsimp only [rmTb, rmBo, rmTo, rmLv]; simp only [List.map_nil, List.map_cons, List.sum_nil, List.sum_cons, acat]; omega) (by rw [G.2.1]; exact ⟨Nat.zero_le _, Nat.zero_le _⟩) dX6_bounds_80 ?_
    refine aw_lstore (lv' := [(7, aJ (if ((J x1 x9.toNatClampNeg) + (J q9 (x6 - x9).toNatClampNeg)) < x7 then ((J x1 x9.toNatClampNeg) + (J q9 (x6 - x9).toNatClampNeg)) else x7)), (0, aR (some x0)), (1, aR (some x1)), (2, aR (some x2)), (3, aJ x3), (5, aI x5), (6, aI x6), (9, aI x9)]) G0 (by decide) rfl dX6_bounds_83 ?_
    refine aw_iinc (v := x9 + 1) (lv' := [(9, aI (x9 + 1)), (7, aJ (if ((J x1 x9.toNatClampNeg) + (J q9 (x6 - x9).toNatClampNeg)) < x7 then ((J x1 x9.toNatClampNeg) + (J q9 (x6 - x9).toNatClampNeg)) else x7)), (0, aR (some x0)), (1, aR (some x1)), (2, aR (some x2)), (3, aJ x3), (5, aI x5), (6, aI x6)]) G0 7 rfl rfl (by decide) rfl dX6_bounds_85 ?_
    refine aw_goto G0 56 dX6_bounds_88 (by decide) ?_
    exact (aw_lv [2, 3, 4, 5, 6, 7, 1, 0] rfl (w56 x0 x1 x2 x3 x5 x6 (if ((J x1 x9.toNatClampNeg) + (J q9 (x6 - x9).toNatClampNeg)) < x7 then ((J x1 x9.toNatClampNeg) + (J q9 (x6 - x9).toNatClampNeg)) else x7) (x9 + 1) C I J R h))
theorem bX6_bounds_112 {d : Nat} (G : Gb Γ yX6_bounds cX6_bounds 10 (some .long) [] (rmBo (d + 1)) bdX6_bounds)
    {Q112 : Nat → Int64 → Int32 → MC → MI → MJ → MR → Prop} (w112 : ∀ (x1 : Nat) (x3 : Int64) (x5 : Int32) (C : MC) (I : MI) (J : MJ) (R : MR), Q112 x1 x3 x5 C I J R → AW Γ 0 0 C I J R 112 [(1, aR (some x1)), (3, aJ x3), (5, aI x5)] []) {x1 : Nat} {x3 : Int64} {x5 : Int32}
    (h : (((120 : Int32) < x5 →
      gK Γ (.inl (some (aJ x3))) C I J R) ∧
      (¬ (120 : Int32) < x5 →
      (C x1).1 = 21 ∧
      vp_in x5 (C x1).2 ∧
      ∀ J4 : MJ, J4 = va_up J x1 (va_up (J x1) x5.toNatClampNeg (if (J x1 x5.toNatClampNeg) < x3 then (J x1 x5.toNatClampNeg) else x3)) →
      Q112 x1 x3 (x5 + 1) C I J4 R))) :
    AW Γ 0 0 C I J R 112 [(1, aR (some x1)), (3, aJ x3), (5, aI x5)] [] := by
  have G0 := G.1
  refine aw_iload G0 2 rfl dX6_bounds_112 ?_
  refine aw_bipush (v := (120 : Int32)) G0 dX6_bounds_114 (by decide) ?_
  refine aw_icmp_gt G0 137 dX6_bounds_116 (by decide) (fun c1 => ?_) (fun c1 => ?_)
  · have h := h.1 c1
    refine aw_lload_n G0 1 rfl dX6_bounds_137 ?_
    exact aw_lreturn G0 (by rw [G.2.2]; exact ⟨by decide, by decide⟩) (by rw [G.2.1]; exact ⟨Nat.zero_le _, Nat.zero_le _⟩) dX6_bounds_138 h
  · have h := h.2 c1
    refine aw_aload_n G0 0 rfl dX6_bounds_119 ?_
    refine aw_iload G0 2 rfl dX6_bounds_120 ?_
    refine aw_lload_n G0 1 rfl dX6_bounds_122 ?_
    refine aw_aload_n G0 0 rfl dX6_bounds_123 ?_
    refine aw_iload G0 2 rfl dX6_bounds_124 ?_
    obtain ⟨k2, h⟩ := h
    obtain ⟨k3, h⟩ := h
    refine aw_lald G0 k2 k3 dX6_bounds_126 ?_
    refine aw_mminl G0 q796 (by rw [G.2.1]; dsimp only [rmTb, rmBo, rmTo, rmLv]; omega) (by rw [G.2.1]; have h9 := nfw; dsimp only [rmTb, rmBo, rmTo, rmLv]; simp only [List.map_nil, List.map_cons, List.sum_nil, List.sum_cons, acat]; omega) (by rw [G.2.1]; exact ⟨Nat.zero_le _, Nat.zero_le _⟩) dX6_bounds_127 ?_
    refine aw_last G0 k2 k3 dX6_bounds_130 ?_
    generalize gJ4 : va_up J x1 (va_up (J x1) x5.toNatClampNeg (if (J x1 x5.toNatClampNeg) < x3 then (J x1 x5.toNatClampNeg) else x3)) = J4
    have h := h J4 gJ4.symm
    refine aw_iinc (v := x5 + 1) (lv' := [(5, aI (x5 + 1)), (1, aR (some x1)), (3, aJ x3)]) G0 2 rfl rfl (by decide) rfl dX6_bounds_131 ?_
    refine aw_goto G0 112 dX6_bounds_134 (by decide) ?_
    exact (aw_lv [1, 2, 0] rfl (w112 x1 x3 (x5 + 1) C I J4 R h))
theorem bX7_init_0 (G : Gb Γ yX7_init cX7_init 3 (none) [] rmX7_init bdX7_init) {F_X6_init : SPF} (S_X6_init : SpX6_init (gL Γ) F_X6_init) {x0 : Nat} {x1 : Int32} {x2 : Nat}
    (h : F_X6_init [aR (some x0), aR (some x2)] C I J R (fun o C1 I2 J3 R4 =>
      o = .inl none ∧
      (C1 x0).1 = 7 ∧
      ∀ I7 : MI, I7 = va_up I2 x0 (va_up (I2 x0) 8 x1) →
      (20 ≤ (C1 x2).1 ∧ (C1 x2).1 ≤ 30) ∧
      ¬ (nI (C1 x2).2) < 0 ∧
      (nI (C1 x2).2).toNatClampNeg ≤ 4 ∧
      ∃ q9 : Nat, (C1 q9).1 = 0 ∧
      ∀ (C13 : MC) (I14 : MI) (J15 : MJ) (R16 : MR), C13 = va_up C1 q9 (27, (nI (C1 x2).2).toNatClampNeg) → I14 = va_up I7 q9 (fun _ => 0) → J15 = va_up J3 q9 (fun _ => 0) → R16 = va_up R4 q9 (fun _ => none) → 
      (C13 x0).1 = 7 ∧
      ∀ R18 : MR, R18 = va_up R16 x0 (va_up (R16 x0) 9 (some q9)) →
      (20 ≤ (C13 x2).1 ∧ (C13 x2).1 ≤ 30) ∧
      ¬ (nI (C13 x2).2) < 0 ∧
      (nI (C13 x2).2).toNatClampNeg ≤ 4 ∧
      ∃ q20 : Nat, (C13 q20).1 = 0 ∧
      ∀ (C24 : MC) (I25 : MI) (J26 : MJ) (R27 : MR), C24 = va_up C13 q20 (21, (nI (C13 x2).2).toNatClampNeg) → I25 = va_up I14 q20 (fun _ => 0) → J26 = va_up J15 q20 (fun _ => 0) → R27 = va_up R18 q20 (fun _ => none) → 
      (C24 x0).1 = 7 ∧
      ∀ R29 : MR, R29 = va_up R27 x0 (va_up (R27 x0) 10 (some q20)) →
      (20 ≤ (C24 x2).1 ∧ (C24 x2).1 ≤ 30) ∧
      ¬ (nI (C24 x2).2) < 0 ∧
      (nI (C24 x2).2).toNatClampNeg ≤ 4 ∧
      ∃ q31 : Nat, (C24 q31).1 = 0 ∧
      ∀ (C35 : MC) (I36 : MI) (J37 : MJ) (R38 : MR), C35 = va_up C24 q31 (21, (nI (C24 x2).2).toNatClampNeg) → I36 = va_up I25 q31 (fun _ => 0) → J37 = va_up J26 q31 (fun _ => 0) → R38 = va_up R29 q31 (fun _ => none) → 
      (C35 x0).1 = 7 ∧
      ∀ R40 : MR, R40 = va_up R38 x0 (va_up (R38 x0) 11 (some q31)) →
      gK Γ (.inl none) C35 I36 J37 R40)) :
    AW Γ 0 0 C I J R 0 [(0, aR (some x0)), (1, aI x1), (2, aR (some x2))] [] := by
  have G0 := G.1
  refine aw_aload_n G0 0 rfl dX7_init_0 ?_
  refine aw_aload_n G0 2 rfl dX7_init_1 ?_
  refine aw_callI (k1 := 13) (n1 := 1104) (k2 := 0) (n2 := 0) (st := []) G0 S_X6_init gw_X6_init q65 q491 q464 rfl md_X6_init (Nat.le_of_ble_eq_true rfl) (by decide) (by rw [G.2.1]; decide) (by rw [G.2.1]; decide) [aR (some x2)] rfl rfl dX7_init_2 h (fun o C1 I2 J3 R4 h => ?_)
  obtain ⟨rfl, h⟩ := h
  show AW Γ 13 1104 C1 I2 J3 R4 (2 + 3) [(0, aR (some x0)), (1, aI x1), (2, aR (some x2))] []
  refine aw_aload_n G0 0 rfl dX7_init_5 ?_
  refine aw_iload_n G0 1 rfl dX7_init_6 ?_
  obtain ⟨k6, h⟩ := h
  refine aw_putI (f := 8) G0 (by rw [k6]; exact fp_X7_9) dX7_init_7 ?_
  generalize gI7 : va_up I2 x0 (va_up (I2 x0) 8 x1) = I7
  have h := h I7 gI7.symm
  refine aw_aload_n G0 0 rfl dX7_init_10 ?_
  refine aw_aload_n G0 2 rfl dX7_init_11 ?_
  obtain ⟨k8, h⟩ := h
  refine aw_alen (v := nI (C1 x2).2) G0 k8 rfl dX7_init_12 ?_
  obtain ⟨k11, h⟩ := h
  obtain ⟨k12, h⟩ := h
  obtain ⟨q9, z10, h⟩ := h
  refine aw_newqB (q := q9) (k' := 14) (n' := 1108) (N := (nI (C1 x2).2).toNatClampNeg) G0 q492 k11 rfl (Nat.le_trans k12 (by decide)) (by decide) (by omega) (by rw [G.2.1]; decide) (by rw [G.2.1]; decide) z10 dX7_init_13 ?_
  generalize gC13 : va_up C1 q9 (27, (nI (C1 x2).2).toNatClampNeg) = C13
  generalize gI14 : va_up I7 q9 (fun _ => 0) = I14
  generalize gJ15 : va_up J3 q9 (fun _ => 0) = J15
  generalize gR16 : va_up R4 q9 (fun _ => none) = R16
  have h := h C13 I14 J15 R16 gC13.symm gI14.symm gJ15.symm gR16.symm
  obtain ⟨k17, h⟩ := h
  refine aw_putR (f := 9) G0 (by rw [k17]; exact fp_X7_17) dX7_init_16 ?_
  generalize gR18 : va_up R16 x0 (va_up (R16 x0) 9 (some q9)) = R18
  have h := h R18 gR18.symm
  refine aw_aload_n G0 0 rfl dX7_init_19 ?_
  refine aw_aload_n G0 2 rfl dX7_init_20 ?_
  obtain ⟨k19, h⟩ := h
  refine aw_alen (v := nI (C13 x2).2) G0 k19 rfl dX7_init_21 ?_
  obtain ⟨k22, h⟩ := h
  obtain ⟨k23, h⟩ := h
  obtain ⟨q20, z21, h⟩ := h
  refine aw_newaJ (q := q20) (k' := 15) (n' := 1112) (N := (nI (C13 x2).2).toNatClampNeg) G0 k22 rfl (Nat.le_trans k23 (by decide)) (by decide) (by omega) (by rw [G.2.1]; decide) (by rw [G.2.1]; decide) z21 dX7_init_22 ?_
  generalize gC24 : va_up C13 q20 (21, (nI (C13 x2).2).toNatClampNeg) = C24
  generalize gI25 : va_up I14 q20 (fun _ => 0) = I25
  generalize gJ26 : va_up J15 q20 (fun _ => 0) = J26
  generalize gR27 : va_up R18 q20 (fun _ => none) = R27
  have h := h C24 I25 J26 R27 gC24.symm gI25.symm gJ26.symm gR27.symm
  obtain ⟨k28, h⟩ := h
  refine aw_putR (f := 10) G0 (by rw [k28]; exact fp_X7_21) dX7_init_24 ?_
  generalize gR29 : va_up R27 x0 (va_up (R27 x0) 10 (some q20)) = R29
  have h := h R29 gR29.symm
  refine aw_aload_n G0 0 rfl dX7_init_27 ?_
  refine aw_aload_n G0 2 rfl dX7_init_28 ?_
  obtain ⟨k30, h⟩ := h
  refine aw_alen (v := nI (C24 x2).2) G0 k30 rfl dX7_init_29 ?_
  obtain ⟨k33, h⟩ := h
  obtain ⟨k34, h⟩ := h
  obtain ⟨q31, z32, h⟩ := h
  refine aw_newaJ (q := q31) (k' := 16) (n' := 1116) (N := (nI (C24 x2).2).toNatClampNeg) G0 k33 rfl (Nat.le_trans k34 (by decide)) (by decide) (by omega) (by rw [G.2.1]; decide) (by rw [G.2.1]; decide) z32 dX7_init_30 ?_
  generalize gC35 : va_up C24 q31 (21, (nI (C24 x2).2).toNatClampNeg) = C35
  generalize gI36 : va_up I25 q31 (fun _ => 0) = I36
  generalize gJ37 : va_up J26 q31 (fun _ => 0) = J37
  generalize gR38 : va_up R29 q31 (fun _ => none) = R38
  have h := h C35 I36 J37 R38 gC35.symm gI36.symm gJ37.symm gR38.symm
  obtain ⟨k39, h⟩ := h
  refine aw_putR (f := 11) G0 (by rw [k39]; exact fp_X7_25) dX7_init_32 ?_
  generalize gR40 : va_up R38 x0 (va_up (R38 x0) 11 (some q31)) = R40
  have h := h R40 gR40.symm
  exact aw_return G0 (by rw [G.2.2]; decide) (by rw [G.2.1]; decide) dX7_init_35 h
theorem bX7_kind_0 (G : Gb Γ yX7_kind cX7_kind 1 (some .int) [] rmX7_kind bdX7_kind) {x0 : Nat}
    (h : gK Γ (.inl (some (aI (2 : Int32)))) C I J R) :
    AW Γ 0 0 C I J R 0 [(0, aR (some x0))] [] := by
  have G0 := G.1
  refine aw_iconst (v := (2 : Int32)) G0 dX7_kind_0 (by decide) ?_
  exact aw_ireturn G0 (Or.inl rfl) (by rw [G.2.2]; decide) (by rw [G.2.1]; decide) dX7_kind_1 h
theorem bX7_table_0 {d : Nat} (G : Gb Γ yX7_table cX7_table 19 (some (.object "TickShare$Table")) [] (rmTb (d + 1)) bdX7_table) {F_X3_anew : SPF} (S_X3_anew : SpX3_anew (gL Γ) F_X3_anew)
    {Q17 : Nat → Int32 → Nat → Int32 → MC → MI → MJ → MR → Prop} (w17 : ∀ (x0 : Nat) (x1 : Int32) (x2 : Nat) (x3 : Int32) (C : MC) (I : MI) (J : MJ) (R : MR), Q17 x0 x1 x2 x3 C I J R → AW Γ 0 0 C I J R 17 [(0, aR (some x0)), (1, aI x1), (2, aR (some x2)), (3, aI x3)] []) {x0 : Nat}
    (h : (C x0).1 = 7 ∧
      ∃ q2 : Nat, R x0 0 = some q2 ∧
      (20 ≤ (C q2).1 ∧ (C q2).1 ≤ 30) ∧
      ∃ q4 : Nat, R x0 1 = some q4 ∧
      (C q4).1 = 4 ∧
      F_X3_anew [aR (some q4), aJ (1 : Int64)] C I J R (fun o C6 I7 J8 R9 =>
      ∃ r10 : Nat, o = .inl (some (aR (some r10))) ∧
      Q17 x0 (nI (C q2).2) r10 (0 : Int32) C6 I7 J8 R9)) :
    AW Γ 0 0 C I J R 0 [(0, aR (some x0))] [] := by
  have G0 := G.1
  refine aw_aload_n G0 0 rfl dX7_table_0 ?_
  obtain ⟨k1, h⟩ := h
  refine aw_getR (f := 0) G0 (by rw [k1]; exact fb_X7_28) dX7_table_1 ?_
  obtain ⟨q2, e2, h⟩ := h
  refine aw_dr0 e2 ?_
  obtain ⟨k3, h⟩ := h
  refine aw_alen (v := nI (C q2).2) G0 k3 rfl dX7_table_4 ?_
  refine aw_istore_n (lv' := [(1, aI (nI (C q2).2)), (0, aR (some x0))]) G0 (by decide) rfl dX7_table_5 ?_
  refine aw_aload_n G0 1 rfl dX7_table_6 ?_
  refine aw_getR (f := 1) G0 (by rw [k1]; exact fb_X7_32) dX7_table_7 ?_
  refine aw_lconst (v := (1 : Int64)) G0 dX7_table_10 (by decide) ?_
  obtain ⟨q4, e4, h⟩ := h
  refine aw_dr1 e4 ?_
  obtain ⟨k5, h⟩ := h
  refine aw_callV (k1 := 0) (n1 := 0) (k2 := 0) (n2 := 0) (st := []) G0 S_X3_anew gi_X7_36 (Or.inl (by rw [k5]; decide)) (by rw [k5]; rfl) md_X3_anew (Nat.le_of_ble_eq_true rfl) (by decide) (by rw [G.2.1]; dsimp only [rmTb, rmBo, rmTo, rmLv, rmX3_anew]; omega) (by rw [G.2.1]; dsimp only [rmTb, rmBo, rmTo, rmLv, rmX3_anew]; omega) [aJ (1 : Int64)] rfl rfl dX7_table_11 h (fun o C6 I7 J8 R9 h => ?_)
  obtain ⟨r10, rfl, h⟩ := h
  show AW Γ 0 0 C6 I7 J8 R9 (11 + 3) [(1, aI (nI (C q2).2)), (0, aR (some x0))] [aR (some r10)]
  refine aw_astore_n (lv' := [(2, aR (some r10)), (1, aI (nI (C q2).2)), (0, aR (some x0))]) G0 (by decide) rfl dX7_table_14 ?_
  refine aw_iconst (v := (0 : Int32)) G0 dX7_table_15 (by decide) ?_
  refine aw_istore_n (lv' := [(3, aI (0 : Int32)), (2, aR (some r10)), (1, aI (nI (C q2).2)), (0, aR (some x0))]) G0 (by decide) rfl dX7_table_16 ?_
  exact (aw_lv [3, 2, 1, 0] rfl (w17 x0 (nI (C q2).2) r10 (0 : Int32) C6 I7 J8 R9 h))
theorem bX7_table_17 {d : Nat} (G : Gb Γ yX7_table cX7_table 19 (some (.object "TickShare$Table")) [] (rmTb (d + 1)) bdX7_table) {F_Vtable : SPF} (S_Vtable : SpVtable (gL Γ) d F_Vtable) {F_X0_times : SPF} (S_X0_times : SpX0_times (gL Γ) F_X0_times)
    {Q17 : Nat → Int32 → Nat → Int32 → MC → MI → MJ → MR → Prop} (w17 : ∀ (x0 : Nat) (x1 : Int32) (x2 : Nat) (x3 : Int32) (C : MC) (I : MI) (J : MJ) (R : MR), Q17 x0 x1 x2 x3 C I J R → AW Γ 0 0 C I J R 17 [(0, aR (some x0)), (1, aI x1), (2, aR (some x2)), (3, aI x3)] [])
    {Q85 : Nat → Int32 → Nat → Int64 → Int64 → Int32 → MC → MI → MJ → MR → Prop} (w85 : ∀ (x0 : Nat) (x1 : Int32) (x2 : Nat) (x3 : Int64) (x5 : Int64) (x7 : Int32) (C : MC) (I : MI) (J : MJ) (R : MR), Q85 x0 x1 x2 x3 x5 x7 C I J R → AW Γ 0 0 C I J R 85 [(0, aR (some x0)), (1, aI x1), (2, aR (some x2)), (3, aJ x3), (5, aJ x5), (7, aI x7)] []) {x0 : Nat} {x1 : Int32} {x2 : Nat} {x3 : Int32}
    (h : ((x1 ≤ x3 →
      Q85 x0 x1 x2 (0 : Int64) (0 : Int64) (0 : Int32) C I J R) ∧
      (¬ x1 ≤ x3 →
      (C x0).1 = 7 ∧
      ∃ q3 : Nat, R x0 0 = some q3 ∧
      (25 ≤ (C q3).1 ∧ (C q3).1 < 30) ∧
      vp_in x3 (C q3).2 ∧
      ∃ q6 : Nat, R q3 x3.toNatClampNeg = some q6 ∧
      kTh (C q6).1 ∧
      F_Vtable [aR (some q6)] C I J R (fun o C8 I9 J10 R11 =>
      (∃ r12 : Nat, o = .inl (some (aR (some r12))) ∧
      ∃ q13 : Nat, R x0 9 = some q13 ∧
      (25 ≤ (C8 q13).1 ∧ (C8 q13).1 < 29) ∧
      kFit (C8 q13).1 (C8 r12).1 ∧
      vp_in x3 (C8 q13).2 ∧
      ∀ R17 : MR, R17 = va_up R11 q13 (va_up (R11 q13) x3.toNatClampNeg (some r12)) →
      (C8 x2).1 = 4 ∧
      (C8 x0).1 = 7 ∧
      ∃ q20 : Nat, R17 x0 9 = some q20 ∧
      (25 ≤ (C8 q20).1 ∧ (C8 q20).1 < 30) ∧
      vp_in x3 (C8 q20).2 ∧
      ∃ q23 : Nat, R17 q20 x3.toNatClampNeg = some q23 ∧
      (C8 q23).1 = 4 ∧
      F_X0_times [aJ (J10 x2 2), aJ (J10 q23 2)] C8 I9 J10 R17 (fun o C25 I26 J27 R28 =>
      (∃ r29 : Int64, o = .inl (some (aJ r29)) ∧
      (C25 x2).1 = 4 ∧
      ∀ J31 : MJ, J31 = va_up J27 x2 (va_up (J27 x2) 2 r29) →
      (C25 x0).1 = 7 ∧
      ∃ q33 : Nat, R28 x0 10 = some q33 ∧
      (C25 q33).1 = 21 ∧
      vp_in x3 (C25 q33).2 ∧
      ∀ J36 : MJ, J36 = va_up J31 q33 (va_up (J31 q33) x3.toNatClampNeg (0 : Int64)) →
      ∃ q37 : Nat, R28 x0 11 = some q37 ∧
      (C25 q37).1 = 21 ∧
      vp_in x3 (C25 q37).2 ∧
      ∀ J40 : MJ, J40 = va_up J36 q37 (va_up (J36 q37) x3.toNatClampNeg (0 : Int64)) →
      Q17 x0 x1 x2 (x3 + 1) C25 I26 J40 R28) ∨
      (∃ q41 : Nat, o = .inr q41 ∧
      ((C25 q41).1 = 11 ∧
      gK Γ (.inr q41) C25 I26 J27 R28)))) ∨
      (∃ q43 : Nat, o = .inr q43 ∧
      ((C8 q43).1 = 11 ∧
      gK Γ (.inr q43) C8 I9 J10 R11)))))) :
    AW Γ 0 0 C I J R 17 [(0, aR (some x0)), (1, aI x1), (2, aR (some x2)), (3, aI x3)] [] := by
  have G0 := G.1
  refine aw_iload_n G0 3 rfl dX7_table_17 ?_
  refine aw_iload_n G0 1 rfl dX7_table_18 ?_
  refine aw_icmp_ge G0 77 dX7_table_19 (by decide) (fun c1 => ?_) (fun c1 => ?_)
  · have h := h.1 c1
    refine aw_lconst (v := (0 : Int64)) G0 dX7_table_77 (by decide) ?_
    refine aw_lstore_n (lv' := [(3, aJ (0 : Int64)), (0, aR (some x0)), (1, aI x1), (2, aR (some x2))]) G0 (by decide) rfl dX7_table_78 ?_
    refine aw_lconst (v := (0 : Int64)) G0 dX7_table_79 (by decide) ?_
    refine aw_lstore (lv' := [(5, aJ (0 : Int64)), (3, aJ (0 : Int64)), (0, aR (some x0)), (1, aI x1), (2, aR (some x2))]) G0 (by decide) rfl dX7_table_80 ?_
    refine aw_iconst (v := (0 : Int32)) G0 dX7_table_82 (by decide) ?_
    refine aw_istore (lv' := [(7, aI (0 : Int32)), (5, aJ (0 : Int64)), (3, aJ (0 : Int64)), (0, aR (some x0)), (1, aI x1), (2, aR (some x2))]) G0 (by decide) rfl dX7_table_83 ?_
    exact (aw_lv [3, 4, 5, 2, 1, 0] rfl (w85 x0 x1 x2 (0 : Int64) (0 : Int64) (0 : Int32) C I J R h))
  · have h := h.2 c1
    refine aw_aload_n G0 0 rfl dX7_table_22 ?_
    obtain ⟨k2, h⟩ := h
    refine aw_getR (f := 9) G0 (by rw [k2]; exact fb_X7_17) dX7_table_23 ?_
    refine aw_iload_n G0 3 rfl dX7_table_26 ?_
    refine aw_aload_n G0 0 rfl dX7_table_27 ?_
    refine aw_getR (f := 0) G0 (by rw [k2]; exact fb_X7_28) dX7_table_28 ?_
    refine aw_iload_n G0 3 rfl dX7_table_31 ?_
    obtain ⟨q3, e3, h⟩ := h
    refine aw_dr1 e3 ?_
    obtain ⟨k4, h⟩ := h
    obtain ⟨k5, h⟩ := h
    refine aw_aald G0 k4 k5 dX7_table_32 ?_
    obtain ⟨q6, e6, h⟩ := h
    refine aw_dr0 e6 ?_
    obtain ⟨k7, h⟩ := h
    refine vc_X7_40 (k1 := 0) (n1 := 0) (k2 := 1) (n2 := 6) (st := [aI x3, aR (R x0 9)]) G0 S_Vtable k7 (Nat.le_of_ble_eq_true rfl) (by decide) (by rw [G.2.1]; dsimp only [rmTb, rmBo, rmTo, rmLv, bdv]; omega) (by rw [G.2.1]; dsimp only [rmTb, rmBo, rmTo, rmLv, bdv]; omega) [] rfl rfl dX7_table_33 h (fun o C8 I9 J10 R11 h => ?_)
    rcases h with ⟨r12, rfl, h⟩ | ⟨q43, rfl, h⟩
    · show AW Γ 0 0 C8 I9 J10 R11 (33 + 3) [(0, aR (some x0)), (1, aI x1), (2, aR (some x2)), (3, aI x3)] [aR (some r12), aI x3, aR (R x0 9)]
      obtain ⟨q13, e13, h⟩ := h
      refine aw_dr2 e13 ?_
      obtain ⟨k14, h⟩ := h
      obtain ⟨k15, h⟩ := h
      obtain ⟨k16, h⟩ := h
      refine aw_aast G0 k14 (kFit_1 k15) (kFit_2 k15) k16 dX7_table_36 ?_
      generalize gR17 : va_up R11 q13 (va_up (R11 q13) x3.toNatClampNeg (some r12)) = R17
      have h := h R17 gR17.symm
      refine aw_aload_n G0 2 rfl dX7_table_37 ?_
      refine aw_aload_n G0 2 rfl dX7_table_38 ?_
      obtain ⟨k18, h⟩ := h
      refine aw_getJ (f := 2) G0 (by rw [k18]; exact fb_X7_46) dX7_table_39 ?_
      refine aw_aload_n G0 0 rfl dX7_table_42 ?_
      obtain ⟨k19, h⟩ := h
      refine aw_getR (f := 9) G0 (by rw [k19]; exact fb_X7_17) dX7_table_43 ?_
      refine aw_iload_n G0 3 rfl dX7_table_46 ?_
      obtain ⟨q20, e20, h⟩ := h
      refine aw_dr1 e20 ?_
      obtain ⟨k21, h⟩ := h
      obtain ⟨k22, h⟩ := h
      refine aw_aald G0 k21 k22 dX7_table_47 ?_
      obtain ⟨q23, e23, h⟩ := h
      refine aw_dr0 e23 ?_
      obtain ⟨k24, h⟩ := h
      refine aw_getJ (f := 2) G0 (by rw [k24]; exact fb_X7_46) dX7_table_48 ?_
      refine aw_callSN (k1 := 0) (n1 := 0) (k2 := 1) (n2 := 6) (st := [aR (some x2)]) G0 S_X0_times q707 q658 q50 gw_X0_times md_X0_times (Nat.le_of_ble_eq_true rfl) (by decide) (by rw [G.2.1]; dsimp only [rmTb, rmBo, rmTo, rmLv, rmX0_times]; omega) (by rw [G.2.1]; dsimp only [rmTb, rmBo, rmTo, rmLv, rmX0_times]; omega) [aJ (J10 x2 2), aJ (J10 q23 2)] rfl rfl dX7_table_51 h (fun o C25 I26 J27 R28 h => ?_)
      rcases h with ⟨r29, rfl, h⟩ | ⟨q41, rfl, h⟩
      · show AW Γ 0 0 C25 I26 J27 R28 (51 + 3) [(0, aR (some x0)), (1, aI x1), (2, aR (some x2)), (3, aI x3)] [aJ r29, aR (some x2)]
        obtain ⟨k30, h⟩ := h
        refine aw_putJ (f := 2) G0 (by rw [k30]; exact fp_X7_46 _) dX7_table_54 ?_
        generalize gJ31 : va_up J27 x2 (va_up (J27 x2) 2 r29) = J31
        have h := h J31 gJ31.symm
        refine aw_aload_n G0 0 rfl dX7_table_57 ?_
        obtain ⟨k32, h⟩ := h
        refine aw_getR (f := 10) G0 (by rw [k32]; exact fb_X7_21) dX7_table_58 ?_
        refine aw_iload_n G0 3 rfl dX7_table_61 ?_
        refine aw_lconst (v := (0 : Int64)) G0 dX7_table_62 (by decide) ?_
        obtain ⟨q33, e33, h⟩ := h
        refine aw_dr2 e33 ?_
        obtain ⟨k34, h⟩ := h
        obtain ⟨k35, h⟩ := h
        refine aw_last G0 k34 k35 dX7_table_63 ?_
        generalize gJ36 : va_up J31 q33 (va_up (J31 q33) x3.toNatClampNeg (0 : Int64)) = J36
        have h := h J36 gJ36.symm
        refine aw_aload_n G0 0 rfl dX7_table_64 ?_
        refine aw_getR (f := 11) G0 (by rw [k32]; exact fb_X7_25) dX7_table_65 ?_
        refine aw_iload_n G0 3 rfl dX7_table_68 ?_
        refine aw_lconst (v := (0 : Int64)) G0 dX7_table_69 (by decide) ?_
        obtain ⟨q37, e37, h⟩ := h
        refine aw_dr2 e37 ?_
        obtain ⟨k38, h⟩ := h
        obtain ⟨k39, h⟩ := h
        refine aw_last G0 k38 k39 dX7_table_70 ?_
        generalize gJ40 : va_up J36 q37 (va_up (J36 q37) x3.toNatClampNeg (0 : Int64)) = J40
        have h := h J40 gJ40.symm
        refine aw_iinc (v := x3 + 1) (lv' := [(3, aI (x3 + 1)), (0, aR (some x0)), (1, aI x1), (2, aR (some x2))]) G0 3 rfl rfl (by decide) rfl dX7_table_71 ?_
        refine aw_goto G0 17 dX7_table_74 (by decide) ?_
        exact (aw_lv [1, 2, 3, 0] rfl (w17 x0 x1 x2 (x3 + 1) C25 I26 J40 R28 h))
      · show AX Γ 1 6 C25 I26 J27 R28 51 [(0, aR (some x0)), (1, aI x1), (2, aR (some x2)), (3, aI x3)] q41
        obtain ⟨k42, h⟩ := h
        exact ax_out G0 rfl (Or.inr (Or.inl k42)) (by rw [G.2.2]; exact ⟨by decide, by decide⟩) (by rw [G.2.1]; exact ⟨Nat.le_refl 1, Nat.le_refl 6⟩) h
    · show AX Γ 1 6 C8 I9 J10 R11 33 [(0, aR (some x0)), (1, aI x1), (2, aR (some x2)), (3, aI x3)] q43
      obtain ⟨k44, h⟩ := h
      exact ax_out G0 rfl (Or.inr (Or.inl k44)) (by rw [G.2.2]; exact ⟨by decide, by decide⟩) (by rw [G.2.1]; exact ⟨Nat.le_refl 1, Nat.le_refl 6⟩) h
theorem bX7_table_85 {d : Nat} (G : Gb Γ yX7_table cX7_table 19 (some (.object "TickShare$Table")) [] (rmTb (d + 1)) bdX7_table) {F_X3_less : SPF} (S_X3_less : SpX3_less (gL Γ) F_X3_less)
    {Q95 : Nat → Int32 → Nat → Int64 → Int64 → Int32 → Int32 → MC → MI → MJ → MR → Prop} (w95 : ∀ (x0 : Nat) (x1 : Int32) (x2 : Nat) (x3 : Int64) (x5 : Int64) (x7 : Int32) (x8 : Int32) (C : MC) (I : MI) (J : MJ) (R : MR), Q95 x0 x1 x2 x3 x5 x7 x8 C I J R → AW Γ 0 0 C I J R 95 [(0, aR (some x0)), (1, aI x1), (2, aR (some x2)), (3, aJ x3), (5, aJ x5), (7, aI x7), (8, aI x8)] []) {x0 : Nat} {x1 : Int32} {x2 : Nat} {x3 : Int64} {x5 : Int64} {x7 : Int32}
    (h : (((120 : Int32) < x7 →
      (C x2).1 = 4 ∧
      F_X3_less [aR (some x2)] C I J R (fun o C3 I4 J5 R6 =>
      ∃ r7 : Nat, o = .inl (some (aR (some r7))) ∧
      gK Γ (.inl (some (aR (some r7)))) C3 I4 J5 R6)) ∧
      (¬ (120 : Int32) < x7 →
      Q95 x0 x1 x2 x3 x5 x7 (0 : Int32) C I J R))) :
    AW Γ 0 0 C I J R 85 [(0, aR (some x0)), (1, aI x1), (2, aR (some x2)), (3, aJ x3), (5, aJ x5), (7, aI x7)] [] := by
  have G0 := G.1
  refine aw_iload G0 5 rfl dX7_table_85 ?_
  refine aw_bipush (v := (120 : Int32)) G0 dX7_table_87 (by decide) ?_
  refine aw_icmp_gt G0 345 dX7_table_89 (by decide) (fun c1 => ?_) (fun c1 => ?_)
  · have h := h.1 c1
    refine aw_aload_n G0 2 rfl dX7_table_345 ?_
    obtain ⟨k2, h⟩ := h
    refine aw_callV (k1 := 0) (n1 := 0) (k2 := 0) (n2 := 0) (st := []) G0 S_X3_less gi_X7_66 (Or.inl (by rw [k2]; decide)) (by rw [k2]; rfl) md_X3_less (Nat.le_of_ble_eq_true rfl) (by decide) (by rw [G.2.1]; dsimp only [rmTb, rmBo, rmTo, rmLv, rmX3_less]; omega) (by rw [G.2.1]; dsimp only [rmTb, rmBo, rmTo, rmLv, rmX3_less]; omega) [] rfl rfl dX7_table_346 h (fun o C3 I4 J5 R6 h => ?_)
    obtain ⟨r7, rfl, h⟩ := h
    show AW Γ 0 0 C3 I4 J5 R6 (346 + 3) [(0, aR (some x0)), (1, aI x1), (2, aR (some x2)), (3, aJ x3), (5, aJ x5), (7, aI x7)] [aR (some r7)]
    exact aw_areturn G0 ⟨_, rfl, rfl⟩ (by rw [G.2.2]; exact ⟨by decide, by decide⟩) (by rw [G.2.1]; exact ⟨Nat.zero_le _, Nat.zero_le _⟩) dX7_table_349 h
  · have h := h.2 c1
    refine aw_iconst (v := (0 : Int32)) G0 dX7_table_92 (by decide) ?_
    refine aw_istore (lv' := [(8, aI (0 : Int32)), (0, aR (some x0)), (1, aI x1), (2, aR (some x2)), (3, aJ x3), (5, aJ x5), (7, aI x7)]) G0 (by decide) rfl dX7_table_93 ?_
    exact (aw_lv [1, 2, 3, 4, 5, 6, 0] rfl (w95 x0 x1 x2 x3 x5 x7 (0 : Int32) C I J R h))
theorem bX7_table_95 {d : Nat} (G : Gb Γ yX7_table cX7_table 19 (some (.object "TickShare$Table")) [] (rmTb (d + 1)) bdX7_table)
    {Q95 : Nat → Int32 → Nat → Int64 → Int64 → Int32 → Int32 → MC → MI → MJ → MR → Prop} (w95 : ∀ (x0 : Nat) (x1 : Int32) (x2 : Nat) (x3 : Int64) (x5 : Int64) (x7 : Int32) (x8 : Int32) (C : MC) (I : MI) (J : MJ) (R : MR), Q95 x0 x1 x2 x3 x5 x7 x8 C I J R → AW Γ 0 0 C I J R 95 [(0, aR (some x0)), (1, aI x1), (2, aR (some x2)), (3, aJ x3), (5, aJ x5), (7, aI x7), (8, aI x8)] [])
    {Q162 : Nat → Int32 → Nat → Int64 → Int64 → Int32 → Int64 → Int64 → Int32 → MC → MI → MJ → MR → Prop} (w162 : ∀ (x0 : Nat) (x1 : Int32) (x2 : Nat) (x3 : Int64) (x5 : Int64) (x7 : Int32) (x8 : Int64) (x10 : Int64) (x12 : Int32) (C : MC) (I : MI) (J : MJ) (R : MR), Q162 x0 x1 x2 x3 x5 x7 x8 x10 x12 C I J R → AW Γ 0 0 C I J R 162 [(0, aR (some x0)), (1, aI x1), (2, aR (some x2)), (3, aJ x3), (5, aJ x5), (7, aI x7), (8, aJ x8), (10, aJ x10), (12, aI x12)] []) {x0 : Nat} {x1 : Int32} {x2 : Nat} {x3 : Int64} {x5 : Int64} {x7 : Int32} {x8 : Int32}
    (h : ((x1 ≤ x8 →
      Q162 x0 x1 x2 x3 x5 x7 (0 : Int64) (0 : Int64) (0 : Int32) C I J R) ∧
      (¬ x1 ≤ x8 →
      (C x0).1 = 7 ∧
      ∃ q3 : Nat, R x0 10 = some q3 ∧
      (C q3).1 = 21 ∧
      vp_in x8 (C q3).2 ∧
      ∃ q6 : Nat, R x0 9 = some q6 ∧
      (25 ≤ (C q6).1 ∧ (C q6).1 < 30) ∧
      vp_in x8 (C q6).2 ∧
      ∃ q9 : Nat, R q6 x8.toNatClampNeg = some q9 ∧
      (C q9).1 = 4 ∧
      ∃ q11 : Nat, R q9 0 = some q11 ∧
      (C q11).1 = 21 ∧
      vp_in x7 (C q11).2 ∧
      ∀ J14 : MJ, J14 = va_up J q3 (va_up (J q3) x8.toNatClampNeg ((J q3 x8.toNatClampNeg) + (J q11 x7.toNatClampNeg))) →
      ∃ q15 : Nat, R x0 11 = some q15 ∧
      (C q15).1 = 21 ∧
      vp_in x8 (C q15).2 ∧
      ∃ q18 : Nat, R q9 1 = some q18 ∧
      (C q18).1 = 21 ∧
      vp_in x7 (C q18).2 ∧
      ∀ J21 : MJ, J21 = va_up J14 q15 (va_up (J14 q15) x8.toNatClampNeg ((J14 q15 x8.toNatClampNeg) + (J14 q18 x7.toNatClampNeg))) →
      Q95 x0 x1 x2 x3 x5 x7 (x8 + 1) C I J21 R))) :
    AW Γ 0 0 C I J R 95 [(0, aR (some x0)), (1, aI x1), (2, aR (some x2)), (3, aJ x3), (5, aJ x5), (7, aI x7), (8, aI x8)] [] := by
  have G0 := G.1
  refine aw_iload G0 6 rfl dX7_table_95 ?_
  refine aw_iload_n G0 1 rfl dX7_table_97 ?_
  refine aw_icmp_ge G0 153 dX7_table_98 (by decide) (fun c1 => ?_) (fun c1 => ?_)
  · have h := h.1 c1
    refine aw_lconst (v := (0 : Int64)) G0 dX7_table_153 (by decide) ?_
    refine aw_lstore (lv' := [(8, aJ (0 : Int64)), (0, aR (some x0)), (1, aI x1), (2, aR (some x2)), (3, aJ x3), (5, aJ x5), (7, aI x7)]) G0 (by decide) rfl dX7_table_154 ?_
    refine aw_lconst (v := (0 : Int64)) G0 dX7_table_156 (by decide) ?_
    refine aw_lstore (lv' := [(10, aJ (0 : Int64)), (8, aJ (0 : Int64)), (0, aR (some x0)), (1, aI x1), (2, aR (some x2)), (3, aJ x3), (5, aJ x5), (7, aI x7)]) G0 (by decide) rfl dX7_table_157 ?_
    refine aw_iconst (v := (0 : Int32)) G0 dX7_table_159 (by decide) ?_
    refine aw_istore (lv' := [(12, aI (0 : Int32)), (10, aJ (0 : Int64)), (8, aJ (0 : Int64)), (0, aR (some x0)), (1, aI x1), (2, aR (some x2)), (3, aJ x3), (5, aJ x5), (7, aI x7)]) G0 (by decide) rfl dX7_table_160 ?_
    exact (aw_lv [3, 4, 5, 6, 7, 8, 2, 1, 0] rfl (w162 x0 x1 x2 x3 x5 x7 (0 : Int64) (0 : Int64) (0 : Int32) C I J R h))
  · have h := h.2 c1
    refine aw_aload_n G0 0 rfl dX7_table_101 ?_
    obtain ⟨k2, h⟩ := h
    refine aw_getR (f := 10) G0 (by rw [k2]; exact fb_X7_21) dX7_table_102 ?_
    refine aw_iload G0 6 rfl dX7_table_105 ?_
    refine aw_dup2IR G0 dX7_table_107 ?_
    obtain ⟨q3, e3, h⟩ := h
    refine aw_dr1 e3 ?_
    obtain ⟨k4, h⟩ := h
    obtain ⟨k5, h⟩ := h
    refine aw_lald G0 k4 k5 dX7_table_108 ?_
    refine aw_aload_n G0 0 rfl dX7_table_109 ?_
    refine aw_getR (f := 9) G0 (by rw [k2]; exact fb_X7_17) dX7_table_110 ?_
    refine aw_iload G0 6 rfl dX7_table_113 ?_
    obtain ⟨q6, e6, h⟩ := h
    refine aw_dr1 e6 ?_
    obtain ⟨k7, h⟩ := h
    obtain ⟨k8, h⟩ := h
    refine aw_aald G0 k7 k8 dX7_table_115 ?_
    obtain ⟨q9, e9, h⟩ := h
    refine aw_dr0 e9 ?_
    obtain ⟨k10, h⟩ := h
    refine aw_getR (f := 0) G0 (by rw [k10]; exact fb_X7_54) dX7_table_116 ?_
    refine aw_iload G0 5 rfl dX7_table_119 ?_
    obtain ⟨q11, e11, h⟩ := h
    refine aw_dr1 e11 ?_
    obtain ⟨k12, h⟩ := h
    obtain ⟨k13, h⟩ := h
    refine aw_lald G0 k12 k13 dX7_table_121 ?_
    refine aw_ladd G0 dX7_table_122 ?_
    refine aw_dr2 e3 ?_
    refine aw_last G0 k4 k5 dX7_table_123 ?_
    generalize gJ14 : va_up J q3 (va_up (J q3) x8.toNatClampNeg ((J q3 x8.toNatClampNeg) + (J q11 x7.toNatClampNeg))) = J14
    have h := h J14 gJ14.symm
    refine aw_aload_n G0 0 rfl dX7_table_124 ?_
    refine aw_getR (f := 11) G0 (by rw [k2]; exact fb_X7_25) dX7_table_125 ?_
    refine aw_iload G0 6 rfl dX7_table_128 ?_
    refine aw_dup2IR G0 dX7_table_130 ?_
    obtain ⟨q15, e15, h⟩ := h
    refine aw_dr1 e15 ?_
    obtain ⟨k16, h⟩ := h
    obtain ⟨k17, h⟩ := h
    refine aw_lald G0 k16 k17 dX7_table_131 ?_
    refine aw_aload_n G0 0 rfl dX7_table_132 ?_
    refine aw_getR (f := 9) G0 (by rw [k2]; exact fb_X7_17) dX7_table_133 ?_
    refine aw_iload G0 6 rfl dX7_table_136 ?_
    refine aw_dr1 e6 ?_
    refine aw_aald G0 k7 k8 dX7_table_138 ?_
    refine aw_dr0 e9 ?_
    refine aw_getR (f := 1) G0 (by rw [k10]; exact fb_X7_57) dX7_table_139 ?_
    refine aw_iload G0 5 rfl dX7_table_142 ?_
    obtain ⟨q18, e18, h⟩ := h
    refine aw_dr1 e18 ?_
    obtain ⟨k19, h⟩ := h
    obtain ⟨k20, h⟩ := h
    refine aw_lald G0 k19 k20 dX7_table_144 ?_
    refine aw_ladd G0 dX7_table_145 ?_
    refine aw_dr2 e15 ?_
    refine aw_last G0 k16 k17 dX7_table_146 ?_
    generalize gJ21 : va_up J14 q15 (va_up (J14 q15) x8.toNatClampNeg ((J14 q15 x8.toNatClampNeg) + (J14 q18 x7.toNatClampNeg))) = J21
    have h := h J21 gJ21.symm
    refine aw_iinc (v := x8 + 1) (lv' := [(8, aI (x8 + 1)), (0, aR (some x0)), (1, aI x1), (2, aR (some x2)), (3, aJ x3), (5, aJ x5), (7, aI x7)]) G0 6 rfl rfl (by decide) rfl dX7_table_147 ?_
    refine aw_goto G0 95 dX7_table_150 (by decide) ?_
    exact (aw_lv [1, 2, 3, 4, 5, 6, 0] rfl (w95 x0 x1 x2 x3 x5 x7 (x8 + 1) C I J21 R h))
theorem bX7_table_162 {d : Nat} (G : Gb Γ yX7_table cX7_table 19 (some (.object "TickShare$Table")) [] (rmTb (d + 1)) bdX7_table)
    {Q85 : Nat → Int32 → Nat → Int64 → Int64 → Int32 → MC → MI → MJ → MR → Prop} (w85 : ∀ (x0 : Nat) (x1 : Int32) (x2 : Nat) (x3 : Int64) (x5 : Int64) (x7 : Int32) (C : MC) (I : MI) (J : MJ) (R : MR), Q85 x0 x1 x2 x3 x5 x7 C I J R → AW Γ 0 0 C I J R 85 [(0, aR (some x0)), (1, aI x1), (2, aR (some x2)), (3, aJ x3), (5, aJ x5), (7, aI x7)] [])
    {Q179 : Nat → Int32 → Nat → Int64 → Int64 → Int32 → Int64 → Int64 → Int32 → Int64 → Int64 → Int32 → MC → MI → MJ → MR → Prop} (w179 : ∀ (x0 : Nat) (x1 : Int32) (x2 : Nat) (x3 : Int64) (x5 : Int64) (x7 : Int32) (x8 : Int64) (x10 : Int64) (x12 : Int32) (x13 : Int64) (x15 : Int64) (x17 : Int32) (C : MC) (I : MI) (J : MJ) (R : MR), Q179 x0 x1 x2 x3 x5 x7 x8 x10 x12 x13 x15 x17 C I J R → AW Γ 0 0 C I J R 179 [(0, aR (some x0)), (1, aI x1), (2, aR (some x2)), (3, aJ x3), (5, aJ x5), (7, aI x7), (8, aJ x8), (10, aJ x10), (12, aI x12), (13, aJ x13), (15, aJ x15), (17, aI x17)] []) {x0 : Nat} {x1 : Int32} {x2 : Nat} {x3 : Int64} {x5 : Int64} {x7 : Int32} {x8 : Int64} {x10 : Int64} {x12 : Int32}
    (h : ((((1 : Int32) <<< (x1 &&& 31)) ≤ x12 →
      (C x2).1 = 4 ∧
      ∃ q3 : Nat, R x2 0 = some q3 ∧
      (C q3).1 = 21 ∧
      vp_in x7 (C q3).2 ∧
      ∀ J6 : MJ, J6 = va_up J q3 (va_up (J q3) x7.toNatClampNeg (x8 - x3)) →
      ∃ q7 : Nat, R x2 1 = some q7 ∧
      (C q7).1 = 21 ∧
      vp_in x7 (C q7).2 ∧
      ∀ J10 : MJ, J10 = va_up J6 q7 (va_up (J6 q7) x7.toNatClampNeg (x10 - x5)) →
      Q85 x0 x1 x2 x8 x10 (x7 + 1) C I J10 R) ∧
      (¬ ((1 : Int32) <<< (x1 &&& 31)) ≤ x12 →
      Q179 x0 x1 x2 x3 x5 x7 x8 x10 x12 (1 : Int64) (1 : Int64) (0 : Int32) C I J R))) :
    AW Γ 0 0 C I J R 162 [(0, aR (some x0)), (1, aI x1), (2, aR (some x2)), (3, aJ x3), (5, aJ x5), (7, aI x7), (8, aJ x8), (10, aJ x10), (12, aI x12)] [] := by
  have G0 := G.1
  refine aw_iload G0 8 rfl dX7_table_162 ?_
  refine aw_iconst (v := (1 : Int32)) G0 dX7_table_164 (by decide) ?_
  refine aw_iload_n G0 1 rfl dX7_table_165 ?_
  refine aw_ishl G0 dX7_table_166 ?_
  refine aw_icmp_ge G0 309 dX7_table_167 (by decide) (fun c1 => ?_) (fun c1 => ?_)
  · have h := h.1 c1
    refine aw_aload_n G0 2 rfl dX7_table_309 ?_
    obtain ⟨k2, h⟩ := h
    refine aw_getR (f := 0) G0 (by rw [k2]; exact fb_X7_54) dX7_table_310 ?_
    refine aw_iload G0 5 rfl dX7_table_313 ?_
    refine aw_lload G0 6 rfl dX7_table_315 ?_
    refine aw_lload_n G0 3 rfl dX7_table_317 ?_
    refine aw_lsub G0 dX7_table_318 ?_
    obtain ⟨q3, e3, h⟩ := h
    refine aw_dr2 e3 ?_
    obtain ⟨k4, h⟩ := h
    obtain ⟨k5, h⟩ := h
    refine aw_last G0 k4 k5 dX7_table_319 ?_
    generalize gJ6 : va_up J q3 (va_up (J q3) x7.toNatClampNeg (x8 - x3)) = J6
    have h := h J6 gJ6.symm
    refine aw_aload_n G0 2 rfl dX7_table_320 ?_
    refine aw_getR (f := 1) G0 (by rw [k2]; exact fb_X7_57) dX7_table_321 ?_
    refine aw_iload G0 5 rfl dX7_table_324 ?_
    refine aw_lload G0 7 rfl dX7_table_326 ?_
    refine aw_lload G0 4 rfl dX7_table_328 ?_
    refine aw_lsub G0 dX7_table_330 ?_
    obtain ⟨q7, e7, h⟩ := h
    refine aw_dr2 e7 ?_
    obtain ⟨k8, h⟩ := h
    obtain ⟨k9, h⟩ := h
    refine aw_last G0 k8 k9 dX7_table_331 ?_
    generalize gJ10 : va_up J6 q7 (va_up (J6 q7) x7.toNatClampNeg (x10 - x5)) = J10
    have h := h J10 gJ10.symm
    refine aw_lload G0 6 rfl dX7_table_332 ?_
    refine aw_lstore_n (lv' := [(3, aJ x8), (0, aR (some x0)), (1, aI x1), (2, aR (some x2)), (5, aJ x5), (7, aI x7), (8, aJ x8), (10, aJ x10), (12, aI x12)]) G0 (by decide) rfl dX7_table_334 ?_
    refine aw_lload G0 7 rfl dX7_table_335 ?_
    refine aw_lstore (lv' := [(5, aJ x10), (3, aJ x8), (0, aR (some x0)), (1, aI x1), (2, aR (some x2)), (7, aI x7), (8, aJ x8), (10, aJ x10), (12, aI x12)]) G0 (by decide) rfl dX7_table_337 ?_
    refine aw_iinc (v := x7 + 1) (lv' := [(7, aI (x7 + 1)), (5, aJ x10), (3, aJ x8), (0, aR (some x0)), (1, aI x1), (2, aR (some x2)), (8, aJ x8), (10, aJ x10), (12, aI x12)]) G0 5 rfl rfl (by decide) rfl dX7_table_339 ?_
    refine aw_goto G0 85 dX7_table_342 (by decide) ?_
    exact (aw_lv [3, 4, 5, 2, 1, 0] rfl (w85 x0 x1 x2 x8 x10 (x7 + 1) C I J10 R h))
  · have h := h.2 c1
    refine aw_lconst (v := (1 : Int64)) G0 dX7_table_170 (by decide) ?_
    refine aw_lstore (lv' := [(13, aJ (1 : Int64)), (0, aR (some x0)), (1, aI x1), (2, aR (some x2)), (3, aJ x3), (5, aJ x5), (7, aI x7), (8, aJ x8), (10, aJ x10), (12, aI x12)]) G0 (by decide) rfl dX7_table_171 ?_
    refine aw_lconst (v := (1 : Int64)) G0 dX7_table_173 (by decide) ?_
    refine aw_lstore (lv' := [(15, aJ (1 : Int64)), (13, aJ (1 : Int64)), (0, aR (some x0)), (1, aI x1), (2, aR (some x2)), (3, aJ x3), (5, aJ x5), (7, aI x7), (8, aJ x8), (10, aJ x10), (12, aI x12)]) G0 (by decide) rfl dX7_table_174 ?_
    refine aw_iconst (v := (0 : Int32)) G0 dX7_table_176 (by decide) ?_
    refine aw_istore (lv' := [(17, aI (0 : Int32)), (15, aJ (1 : Int64)), (13, aJ (1 : Int64)), (0, aR (some x0)), (1, aI x1), (2, aR (some x2)), (3, aJ x3), (5, aJ x5), (7, aI x7), (8, aJ x8), (10, aJ x10), (12, aI x12)]) G0 (by decide) rfl dX7_table_177 ?_
    exact (aw_lv [3, 4, 5, 6, 7, 8, 9, 10, 11, 2, 1, 0] rfl (w179 x0 x1 x2 x3 x5 x7 x8 x10 x12 (1 : Int64) (1 : Int64) (0 : Int32) C I J R h))
theorem bX7_table_179 {d : Nat} (G : Gb Γ yX7_table cX7_table 19 (some (.object "TickShare$Table")) [] (rmTb (d + 1)) bdX7_table) {F_J8_bitCount : SPF} (S_J8_bitCount : SpJ8_bitCount (gL Γ) F_J8_bitCount)
    {Q201 : Nat → Int32 → Nat → Int64 → Int64 → Int32 → Int64 → Int64 → Int32 → Int64 → Int64 → Int32 → Int32 → MC → MI → MJ → MR → Prop} (w201 : ∀ (x0 : Nat) (x1 : Int32) (x2 : Nat) (x3 : Int64) (x5 : Int64) (x7 : Int32) (x8 : Int64) (x10 : Int64) (x12 : Int32) (x13 : Int64) (x15 : Int64) (x17 : Int32) (s0 : Int32) (C : MC) (I : MI) (J : MJ) (R : MR), Q201 x0 x1 x2 x3 x5 x7 x8 x10 x12 x13 x15 x17 s0 C I J R → AW Γ 0 0 C I J R 201 [(0, aR (some x0)), (1, aI x1), (2, aR (some x2)), (3, aJ x3), (5, aJ x5), (7, aI x7), (8, aJ x8), (10, aJ x10), (12, aI x12), (13, aJ x13), (15, aJ x15), (17, aI x17)] [aI s0])
    {Q303 : Nat → Int32 → Nat → Int64 → Int64 → Int32 → Int64 → Int64 → Int32 → MC → MI → MJ → MR → Prop} (w303 : ∀ (x0 : Nat) (x1 : Int32) (x2 : Nat) (x3 : Int64) (x5 : Int64) (x7 : Int32) (x8 : Int64) (x10 : Int64) (x12 : Int32) (C : MC) (I : MI) (J : MJ) (R : MR), Q303 x0 x1 x2 x3 x5 x7 x8 x10 x12 C I J R → AW Γ 0 0 C I J R 303 [(0, aR (some x0)), (1, aI x1), (2, aR (some x2)), (3, aJ x3), (5, aJ x5), (7, aI x7), (8, aJ x8), (10, aJ x10), (12, aI x12)] []) {x0 : Nat} {x1 : Int32} {x2 : Nat} {x3 : Int64} {x5 : Int64} {x7 : Int32} {x8 : Int64} {x10 : Int64} {x12 : Int32} {x13 : Int64} {x15 : Int64} {x17 : Int32}
    (h : ((x1 ≤ x17 →
      F_J8_bitCount [aI x12] C I J R (fun o C2 I3 J4 R5 =>
      ∃ r6 : Int32, o = .inl (some (aI r6)) ∧
      (C2 x0).1 = 7 ∧
      ((r6 < (I3 x0 8) →
      Q303 x0 x1 x2 x3 x5 x7 x8 (x10 + x15) x12 C2 I3 J4 R5) ∧
      (¬ r6 < (I3 x0 8) →
      Q303 x0 x1 x2 x3 x5 x7 (x8 + x13) x10 x12 C2 I3 J4 R5)))) ∧
      (¬ x1 ≤ x17 →
      ((¬ ((x12 >>> (x17 &&& 31)) &&& (1 : Int32)) = (1 : Int32) →
      Q201 x0 x1 x2 x3 x5 x7 x8 x10 x12 x13 x15 x17 (0 : Int32) C I J R) ∧
      (((x12 >>> (x17 &&& 31)) &&& (1 : Int32)) = (1 : Int32) →
      Q201 x0 x1 x2 x3 x5 x7 x8 x10 x12 x13 x15 x17 (1 : Int32) C I J R))))) :
    AW Γ 0 0 C I J R 179 [(0, aR (some x0)), (1, aI x1), (2, aR (some x2)), (3, aJ x3), (5, aJ x5), (7, aI x7), (8, aJ x8), (10, aJ x10), (12, aI x12), (13, aJ x13), (15, aJ x15), (17, aI x17)] [] := by
  have G0 := G.1
  refine aw_iload G0 11 rfl dX7_table_179 ?_
  refine aw_iload_n G0 1 rfl dX7_table_181 ?_
  refine aw_icmp_ge G0 274 dX7_table_182 (by decide) (fun c1 => ?_) (fun c1 => ?_)
  · have h := h.1 c1
    refine aw_iload G0 8 rfl dX7_table_274 ?_
    refine aw_callS (k1 := 0) (n1 := 0) (k2 := 0) (n2 := 0) (st := []) G0 S_J8_bitCount gi_X7_60 md_J8_bitCount (Nat.le_of_ble_eq_true rfl) (by decide) (by rw [G.2.1]; dsimp only [rmTb, rmBo, rmTo, rmLv, rmJ8_bitCount]; omega) (by rw [G.2.1]; dsimp only [rmTb, rmBo, rmTo, rmLv, rmJ8_bitCount]; omega) [aI x12] rfl rfl dX7_table_276 h (fun o C2 I3 J4 R5 h => ?_)
    obtain ⟨r6, rfl, h⟩ := h
    show AW Γ 0 0 C2 I3 J4 R5 (276 + 3) [(0, aR (some x0)), (1, aI x1), (2, aR (some x2)), (3, aJ x3), (5, aJ x5), (7, aI x7), (8, aJ x8), (10, aJ x10), (12, aI x12), (13, aJ x13), (15, aJ x15), (17, aI x17)] [aI r6]
    refine aw_aload_n G0 0 rfl dX7_table_279 ?_
    obtain ⟨k7, h⟩ := h
    refine aw_getI (f := 8) G0 (by rw [k7]; exact fb_X7_9) dX7_table_280 ?_
    refine aw_icmp_lt G0 296 dX7_table_283 (by decide) (fun c8 => ?_) (fun c8 => ?_)
    · have h := h.1 c8
      refine aw_lload G0 7 rfl dX7_table_296 ?_
      refine aw_lload G0 10 rfl dX7_table_298 ?_
      refine aw_ladd G0 dX7_table_300 ?_
      refine aw_lstore (lv' := [(10, aJ (x10 + x15)), (0, aR (some x0)), (1, aI x1), (2, aR (some x2)), (3, aJ x3), (5, aJ x5), (7, aI x7), (8, aJ x8), (12, aI x12), (13, aJ x13), (15, aJ x15), (17, aI x17)]) G0 (by decide) rfl dX7_table_301 ?_
      exact (aw_lv [1, 2, 3, 4, 5, 6, 7, 0, 8] rfl (w303 x0 x1 x2 x3 x5 x7 x8 (x10 + x15) x12 C2 I3 J4 R5 h))
    · have h := h.2 c8
      refine aw_lload G0 6 rfl dX7_table_286 ?_
      refine aw_lload G0 9 rfl dX7_table_288 ?_
      refine aw_ladd G0 dX7_table_290 ?_
      refine aw_lstore (lv' := [(8, aJ (x8 + x13)), (0, aR (some x0)), (1, aI x1), (2, aR (some x2)), (3, aJ x3), (5, aJ x5), (7, aI x7), (10, aJ x10), (12, aI x12), (13, aJ x13), (15, aJ x15), (17, aI x17)]) G0 (by decide) rfl dX7_table_291 ?_
      refine aw_goto G0 303 dX7_table_293 (by decide) ?_
      exact (aw_lv [1, 2, 3, 4, 5, 6, 0, 7, 8] rfl (w303 x0 x1 x2 x3 x5 x7 (x8 + x13) x10 x12 C2 I3 J4 R5 h))
  · have h := h.2 c1
    refine aw_iload G0 8 rfl dX7_table_185 ?_
    refine aw_iload G0 11 rfl dX7_table_187 ?_
    refine aw_ishr G0 dX7_table_189 ?_
    refine aw_iconst (v := (1 : Int32)) G0 dX7_table_190 (by decide) ?_
    refine aw_iand G0 dX7_table_191 ?_
    refine aw_iconst (v := (1 : Int32)) G0 dX7_table_192 (by decide) ?_
    refine aw_icmp_ne G0 200 dX7_table_193 (by decide) (fun c9 => ?_) (fun c9 => ?_)
    · have h := h.1 c9
      refine aw_iconst (v := (0 : Int32)) G0 dX7_table_200 (by decide) ?_
      exact (w201 x0 x1 x2 x3 x5 x7 x8 x10 x12 x13 x15 x17 (0 : Int32) C I J R h)
    · have h := h.2 c9
      refine aw_iconst (v := (1 : Int32)) G0 dX7_table_196 (by decide) ?_
      refine aw_goto G0 201 dX7_table_197 (by decide) ?_
      exact (w201 x0 x1 x2 x3 x5 x7 x8 x10 x12 x13 x15 x17 (1 : Int32) C I J R h)
theorem bX7_table_201 {d : Nat} (G : Gb Γ yX7_table cX7_table 19 (some (.object "TickShare$Table")) [] (rmTb (d + 1)) bdX7_table)
    {Q238 : Nat → Int32 → Nat → Int64 → Int64 → Int32 → Int64 → Int64 → Int32 → Int64 → Int32 → Int32 → Int64 → Int64 → MC → MI → MJ → MR → Prop} (w238 : ∀ (x0 : Nat) (x1 : Int32) (x2 : Nat) (x3 : Int64) (x5 : Int64) (x7 : Int32) (x8 : Int64) (x10 : Int64) (x12 : Int32) (x15 : Int64) (x17 : Int32) (x18 : Int32) (s0 : Int64) (s1 : Int64) (C : MC) (I : MI) (J : MJ) (R : MR), Q238 x0 x1 x2 x3 x5 x7 x8 x10 x12 x15 x17 x18 s0 s1 C I J R → AW Γ 0 0 C I J R 238 [(0, aR (some x0)), (1, aI x1), (2, aR (some x2)), (3, aJ x3), (5, aJ x5), (7, aI x7), (8, aJ x8), (10, aJ x10), (12, aI x12), (15, aJ x15), (17, aI x17), (18, aI x18)] [aJ s1, aJ s0]) {x0 : Nat} {x1 : Int32} {x2 : Nat} {x3 : Int64} {x5 : Int64} {x7 : Int32} {x8 : Int64} {x10 : Int64} {x12 : Int32} {x13 : Int64} {x15 : Int64} {x17 : Int32} {s0 : Int32}
    (h : ((s0 = 0 →
      (C x0).1 = 7 ∧
      ∃ q3 : Nat, R x0 9 = some q3 ∧
      (25 ≤ (C q3).1 ∧ (C q3).1 < 30) ∧
      vp_in x17 (C q3).2 ∧
      ∃ q6 : Nat, R q3 x17.toNatClampNeg = some q6 ∧
      (C q6).1 = 4 ∧
      ∃ q8 : Nat, R x0 10 = some q8 ∧
      (C q8).1 = 21 ∧
      vp_in x17 (C q8).2 ∧
      Q238 x0 x1 x2 x3 x5 x7 x8 x10 x12 x15 x17 s0 x13 ((J q6 2) - (J q8 x17.toNatClampNeg)) C I J R) ∧
      (¬ s0 = 0 →
      (C x0).1 = 7 ∧
      ∃ q12 : Nat, R x0 10 = some q12 ∧
      (C q12).1 = 21 ∧
      vp_in x17 (C q12).2 ∧
      Q238 x0 x1 x2 x3 x5 x7 x8 x10 x12 x15 x17 s0 x13 (J q12 x17.toNatClampNeg) C I J R))) :
    AW Γ 0 0 C I J R 201 [(0, aR (some x0)), (1, aI x1), (2, aR (some x2)), (3, aJ x3), (5, aJ x5), (7, aI x7), (8, aJ x8), (10, aJ x10), (12, aI x12), (13, aJ x13), (15, aJ x15), (17, aI x17)] [aI s0] := by
  have G0 := G.1
  refine aw_istore (lv' := [(18, aI s0), (0, aR (some x0)), (1, aI x1), (2, aR (some x2)), (3, aJ x3), (5, aJ x5), (7, aI x7), (8, aJ x8), (10, aJ x10), (12, aI x12), (13, aJ x13), (15, aJ x15), (17, aI x17)]) G0 (by decide) rfl dX7_table_201 ?_
  refine aw_lload G0 10 rfl dX7_table_203 ?_
  refine aw_iload G0 0 rfl dX7_table_205 ?_
  refine aw_if_eq G0 220 dX7_table_207 (by decide) (fun c1 => ?_) (fun c1 => ?_)
  · have h := h.1 c1
    refine aw_aload_n G0 1 rfl dX7_table_220 ?_
    obtain ⟨k2, h⟩ := h
    refine aw_getR (f := 9) G0 (by rw [k2]; exact fb_X7_17) dX7_table_221 ?_
    refine aw_iload G0 12 rfl dX7_table_224 ?_
    obtain ⟨q3, e3, h⟩ := h
    refine aw_dr1 e3 ?_
    obtain ⟨k4, h⟩ := h
    obtain ⟨k5, h⟩ := h
    refine aw_aald G0 k4 k5 dX7_table_226 ?_
    obtain ⟨q6, e6, h⟩ := h
    refine aw_dr0 e6 ?_
    obtain ⟨k7, h⟩ := h
    refine aw_getJ (f := 2) G0 (by rw [k7]; exact fb_X7_46) dX7_table_227 ?_
    refine aw_aload_n G0 1 rfl dX7_table_230 ?_
    refine aw_getR (f := 10) G0 (by rw [k2]; exact fb_X7_21) dX7_table_231 ?_
    refine aw_iload G0 12 rfl dX7_table_234 ?_
    obtain ⟨q8, e8, h⟩ := h
    refine aw_dr1 e8 ?_
    obtain ⟨k9, h⟩ := h
    obtain ⟨k10, h⟩ := h
    refine aw_lald G0 k9 k10 dX7_table_236 ?_
    refine aw_lsub G0 dX7_table_237 ?_
    exact (aw_lv [1, 2, 3, 4, 5, 6, 7, 8, 9, 11, 12, 0] rfl (w238 x0 x1 x2 x3 x5 x7 x8 x10 x12 x15 x17 s0 x13 ((J q6 2) - (J q8 x17.toNatClampNeg)) C I J R h))
  · have h := h.2 c1
    refine aw_aload_n G0 1 rfl dX7_table_210 ?_
    obtain ⟨k11, h⟩ := h
    refine aw_getR (f := 10) G0 (by rw [k11]; exact fb_X7_21) dX7_table_211 ?_
    refine aw_iload G0 12 rfl dX7_table_214 ?_
    obtain ⟨q12, e12, h⟩ := h
    refine aw_dr1 e12 ?_
    obtain ⟨k13, h⟩ := h
    obtain ⟨k14, h⟩ := h
    refine aw_lald G0 k13 k14 dX7_table_216 ?_
    refine aw_goto G0 238 dX7_table_217 (by decide) ?_
    exact (aw_lv [1, 2, 3, 4, 5, 6, 7, 8, 9, 11, 12, 0] rfl (w238 x0 x1 x2 x3 x5 x7 x8 x10 x12 x15 x17 s0 x13 (J q12 x17.toNatClampNeg) C I J R h))
theorem bX7_table_238 {d : Nat} (G : Gb Γ yX7_table cX7_table 19 (some (.object "TickShare$Table")) [] (rmTb (d + 1)) bdX7_table)
    {Q265 : Nat → Int32 → Nat → Int64 → Int64 → Int32 → Int64 → Int64 → Int32 → Int64 → Int32 → Int64 → Int64 → MC → MI → MJ → MR → Prop} (w265 : ∀ (x0 : Nat) (x1 : Int32) (x2 : Nat) (x3 : Int64) (x5 : Int64) (x7 : Int32) (x8 : Int64) (x10 : Int64) (x12 : Int32) (x13 : Int64) (x17 : Int32) (s0 : Int64) (s1 : Int64) (C : MC) (I : MI) (J : MJ) (R : MR), Q265 x0 x1 x2 x3 x5 x7 x8 x10 x12 x13 x17 s0 s1 C I J R → AW Γ 0 0 C I J R 265 [(0, aR (some x0)), (1, aI x1), (2, aR (some x2)), (3, aJ x3), (5, aJ x5), (7, aI x7), (8, aJ x8), (10, aJ x10), (12, aI x12), (13, aJ x13), (17, aI x17)] [aJ s1, aJ s0]) {x0 : Nat} {x1 : Int32} {x2 : Nat} {x3 : Int64} {x5 : Int64} {x7 : Int32} {x8 : Int64} {x10 : Int64} {x12 : Int32} {x15 : Int64} {x17 : Int32} {x18 : Int32} {s0 : Int64} {s1 : Int64}
    (h : ((x18 = 0 →
      (C x0).1 = 7 ∧
      ∃ q3 : Nat, R x0 11 = some q3 ∧
      (C q3).1 = 21 ∧
      vp_in x17 (C q3).2 ∧
      Q265 x0 x1 x2 x3 x5 x7 x8 x10 x12 (s0 * s1) x17 x15 (J q3 x17.toNatClampNeg) C I J R) ∧
      (¬ x18 = 0 →
      (C x0).1 = 7 ∧
      ∃ q7 : Nat, R x0 10 = some q7 ∧
      (C q7).1 = 21 ∧
      vp_in x17 (C q7).2 ∧
      Q265 x0 x1 x2 x3 x5 x7 x8 x10 x12 (s0 * s1) x17 x15 (J q7 x17.toNatClampNeg) C I J R))) :
    AW Γ 0 0 C I J R 238 [(0, aR (some x0)), (1, aI x1), (2, aR (some x2)), (3, aJ x3), (5, aJ x5), (7, aI x7), (8, aJ x8), (10, aJ x10), (12, aI x12), (15, aJ x15), (17, aI x17), (18, aI x18)] [aJ s1, aJ s0] := by
  have G0 := G.1
  refine aw_lmul G0 dX7_table_238 ?_
  refine aw_lstore (lv' := [(13, aJ (s0 * s1)), (0, aR (some x0)), (1, aI x1), (2, aR (some x2)), (3, aJ x3), (5, aJ x5), (7, aI x7), (8, aJ x8), (10, aJ x10), (12, aI x12), (15, aJ x15), (17, aI x17), (18, aI x18)]) G0 (by decide) rfl dX7_table_239 ?_
  refine aw_lload G0 10 rfl dX7_table_241 ?_
  refine aw_iload G0 12 rfl dX7_table_243 ?_
  refine aw_if_eq G0 258 dX7_table_245 (by decide) (fun c1 => ?_) (fun c1 => ?_)
  · have h := h.1 c1
    refine aw_aload_n G0 1 rfl dX7_table_258 ?_
    obtain ⟨k2, h⟩ := h
    refine aw_getR (f := 11) G0 (by rw [k2]; exact fb_X7_25) dX7_table_259 ?_
    refine aw_iload G0 11 rfl dX7_table_262 ?_
    obtain ⟨q3, e3, h⟩ := h
    refine aw_dr1 e3 ?_
    obtain ⟨k4, h⟩ := h
    obtain ⟨k5, h⟩ := h
    refine aw_lald G0 k4 k5 dX7_table_264 ?_
    exact (aw_lv [1, 2, 3, 4, 5, 6, 7, 8, 9, 0, 11] rfl (w265 x0 x1 x2 x3 x5 x7 x8 x10 x12 (s0 * s1) x17 x15 (J q3 x17.toNatClampNeg) C I J R h))
  · have h := h.2 c1
    refine aw_aload_n G0 1 rfl dX7_table_248 ?_
    obtain ⟨k6, h⟩ := h
    refine aw_getR (f := 10) G0 (by rw [k6]; exact fb_X7_21) dX7_table_249 ?_
    refine aw_iload G0 11 rfl dX7_table_252 ?_
    obtain ⟨q7, e7, h⟩ := h
    refine aw_dr1 e7 ?_
    obtain ⟨k8, h⟩ := h
    obtain ⟨k9, h⟩ := h
    refine aw_lald G0 k8 k9 dX7_table_254 ?_
    refine aw_goto G0 265 dX7_table_255 (by decide) ?_
    exact (aw_lv [1, 2, 3, 4, 5, 6, 7, 8, 9, 0, 11] rfl (w265 x0 x1 x2 x3 x5 x7 x8 x10 x12 (s0 * s1) x17 x15 (J q7 x17.toNatClampNeg) C I J R h))
theorem bX7_table_265 {d : Nat} (G : Gb Γ yX7_table cX7_table 19 (some (.object "TickShare$Table")) [] (rmTb (d + 1)) bdX7_table)
    {Q179 : Nat → Int32 → Nat → Int64 → Int64 → Int32 → Int64 → Int64 → Int32 → Int64 → Int64 → Int32 → MC → MI → MJ → MR → Prop} (w179 : ∀ (x0 : Nat) (x1 : Int32) (x2 : Nat) (x3 : Int64) (x5 : Int64) (x7 : Int32) (x8 : Int64) (x10 : Int64) (x12 : Int32) (x13 : Int64) (x15 : Int64) (x17 : Int32) (C : MC) (I : MI) (J : MJ) (R : MR), Q179 x0 x1 x2 x3 x5 x7 x8 x10 x12 x13 x15 x17 C I J R → AW Γ 0 0 C I J R 179 [(0, aR (some x0)), (1, aI x1), (2, aR (some x2)), (3, aJ x3), (5, aJ x5), (7, aI x7), (8, aJ x8), (10, aJ x10), (12, aI x12), (13, aJ x13), (15, aJ x15), (17, aI x17)] []) {x0 : Nat} {x1 : Int32} {x2 : Nat} {x3 : Int64} {x5 : Int64} {x7 : Int32} {x8 : Int64} {x10 : Int64} {x12 : Int32} {x13 : Int64} {x17 : Int32} {s0 : Int64} {s1 : Int64}
    (h : Q179 x0 x1 x2 x3 x5 x7 x8 x10 x12 x13 (s0 * s1) (x17 + 1) C I J R) :
    AW Γ 0 0 C I J R 265 [(0, aR (some x0)), (1, aI x1), (2, aR (some x2)), (3, aJ x3), (5, aJ x5), (7, aI x7), (8, aJ x8), (10, aJ x10), (12, aI x12), (13, aJ x13), (17, aI x17)] [aJ s1, aJ s0] := by
  have G0 := G.1
  refine aw_lmul G0 dX7_table_265 ?_
  refine aw_lstore (lv' := [(15, aJ (s0 * s1)), (0, aR (some x0)), (1, aI x1), (2, aR (some x2)), (3, aJ x3), (5, aJ x5), (7, aI x7), (8, aJ x8), (10, aJ x10), (12, aI x12), (13, aJ x13), (17, aI x17)]) G0 (by decide) rfl dX7_table_266 ?_
  refine aw_iinc (v := x17 + 1) (lv' := [(17, aI (x17 + 1)), (15, aJ (s0 * s1)), (0, aR (some x0)), (1, aI x1), (2, aR (some x2)), (3, aJ x3), (5, aJ x5), (7, aI x7), (8, aJ x8), (10, aJ x10), (12, aI x12), (13, aJ x13)]) G0 11 rfl rfl (by decide) rfl dX7_table_268 ?_
  refine aw_goto G0 179 dX7_table_271 (by decide) ?_
  exact (aw_lv [2, 3, 4, 5, 6, 7, 8, 9, 10, 11, 1, 0] rfl (w179 x0 x1 x2 x3 x5 x7 x8 x10 x12 x13 (s0 * s1) (x17 + 1) C I J R h))
theorem bX7_table_303 {d : Nat} (G : Gb Γ yX7_table cX7_table 19 (some (.object "TickShare$Table")) [] (rmTb (d + 1)) bdX7_table)
    {Q162 : Nat → Int32 → Nat → Int64 → Int64 → Int32 → Int64 → Int64 → Int32 → MC → MI → MJ → MR → Prop} (w162 : ∀ (x0 : Nat) (x1 : Int32) (x2 : Nat) (x3 : Int64) (x5 : Int64) (x7 : Int32) (x8 : Int64) (x10 : Int64) (x12 : Int32) (C : MC) (I : MI) (J : MJ) (R : MR), Q162 x0 x1 x2 x3 x5 x7 x8 x10 x12 C I J R → AW Γ 0 0 C I J R 162 [(0, aR (some x0)), (1, aI x1), (2, aR (some x2)), (3, aJ x3), (5, aJ x5), (7, aI x7), (8, aJ x8), (10, aJ x10), (12, aI x12)] []) {x0 : Nat} {x1 : Int32} {x2 : Nat} {x3 : Int64} {x5 : Int64} {x7 : Int32} {x8 : Int64} {x10 : Int64} {x12 : Int32}
    (h : Q162 x0 x1 x2 x3 x5 x7 x8 x10 (x12 + 1) C I J R) :
    AW Γ 0 0 C I J R 303 [(0, aR (some x0)), (1, aI x1), (2, aR (some x2)), (3, aJ x3), (5, aJ x5), (7, aI x7), (8, aJ x8), (10, aJ x10), (12, aI x12)] [] := by
  have G0 := G.1
  refine aw_iinc (v := x12 + 1) (lv' := [(12, aI (x12 + 1)), (0, aR (some x0)), (1, aI x1), (2, aR (some x2)), (3, aJ x3), (5, aJ x5), (7, aI x7), (8, aJ x8), (10, aJ x10)]) G0 8 rfl rfl (by decide) rfl dX7_table_303 ?_
  refine aw_goto G0 162 dX7_table_306 (by decide) ?_
  exact (aw_lv [1, 2, 3, 4, 5, 6, 7, 8, 0] rfl (w162 x0 x1 x2 x3 x5 x7 x8 x10 (x12 + 1) C I J R h))
theorem bX7_bounds_0 {d : Nat} (G : Gb Γ yX7_bounds cX7_bounds 10 (some .long) [] (rmBo (d + 1)) bdX7_bounds) {F_X6_tops : SPF} (S_X6_tops : SpX6_tops (gL Γ) (d + 1) F_X6_tops) {F_X0_times : SPF} (S_X0_times : SpX0_times (gL Γ) F_X0_times) {F_X0_bounded : SPF} (S_X0_bounded : SpX0_bounded (gL Γ) F_X0_bounded)
    {Q40 : Nat → Nat → Nat → Int64 → Int32 → MC → MI → MJ → MR → Prop} (w40 : ∀ (x0 : Nat) (x1 : Nat) (x2 : Nat) (x4 : Int64) (x6 : Int32) (C : MC) (I : MI) (J : MJ) (R : MR), Q40 x0 x1 x2 x4 x6 C I J R → AW Γ 0 0 C I J R 40 [(0, aR (some x0)), (1, aR (some x1)), (2, aR (some x2)), (4, aJ x4), (6, aI x6)] []) {x0 : Nat} {x1 : Nat}
    (h : (C x0).1 = 7 ∧
      F_X6_tops [aR (some x0)] C I J R (fun o C2 I3 J4 R5 =>
      (∃ r6 : Nat, o = .inl (some (aR (some r6))) ∧
      (C2 x0).1 = 7 ∧
      ∃ q8 : Nat, R5 x0 0 = some q8 ∧
      (20 ≤ (C2 q8).1 ∧ (C2 q8).1 ≤ 30) ∧
      (25 ≤ (C2 r6).1 ∧ (C2 r6).1 < 30) ∧
      vp_in (nI (C2 q8).2) (C2 r6).2 ∧
      ∃ q12 : Nat, R5 r6 (nI (C2 q8).2).toNatClampNeg = some q12 ∧
      (C2 q12).1 = 21 ∧
      vp_in (0 : Int32) (C2 q12).2 ∧
      F_X0_times [aJ (J4 q12 (0 : Int32).toNatClampNeg), aJ ((((nI (C2 q8).2) - (I3 x0 8)) + (1 : Int32)).toInt64)] C2 I3 J4 R5 (fun o C15 I16 J17 R18 =>
      (∃ r19 : Int64, o = .inl (some (aJ r19)) ∧
      F_X0_bounded [aJ r19] C15 I16 J17 R18 (fun o C20 I21 J22 R23 =>
      (∃ r24 : Int64, o = .inl (some (aJ r24)) ∧
      Q40 x0 x1 r6 r24 (0 : Int32) C20 I21 J22 R23) ∨
      (∃ q25 : Nat, o = .inr q25 ∧
      ((C20 q25).1 = 11 ∧
      gK Γ (.inr q25) C20 I21 J22 R23)))) ∨
      (∃ q27 : Nat, o = .inr q27 ∧
      ((C15 q27).1 = 11 ∧
      gK Γ (.inr q27) C15 I16 J17 R18)))) ∨
      (∃ q29 : Nat, o = .inr q29 ∧
      ((C2 q29).1 = 11 ∧
      gK Γ (.inr q29) C2 I3 J4 R5)))) :
    AW Γ 0 0 C I J R 0 [(0, aR (some x0)), (1, aR (some x1))] [] := by
  have G0 := G.1
  refine aw_aload_n G0 0 rfl dX7_bounds_0 ?_
  obtain ⟨k1, h⟩ := h
  refine vc_X7_69 (k1 := 0) (n1 := 0) (k2 := 1) (n2 := 6) (st := []) G0 S_X6_tops k1 (Nat.le_of_ble_eq_true rfl) (by decide) (by rw [G.2.1]; dsimp only [rmTb, rmBo, rmTo, rmLv, bdv]; omega) (by rw [G.2.1]; dsimp only [rmTb, rmBo, rmTo, rmLv, bdv]; omega) [] rfl rfl dX7_bounds_1 h (fun o C2 I3 J4 R5 h => ?_)
  rcases h with ⟨r6, rfl, h⟩ | ⟨q29, rfl, h⟩
  · show AW Γ 0 0 C2 I3 J4 R5 (1 + 3) [(0, aR (some x0)), (1, aR (some x1))] [aR (some r6)]
    refine aw_astore_n (lv' := [(2, aR (some r6)), (0, aR (some x0)), (1, aR (some x1))]) G0 (by decide) rfl dX7_bounds_4 ?_
    refine aw_aload_n G0 1 rfl dX7_bounds_5 ?_
    obtain ⟨k7, h⟩ := h
    refine aw_getR (f := 0) G0 (by rw [k7]; exact fb_X7_28) dX7_bounds_6 ?_
    obtain ⟨q8, e8, h⟩ := h
    refine aw_dr0 e8 ?_
    obtain ⟨k9, h⟩ := h
    refine aw_alen (v := nI (C2 q8).2) G0 k9 rfl dX7_bounds_9 ?_
    refine aw_aload_n G0 1 rfl dX7_bounds_10 ?_
    refine aw_getI (f := 8) G0 (by rw [k7]; exact fb_X7_9) dX7_bounds_11 ?_
    refine aw_isub G0 dX7_bounds_14 ?_
    refine aw_iconst (v := (1 : Int32)) G0 dX7_bounds_15 (by decide) ?_
    refine aw_iadd G0 dX7_bounds_16 ?_
    refine aw_istore_n (lv' := [(3, aI (((nI (C2 q8).2) - (I3 x0 8)) + (1 : Int32))), (2, aR (some r6)), (0, aR (some x0)), (1, aR (some x1))]) G0 (by decide) rfl dX7_bounds_17 ?_
    refine aw_aload_n G0 1 rfl dX7_bounds_18 ?_
    refine aw_aload_n G0 2 rfl dX7_bounds_19 ?_
    refine aw_getR (f := 0) G0 (by rw [k7]; exact fb_X7_28) dX7_bounds_20 ?_
    refine aw_dr0 e8 ?_
    refine aw_alen (v := nI (C2 q8).2) G0 k9 rfl dX7_bounds_23 ?_
    obtain ⟨k10, h⟩ := h
    obtain ⟨k11, h⟩ := h
    refine aw_aald G0 k10 k11 dX7_bounds_24 ?_
    refine aw_iconst (v := (0 : Int32)) G0 dX7_bounds_25 (by decide) ?_
    obtain ⟨q12, e12, h⟩ := h
    refine aw_dr1 e12 ?_
    obtain ⟨k13, h⟩ := h
    obtain ⟨k14, h⟩ := h
    refine aw_lald G0 k13 k14 dX7_bounds_26 ?_
    refine aw_iload_n G0 0 rfl dX7_bounds_27 ?_
    refine aw_i2l G0 dX7_bounds_28 ?_
    refine aw_callSN (k1 := 0) (n1 := 0) (k2 := 1) (n2 := 6) (st := []) G0 S_X0_times q707 q658 q50 gw_X0_times md_X0_times (Nat.le_of_ble_eq_true rfl) (by decide) (by rw [G.2.1]; dsimp only [rmTb, rmBo, rmTo, rmLv, rmX0_times]; omega) (by rw [G.2.1]; dsimp only [rmTb, rmBo, rmTo, rmLv, rmX0_times]; omega) [aJ (J4 q12 (0 : Int32).toNatClampNeg), aJ ((((nI (C2 q8).2) - (I3 x0 8)) + (1 : Int32)).toInt64)] rfl rfl dX7_bounds_29 h (fun o C15 I16 J17 R18 h => ?_)
    rcases h with ⟨r19, rfl, h⟩ | ⟨q27, rfl, h⟩
    · show AW Γ 0 0 C15 I16 J17 R18 (29 + 3) [(3, aI (((nI (C2 q8).2) - (I3 x0 8)) + (1 : Int32))), (2, aR (some r6)), (0, aR (some x0)), (1, aR (some x1))] [aJ r19]
      refine aw_callSN (k1 := 0) (n1 := 0) (k2 := 1) (n2 := 6) (st := []) G0 S_X0_bounded q803 q800 q50 gw_X0_bounded md_X0_bounded (Nat.le_of_ble_eq_true rfl) (by decide) (by rw [G.2.1]; dsimp only [rmTb, rmBo, rmTo, rmLv, rmX0_bounded]; omega) (by rw [G.2.1]; dsimp only [rmTb, rmBo, rmTo, rmLv, rmX0_bounded]; omega) [aJ r19] rfl rfl dX7_bounds_32 h (fun o C20 I21 J22 R23 h => ?_)
      rcases h with ⟨r24, rfl, h⟩ | ⟨q25, rfl, h⟩
      · show AW Γ 0 0 C20 I21 J22 R23 (32 + 3) [(3, aI (((nI (C2 q8).2) - (I3 x0 8)) + (1 : Int32))), (2, aR (some r6)), (0, aR (some x0)), (1, aR (some x1))] [aJ r24]
        refine aw_lstore (lv' := [(4, aJ r24), (3, aI (((nI (C2 q8).2) - (I3 x0 8)) + (1 : Int32))), (2, aR (some r6)), (0, aR (some x0)), (1, aR (some x1))]) G0 (by decide) rfl dX7_bounds_35 ?_
        refine aw_iconst (v := (0 : Int32)) G0 dX7_bounds_37 (by decide) ?_
        refine aw_istore (lv' := [(6, aI (0 : Int32)), (4, aJ r24), (3, aI (((nI (C2 q8).2) - (I3 x0 8)) + (1 : Int32))), (2, aR (some r6)), (0, aR (some x0)), (1, aR (some x1))]) G0 (by decide) rfl dX7_bounds_38 ?_
        exact (aw_lv [4, 5, 3, 1, 0] rfl (w40 x0 x1 r6 r24 (0 : Int32) C20 I21 J22 R23 h))
      · show AX Γ 1 6 C20 I21 J22 R23 32 [(3, aI (((nI (C2 q8).2) - (I3 x0 8)) + (1 : Int32))), (2, aR (some r6)), (0, aR (some x0)), (1, aR (some x1))] q25
        obtain ⟨k26, h⟩ := h
        exact ax_out G0 rfl (Or.inr (Or.inl k26)) (by rw [G.2.2]; exact ⟨by decide, by decide⟩) (by rw [G.2.1]; exact ⟨Nat.le_refl 1, Nat.le_refl 6⟩) h
    · show AX Γ 1 6 C15 I16 J17 R18 29 [(3, aI (((nI (C2 q8).2) - (I3 x0 8)) + (1 : Int32))), (2, aR (some r6)), (0, aR (some x0)), (1, aR (some x1))] q27
      obtain ⟨k28, h⟩ := h
      exact ax_out G0 rfl (Or.inr (Or.inl k28)) (by rw [G.2.2]; exact ⟨by decide, by decide⟩) (by rw [G.2.1]; exact ⟨Nat.le_refl 1, Nat.le_refl 6⟩) h
  · show AX Γ 1 6 C2 I3 J4 R5 1 [(0, aR (some x0)), (1, aR (some x1))] q29
    obtain ⟨k30, h⟩ := h
    exact ax_out G0 rfl (Or.inr (Or.inl k30)) (by rw [G.2.2]; exact ⟨by decide, by decide⟩) (by rw [G.2.1]; exact ⟨Nat.le_refl 1, Nat.le_refl 6⟩) h
theorem bX7_bounds_40 {d : Nat} (G : Gb Γ yX7_bounds cX7_bounds 10 (some .long) [] (rmBo (d + 1)) bdX7_bounds)
    {Q53 : Nat → Nat → Nat → Int64 → Int32 → Int64 → Int32 → MC → MI → MJ → MR → Prop} (w53 : ∀ (x0 : Nat) (x1 : Nat) (x2 : Nat) (x4 : Int64) (x6 : Int32) (x7 : Int64) (x9 : Int32) (C : MC) (I : MI) (J : MJ) (R : MR), Q53 x0 x1 x2 x4 x6 x7 x9 C I J R → AW Γ 0 0 C I J R 53 [(0, aR (some x0)), (1, aR (some x1)), (2, aR (some x2)), (4, aJ x4), (6, aI x6), (7, aJ x7), (9, aI x9)] []) {x0 : Nat} {x1 : Nat} {x2 : Nat} {x4 : Int64} {x6 : Int32}
    (h : (((120 : Int32) < x6 →
      gK Γ (.inl (some (aJ x4))) C I J R) ∧
      (¬ (120 : Int32) < x6 →
      Q53 x0 x1 x2 x4 x6 (0 : Int64) (0 : Int32) C I J R))) :
    AW Γ 0 0 C I J R 40 [(0, aR (some x0)), (1, aR (some x1)), (2, aR (some x2)), (4, aJ x4), (6, aI x6)] [] := by
  have G0 := G.1
  refine aw_iload G0 4 rfl dX7_bounds_40 ?_
  refine aw_bipush (v := (120 : Int32)) G0 dX7_bounds_42 (by decide) ?_
  refine aw_icmp_gt G0 98 dX7_bounds_44 (by decide) (fun c1 => ?_) (fun c1 => ?_)
  · have h := h.1 c1
    refine aw_lload G0 3 rfl dX7_bounds_98 ?_
    exact aw_lreturn G0 (by rw [G.2.2]; exact ⟨by decide, by decide⟩) (by rw [G.2.1]; exact ⟨Nat.zero_le _, Nat.zero_le _⟩) dX7_bounds_100 h
  · have h := h.2 c1
    refine aw_lconst (v := (0 : Int64)) G0 dX7_bounds_47 (by decide) ?_
    refine aw_lstore (lv' := [(7, aJ (0 : Int64)), (0, aR (some x0)), (1, aR (some x1)), (2, aR (some x2)), (4, aJ x4), (6, aI x6)]) G0 (by decide) rfl dX7_bounds_48 ?_
    refine aw_iconst (v := (0 : Int32)) G0 dX7_bounds_50 (by decide) ?_
    refine aw_istore (lv' := [(9, aI (0 : Int32)), (7, aJ (0 : Int64)), (0, aR (some x0)), (1, aR (some x1)), (2, aR (some x2)), (4, aJ x4), (6, aI x6)]) G0 (by decide) rfl dX7_bounds_51 ?_
    exact (aw_lv [2, 3, 4, 5, 6, 1, 0] rfl (w53 x0 x1 x2 x4 x6 (0 : Int64) (0 : Int32) C I J R h))
theorem bX7_bounds_53 {d : Nat} (G : Gb Γ yX7_bounds cX7_bounds 10 (some .long) [] (rmBo (d + 1)) bdX7_bounds)
    {Q40 : Nat → Nat → Nat → Int64 → Int32 → MC → MI → MJ → MR → Prop} (w40 : ∀ (x0 : Nat) (x1 : Nat) (x2 : Nat) (x4 : Int64) (x6 : Int32) (C : MC) (I : MI) (J : MJ) (R : MR), Q40 x0 x1 x2 x4 x6 C I J R → AW Γ 0 0 C I J R 40 [(0, aR (some x0)), (1, aR (some x1)), (2, aR (some x2)), (4, aJ x4), (6, aI x6)] [])
    {Q53 : Nat → Nat → Nat → Int64 → Int32 → Int64 → Int32 → MC → MI → MJ → MR → Prop} (w53 : ∀ (x0 : Nat) (x1 : Nat) (x2 : Nat) (x4 : Int64) (x6 : Int32) (x7 : Int64) (x9 : Int32) (C : MC) (I : MI) (J : MJ) (R : MR), Q53 x0 x1 x2 x4 x6 x7 x9 C I J R → AW Γ 0 0 C I J R 53 [(0, aR (some x0)), (1, aR (some x1)), (2, aR (some x2)), (4, aJ x4), (6, aI x6), (7, aJ x7), (9, aI x9)] []) {x0 : Nat} {x1 : Nat} {x2 : Nat} {x4 : Int64} {x6 : Int32} {x7 : Int64} {x9 : Int32}
    (h : (C x0).1 = 7 ∧
      ∃ q2 : Nat, R x0 0 = some q2 ∧
      (20 ≤ (C q2).1 ∧ (C q2).1 ≤ 30) ∧
      (((nI (C q2).2) ≤ x9 →
      (C x1).1 = 21 ∧
      vp_in x6 (C x1).2 ∧
      ∀ J7 : MJ, J7 = va_up J x1 (va_up (J x1) x6.toNatClampNeg (if x7 < x4 then x7 else x4)) →
      Q40 x0 x1 x2 x4 (x6 + 1) C I J7 R) ∧
      (¬ (nI (C q2).2) ≤ x9 →
      (25 ≤ (C x2).1 ∧ (C x2).1 < 30) ∧
      vp_in x9 (C x2).2 ∧
      ∃ q10 : Nat, R x2 x9.toNatClampNeg = some q10 ∧
      (C q10).1 = 21 ∧
      vp_in x6 (C q10).2 ∧
      Q53 x0 x1 x2 x4 x6 (x7 + (J q10 x6.toNatClampNeg)) (x9 + 1) C I J R))) :
    AW Γ 0 0 C I J R 53 [(0, aR (some x0)), (1, aR (some x1)), (2, aR (some x2)), (4, aJ x4), (6, aI x6), (7, aJ x7), (9, aI x9)] [] := by
  have G0 := G.1
  refine aw_iload G0 6 rfl dX7_bounds_53 ?_
  refine aw_aload_n G0 0 rfl dX7_bounds_55 ?_
  obtain ⟨k1, h⟩ := h
  refine aw_getR (f := 0) G0 (by rw [k1]; exact fb_X7_28) dX7_bounds_56 ?_
  obtain ⟨q2, e2, h⟩ := h
  refine aw_dr0 e2 ?_
  obtain ⟨k3, h⟩ := h
  refine aw_alen (v := nI (C q2).2) G0 k3 rfl dX7_bounds_59 ?_
  refine aw_icmp_ge G0 81 dX7_bounds_60 (by decide) (fun c4 => ?_) (fun c4 => ?_)
  · have h := h.1 c4
    refine aw_aload_n G0 1 rfl dX7_bounds_81 ?_
    refine aw_iload G0 4 rfl dX7_bounds_82 ?_
    refine aw_lload G0 3 rfl dX7_bounds_84 ?_
    refine aw_lload G0 5 rfl dX7_bounds_86 ?_
    refine aw_mminl G0 q804 (by rw [G.2.1]; dsimp only [rmTb, rmBo, rmTo, rmLv]; omega) (by rw [G.2.1]; have h9 := nfw; dsimp only [rmTb, rmBo, rmTo, rmLv]; simp only [List.map_nil, List.map_cons, List.sum_nil, List.sum_cons, acat]; omega) (by rw [G.2.1]; exact ⟨Nat.zero_le _, Nat.zero_le _⟩) dX7_bounds_88 ?_
    obtain ⟨k5, h⟩ := h
    obtain ⟨k6, h⟩ := h
    refine aw_last G0 k5 k6 dX7_bounds_91 ?_
    generalize gJ7 : va_up J x1 (va_up (J x1) x6.toNatClampNeg (if x7 < x4 then x7 else x4)) = J7
    have h := h J7 gJ7.symm
    refine aw_iinc (v := x6 + 1) (lv' := [(6, aI (x6 + 1)), (0, aR (some x0)), (1, aR (some x1)), (2, aR (some x2)), (4, aJ x4), (7, aJ x7), (9, aI x9)]) G0 4 rfl rfl (by decide) rfl dX7_bounds_92 ?_
    refine aw_goto G0 40 dX7_bounds_95 (by decide) ?_
    exact (aw_lv [1, 2, 3, 4, 0] rfl (w40 x0 x1 x2 x4 (x6 + 1) C I J7 R h))
  · have h := h.2 c4
    refine aw_lload G0 5 rfl dX7_bounds_63 ?_
    refine aw_aload_n G0 2 rfl dX7_bounds_65 ?_
    refine aw_iload G0 6 rfl dX7_bounds_66 ?_
    obtain ⟨k8, h⟩ := h
    obtain ⟨k9, h⟩ := h
    refine aw_aald G0 k8 k9 dX7_bounds_68 ?_
    refine aw_iload G0 4 rfl dX7_bounds_69 ?_
    obtain ⟨q10, e10, h⟩ := h
    refine aw_dr1 e10 ?_
    obtain ⟨k11, h⟩ := h
    obtain ⟨k12, h⟩ := h
    refine aw_lald G0 k11 k12 dX7_bounds_71 ?_
    refine aw_ladd G0 dX7_bounds_72 ?_
    refine aw_lstore (lv' := [(7, aJ (x7 + (J q10 x6.toNatClampNeg))), (0, aR (some x0)), (1, aR (some x1)), (2, aR (some x2)), (4, aJ x4), (6, aI x6), (9, aI x9)]) G0 (by decide) rfl dX7_bounds_73 ?_
    refine aw_iinc (v := x9 + 1) (lv' := [(9, aI (x9 + 1)), (7, aJ (x7 + (J q10 x6.toNatClampNeg))), (0, aR (some x0)), (1, aR (some x1)), (2, aR (some x2)), (4, aJ x4), (6, aI x6)]) G0 6 rfl rfl (by decide) rfl dX7_bounds_75 ?_
    refine aw_goto G0 53 dX7_bounds_78 (by decide) ?_
    exact (aw_lv [2, 3, 4, 5, 6, 1, 0] rfl (w53 x0 x1 x2 x4 x6 (x7 + (J q10 x6.toNatClampNeg)) (x9 + 1) C I J R h))
theorem bX8_init_0 (G : Gb Γ yX8_init cX8_init 5 (none) [] rmX8_init bdX8_init) {F_X4_init : SPF} (S_X4_init : SpX4_init (gL Γ) F_X4_init) {x0 : Nat} {x1 : Nat} {x2 : Nat} {x3 : Int32} {x4 : Int32}
    (h : ∃ q1 : Nat, (C q1).1 = 0 ∧
      ∀ (C3 : MC) (I4 : MI) (J5 : MJ) (R6 : MR), C3 = va_up C q1 (26, 2) → I4 = va_up I q1 (fun _ => 0) → J5 = va_up J q1 (fun _ => 0) → R6 = va_up R q1 (fun _ => none) → 
      (25 ≤ (C3 q1).1 ∧ (C3 q1).1 < 29) ∧
      kFit (C3 q1).1 (C3 x1).1 ∧
      vp_in (0 : Int32) (C3 q1).2 ∧
      ∀ R10 : MR, R10 = va_up R6 q1 (va_up (R6 q1) (0 : Int32).toNatClampNeg (some x1)) →
      kFit (C3 q1).1 (C3 x2).1 ∧
      vp_in (1 : Int32) (C3 q1).2 ∧
      ∀ R13 : MR, R13 = va_up R10 q1 (va_up (R10 q1) (1 : Int32).toNatClampNeg (some x2)) →
      F_X4_init [aR (some x0), aR (some q1)] C3 I4 J5 R13 (fun o C14 I15 J16 R17 =>
      o = .inl none ∧
      (C14 x0).1 = 8 ∧
      ∀ I20 : MI, I20 = va_up I15 x0 (va_up (I15 x0) 6 x3) →
      ∀ I21 : MI, I21 = va_up I20 x0 (va_up (I20 x0) 7 x4) →
      gK Γ (.inl none) C14 I21 J16 R17)) :
    AW Γ 0 0 C I J R 0 [(0, aR (some x0)), (1, aR (some x1)), (2, aR (some x2)), (3, aI x3), (4, aI x4)] [] := by
  have G0 := G.1
  refine aw_aload_n G0 0 rfl dX8_init_0 ?_
  refine aw_iconst (v := (2 : Int32)) G0 dX8_init_1 (by decide) ?_
  obtain ⟨q1, z2, h⟩ := h
  refine aw_newqT (q := q1) (k' := 1) (n' := 2) (N := 2) G0 q523 (by decide) (by decide) (by decide) (by decide) (by decide) (by rw [G.2.1]; decide) (by rw [G.2.1]; decide) z2 dX8_init_2 ?_
  generalize gC3 : va_up C q1 (26, 2) = C3
  generalize gI4 : va_up I q1 (fun _ => 0) = I4
  generalize gJ5 : va_up J q1 (fun _ => 0) = J5
  generalize gR6 : va_up R q1 (fun _ => none) = R6
  have h := h C3 I4 J5 R6 gC3.symm gI4.symm gJ5.symm gR6.symm
  refine aw_dupR G0 dX8_init_5 ?_
  refine aw_iconst (v := (0 : Int32)) G0 dX8_init_6 (by decide) ?_
  refine aw_aload_n G0 1 rfl dX8_init_7 ?_
  obtain ⟨k7, h⟩ := h
  obtain ⟨k8, h⟩ := h
  obtain ⟨k9, h⟩ := h
  refine aw_aast G0 k7 (kFit_1 k8) (kFit_2 k8) k9 dX8_init_8 ?_
  generalize gR10 : va_up R6 q1 (va_up (R6 q1) (0 : Int32).toNatClampNeg (some x1)) = R10
  have h := h R10 gR10.symm
  refine aw_dupR G0 dX8_init_9 ?_
  refine aw_iconst (v := (1 : Int32)) G0 dX8_init_10 (by decide) ?_
  refine aw_aload_n G0 2 rfl dX8_init_11 ?_
  obtain ⟨k11, h⟩ := h
  obtain ⟨k12, h⟩ := h
  refine aw_aast G0 k7 (kFit_1 k11) (kFit_2 k11) k12 dX8_init_12 ?_
  generalize gR13 : va_up R10 q1 (va_up (R10 q1) (1 : Int32).toNatClampNeg (some x2)) = R13
  have h := h R13 gR13.symm
  refine aw_callI (k1 := 7) (n1 := 492) (k2 := 1) (n2 := 2) (st := []) G0 S_X4_init gw_X4_init q63 q524 q362 rfl md_X4_init (Nat.le_of_ble_eq_true rfl) (by decide) (by rw [G.2.1]; decide) (by rw [G.2.1]; decide) [aR (some q1)] rfl rfl dX8_init_13 h (fun o C14 I15 J16 R17 h => ?_)
  obtain ⟨rfl, h⟩ := h
  show AW Γ 7 492 C14 I15 J16 R17 (13 + 3) [(0, aR (some x0)), (1, aR (some x1)), (2, aR (some x2)), (3, aI x3), (4, aI x4)] []
  refine aw_aload_n G0 0 rfl dX8_init_16 ?_
  refine aw_iload_n G0 3 rfl dX8_init_17 ?_
  obtain ⟨k19, h⟩ := h
  refine aw_putI (f := 6) G0 (by rw [k19]; exact fp_X8_9) dX8_init_18 ?_
  generalize gI20 : va_up I15 x0 (va_up (I15 x0) 6 x3) = I20
  have h := h I20 gI20.symm
  refine aw_aload_n G0 0 rfl dX8_init_21 ?_
  refine aw_iload G0 4 rfl dX8_init_22 ?_
  refine aw_putI (f := 7) G0 (by rw [k19]; exact fp_X8_15) dX8_init_24 ?_
  generalize gI21 : va_up I20 x0 (va_up (I20 x0) 7 x4) = I21
  have h := h I21 gI21.symm
  exact aw_return G0 (by rw [G.2.2]; decide) (by rw [G.2.1]; decide) dX8_init_27 h
theorem bX8_kind_0 (G : Gb Γ yX8_kind cX8_kind 1 (some .int) [] rmX8_kind bdX8_kind) {x0 : Nat}
    (h : gK Γ (.inl (some (aI (3 : Int32)))) C I J R) :
    AW Γ 0 0 C I J R 0 [(0, aR (some x0))] [] := by
  have G0 := G.1
  refine aw_iconst (v := (3 : Int32)) G0 dX8_kind_0 (by decide) ?_
  exact aw_ireturn G0 (Or.inl rfl) (by rw [G.2.2]; decide) (by rw [G.2.1]; decide) dX8_kind_1 h
theorem bX8_table_0 {d : Nat} (G : Gb Γ yX8_table cX8_table 5 (some (.object "TickShare$Table")) [] (rmTb (d + 1)) bdX8_table) {F_Vtable : SPF} (S_Vtable : SpVtable (gL Γ) d F_Vtable) {F_X0_times : SPF} (S_X0_times : SpX0_times (gL Γ) F_X0_times) {F_X3_anew : SPF} (S_X3_anew : SpX3_anew (gL Γ) F_X3_anew)
    {Q50 : Nat → Nat → Nat → Nat → Int32 → MC → MI → MJ → MR → Prop} (w50 : ∀ (x0 : Nat) (x1 : Nat) (x2 : Nat) (x3 : Nat) (x4 : Int32) (C : MC) (I : MI) (J : MJ) (R : MR), Q50 x0 x1 x2 x3 x4 C I J R → AW Γ 0 0 C I J R 50 [(0, aR (some x0)), (1, aR (some x1)), (2, aR (some x2)), (3, aR (some x3)), (4, aI x4)] []) {x0 : Nat}
    (h : (C x0).1 = 8 ∧
      ∃ q2 : Nat, R x0 0 = some q2 ∧
      (25 ≤ (C q2).1 ∧ (C q2).1 < 30) ∧
      vp_in (0 : Int32) (C q2).2 ∧
      ∃ q5 : Nat, R q2 (0 : Int32).toNatClampNeg = some q5 ∧
      kTh (C q5).1 ∧
      F_Vtable [aR (some q5)] C I J R (fun o C7 I8 J9 R10 =>
      (∃ r11 : Nat, o = .inl (some (aR (some r11))) ∧
      (C7 x0).1 = 8 ∧
      ∃ q13 : Nat, R10 x0 0 = some q13 ∧
      (25 ≤ (C7 q13).1 ∧ (C7 q13).1 < 30) ∧
      vp_in (1 : Int32) (C7 q13).2 ∧
      ∃ q16 : Nat, R10 q13 (1 : Int32).toNatClampNeg = some q16 ∧
      kTh (C7 q16).1 ∧
      F_Vtable [aR (some q16)] C7 I8 J9 R10 (fun o C18 I19 J20 R21 =>
      (∃ r22 : Nat, o = .inl (some (aR (some r22))) ∧
      (C18 x0).1 = 8 ∧
      (C18 r11).1 = 4 ∧
      (C18 r22).1 = 4 ∧
      F_X0_times [aJ (J20 r11 2), aJ (J20 r22 2)] C18 I19 J20 R21 (fun o C26 I27 J28 R29 =>
      (∃ r30 : Int64, o = .inl (some (aJ r30)) ∧
      (C26 x0).1 = 8 ∧
      F_X0_times [aJ r30, aJ ((I27 x0 7).toInt64)] C26 I27 J28 R29 (fun o C32 I33 J34 R35 =>
      (∃ r36 : Int64, o = .inl (some (aJ r36)) ∧
      ∃ q37 : Nat, R21 x0 1 = some q37 ∧
      (C32 q37).1 = 4 ∧
      F_X3_anew [aR (some q37), aJ r36] C32 I33 J34 R35 (fun o C39 I40 J41 R42 =>
      ∃ r43 : Nat, o = .inl (some (aR (some r43))) ∧
      Q50 x0 r11 r22 r43 (0 : Int32) C39 I40 J41 R42)) ∨
      (∃ q44 : Nat, o = .inr q44 ∧
      ((C32 q44).1 = 11 ∧
      gK Γ (.inr q44) C32 I33 J34 R35)))) ∨
      (∃ q46 : Nat, o = .inr q46 ∧
      ((C26 q46).1 = 11 ∧
      gK Γ (.inr q46) C26 I27 J28 R29)))) ∨
      (∃ q48 : Nat, o = .inr q48 ∧
      ((C18 q48).1 = 11 ∧
      gK Γ (.inr q48) C18 I19 J20 R21)))) ∨
      (∃ q50 : Nat, o = .inr q50 ∧
      ((C7 q50).1 = 11 ∧
      gK Γ (.inr q50) C7 I8 J9 R10)))) :
    AW Γ 0 0 C I J R 0 [(0, aR (some x0))] [] := by
  have G0 := G.1
  refine aw_aload_n G0 0 rfl dX8_table_0 ?_
  obtain ⟨k1, h⟩ := h
  refine aw_getR (f := 0) G0 (by rw [k1]; exact fb_X8_18) dX8_table_1 ?_
  refine aw_iconst (v := (0 : Int32)) G0 dX8_table_4 (by decide) ?_
  obtain ⟨q2, e2, h⟩ := h
  refine aw_dr1 e2 ?_
  obtain ⟨k3, h⟩ := h
  obtain ⟨k4, h⟩ := h
  refine aw_aald G0 k3 k4 dX8_table_5 ?_
  obtain ⟨q5, e5, h⟩ := h
  refine aw_dr0 e5 ?_
  obtain ⟨k6, h⟩ := h
  refine vc_X8_22 (k1 := 0) (n1 := 0) (k2 := 1) (n2 := 6) (st := []) G0 S_Vtable k6 (Nat.le_of_ble_eq_true rfl) (by decide) (by rw [G.2.1]; dsimp only [rmTb, rmBo, rmTo, rmLv, bdv]; omega) (by rw [G.2.1]; dsimp only [rmTb, rmBo, rmTo, rmLv, bdv]; omega) [] rfl rfl dX8_table_6 h (fun o C7 I8 J9 R10 h => ?_)
  rcases h with ⟨r11, rfl, h⟩ | ⟨q50, rfl, h⟩
  · show AW Γ 0 0 C7 I8 J9 R10 (6 + 3) [(0, aR (some x0))] [aR (some r11)]
    refine aw_astore_n (lv' := [(1, aR (some r11)), (0, aR (some x0))]) G0 (by decide) rfl dX8_table_9 ?_
    refine aw_aload_n G0 1 rfl dX8_table_10 ?_
    obtain ⟨k12, h⟩ := h
    refine aw_getR (f := 0) G0 (by rw [k12]; exact fb_X8_18) dX8_table_11 ?_
    refine aw_iconst (v := (1 : Int32)) G0 dX8_table_14 (by decide) ?_
    obtain ⟨q13, e13, h⟩ := h
    refine aw_dr1 e13 ?_
    obtain ⟨k14, h⟩ := h
    obtain ⟨k15, h⟩ := h
    refine aw_aald G0 k14 k15 dX8_table_15 ?_
    obtain ⟨q16, e16, h⟩ := h
    refine aw_dr0 e16 ?_
    obtain ⟨k17, h⟩ := h
    refine vc_X8_22 (k1 := 0) (n1 := 0) (k2 := 1) (n2 := 6) (st := []) G0 S_Vtable k17 (Nat.le_of_ble_eq_true rfl) (by decide) (by rw [G.2.1]; dsimp only [rmTb, rmBo, rmTo, rmLv, bdv]; omega) (by rw [G.2.1]; dsimp only [rmTb, rmBo, rmTo, rmLv, bdv]; omega) [] rfl rfl dX8_table_16 h (fun o C18 I19 J20 R21 h => ?_)
    rcases h with ⟨r22, rfl, h⟩ | ⟨q48, rfl, h⟩
    · show AW Γ 0 0 C18 I19 J20 R21 (16 + 3) [(1, aR (some r11)), (0, aR (some x0))] [aR (some r22)]
      refine aw_astore_n (lv' := [(2, aR (some r22)), (1, aR (some r11)), (0, aR (some x0))]) G0 (by decide) rfl dX8_table_19 ?_
      refine aw_aload_n G0 2 rfl dX8_table_20 ?_
      obtain ⟨k23, h⟩ := h
      refine aw_getR (f := 1) G0 (by rw [k23]; exact fb_X8_26) dX8_table_21 ?_
      refine aw_aload_n G0 1 rfl dX8_table_24 ?_
      obtain ⟨k24, h⟩ := h
      refine aw_getJ (f := 2) G0 (by rw [k24]; exact fb_X8_30) dX8_table_25 ?_
      refine aw_aload_n G0 0 rfl dX8_table_28 ?_
      obtain ⟨k25, h⟩ := h
      refine aw_getJ (f := 2) G0 (by rw [k25]; exact fb_X8_30) dX8_table_29 ?_
      refine aw_callSN (k1 := 0) (n1 := 0) (k2 := 1) (n2 := 6) (st := [aR (R21 x0 1)]) G0 S_X0_times q715 q658 q50 gw_X0_times md_X0_times (Nat.le_of_ble_eq_true rfl) (by decide) (by rw [G.2.1]; dsimp only [rmTb, rmBo, rmTo, rmLv, rmX0_times]; omega) (by rw [G.2.1]; dsimp only [rmTb, rmBo, rmTo, rmLv, rmX0_times]; omega) [aJ (J20 r11 2), aJ (J20 r22 2)] rfl rfl dX8_table_32 h (fun o C26 I27 J28 R29 h => ?_)
      rcases h with ⟨r30, rfl, h⟩ | ⟨q46, rfl, h⟩
      · show AW Γ 0 0 C26 I27 J28 R29 (32 + 3) [(2, aR (some r22)), (1, aR (some r11)), (0, aR (some x0))] [aJ r30, aR (R21 x0 1)]
        refine aw_aload_n G0 2 rfl dX8_table_35 ?_
        obtain ⟨k31, h⟩ := h
        refine aw_getI (f := 7) G0 (by rw [k31]; exact fb_X8_15) dX8_table_36 ?_
        refine aw_i2l G0 dX8_table_39 ?_
        refine aw_callSN (k1 := 0) (n1 := 0) (k2 := 1) (n2 := 6) (st := [aR (R21 x0 1)]) G0 S_X0_times q715 q658 q50 gw_X0_times md_X0_times (Nat.le_of_ble_eq_true rfl) (by decide) (by rw [G.2.1]; dsimp only [rmTb, rmBo, rmTo, rmLv, rmX0_times]; omega) (by rw [G.2.1]; dsimp only [rmTb, rmBo, rmTo, rmLv, rmX0_times]; omega) [aJ r30, aJ ((I27 x0 7).toInt64)] rfl rfl dX8_table_40 h (fun o C32 I33 J34 R35 h => ?_)
        rcases h with ⟨r36, rfl, h⟩ | ⟨q44, rfl, h⟩
        · show AW Γ 0 0 C32 I33 J34 R35 (40 + 3) [(2, aR (some r22)), (1, aR (some r11)), (0, aR (some x0))] [aJ r36, aR (R21 x0 1)]
          obtain ⟨q37, e37, h⟩ := h
          refine aw_dr1 e37 ?_
          obtain ⟨k38, h⟩ := h
          refine aw_callV (k1 := 0) (n1 := 0) (k2 := 0) (n2 := 0) (st := []) G0 S_X3_anew gi_X8_40 (Or.inl (by rw [k38]; decide)) (by rw [k38]; rfl) md_X3_anew (Nat.le_of_ble_eq_true rfl) (by decide) (by rw [G.2.1]; dsimp only [rmTb, rmBo, rmTo, rmLv, rmX3_anew]; omega) (by rw [G.2.1]; dsimp only [rmTb, rmBo, rmTo, rmLv, rmX3_anew]; omega) [aJ r36] rfl rfl dX8_table_43 h (fun o C39 I40 J41 R42 h => ?_)
          obtain ⟨r43, rfl, h⟩ := h
          show AW Γ 0 0 C39 I40 J41 R42 (43 + 3) [(2, aR (some r22)), (1, aR (some r11)), (0, aR (some x0))] [aR (some r43)]
          refine aw_astore_n (lv' := [(3, aR (some r43)), (2, aR (some r22)), (1, aR (some r11)), (0, aR (some x0))]) G0 (by decide) rfl dX8_table_46 ?_
          refine aw_iconst (v := (0 : Int32)) G0 dX8_table_47 (by decide) ?_
          refine aw_istore (lv' := [(4, aI (0 : Int32)), (3, aR (some r43)), (2, aR (some r22)), (1, aR (some r11)), (0, aR (some x0))]) G0 (by decide) rfl dX8_table_48 ?_
          exact (aw_lv [4, 3, 2, 1, 0] rfl (w50 x0 r11 r22 r43 (0 : Int32) C39 I40 J41 R42 h))
        · show AX Γ 1 6 C32 I33 J34 R35 40 [(2, aR (some r22)), (1, aR (some r11)), (0, aR (some x0))] q44
          obtain ⟨k45, h⟩ := h
          exact ax_out G0 rfl (Or.inr (Or.inl k45)) (by rw [G.2.2]; exact ⟨by decide, by decide⟩) (by rw [G.2.1]; exact ⟨Nat.le_refl 1, Nat.le_refl 6⟩) h
      · show AX Γ 1 6 C26 I27 J28 R29 32 [(2, aR (some r22)), (1, aR (some r11)), (0, aR (some x0))] q46
        obtain ⟨k47, h⟩ := h
        exact ax_out G0 rfl (Or.inr (Or.inl k47)) (by rw [G.2.2]; exact ⟨by decide, by decide⟩) (by rw [G.2.1]; exact ⟨Nat.le_refl 1, Nat.le_refl 6⟩) h
    · show AX Γ 1 6 C18 I19 J20 R21 16 [(1, aR (some r11)), (0, aR (some x0))] q48
      obtain ⟨k49, h⟩ := h
      exact ax_out G0 rfl (Or.inr (Or.inl k49)) (by rw [G.2.2]; exact ⟨by decide, by decide⟩) (by rw [G.2.1]; exact ⟨Nat.le_refl 1, Nat.le_refl 6⟩) h
  · show AX Γ 1 6 C7 I8 J9 R10 6 [(0, aR (some x0))] q50
    obtain ⟨k51, h⟩ := h
    exact ax_out G0 rfl (Or.inr (Or.inl k51)) (by rw [G.2.2]; exact ⟨by decide, by decide⟩) (by rw [G.2.1]; exact ⟨Nat.le_refl 1, Nat.le_refl 6⟩) h
theorem bX8_table_50 {d : Nat} (G : Gb Γ yX8_table cX8_table 5 (some (.object "TickShare$Table")) [] (rmTb (d + 1)) bdX8_table) {F_X0_fold : SPF} (S_X0_fold : SpX0_fold (gL Γ) F_X0_fold) {F_X3_less : SPF} (S_X3_less : SpX3_less (gL Γ) F_X3_less) {F_X3_add : SPF} (S_X3_add : SpX3_add (gL Γ) F_X3_add)
    {Q50 : Nat → Nat → Nat → Nat → Int32 → MC → MI → MJ → MR → Prop} (w50 : ∀ (x0 : Nat) (x1 : Nat) (x2 : Nat) (x3 : Nat) (x4 : Int32) (C : MC) (I : MI) (J : MJ) (R : MR), Q50 x0 x1 x2 x3 x4 C I J R → AW Γ 0 0 C I J R 50 [(0, aR (some x0)), (1, aR (some x1)), (2, aR (some x2)), (3, aR (some x3)), (4, aI x4)] []) {x0 : Nat} {x1 : Nat} {x2 : Nat} {x3 : Nat} {x4 : Int32}
    (h : (((120 : Int32) < x4 →
      (C x0).1 = 8 ∧
      F_X0_fold [aR (some x1), aR (some x2), aJ (((I x0 7) - (I x0 6)).toInt64), aR (some x3)] C I J R (fun o C3 I4 J5 R6 =>
      (o = .inl none ∧
      (C3 x3).1 = 4 ∧
      F_X3_less [aR (some x3)] C3 I4 J5 R6 (fun o C9 I10 J11 R12 =>
      ∃ r13 : Nat, o = .inl (some (aR (some r13))) ∧
      gK Γ (.inl (some (aR (some r13)))) C9 I10 J11 R12)) ∨
      (∃ q14 : Nat, o = .inr q14 ∧
      ((C3 q14).1 = 11 ∧
      gK Γ (.inr q14) C3 I4 J5 R6)))) ∧
      (¬ (120 : Int32) < x4 →
      (C x1).1 = 4 ∧
      ∃ q17 : Nat, R x1 0 = some q17 ∧
      (C q17).1 = 21 ∧
      vp_in x4 (C q17).2 ∧
      (C x2).1 = 4 ∧
      (C x0).1 = 8 ∧
      (C x3).1 = 4 ∧
      F_X3_add [aR (some x3), aI (1 : Int32), aI x4, aJ (((J q17 x4.toNatClampNeg) * (J x2 2)) * ((I x0 6).toInt64))] C I J R (fun o C23 I24 J25 R26 =>
      (o = .inl none ∧
      (C23 x1).1 = 4 ∧
      ∃ q29 : Nat, R26 x1 1 = some q29 ∧
      (C23 q29).1 = 21 ∧
      vp_in x4 (C23 q29).2 ∧
      (C23 x2).1 = 4 ∧
      (C23 x0).1 = 8 ∧
      (C23 x3).1 = 4 ∧
      F_X3_add [aR (some x3), aI (0 : Int32), aI x4, aJ (((J25 q29 x4.toNatClampNeg) * (J25 x2 2)) * ((I24 x0 6).toInt64))] C23 I24 J25 R26 (fun o C35 I36 J37 R38 =>
      (o = .inl none ∧
      Q50 x0 x1 x2 x3 (x4 + 1) C35 I36 J37 R38) ∨
      (∃ q40 : Nat, o = .inr q40 ∧
      ((C35 q40).1 = 11 ∧
      gK Γ (.inr q40) C35 I36 J37 R38)))) ∨
      (∃ q42 : Nat, o = .inr q42 ∧
      ((C23 q42).1 = 11 ∧
      gK Γ (.inr q42) C23 I24 J25 R26)))))) :
    AW Γ 0 0 C I J R 50 [(0, aR (some x0)), (1, aR (some x1)), (2, aR (some x2)), (3, aR (some x3)), (4, aI x4)] [] := by
  have G0 := G.1
  refine aw_iload G0 4 rfl dX8_table_50 ?_
  refine aw_bipush (v := (120 : Int32)) G0 dX8_table_52 (by decide) ?_
  refine aw_icmp_gt G0 113 dX8_table_54 (by decide) (fun c1 => ?_) (fun c1 => ?_)
  · have h := h.1 c1
    refine aw_aload_n G0 1 rfl dX8_table_113 ?_
    refine aw_aload_n G0 2 rfl dX8_table_114 ?_
    refine aw_aload_n G0 0 rfl dX8_table_115 ?_
    obtain ⟨k2, h⟩ := h
    refine aw_getI (f := 7) G0 (by rw [k2]; exact fb_X8_15) dX8_table_116 ?_
    refine aw_aload_n G0 0 rfl dX8_table_119 ?_
    refine aw_getI (f := 6) G0 (by rw [k2]; exact fb_X8_9) dX8_table_120 ?_
    refine aw_isub G0 dX8_table_123 ?_
    refine aw_i2l G0 dX8_table_124 ?_
    refine aw_aload_n G0 3 rfl dX8_table_125 ?_
    refine aw_callSN (k1 := 0) (n1 := 0) (k2 := 1) (n2 := 6) (st := []) G0 S_X0_fold q718 q680 q50 gw_X0_fold md_X0_fold (Nat.le_of_ble_eq_true rfl) (by decide) (by rw [G.2.1]; dsimp only [rmTb, rmBo, rmTo, rmLv, rmX0_fold]; omega) (by rw [G.2.1]; dsimp only [rmTb, rmBo, rmTo, rmLv, rmX0_fold]; omega) [aR (some x1), aR (some x2), aJ (((I x0 7) - (I x0 6)).toInt64), aR (some x3)] rfl rfl dX8_table_126 h (fun o C3 I4 J5 R6 h => ?_)
    rcases h with ⟨rfl, h⟩ | ⟨q14, rfl, h⟩
    · show AW Γ 0 0 C3 I4 J5 R6 (126 + 3) [(0, aR (some x0)), (1, aR (some x1)), (2, aR (some x2)), (3, aR (some x3)), (4, aI x4)] []
      refine aw_aload_n G0 3 rfl dX8_table_129 ?_
      obtain ⟨k8, h⟩ := h
      refine aw_callV (k1 := 0) (n1 := 0) (k2 := 0) (n2 := 0) (st := []) G0 S_X3_less gi_X8_59 (Or.inl (by rw [k8]; decide)) (by rw [k8]; rfl) md_X3_less (Nat.le_of_ble_eq_true rfl) (by decide) (by rw [G.2.1]; dsimp only [rmTb, rmBo, rmTo, rmLv, rmX3_less]; omega) (by rw [G.2.1]; dsimp only [rmTb, rmBo, rmTo, rmLv, rmX3_less]; omega) [] rfl rfl dX8_table_130 h (fun o C9 I10 J11 R12 h => ?_)
      obtain ⟨r13, rfl, h⟩ := h
      show AW Γ 0 0 C9 I10 J11 R12 (130 + 3) [(0, aR (some x0)), (1, aR (some x1)), (2, aR (some x2)), (3, aR (some x3)), (4, aI x4)] [aR (some r13)]
      exact aw_areturn G0 ⟨_, rfl, rfl⟩ (by rw [G.2.2]; exact ⟨by decide, by decide⟩) (by rw [G.2.1]; exact ⟨Nat.zero_le _, Nat.zero_le _⟩) dX8_table_133 h
    · show AX Γ 1 6 C3 I4 J5 R6 126 [(0, aR (some x0)), (1, aR (some x1)), (2, aR (some x2)), (3, aR (some x3)), (4, aI x4)] q14
      obtain ⟨k15, h⟩ := h
      exact ax_out G0 rfl (Or.inr (Or.inl k15)) (by rw [G.2.2]; exact ⟨by decide, by decide⟩) (by rw [G.2.1]; exact ⟨Nat.le_refl 1, Nat.le_refl 6⟩) h
  · have h := h.2 c1
    refine aw_aload_n G0 3 rfl dX8_table_57 ?_
    refine aw_iconst (v := (1 : Int32)) G0 dX8_table_58 (by decide) ?_
    refine aw_iload G0 4 rfl dX8_table_59 ?_
    refine aw_aload_n G0 1 rfl dX8_table_61 ?_
    obtain ⟨k16, h⟩ := h
    refine aw_getR (f := 0) G0 (by rw [k16]; exact fb_X8_44) dX8_table_62 ?_
    refine aw_iload G0 4 rfl dX8_table_65 ?_
    obtain ⟨q17, e17, h⟩ := h
    refine aw_dr1 e17 ?_
    obtain ⟨k18, h⟩ := h
    obtain ⟨k19, h⟩ := h
    refine aw_lald G0 k18 k19 dX8_table_67 ?_
    refine aw_aload_n G0 2 rfl dX8_table_68 ?_
    obtain ⟨k20, h⟩ := h
    refine aw_getJ (f := 2) G0 (by rw [k20]; exact fb_X8_30) dX8_table_69 ?_
    refine aw_lmul G0 dX8_table_72 ?_
    refine aw_aload_n G0 0 rfl dX8_table_73 ?_
    obtain ⟨k21, h⟩ := h
    refine aw_getI (f := 6) G0 (by rw [k21]; exact fb_X8_9) dX8_table_74 ?_
    refine aw_i2l G0 dX8_table_77 ?_
    refine aw_lmul G0 dX8_table_78 ?_
    obtain ⟨k22, h⟩ := h
    refine aw_callV (k1 := 0) (n1 := 0) (k2 := 1) (n2 := 6) (st := []) G0 S_X3_add gi_X8_48 (Or.inl (by rw [k22]; decide)) (by rw [k22]; rfl) md_X3_add (Nat.le_of_ble_eq_true rfl) (by decide) (by rw [G.2.1]; dsimp only [rmTb, rmBo, rmTo, rmLv, rmX3_add]; omega) (by rw [G.2.1]; dsimp only [rmTb, rmBo, rmTo, rmLv, rmX3_add]; omega) [aI (1 : Int32), aI x4, aJ (((J q17 x4.toNatClampNeg) * (J x2 2)) * ((I x0 6).toInt64))] rfl rfl dX8_table_79 h (fun o C23 I24 J25 R26 h => ?_)
    rcases h with ⟨rfl, h⟩ | ⟨q42, rfl, h⟩
    · show AW Γ 0 0 C23 I24 J25 R26 (79 + 3) [(0, aR (some x0)), (1, aR (some x1)), (2, aR (some x2)), (3, aR (some x3)), (4, aI x4)] []
      refine aw_aload_n G0 3 rfl dX8_table_82 ?_
      refine aw_iconst (v := (0 : Int32)) G0 dX8_table_83 (by decide) ?_
      refine aw_iload G0 4 rfl dX8_table_84 ?_
      refine aw_aload_n G0 1 rfl dX8_table_86 ?_
      obtain ⟨k28, h⟩ := h
      refine aw_getR (f := 1) G0 (by rw [k28]; exact fb_X8_52) dX8_table_87 ?_
      refine aw_iload G0 4 rfl dX8_table_90 ?_
      obtain ⟨q29, e29, h⟩ := h
      refine aw_dr1 e29 ?_
      obtain ⟨k30, h⟩ := h
      obtain ⟨k31, h⟩ := h
      refine aw_lald G0 k30 k31 dX8_table_92 ?_
      refine aw_aload_n G0 2 rfl dX8_table_93 ?_
      obtain ⟨k32, h⟩ := h
      refine aw_getJ (f := 2) G0 (by rw [k32]; exact fb_X8_30) dX8_table_94 ?_
      refine aw_lmul G0 dX8_table_97 ?_
      refine aw_aload_n G0 0 rfl dX8_table_98 ?_
      obtain ⟨k33, h⟩ := h
      refine aw_getI (f := 6) G0 (by rw [k33]; exact fb_X8_9) dX8_table_99 ?_
      refine aw_i2l G0 dX8_table_102 ?_
      refine aw_lmul G0 dX8_table_103 ?_
      obtain ⟨k34, h⟩ := h
      refine aw_callV (k1 := 0) (n1 := 0) (k2 := 1) (n2 := 6) (st := []) G0 S_X3_add gi_X8_48 (Or.inl (by rw [k34]; decide)) (by rw [k34]; rfl) md_X3_add (Nat.le_of_ble_eq_true rfl) (by decide) (by rw [G.2.1]; dsimp only [rmTb, rmBo, rmTo, rmLv, rmX3_add]; omega) (by rw [G.2.1]; dsimp only [rmTb, rmBo, rmTo, rmLv, rmX3_add]; omega) [aI (0 : Int32), aI x4, aJ (((J25 q29 x4.toNatClampNeg) * (J25 x2 2)) * ((I24 x0 6).toInt64))] rfl rfl dX8_table_104 h (fun o C35 I36 J37 R38 h => ?_)
      rcases h with ⟨rfl, h⟩ | ⟨q40, rfl, h⟩
      · show AW Γ 0 0 C35 I36 J37 R38 (104 + 3) [(0, aR (some x0)), (1, aR (some x1)), (2, aR (some x2)), (3, aR (some x3)), (4, aI x4)] []
        refine aw_iinc (v := x4 + 1) (lv' := [(4, aI (x4 + 1)), (0, aR (some x0)), (1, aR (some x1)), (2, aR (some x2)), (3, aR (some x3))]) G0 4 rfl rfl (by decide) rfl dX8_table_107 ?_
        refine aw_goto G0 50 dX8_table_110 (by decide) ?_
        exact (aw_lv [1, 2, 3, 4, 0] rfl (w50 x0 x1 x2 x3 (x4 + 1) C35 I36 J37 R38 h))
      · show AX Γ 1 6 C35 I36 J37 R38 104 [(0, aR (some x0)), (1, aR (some x1)), (2, aR (some x2)), (3, aR (some x3)), (4, aI x4)] q40
        obtain ⟨k41, h⟩ := h
        exact ax_out G0 rfl (Or.inr (Or.inl k41)) (by rw [G.2.2]; exact ⟨by decide, by decide⟩) (by rw [G.2.1]; exact ⟨Nat.le_refl 1, Nat.le_refl 6⟩) h
    · show AX Γ 1 6 C23 I24 J25 R26 79 [(0, aR (some x0)), (1, aR (some x1)), (2, aR (some x2)), (3, aR (some x3)), (4, aI x4)] q42
      obtain ⟨k43, h⟩ := h
      exact ax_out G0 rfl (Or.inr (Or.inl k43)) (by rw [G.2.2]; exact ⟨by decide, by decide⟩) (by rw [G.2.1]; exact ⟨Nat.le_refl 1, Nat.le_refl 6⟩) h
theorem bX9_init_0 (G : Gb Γ yX9_init cX9_init 4 (none) [] rmX9_init bdX9_init) {F_X4_init : SPF} (S_X4_init : SpX4_init (gL Γ) F_X4_init) {x0 : Nat} {x1 : Nat} {x2 : Int32} {x3 : Int32}
    (h : ∃ q1 : Nat, (C q1).1 = 0 ∧
      ∀ (C3 : MC) (I4 : MI) (J5 : MJ) (R6 : MR), C3 = va_up C q1 (26, 1) → I4 = va_up I q1 (fun _ => 0) → J5 = va_up J q1 (fun _ => 0) → R6 = va_up R q1 (fun _ => none) → 
      (25 ≤ (C3 q1).1 ∧ (C3 q1).1 < 29) ∧
      kFit (C3 q1).1 (C3 x1).1 ∧
      vp_in (0 : Int32) (C3 q1).2 ∧
      ∀ R10 : MR, R10 = va_up R6 q1 (va_up (R6 q1) (0 : Int32).toNatClampNeg (some x1)) →
      F_X4_init [aR (some x0), aR (some q1)] C3 I4 J5 R10 (fun o C11 I12 J13 R14 =>
      o = .inl none ∧
      ∃ q16 : Nat, (C11 q16).1 = 0 ∧
      ∀ (C18 : MC) (I19 : MI) (J20 : MJ) (R21 : MR), C18 = va_up C11 q16 (21, 121) → I19 = va_up I12 q16 (fun _ => 0) → J20 = va_up J13 q16 (fun _ => 0) → R21 = va_up R14 q16 (fun _ => none) → 
      (C18 x0).1 = 9 ∧
      ∀ R23 : MR, R23 = va_up R21 x0 (va_up (R21 x0) 8 (some q16)) →
      ∃ q24 : Nat, (C18 q24).1 = 0 ∧
      ∀ (C26 : MC) (I27 : MI) (J28 : MJ) (R29 : MR), C26 = va_up C18 q24 (21, 121) → I27 = va_up I19 q24 (fun _ => 0) → J28 = va_up J20 q24 (fun _ => 0) → R29 = va_up R23 q24 (fun _ => none) → 
      (C26 x0).1 = 9 ∧
      ∀ R31 : MR, R31 = va_up R29 x0 (va_up (R29 x0) 9 (some q24)) →
      ∀ I32 : MI, I32 = va_up I27 x0 (va_up (I27 x0) 6 x2) →
      ∀ I33 : MI, I33 = va_up I32 x0 (va_up (I32 x0) 7 x3) →
      gK Γ (.inl none) C26 I33 J28 R31)) :
    AW Γ 0 0 C I J R 0 [(0, aR (some x0)), (1, aR (some x1)), (2, aI x2), (3, aI x3)] [] := by
  have G0 := G.1
  refine aw_aload_n G0 0 rfl dX9_init_0 ?_
  refine aw_iconst (v := (1 : Int32)) G0 dX9_init_1 (by decide) ?_
  obtain ⟨q1, z2, h⟩ := h
  refine aw_newqT (q := q1) (k' := 1) (n' := 1) (N := 1) G0 q547 (by decide) (by decide) (by decide) (by decide) (by decide) (by rw [G.2.1]; decide) (by rw [G.2.1]; decide) z2 dX9_init_2 ?_
  generalize gC3 : va_up C q1 (26, 1) = C3
  generalize gI4 : va_up I q1 (fun _ => 0) = I4
  generalize gJ5 : va_up J q1 (fun _ => 0) = J5
  generalize gR6 : va_up R q1 (fun _ => none) = R6
  have h := h C3 I4 J5 R6 gC3.symm gI4.symm gJ5.symm gR6.symm
  refine aw_dupR G0 dX9_init_5 ?_
  refine aw_iconst (v := (0 : Int32)) G0 dX9_init_6 (by decide) ?_
  refine aw_aload_n G0 1 rfl dX9_init_7 ?_
  obtain ⟨k7, h⟩ := h
  obtain ⟨k8, h⟩ := h
  obtain ⟨k9, h⟩ := h
  refine aw_aast G0 k7 (kFit_1 k8) (kFit_2 k8) k9 dX9_init_8 ?_
  generalize gR10 : va_up R6 q1 (va_up (R6 q1) (0 : Int32).toNatClampNeg (some x1)) = R10
  have h := h R10 gR10.symm
  refine aw_callI (k1 := 7) (n1 := 491) (k2 := 1) (n2 := 1) (st := []) G0 S_X4_init gw_X4_init q63 q548 q362 rfl md_X4_init (Nat.le_of_ble_eq_true rfl) (by decide) (by rw [G.2.1]; decide) (by rw [G.2.1]; decide) [aR (some q1)] rfl rfl dX9_init_9 h (fun o C11 I12 J13 R14 h => ?_)
  obtain ⟨rfl, h⟩ := h
  show AW Γ 7 491 C11 I12 J13 R14 (9 + 3) [(0, aR (some x0)), (1, aR (some x1)), (2, aI x2), (3, aI x3)] []
  refine aw_aload_n G0 0 rfl dX9_init_12 ?_
  refine aw_bipush (v := (121 : Int32)) G0 dX9_init_13 (by decide) ?_
  obtain ⟨q16, z17, h⟩ := h
  refine aw_newaJ (q := q16) (k' := 8) (n' := 612) (N := 121) G0 (by decide) (by decide) (by decide) (by decide) (by decide) (by rw [G.2.1]; decide) (by rw [G.2.1]; decide) z17 dX9_init_15 ?_
  generalize gC18 : va_up C11 q16 (21, 121) = C18
  generalize gI19 : va_up I12 q16 (fun _ => 0) = I19
  generalize gJ20 : va_up J13 q16 (fun _ => 0) = J20
  generalize gR21 : va_up R14 q16 (fun _ => none) = R21
  have h := h C18 I19 J20 R21 gC18.symm gI19.symm gJ20.symm gR21.symm
  obtain ⟨k22, h⟩ := h
  refine aw_putR (f := 8) G0 (by rw [k22]; exact fp_X9_9) dX9_init_17 ?_
  generalize gR23 : va_up R21 x0 (va_up (R21 x0) 8 (some q16)) = R23
  have h := h R23 gR23.symm
  refine aw_aload_n G0 0 rfl dX9_init_20 ?_
  refine aw_bipush (v := (121 : Int32)) G0 dX9_init_21 (by decide) ?_
  obtain ⟨q24, z25, h⟩ := h
  refine aw_newaJ (q := q24) (k' := 9) (n' := 733) (N := 121) G0 (by decide) (by decide) (by decide) (by decide) (by decide) (by rw [G.2.1]; decide) (by rw [G.2.1]; decide) z25 dX9_init_23 ?_
  generalize gC26 : va_up C18 q24 (21, 121) = C26
  generalize gI27 : va_up I19 q24 (fun _ => 0) = I27
  generalize gJ28 : va_up J20 q24 (fun _ => 0) = J28
  generalize gR29 : va_up R23 q24 (fun _ => none) = R29
  have h := h C26 I27 J28 R29 gC26.symm gI27.symm gJ28.symm gR29.symm
  obtain ⟨k30, h⟩ := h
  refine aw_putR (f := 9) G0 (by rw [k30]; exact fp_X9_15) dX9_init_25 ?_
  generalize gR31 : va_up R29 x0 (va_up (R29 x0) 9 (some q24)) = R31
  have h := h R31 gR31.symm
  refine aw_aload_n G0 0 rfl dX9_init_28 ?_
  refine aw_iload_n G0 2 rfl dX9_init_29 ?_
  refine aw_putI (f := 6) G0 (by rw [k30]; exact fp_X9_18) dX9_init_30 ?_
  generalize gI32 : va_up I27 x0 (va_up (I27 x0) 6 x2) = I32
  have h := h I32 gI32.symm
  refine aw_aload_n G0 0 rfl dX9_init_33 ?_
  refine aw_iload_n G0 3 rfl dX9_init_34 ?_
  refine aw_putI (f := 7) G0 (by rw [k30]; exact fp_X9_22) dX9_init_35 ?_
  generalize gI33 : va_up I32 x0 (va_up (I32 x0) 7 x3) = I33
  have h := h I33 gI33.symm
  exact aw_return G0 (by rw [G.2.2]; decide) (by rw [G.2.1]; decide) dX9_init_38 h
theorem bX9_kind_0 (G : Gb Γ yX9_kind cX9_kind 1 (some .int) [] rmX9_kind bdX9_kind) {x0 : Nat}
    (h : gK Γ (.inl (some (aI (4 : Int32)))) C I J R) :
    AW Γ 0 0 C I J R 0 [(0, aR (some x0))] [] := by
  have G0 := G.1
  refine aw_iconst (v := (4 : Int32)) G0 dX9_kind_0 (by decide) ?_
  exact aw_ireturn G0 (Or.inl rfl) (by rw [G.2.2]; decide) (by rw [G.2.1]; decide) dX9_kind_1 h
theorem bX9_table_0 {d : Nat} (G : Gb Γ yX9_table cX9_table 9 (some (.object "TickShare$Table")) [] (rmTb (d + 1)) bdX9_table) {F_Vtable : SPF} (S_Vtable : SpVtable (gL Γ) d F_Vtable) {F_X3_anew : SPF} (S_X3_anew : SpX3_anew (gL Γ) F_X3_anew)
    {Q24 : Nat → Nat → Nat → Int32 → MC → MI → MJ → MR → Prop} (w24 : ∀ (x0 : Nat) (x1 : Nat) (x2 : Nat) (x3 : Int32) (C : MC) (I : MI) (J : MJ) (R : MR), Q24 x0 x1 x2 x3 C I J R → AW Γ 0 0 C I J R 24 [(0, aR (some x0)), (1, aR (some x1)), (2, aR (some x2)), (3, aI x3)] []) {x0 : Nat}
    (h : (C x0).1 = 9 ∧
      ∃ q2 : Nat, R x0 0 = some q2 ∧
      (25 ≤ (C q2).1 ∧ (C q2).1 < 30) ∧
      vp_in (0 : Int32) (C q2).2 ∧
      ∃ q5 : Nat, R q2 (0 : Int32).toNatClampNeg = some q5 ∧
      kTh (C q5).1 ∧
      F_Vtable [aR (some q5)] C I J R (fun o C7 I8 J9 R10 =>
      (∃ r11 : Nat, o = .inl (some (aR (some r11))) ∧
      (C7 x0).1 = 9 ∧
      (C7 r11).1 = 4 ∧
      ∃ q14 : Nat, R10 x0 2 = some q14 ∧
      (C7 q14).1 = 4 ∧
      F_X3_anew [aR (some q14), aJ (J9 r11 2)] C7 I8 J9 R10 (fun o C16 I17 J18 R19 =>
      ∃ r20 : Nat, o = .inl (some (aR (some r20))) ∧
      Q24 x0 r11 r20 (0 : Int32) C16 I17 J18 R19)) ∨
      (∃ q21 : Nat, o = .inr q21 ∧
      ((C7 q21).1 = 11 ∧
      gK Γ (.inr q21) C7 I8 J9 R10)))) :
    AW Γ 0 0 C I J R 0 [(0, aR (some x0))] [] := by
  have G0 := G.1
  refine aw_aload_n G0 0 rfl dX9_table_0 ?_
  obtain ⟨k1, h⟩ := h
  refine aw_getR (f := 0) G0 (by rw [k1]; exact fb_X9_25) dX9_table_1 ?_
  refine aw_iconst (v := (0 : Int32)) G0 dX9_table_4 (by decide) ?_
  obtain ⟨q2, e2, h⟩ := h
  refine aw_dr1 e2 ?_
  obtain ⟨k3, h⟩ := h
  obtain ⟨k4, h⟩ := h
  refine aw_aald G0 k3 k4 dX9_table_5 ?_
  obtain ⟨q5, e5, h⟩ := h
  refine aw_dr0 e5 ?_
  obtain ⟨k6, h⟩ := h
  refine vc_X9_29 (k1 := 0) (n1 := 0) (k2 := 1) (n2 := 6) (st := []) G0 S_Vtable k6 (Nat.le_of_ble_eq_true rfl) (by decide) (by rw [G.2.1]; dsimp only [rmTb, rmBo, rmTo, rmLv, bdv]; omega) (by rw [G.2.1]; dsimp only [rmTb, rmBo, rmTo, rmLv, bdv]; omega) [] rfl rfl dX9_table_6 h (fun o C7 I8 J9 R10 h => ?_)
  rcases h with ⟨r11, rfl, h⟩ | ⟨q21, rfl, h⟩
  · show AW Γ 0 0 C7 I8 J9 R10 (6 + 3) [(0, aR (some x0))] [aR (some r11)]
    refine aw_astore_n (lv' := [(1, aR (some r11)), (0, aR (some x0))]) G0 (by decide) rfl dX9_table_9 ?_
    refine aw_aload_n G0 1 rfl dX9_table_10 ?_
    obtain ⟨k12, h⟩ := h
    refine aw_getR (f := 2) G0 (by rw [k12]; exact fb_X9_33) dX9_table_11 ?_
    refine aw_aload_n G0 0 rfl dX9_table_14 ?_
    obtain ⟨k13, h⟩ := h
    refine aw_getJ (f := 2) G0 (by rw [k13]; exact fb_X9_37) dX9_table_15 ?_
    obtain ⟨q14, e14, h⟩ := h
    refine aw_dr1 e14 ?_
    obtain ⟨k15, h⟩ := h
    refine aw_callV (k1 := 0) (n1 := 0) (k2 := 0) (n2 := 0) (st := []) G0 S_X3_anew gi_X9_43 (Or.inl (by rw [k15]; decide)) (by rw [k15]; rfl) md_X3_anew (Nat.le_of_ble_eq_true rfl) (by decide) (by rw [G.2.1]; dsimp only [rmTb, rmBo, rmTo, rmLv, rmX3_anew]; omega) (by rw [G.2.1]; dsimp only [rmTb, rmBo, rmTo, rmLv, rmX3_anew]; omega) [aJ (J9 r11 2)] rfl rfl dX9_table_18 h (fun o C16 I17 J18 R19 h => ?_)
    obtain ⟨r20, rfl, h⟩ := h
    show AW Γ 0 0 C16 I17 J18 R19 (18 + 3) [(1, aR (some r11)), (0, aR (some x0))] [aR (some r20)]
    refine aw_astore_n (lv' := [(2, aR (some r20)), (1, aR (some r11)), (0, aR (some x0))]) G0 (by decide) rfl dX9_table_21 ?_
    refine aw_iconst (v := (0 : Int32)) G0 dX9_table_22 (by decide) ?_
    refine aw_istore_n (lv' := [(3, aI (0 : Int32)), (2, aR (some r20)), (1, aR (some r11)), (0, aR (some x0))]) G0 (by decide) rfl dX9_table_23 ?_
    exact (aw_lv [3, 2, 1, 0] rfl (w24 x0 r11 r20 (0 : Int32) C16 I17 J18 R19 h))
  · show AX Γ 1 6 C7 I8 J9 R10 6 [(0, aR (some x0))] q21
    obtain ⟨k22, h⟩ := h
    exact ax_out G0 rfl (Or.inr (Or.inl k22)) (by rw [G.2.2]; exact ⟨by decide, by decide⟩) (by rw [G.2.1]; exact ⟨Nat.le_refl 1, Nat.le_refl 6⟩) h
theorem bX9_table_24 {d : Nat} (G : Gb Γ yX9_table cX9_table 9 (some (.object "TickShare$Table")) [] (rmTb (d + 1)) bdX9_table) {F_X3_anew : SPF} (S_X3_anew : SpX3_anew (gL Γ) F_X3_anew)
    {Q71 : Nat → Nat → Nat → Int32 → MC → MI → MJ → MR → Prop} (w71 : ∀ (x0 : Nat) (x1 : Nat) (x2 : Nat) (x3 : Int32) (C : MC) (I : MI) (J : MJ) (R : MR), Q71 x0 x1 x2 x3 C I J R → AW Γ 0 0 C I J R 71 [(0, aR (some x0)), (1, aR (some x1)), (2, aR (some x2)), (3, aI x3)] [])
    {Q111 : Nat → Nat → Nat → Nat → Int32 → MC → MI → MJ → MR → Prop} (w111 : ∀ (x0 : Nat) (x1 : Nat) (x2 : Nat) (x3 : Nat) (x4 : Int32) (C : MC) (I : MI) (J : MJ) (R : MR), Q111 x0 x1 x2 x3 x4 C I J R → AW Γ 0 0 C I J R 111 [(0, aR (some x0)), (1, aR (some x1)), (2, aR (some x2)), (3, aR (some x3)), (4, aI x4)] []) {x0 : Nat} {x1 : Nat} {x2 : Nat} {x3 : Int32}
    (h : (((120 : Int32) < x3 →
      (C x0).1 = 9 ∧
      ∃ q3 : Nat, R x0 1 = some q3 ∧
      (C q3).1 = 4 ∧
      F_X3_anew [aR (some q3), aJ (1 : Int64)] C I J R (fun o C5 I6 J7 R8 =>
      ∃ r9 : Nat, o = .inl (some (aR (some r9))) ∧
      Q111 x0 x1 x2 r9 (0 : Int32) C5 I6 J7 R8)) ∧
      (¬ (120 : Int32) < x3 →
      (C x0).1 = 9 ∧
      (((I x0 6) < x3 →
      (C x2).1 = 4 ∧
      ∃ q13 : Nat, R x2 1 = some q13 ∧
      (C q13).1 = 21 ∧
      vp_in (I x0 6) (C q13).2 ∧
      (C x1).1 = 4 ∧
      ∃ q17 : Nat, R x1 0 = some q17 ∧
      (C q17).1 = 21 ∧
      vp_in x3 (C q17).2 ∧
      ∀ J20 : MJ, J20 = va_up J q13 (va_up (J q13) (I x0 6).toNatClampNeg ((J q13 (I x0 6).toNatClampNeg) + (J q17 x3.toNatClampNeg))) →
      Q71 x0 x1 x2 x3 C I J20 R) ∧
      (¬ (I x0 6) < x3 →
      (C x2).1 = 4 ∧
      (C x1).1 = 4 ∧
      ∃ q23 : Nat, R x1 0 = some q23 ∧
      (C q23).1 = 21 ∧
      vp_in x3 (C q23).2 ∧
      ∃ q26 : Nat, R x2 0 = some q26 ∧
      (C q26).1 = 21 ∧
      vp_in x3 (C q26).2 ∧
      ∀ J29 : MJ, J29 = va_up J q26 (va_up (J q26) x3.toNatClampNeg (J q23 x3.toNatClampNeg)) →
      Q71 x0 x1 x2 x3 C I J29 R))))) :
    AW Γ 0 0 C I J R 24 [(0, aR (some x0)), (1, aR (some x1)), (2, aR (some x2)), (3, aI x3)] [] := by
  have G0 := G.1
  refine aw_iload_n G0 3 rfl dX9_table_24 ?_
  refine aw_bipush (v := (120 : Int32)) G0 dX9_table_25 (by decide) ?_
  refine aw_icmp_gt G0 99 dX9_table_27 (by decide) (fun c1 => ?_) (fun c1 => ?_)
  · have h := h.1 c1
    refine aw_aload_n G0 0 rfl dX9_table_99 ?_
    obtain ⟨k2, h⟩ := h
    refine aw_getR (f := 1) G0 (by rw [k2]; exact fb_X9_59) dX9_table_100 ?_
    refine aw_lconst (v := (1 : Int64)) G0 dX9_table_103 (by decide) ?_
    obtain ⟨q3, e3, h⟩ := h
    refine aw_dr1 e3 ?_
    obtain ⟨k4, h⟩ := h
    refine aw_callV (k1 := 0) (n1 := 0) (k2 := 0) (n2 := 0) (st := []) G0 S_X3_anew gi_X9_43 (Or.inl (by rw [k4]; decide)) (by rw [k4]; rfl) md_X3_anew (Nat.le_of_ble_eq_true rfl) (by decide) (by rw [G.2.1]; dsimp only [rmTb, rmBo, rmTo, rmLv, rmX3_anew]; omega) (by rw [G.2.1]; dsimp only [rmTb, rmBo, rmTo, rmLv, rmX3_anew]; omega) [aJ (1 : Int64)] rfl rfl dX9_table_104 h (fun o C5 I6 J7 R8 h => ?_)
    obtain ⟨r9, rfl, h⟩ := h
    show AW Γ 0 0 C5 I6 J7 R8 (104 + 3) [(0, aR (some x0)), (1, aR (some x1)), (2, aR (some x2)), (3, aI x3)] [aR (some r9)]
    refine aw_astore_n (lv' := [(3, aR (some r9)), (0, aR (some x0)), (1, aR (some x1)), (2, aR (some x2))]) G0 (by decide) rfl dX9_table_107 ?_
    refine aw_iconst (v := (0 : Int32)) G0 dX9_table_108 (by decide) ?_
    refine aw_istore (lv' := [(4, aI (0 : Int32)), (3, aR (some r9)), (0, aR (some x0)), (1, aR (some x1)), (2, aR (some x2))]) G0 (by decide) rfl dX9_table_109 ?_
    exact (aw_lv [2, 3, 4, 1, 0] rfl (w111 x0 x1 x2 r9 (0 : Int32) C5 I6 J7 R8 h))
  · have h := h.2 c1
    refine aw_iload_n G0 3 rfl dX9_table_30 ?_
    refine aw_aload_n G0 0 rfl dX9_table_31 ?_
    obtain ⟨k10, h⟩ := h
    refine aw_getI (f := 6) G0 (by rw [k10]; exact fb_X9_18) dX9_table_32 ?_
    refine aw_icmp_gt G0 53 dX9_table_35 (by decide) (fun c11 => ?_) (fun c11 => ?_)
    · have h := h.1 c11
      refine aw_aload_n G0 2 rfl dX9_table_53 ?_
      obtain ⟨k12, h⟩ := h
      refine aw_getR (f := 1) G0 (by rw [k12]; exact fb_X9_50) dX9_table_54 ?_
      refine aw_aload_n G0 0 rfl dX9_table_57 ?_
      refine aw_getI (f := 6) G0 (by rw [k10]; exact fb_X9_18) dX9_table_58 ?_
      refine aw_dup2IR G0 dX9_table_61 ?_
      obtain ⟨q13, e13, h⟩ := h
      refine aw_dr1 e13 ?_
      obtain ⟨k14, h⟩ := h
      obtain ⟨k15, h⟩ := h
      refine aw_lald G0 k14 k15 dX9_table_62 ?_
      refine aw_aload_n G0 1 rfl dX9_table_63 ?_
      obtain ⟨k16, h⟩ := h
      refine aw_getR (f := 0) G0 (by rw [k16]; exact fb_X9_47) dX9_table_64 ?_
      refine aw_iload_n G0 3 rfl dX9_table_67 ?_
      obtain ⟨q17, e17, h⟩ := h
      refine aw_dr1 e17 ?_
      obtain ⟨k18, h⟩ := h
      obtain ⟨k19, h⟩ := h
      refine aw_lald G0 k18 k19 dX9_table_68 ?_
      refine aw_ladd G0 dX9_table_69 ?_
      refine aw_dr2 e13 ?_
      refine aw_last G0 k14 k15 dX9_table_70 ?_
      generalize gJ20 : va_up J q13 (va_up (J q13) (I x0 6).toNatClampNeg ((J q13 (I x0 6).toNatClampNeg) + (J q17 x3.toNatClampNeg))) = J20
      have h := h J20 gJ20.symm
      exact (w71 x0 x1 x2 x3 C I J20 R h)
    · have h := h.2 c11
      refine aw_aload_n G0 2 rfl dX9_table_38 ?_
      obtain ⟨k21, h⟩ := h
      refine aw_getR (f := 0) G0 (by rw [k21]; exact fb_X9_47) dX9_table_39 ?_
      refine aw_iload_n G0 3 rfl dX9_table_42 ?_
      refine aw_aload_n G0 1 rfl dX9_table_43 ?_
      obtain ⟨k22, h⟩ := h
      refine aw_getR (f := 0) G0 (by rw [k22]; exact fb_X9_47) dX9_table_44 ?_
      refine aw_iload_n G0 3 rfl dX9_table_47 ?_
      obtain ⟨q23, e23, h⟩ := h
      refine aw_dr1 e23 ?_
      obtain ⟨k24, h⟩ := h
      obtain ⟨k25, h⟩ := h
      refine aw_lald G0 k24 k25 dX9_table_48 ?_
      obtain ⟨q26, e26, h⟩ := h
      refine aw_dr2 e26 ?_
      obtain ⟨k27, h⟩ := h
      obtain ⟨k28, h⟩ := h
      refine aw_last G0 k27 k28 dX9_table_49 ?_
      generalize gJ29 : va_up J q26 (va_up (J q26) x3.toNatClampNeg (J q23 x3.toNatClampNeg)) = J29
      have h := h J29 gJ29.symm
      refine aw_goto G0 71 dX9_table_50 (by decide) ?_
      exact (w71 x0 x1 x2 x3 C I J29 R h)
theorem bX9_table_71 {d : Nat} (G : Gb Γ yX9_table cX9_table 9 (some (.object "TickShare$Table")) [] (rmTb (d + 1)) bdX9_table)
    {Q24 : Nat → Nat → Nat → Int32 → MC → MI → MJ → MR → Prop} (w24 : ∀ (x0 : Nat) (x1 : Nat) (x2 : Nat) (x3 : Int32) (C : MC) (I : MI) (J : MJ) (R : MR), Q24 x0 x1 x2 x3 C I J R → AW Γ 0 0 C I J R 24 [(0, aR (some x0)), (1, aR (some x1)), (2, aR (some x2)), (3, aI x3)] []) {x0 : Nat} {x1 : Nat} {x2 : Nat} {x3 : Int32}
    (h : (C x2).1 = 4 ∧
      (C x0).1 = 9 ∧
      ∃ q3 : Nat, R x2 1 = some q3 ∧
      (C q3).1 = 21 ∧
      vp_in (if (I x0 6) < x3 then (I x0 6) else x3) (C q3).2 ∧
      (C x1).1 = 4 ∧
      ∃ q7 : Nat, R x1 1 = some q7 ∧
      (C q7).1 = 21 ∧
      vp_in x3 (C q7).2 ∧
      ∀ J10 : MJ, J10 = va_up J q3 (va_up (J q3) (if (I x0 6) < x3 then (I x0 6) else x3).toNatClampNeg ((J q3 (if (I x0 6) < x3 then (I x0 6) else x3).toNatClampNeg) + (J q7 x3.toNatClampNeg))) →
      Q24 x0 x1 x2 (x3 + 1) C I J10 R) :
    AW Γ 0 0 C I J R 71 [(0, aR (some x0)), (1, aR (some x1)), (2, aR (some x2)), (3, aI x3)] [] := by
  have G0 := G.1
  refine aw_aload_n G0 2 rfl dX9_table_71 ?_
  obtain ⟨k1, h⟩ := h
  refine aw_getR (f := 1) G0 (by rw [k1]; exact fb_X9_50) dX9_table_72 ?_
  refine aw_iload_n G0 3 rfl dX9_table_75 ?_
  refine aw_aload_n G0 0 rfl dX9_table_76 ?_
  obtain ⟨k2, h⟩ := h
  refine aw_getI (f := 6) G0 (by rw [k2]; exact fb_X9_18) dX9_table_77 ?_
  refine aw_mmin G0 q690 (by rw [G.2.1]; dsimp only [rmTb, rmBo, rmTo, rmLv]; omega) (by rw [G.2.1]; have h9 := nfw; dsimp only [rmTb, rmBo, rmTo, rmLv]; simp only [List.map_nil, List.map_cons, List.sum_nil, List.sum_cons, acat]; omega) (by rw [G.2.1]; exact ⟨Nat.zero_le _, Nat.zero_le _⟩) dX9_table_80 ?_
  refine aw_dup2IR G0 dX9_table_83 ?_
  obtain ⟨q3, e3, h⟩ := h
  refine aw_dr1 e3 ?_
  obtain ⟨k4, h⟩ := h
  obtain ⟨k5, h⟩ := h
  refine aw_lald G0 k4 k5 dX9_table_84 ?_
  refine aw_aload_n G0 1 rfl dX9_table_85 ?_
  obtain ⟨k6, h⟩ := h
  refine aw_getR (f := 1) G0 (by rw [k6]; exact fb_X9_50) dX9_table_86 ?_
  refine aw_iload_n G0 3 rfl dX9_table_89 ?_
  obtain ⟨q7, e7, h⟩ := h
  refine aw_dr1 e7 ?_
  obtain ⟨k8, h⟩ := h
  obtain ⟨k9, h⟩ := h
  refine aw_lald G0 k8 k9 dX9_table_90 ?_
  refine aw_ladd G0 dX9_table_91 ?_
  refine aw_dr2 e3 ?_
  refine aw_last G0 k4 k5 dX9_table_92 ?_
  generalize gJ10 : va_up J q3 (va_up (J q3) (if (I x0 6) < x3 then (I x0 6) else x3).toNatClampNeg ((J q3 (if (I x0 6) < x3 then (I x0 6) else x3).toNatClampNeg) + (J q7 x3.toNatClampNeg))) = J10
  have h := h J10 gJ10.symm
  refine aw_iinc (v := x3 + 1) (lv' := [(3, aI (x3 + 1)), (0, aR (some x0)), (1, aR (some x1)), (2, aR (some x2))]) G0 3 rfl rfl (by decide) rfl dX9_table_93 ?_
  refine aw_goto G0 24 dX9_table_96 (by decide) ?_
  exact (aw_lv [1, 2, 3, 0] rfl (w24 x0 x1 x2 (x3 + 1) C I J10 R h))
theorem bX9_table_111 {d : Nat} (G : Gb Γ yX9_table cX9_table 9 (some (.object "TickShare$Table")) [] (rmTb (d + 1)) bdX9_table) {F_X0_times : SPF} (S_X0_times : SpX0_times (gL Γ) F_X0_times)
    {Q111 : Nat → Nat → Nat → Nat → Int32 → MC → MI → MJ → MR → Prop} (w111 : ∀ (x0 : Nat) (x1 : Nat) (x2 : Nat) (x3 : Nat) (x4 : Int32) (C : MC) (I : MI) (J : MJ) (R : MR), Q111 x0 x1 x2 x3 x4 C I J R → AW Γ 0 0 C I J R 111 [(0, aR (some x0)), (1, aR (some x1)), (2, aR (some x2)), (3, aR (some x3)), (4, aI x4)] [])
    {Q144 : Nat → Nat → Nat → Nat → Int32 → MC → MI → MJ → MR → Prop} (w144 : ∀ (x0 : Nat) (x1 : Nat) (x2 : Nat) (x3 : Nat) (x4 : Int32) (C : MC) (I : MI) (J : MJ) (R : MR), Q144 x0 x1 x2 x3 x4 C I J R → AW Γ 0 0 C I J R 144 [(0, aR (some x0)), (1, aR (some x1)), (2, aR (some x2)), (3, aR (some x3)), (4, aI x4)] []) {x0 : Nat} {x1 : Nat} {x2 : Nat} {x3 : Nat} {x4 : Int32}
    (h : (C x0).1 = 9 ∧
      (((I x0 7) < x4 →
      Q144 x0 x1 x2 x3 (0 : Int32) C I J R) ∧
      (¬ (I x0 7) < x4 →
      (C x3).1 = 4 ∧
      (C x1).1 = 4 ∧
      F_X0_times [aJ (J x3 2), aJ (J x1 2)] C I J R (fun o C5 I6 J7 R8 =>
      (∃ r9 : Int64, o = .inl (some (aJ r9)) ∧
      (C5 x3).1 = 4 ∧
      ∀ J11 : MJ, J11 = va_up J7 x3 (va_up (J7 x3) 2 r9) →
      Q111 x0 x1 x2 x3 (x4 + 1) C5 I6 J11 R8) ∨
      (∃ q12 : Nat, o = .inr q12 ∧
      ((C5 q12).1 = 11 ∧
      gK Γ (.inr q12) C5 I6 J7 R8)))))) :
    AW Γ 0 0 C I J R 111 [(0, aR (some x0)), (1, aR (some x1)), (2, aR (some x2)), (3, aR (some x3)), (4, aI x4)] [] := by
  have G0 := G.1
  refine aw_iload G0 4 rfl dX9_table_111 ?_
  refine aw_aload_n G0 0 rfl dX9_table_113 ?_
  obtain ⟨k1, h⟩ := h
  refine aw_getI (f := 7) G0 (by rw [k1]; exact fb_X9_22) dX9_table_114 ?_
  refine aw_icmp_gt G0 141 dX9_table_117 (by decide) (fun c2 => ?_) (fun c2 => ?_)
  · have h := h.1 c2
    refine aw_iconst (v := (0 : Int32)) G0 dX9_table_141 (by decide) ?_
    refine aw_istore (lv' := [(4, aI (0 : Int32)), (0, aR (some x0)), (1, aR (some x1)), (2, aR (some x2)), (3, aR (some x3))]) G0 (by decide) rfl dX9_table_142 ?_
    exact (aw_lv [1, 2, 3, 4, 0] rfl (w144 x0 x1 x2 x3 (0 : Int32) C I J R h))
  · have h := h.2 c2
    refine aw_aload_n G0 3 rfl dX9_table_120 ?_
    refine aw_aload_n G0 3 rfl dX9_table_121 ?_
    obtain ⟨k3, h⟩ := h
    refine aw_getJ (f := 2) G0 (by rw [k3]; exact fb_X9_37) dX9_table_122 ?_
    refine aw_aload_n G0 1 rfl dX9_table_125 ?_
    obtain ⟨k4, h⟩ := h
    refine aw_getJ (f := 2) G0 (by rw [k4]; exact fb_X9_37) dX9_table_126 ?_
    refine aw_callSN (k1 := 0) (n1 := 0) (k2 := 1) (n2 := 6) (st := [aR (some x3)]) G0 S_X0_times q693 q658 q50 gw_X0_times md_X0_times (Nat.le_of_ble_eq_true rfl) (by decide) (by rw [G.2.1]; dsimp only [rmTb, rmBo, rmTo, rmLv, rmX0_times]; omega) (by rw [G.2.1]; dsimp only [rmTb, rmBo, rmTo, rmLv, rmX0_times]; omega) [aJ (J x3 2), aJ (J x1 2)] rfl rfl dX9_table_129 h (fun o C5 I6 J7 R8 h => ?_)
    rcases h with ⟨r9, rfl, h⟩ | ⟨q12, rfl, h⟩
    · show AW Γ 0 0 C5 I6 J7 R8 (129 + 3) [(0, aR (some x0)), (1, aR (some x1)), (2, aR (some x2)), (3, aR (some x3)), (4, aI x4)] [aJ r9, aR (some x3)]
      obtain ⟨k10, h⟩ := h
      refine aw_putJ (f := 2) G0 (by rw [k10]; exact fp_X9_37 _) dX9_table_132 ?_
      generalize gJ11 : va_up J7 x3 (va_up (J7 x3) 2 r9) = J11
      have h := h J11 gJ11.symm
      refine aw_iinc (v := x4 + 1) (lv' := [(4, aI (x4 + 1)), (0, aR (some x0)), (1, aR (some x1)), (2, aR (some x2)), (3, aR (some x3))]) G0 4 rfl rfl (by decide) rfl dX9_table_135 ?_
      refine aw_goto G0 111 dX9_table_138 (by decide) ?_
      exact (aw_lv [1, 2, 3, 4, 0] rfl (w111 x0 x1 x2 x3 (x4 + 1) C5 I6 J11 R8 h))
    · show AX Γ 1 6 C5 I6 J7 R8 129 [(0, aR (some x0)), (1, aR (some x1)), (2, aR (some x2)), (3, aR (some x3)), (4, aI x4)] q12
      obtain ⟨k13, h⟩ := h
      exact ax_out G0 rfl (Or.inr (Or.inl k13)) (by rw [G.2.2]; exact ⟨by decide, by decide⟩) (by rw [G.2.1]; exact ⟨Nat.le_refl 1, Nat.le_refl 6⟩) h
theorem bX9_table_144 {d : Nat} (G : Gb Γ yX9_table cX9_table 9 (some (.object "TickShare$Table")) [] (rmTb (d + 1)) bdX9_table)
    {Q167 : Nat → Nat → Nat → Nat → Int32 → Option Nat → Int32 → Int64 → MC → MI → MJ → MR → Prop} (w167 : ∀ (x0 : Nat) (x1 : Nat) (x2 : Nat) (x3 : Nat) (x4 : Int32) (s0 : Option Nat) (s1 : Int32) (s2 : Int64) (C : MC) (I : MI) (J : MJ) (R : MR), Q167 x0 x1 x2 x3 x4 s0 s1 s2 C I J R → AW Γ 0 0 C I J R 167 [(0, aR (some x0)), (1, aR (some x1)), (2, aR (some x2)), (3, aR (some x3)), (4, aI x4)] [aJ s2, aI s1, aR s0])
    {Q183 : Nat → Nat → Nat → Nat → Int64 → Int32 → MC → MI → MJ → MR → Prop} (w183 : ∀ (x0 : Nat) (x1 : Nat) (x2 : Nat) (x3 : Nat) (x4 : Int64) (x6 : Int32) (C : MC) (I : MI) (J : MJ) (R : MR), Q183 x0 x1 x2 x3 x4 x6 C I J R → AW Γ 0 0 C I J R 183 [(0, aR (some x0)), (1, aR (some x1)), (2, aR (some x2)), (3, aR (some x3)), (4, aJ x4), (6, aI x6)] []) {x0 : Nat} {x1 : Nat} {x2 : Nat} {x3 : Nat} {x4 : Int32}
    (h : (((120 : Int32) < x4 →
      (C x3).1 = 4 ∧
      Q183 x0 x1 x2 x3 (J x3 2) (0 : Int32) C I J R) ∧
      (¬ (120 : Int32) < x4 →
      (C x0).1 = 9 ∧
      ((¬ x4 = 0 →
      Q167 x0 x1 x2 x3 x4 (R x0 8) x4 (0 : Int64) C I J R) ∧
      (x4 = 0 →
      Q167 x0 x1 x2 x3 x4 (R x0 8) x4 (1 : Int64) C I J R))))) :
    AW Γ 0 0 C I J R 144 [(0, aR (some x0)), (1, aR (some x1)), (2, aR (some x2)), (3, aR (some x3)), (4, aI x4)] [] := by
  have G0 := G.1
  refine aw_iload G0 4 rfl dX9_table_144 ?_
  refine aw_bipush (v := (120 : Int32)) G0 dX9_table_146 (by decide) ?_
  refine aw_icmp_gt G0 174 dX9_table_148 (by decide) (fun c1 => ?_) (fun c1 => ?_)
  · have h := h.1 c1
    refine aw_aload_n G0 3 rfl dX9_table_174 ?_
    obtain ⟨k2, h⟩ := h
    refine aw_getJ (f := 2) G0 (by rw [k2]; exact fb_X9_37) dX9_table_175 ?_
    refine aw_lstore (lv' := [(4, aJ (J x3 2)), (0, aR (some x0)), (1, aR (some x1)), (2, aR (some x2)), (3, aR (some x3))]) G0 (by decide) rfl dX9_table_178 ?_
    refine aw_iconst (v := (0 : Int32)) G0 dX9_table_180 (by decide) ?_
    refine aw_istore (lv' := [(6, aI (0 : Int32)), (4, aJ (J x3 2)), (0, aR (some x0)), (1, aR (some x1)), (2, aR (some x2)), (3, aR (some x3))]) G0 (by decide) rfl dX9_table_181 ?_
    exact (aw_lv [2, 3, 4, 5, 1, 0] rfl (w183 x0 x1 x2 x3 (J x3 2) (0 : Int32) C I J R h))
  · have h := h.2 c1
    refine aw_aload_n G0 0 rfl dX9_table_151 ?_
    obtain ⟨k3, h⟩ := h
    refine aw_getR (f := 8) G0 (by rw [k3]; exact fb_X9_9) dX9_table_152 ?_
    refine aw_iload G0 4 rfl dX9_table_155 ?_
    refine aw_iload G0 4 rfl dX9_table_157 ?_
    refine aw_if_ne G0 166 dX9_table_159 (by decide) (fun c4 => ?_) (fun c4 => ?_)
    · have h := h.1 c4
      refine aw_lconst (v := (0 : Int64)) G0 dX9_table_166 (by decide) ?_
      exact (w167 x0 x1 x2 x3 x4 (R x0 8) x4 (0 : Int64) C I J R h)
    · have h := h.2 c4
      refine aw_lconst (v := (1 : Int64)) G0 dX9_table_162 (by decide) ?_
      refine aw_goto G0 167 dX9_table_163 (by decide) ?_
      exact (w167 x0 x1 x2 x3 x4 (R x0 8) x4 (1 : Int64) C I J R h)
theorem bX9_table_167 {d : Nat} (G : Gb Γ yX9_table cX9_table 9 (some (.object "TickShare$Table")) [] (rmTb (d + 1)) bdX9_table)
    {Q144 : Nat → Nat → Nat → Nat → Int32 → MC → MI → MJ → MR → Prop} (w144 : ∀ (x0 : Nat) (x1 : Nat) (x2 : Nat) (x3 : Nat) (x4 : Int32) (C : MC) (I : MI) (J : MJ) (R : MR), Q144 x0 x1 x2 x3 x4 C I J R → AW Γ 0 0 C I J R 144 [(0, aR (some x0)), (1, aR (some x1)), (2, aR (some x2)), (3, aR (some x3)), (4, aI x4)] []) {x0 : Nat} {x1 : Nat} {x2 : Nat} {x3 : Nat} {x4 : Int32} {s0 : Option Nat} {s1 : Int32} {s2 : Int64}
    (h : ∃ q1 : Nat, s0 = some q1 ∧
      (C q1).1 = 21 ∧
      vp_in s1 (C q1).2 ∧
      ∀ J4 : MJ, J4 = va_up J q1 (va_up (J q1) s1.toNatClampNeg s2) →
      Q144 x0 x1 x2 x3 (x4 + 1) C I J4 R) :
    AW Γ 0 0 C I J R 167 [(0, aR (some x0)), (1, aR (some x1)), (2, aR (some x2)), (3, aR (some x3)), (4, aI x4)] [aJ s2, aI s1, aR s0] := by
  have G0 := G.1
  obtain ⟨q1, e1, h⟩ := h
  refine aw_dr2 e1 ?_
  obtain ⟨k2, h⟩ := h
  obtain ⟨k3, h⟩ := h
  refine aw_last G0 k2 k3 dX9_table_167 ?_
  generalize gJ4 : va_up J q1 (va_up (J q1) s1.toNatClampNeg s2) = J4
  have h := h J4 gJ4.symm
  refine aw_iinc (v := x4 + 1) (lv' := [(4, aI (x4 + 1)), (0, aR (some x0)), (1, aR (some x1)), (2, aR (some x2)), (3, aR (some x3))]) G0 4 rfl rfl (by decide) rfl dX9_table_168 ?_
  refine aw_goto G0 144 dX9_table_171 (by decide) ?_
  exact (aw_lv [1, 2, 3, 4, 0] rfl (w144 x0 x1 x2 x3 (x4 + 1) C I J4 R h))
theorem bX9_table_183 {d : Nat} (G : Gb Γ yX9_table cX9_table 9 (some (.object "TickShare$Table")) [] (rmTb (d + 1)) bdX9_table)
    {Q204 : Nat → Nat → Nat → Nat → Int64 → Int32 → Int32 → MC → MI → MJ → MR → Prop} (w204 : ∀ (x0 : Nat) (x1 : Nat) (x2 : Nat) (x3 : Nat) (x4 : Int64) (x6 : Int32) (x7 : Int32) (C : MC) (I : MI) (J : MJ) (R : MR), Q204 x0 x1 x2 x3 x4 x6 x7 C I J R → AW Γ 0 0 C I J R 204 [(0, aR (some x0)), (1, aR (some x1)), (2, aR (some x2)), (3, aR (some x3)), (4, aJ x4), (6, aI x6), (7, aI x7)] [])
    {Q384 : Nat → Nat → Int32 → MC → MI → MJ → MR → Prop} (w384 : ∀ (x0 : Nat) (x3 : Nat) (x6 : Int32) (C : MC) (I : MI) (J : MJ) (R : MR), Q384 x0 x3 x6 C I J R → AW Γ 0 0 C I J R 384 [(0, aR (some x0)), (3, aR (some x3)), (6, aI x6)] []) {x0 : Nat} {x1 : Nat} {x2 : Nat} {x3 : Nat} {x4 : Int64} {x6 : Int32}
    (h : (C x0).1 = 9 ∧
      (((I x0 7) < x6 →
      Q384 x0 x3 (0 : Int32) C I J R) ∧
      (¬ (I x0 7) < x6 →
      (C x1).1 = 4 ∧
      ¬ (J x1 2) = 0 ∧
      Q204 x0 x1 x2 x3 (x4 / (J x1 2)) x6 (0 : Int32) C I J R))) :
    AW Γ 0 0 C I J R 183 [(0, aR (some x0)), (1, aR (some x1)), (2, aR (some x2)), (3, aR (some x3)), (4, aJ x4), (6, aI x6)] [] := by
  have G0 := G.1
  refine aw_iload G0 5 rfl dX9_table_183 ?_
  refine aw_aload_n G0 0 rfl dX9_table_185 ?_
  obtain ⟨k1, h⟩ := h
  refine aw_getI (f := 7) G0 (by rw [k1]; exact fb_X9_22) dX9_table_186 ?_
  refine aw_icmp_gt G0 381 dX9_table_189 (by decide) (fun c2 => ?_) (fun c2 => ?_)
  · have h := h.1 c2
    refine aw_iconst (v := (0 : Int32)) G0 dX9_table_381 (by decide) ?_
    refine aw_istore (lv' := [(6, aI (0 : Int32)), (0, aR (some x0)), (1, aR (some x1)), (2, aR (some x2)), (3, aR (some x3)), (4, aJ x4)]) G0 (by decide) rfl dX9_table_382 ?_
    exact (aw_lv [1, 4, 0] rfl (w384 x0 x3 (0 : Int32) C I J R h))
  · have h := h.2 c2
    refine aw_lload G0 4 rfl dX9_table_192 ?_
    refine aw_aload_n G0 1 rfl dX9_table_194 ?_
    obtain ⟨k3, h⟩ := h
    refine aw_getJ (f := 2) G0 (by rw [k3]; exact fb_X9_37) dX9_table_195 ?_
    obtain ⟨k4, h⟩ := h
    refine aw_ldiv G0 k4 dX9_table_198 ?_
    refine aw_lstore (lv' := [(4, aJ (x4 / (J x1 2))), (0, aR (some x0)), (1, aR (some x1)), (2, aR (some x2)), (3, aR (some x3)), (6, aI x6)]) G0 (by decide) rfl dX9_table_199 ?_
    refine aw_iconst (v := (0 : Int32)) G0 dX9_table_201 (by decide) ?_
    refine aw_istore (lv' := [(7, aI (0 : Int32)), (4, aJ (x4 / (J x1 2))), (0, aR (some x0)), (1, aR (some x1)), (2, aR (some x2)), (3, aR (some x3)), (6, aI x6)]) G0 (by decide) rfl dX9_table_202 ?_
    exact (aw_lv [2, 3, 4, 5, 1, 6, 0] rfl (w204 x0 x1 x2 x3 (x4 / (J x1 2)) x6 (0 : Int32) C I J R h))
theorem bX9_table_204 {d : Nat} (G : Gb Γ yX9_table cX9_table 9 (some (.object "TickShare$Table")) [] (rmTb (d + 1)) bdX9_table)
    {Q204 : Nat → Nat → Nat → Nat → Int64 → Int32 → Int32 → MC → MI → MJ → MR → Prop} (w204 : ∀ (x0 : Nat) (x1 : Nat) (x2 : Nat) (x3 : Nat) (x4 : Int64) (x6 : Int32) (x7 : Int32) (C : MC) (I : MI) (J : MJ) (R : MR), Q204 x0 x1 x2 x3 x4 x6 x7 C I J R → AW Γ 0 0 C I J R 204 [(0, aR (some x0)), (1, aR (some x1)), (2, aR (some x2)), (3, aR (some x3)), (4, aJ x4), (6, aI x6), (7, aI x7)] [])
    {Q228 : Nat → Nat → Nat → Nat → Int64 → Int32 → Int32 → MC → MI → MJ → MR → Prop} (w228 : ∀ (x0 : Nat) (x1 : Nat) (x2 : Nat) (x3 : Nat) (x4 : Int64) (x6 : Int32) (x7 : Int32) (C : MC) (I : MI) (J : MJ) (R : MR), Q228 x0 x1 x2 x3 x4 x6 x7 C I J R → AW Γ 0 0 C I J R 228 [(0, aR (some x0)), (1, aR (some x1)), (2, aR (some x2)), (3, aR (some x3)), (4, aJ x4), (6, aI x6), (7, aI x7)] []) {x0 : Nat} {x1 : Nat} {x2 : Nat} {x3 : Nat} {x4 : Int64} {x6 : Int32} {x7 : Int32}
    (h : (((120 : Int32) < x7 →
      Q228 x0 x1 x2 x3 x4 x6 (0 : Int32) C I J R) ∧
      (¬ (120 : Int32) < x7 →
      (C x0).1 = 9 ∧
      ∃ q3 : Nat, R x0 9 = some q3 ∧
      (C q3).1 = 21 ∧
      vp_in x7 (C q3).2 ∧
      ∀ J6 : MJ, J6 = va_up J q3 (va_up (J q3) x7.toNatClampNeg (0 : Int64)) →
      Q204 x0 x1 x2 x3 x4 x6 (x7 + 1) C I J6 R))) :
    AW Γ 0 0 C I J R 204 [(0, aR (some x0)), (1, aR (some x1)), (2, aR (some x2)), (3, aR (some x3)), (4, aJ x4), (6, aI x6), (7, aI x7)] [] := by
  have G0 := G.1
  refine aw_iload G0 6 rfl dX9_table_204 ?_
  refine aw_bipush (v := (120 : Int32)) G0 dX9_table_206 (by decide) ?_
  refine aw_icmp_gt G0 225 dX9_table_208 (by decide) (fun c1 => ?_) (fun c1 => ?_)
  · have h := h.1 c1
    refine aw_iconst (v := (0 : Int32)) G0 dX9_table_225 (by decide) ?_
    refine aw_istore (lv' := [(7, aI (0 : Int32)), (0, aR (some x0)), (1, aR (some x1)), (2, aR (some x2)), (3, aR (some x3)), (4, aJ x4), (6, aI x6)]) G0 (by decide) rfl dX9_table_226 ?_
    exact (aw_lv [1, 2, 3, 4, 5, 6, 0] rfl (w228 x0 x1 x2 x3 x4 x6 (0 : Int32) C I J R h))
  · have h := h.2 c1
    refine aw_aload_n G0 0 rfl dX9_table_211 ?_
    obtain ⟨k2, h⟩ := h
    refine aw_getR (f := 9) G0 (by rw [k2]; exact fb_X9_15) dX9_table_212 ?_
    refine aw_iload G0 6 rfl dX9_table_215 ?_
    refine aw_lconst (v := (0 : Int64)) G0 dX9_table_217 (by decide) ?_
    obtain ⟨q3, e3, h⟩ := h
    refine aw_dr2 e3 ?_
    obtain ⟨k4, h⟩ := h
    obtain ⟨k5, h⟩ := h
    refine aw_last G0 k4 k5 dX9_table_218 ?_
    generalize gJ6 : va_up J q3 (va_up (J q3) x7.toNatClampNeg (0 : Int64)) = J6
    have h := h J6 gJ6.symm
    refine aw_iinc (v := x7 + 1) (lv' := [(7, aI (x7 + 1)), (0, aR (some x0)), (1, aR (some x1)), (2, aR (some x2)), (3, aR (some x3)), (4, aJ x4), (6, aI x6)]) G0 6 rfl rfl (by decide) rfl dX9_table_219 ?_
    refine aw_goto G0 204 dX9_table_222 (by decide) ?_
    exact (aw_lv [1, 2, 3, 4, 5, 6, 0] rfl (w204 x0 x1 x2 x3 x4 x6 (x7 + 1) C I J6 R h))
theorem bX9_table_228 {d : Nat} (G : Gb Γ yX9_table cX9_table 9 (some (.object "TickShare$Table")) [] (rmTb (d + 1)) bdX9_table)
    {Q183 : Nat → Nat → Nat → Nat → Int64 → Int32 → MC → MI → MJ → MR → Prop} (w183 : ∀ (x0 : Nat) (x1 : Nat) (x2 : Nat) (x3 : Nat) (x4 : Int64) (x6 : Int32) (C : MC) (I : MI) (J : MJ) (R : MR), Q183 x0 x1 x2 x3 x4 x6 C I J R → AW Γ 0 0 C I J R 183 [(0, aR (some x0)), (1, aR (some x1)), (2, aR (some x2)), (3, aR (some x3)), (4, aJ x4), (6, aI x6)] [])
    {Q238 : Nat → Nat → Nat → Nat → Int64 → Int32 → Int32 → Int32 → MC → MI → MJ → MR → Prop} (w238 : ∀ (x0 : Nat) (x1 : Nat) (x2 : Nat) (x3 : Nat) (x4 : Int64) (x6 : Int32) (x7 : Int32) (x8 : Int32) (C : MC) (I : MI) (J : MJ) (R : MR), Q238 x0 x1 x2 x3 x4 x6 x7 x8 C I J R → AW Γ 0 0 C I J R 238 [(0, aR (some x0)), (1, aR (some x1)), (2, aR (some x2)), (3, aR (some x3)), (4, aJ x4), (6, aI x6), (7, aI x7), (8, aI x8)] []) {x0 : Nat} {x1 : Nat} {x2 : Nat} {x3 : Nat} {x4 : Int64} {x6 : Int32} {x7 : Int32}
    (h : (((120 : Int32) < x7 →
      (C x0).1 = 9 ∧
      ∃ q3 : Nat, R x0 8 = some q3 ∧
      ∃ q4 : Nat, R x0 9 = some q4 ∧
      (C q4).1 = 21 ∧
      (C q3).1 = 21 ∧
      (0 : Int32).toNatClampNeg + (121 : Int32).toNatClampNeg ≤ (C q4).2 ∧
      (0 : Int32).toNatClampNeg + (121 : Int32).toNatClampNeg ≤ (C q3).2 ∧
      ∀ J9 : MJ, J9 = va_up J q3 (va_cpy (J q4) (J q3) (0 : Int32).toNatClampNeg (0 : Int32).toNatClampNeg (121 : Int32).toNatClampNeg) →
      Q183 x0 x1 x2 x3 x4 (x6 + 1) C I J9 R) ∧
      (¬ (120 : Int32) < x7 →
      Q238 x0 x1 x2 x3 x4 x6 x7 (0 : Int32) C I J R))) :
    AW Γ 0 0 C I J R 228 [(0, aR (some x0)), (1, aR (some x1)), (2, aR (some x2)), (3, aR (some x3)), (4, aJ x4), (6, aI x6), (7, aI x7)] [] := by
  have G0 := G.1
  refine aw_iload G0 6 rfl dX9_table_228 ?_
  refine aw_bipush (v := (120 : Int32)) G0 dX9_table_230 (by decide) ?_
  refine aw_icmp_gt G0 360 dX9_table_232 (by decide) (fun c1 => ?_) (fun c1 => ?_)
  · have h := h.1 c1
    refine aw_aload_n G0 0 rfl dX9_table_360 ?_
    obtain ⟨k2, h⟩ := h
    refine aw_getR (f := 9) G0 (by rw [k2]; exact fb_X9_15) dX9_table_361 ?_
    refine aw_iconst (v := (0 : Int32)) G0 dX9_table_364 (by decide) ?_
    refine aw_aload_n G0 0 rfl dX9_table_365 ?_
    refine aw_getR (f := 8) G0 (by rw [k2]; exact fb_X9_9) dX9_table_366 ?_
    refine aw_iconst (v := (0 : Int32)) G0 dX9_table_369 (by decide) ?_
    refine aw_bipush (v := (121 : Int32)) G0 dX9_table_370 (by decide) ?_
    obtain ⟨q3, e3, h⟩ := h
    refine aw_dr2 e3 ?_
    obtain ⟨q4, e4, h⟩ := h
    refine aw_dr4 e4 ?_
    obtain ⟨k5, h⟩ := h
    obtain ⟨k6, h⟩ := h
    obtain ⟨k7, h⟩ := h
    obtain ⟨k8, h⟩ := h
    refine aw_copyJ G0 q697 k5 k6 (by decide) (by decide) (by decide) k7 k8 (by rw [G.2.1]; dsimp only [rmTb, rmBo, rmTo, rmLv]; omega) (by rw [G.2.1]; have h9 := nfw; dsimp only [rmTb, rmBo, rmTo, rmLv]; simp only [List.map_nil, List.map_cons, List.sum_nil, List.sum_cons, acat]; omega) dX9_table_372 ?_
    generalize gJ9 : va_up J q3 (va_cpy (J q4) (J q3) (0 : Int32).toNatClampNeg (0 : Int32).toNatClampNeg (121 : Int32).toNatClampNeg) = J9
    have h := h J9 gJ9.symm
    refine aw_iinc (v := x6 + 1) (lv' := [(6, aI (x6 + 1)), (0, aR (some x0)), (1, aR (some x1)), (2, aR (some x2)), (3, aR (some x3)), (4, aJ x4), (7, aI x7)]) G0 5 rfl rfl (by decide) rfl dX9_table_375 ?_
    refine aw_goto G0 183 dX9_table_378 (by decide) ?_
    exact (aw_lv [1, 2, 3, 4, 5, 0] rfl (w183 x0 x1 x2 x3 x4 (x6 + 1) C I J9 R h))
  · have h := h.2 c1
    refine aw_iconst (v := (0 : Int32)) G0 dX9_table_235 (by decide) ?_
    refine aw_istore (lv' := [(8, aI (0 : Int32)), (0, aR (some x0)), (1, aR (some x1)), (2, aR (some x2)), (3, aR (some x3)), (4, aJ x4), (6, aI x6), (7, aI x7)]) G0 (by decide) rfl dX9_table_236 ?_
    exact (aw_lv [1, 2, 3, 4, 5, 6, 7, 0] rfl (w238 x0 x1 x2 x3 x4 x6 x7 (0 : Int32) C I J R h))
theorem bX9_table_238 {d : Nat} (G : Gb Γ yX9_table cX9_table 9 (some (.object "TickShare$Table")) [] (rmTb (d + 1)) bdX9_table) {F_X3_add : SPF} (S_X3_add : SpX3_add (gL Γ) F_X3_add) {F_X11_init : SPF} (S_X11_init : SpX11_init (gL Γ) F_X11_init)
    {Q348 : Nat → Nat → Nat → Nat → Int64 → Int32 → Int32 → Int32 → MC → MI → MJ → MR → Prop} (w348 : ∀ (x0 : Nat) (x1 : Nat) (x2 : Nat) (x3 : Nat) (x4 : Int64) (x6 : Int32) (x7 : Int32) (x8 : Int32) (C : MC) (I : MI) (J : MJ) (R : MR), Q348 x0 x1 x2 x3 x4 x6 x7 x8 C I J R → AW Γ 0 0 C I J R 348 [(0, aR (some x0)), (1, aR (some x1)), (2, aR (some x2)), (3, aR (some x3)), (4, aJ x4), (6, aI x6), (7, aI x7), (8, aI x8)] [])
    {Q354 : Nat → Nat → Nat → Nat → Int64 → Int32 → Int32 → MC → MI → MJ → MR → Prop} (w354 : ∀ (x0 : Nat) (x1 : Nat) (x2 : Nat) (x3 : Nat) (x4 : Int64) (x6 : Int32) (x7 : Int32) (C : MC) (I : MI) (J : MJ) (R : MR), Q354 x0 x1 x2 x3 x4 x6 x7 C I J R → AW Γ 0 0 C I J R 354 [(0, aR (some x0)), (1, aR (some x1)), (2, aR (some x2)), (3, aR (some x3)), (4, aJ x4), (6, aI x6), (7, aI x7)] []) {x0 : Nat} {x1 : Nat} {x2 : Nat} {x3 : Nat} {x4 : Int64} {x6 : Int32} {x7 : Int32} {x8 : Int32}
    (h : (C x0).1 = 9 ∧
      (((I x0 6) < x8 →
      Q354 x0 x1 x2 x3 x4 x6 x7 C I J R) ∧
      (¬ (I x0 6) < x8 →
      ∃ q3 : Nat, R x0 8 = some q3 ∧
      (C q3).1 = 21 ∧
      vp_in x7 (C q3).2 ∧
      (((J q3 x7.toNatClampNeg) ≤ (0 : Int64) →
      Q354 x0 x1 x2 x3 x4 x6 x7 C I J R) ∧
      (¬ (J q3 x7.toNatClampNeg) ≤ (0 : Int64) →
      (C x2).1 = 4 ∧
      ∃ q8 : Nat, R x2 0 = some q8 ∧
      (C q8).1 = 21 ∧
      vp_in x8 (C q8).2 ∧
      (C x3).1 = 4 ∧
      F_X3_add [aR (some x3), aI (1 : Int32), aI (x7 + x8), aJ (((J q3 x7.toNatClampNeg) * (J q8 x8.toNatClampNeg)) * x4)] C I J R (fun o C12 I13 J14 R15 =>
      (o = .inl none ∧
      (C12 x2).1 = 4 ∧
      ∃ q18 : Nat, R15 x2 1 = some q18 ∧
      (C12 q18).1 = 21 ∧
      vp_in x8 (C12 q18).2 ∧
      ((¬ (J14 q18 x8.toNatClampNeg) = (0 : Int64) →
      (((x7 + x8) ≤ (120 : Int32) →
      (C12 x0).1 = 9 ∧
      ∃ q24 : Nat, R15 x0 9 = some q24 ∧
      (C12 q24).1 = 21 ∧
      vp_in (x7 + x8) (C12 q24).2 ∧
      ∃ q27 : Nat, R15 x0 8 = some q27 ∧
      (C12 q27).1 = 21 ∧
      vp_in x7 (C12 q27).2 ∧
      ∀ J30 : MJ, J30 = va_up J14 q24 (va_up (J14 q24) (x7 + x8).toNatClampNeg ((J14 q24 (x7 + x8).toNatClampNeg) + ((J14 q27 x7.toNatClampNeg) * (J14 q18 x8.toNatClampNeg)))) →
      Q348 x0 x1 x2 x3 x4 x6 x7 x8 C12 I13 J30 R15) ∧
      (¬ (x7 + x8) ≤ (120 : Int32) →
      ∃ q31 : Nat, (C12 q31).1 = 0 ∧
      ∀ (C33 : MC) (I34 : MI) (J35 : MJ) (R36 : MR), C33 = va_up C12 q31 (11, 0) → I34 = va_up I13 q31 (fun _ => 0) → J35 = va_up J14 q31 (fun _ => 0) → R36 = va_up R15 q31 (fun _ => none) → 
      F_X11_init [aR (some q31)] C33 I34 J35 R36 (fun o C37 I38 J39 R40 =>
      o = .inl none ∧
      (C37 q31).1 = 11 ∧
      gK Γ (.inr q31) C37 I38 J39 R40)))) ∧
      ((J14 q18 x8.toNatClampNeg) = (0 : Int64) →
      Q348 x0 x1 x2 x3 x4 x6 x7 x8 C12 I13 J14 R15))) ∨
      (∃ q43 : Nat, o = .inr q43 ∧
      ((C12 q43).1 = 11 ∧
      gK Γ (.inr q43) C12 I13 J14 R15)))))))) :
    AW Γ 0 0 C I J R 238 [(0, aR (some x0)), (1, aR (some x1)), (2, aR (some x2)), (3, aR (some x3)), (4, aJ x4), (6, aI x6), (7, aI x7), (8, aI x8)] [] := by
  have G0 := G.1
  refine aw_iload G0 7 rfl dX9_table_238 ?_
  refine aw_aload_n G0 0 rfl dX9_table_240 ?_
  obtain ⟨k1, h⟩ := h
  refine aw_getI (f := 6) G0 (by rw [k1]; exact fb_X9_18) dX9_table_241 ?_
  refine aw_icmp_gt G0 354 dX9_table_244 (by decide) (fun c2 => ?_) (fun c2 => ?_)
  · have h := h.1 c2
    exact (aw_lv [0, 1, 2, 3, 4, 5, 6] rfl (w354 x0 x1 x2 x3 x4 x6 x7 C I J R h))
  · have h := h.2 c2
    refine aw_aload_n G0 0 rfl dX9_table_247 ?_
    refine aw_getR (f := 8) G0 (by rw [k1]; exact fb_X9_9) dX9_table_248 ?_
    refine aw_iload G0 6 rfl dX9_table_251 ?_
    obtain ⟨q3, e3, h⟩ := h
    refine aw_dr1 e3 ?_
    obtain ⟨k4, h⟩ := h
    obtain ⟨k5, h⟩ := h
    refine aw_lald G0 k4 k5 dX9_table_253 ?_
    refine aw_lconst (v := (0 : Int64)) G0 dX9_table_254 (by decide) ?_
    refine aw_lif_le G0 354 dX9_table_255 dX9_table_256 (by decide) (fun c6 => ?_) (fun c6 => ?_)
    · have h := h.1 c6
      exact (aw_lv [0, 1, 2, 3, 4, 5, 6] rfl (w354 x0 x1 x2 x3 x4 x6 x7 C I J R h))
    · have h := h.2 c6
      refine aw_aload_n G0 3 rfl dX9_table_259 ?_
      refine aw_iconst (v := (1 : Int32)) G0 dX9_table_260 (by decide) ?_
      refine aw_iload G0 6 rfl dX9_table_261 ?_
      refine aw_iload G0 7 rfl dX9_table_263 ?_
      refine aw_iadd G0 dX9_table_265 ?_
      refine aw_aload_n G0 0 rfl dX9_table_266 ?_
      refine aw_getR (f := 8) G0 (by rw [k1]; exact fb_X9_9) dX9_table_267 ?_
      refine aw_iload G0 6 rfl dX9_table_270 ?_
      refine aw_dr1 e3 ?_
      refine aw_lald G0 k4 k5 dX9_table_272 ?_
      refine aw_aload_n G0 2 rfl dX9_table_273 ?_
      obtain ⟨k7, h⟩ := h
      refine aw_getR (f := 0) G0 (by rw [k7]; exact fb_X9_47) dX9_table_274 ?_
      refine aw_iload G0 7 rfl dX9_table_277 ?_
      obtain ⟨q8, e8, h⟩ := h
      refine aw_dr1 e8 ?_
      obtain ⟨k9, h⟩ := h
      obtain ⟨k10, h⟩ := h
      refine aw_lald G0 k9 k10 dX9_table_279 ?_
      refine aw_lmul G0 dX9_table_280 ?_
      refine aw_lload G0 4 rfl dX9_table_281 ?_
      refine aw_lmul G0 dX9_table_283 ?_
      obtain ⟨k11, h⟩ := h
      refine aw_callV (k1 := 0) (n1 := 0) (k2 := 1) (n2 := 6) (st := []) G0 S_X3_add gi_X9_66 (Or.inl (by rw [k11]; decide)) (by rw [k11]; rfl) md_X3_add (Nat.le_of_ble_eq_true rfl) (by decide) (by rw [G.2.1]; dsimp only [rmTb, rmBo, rmTo, rmLv, rmX3_add]; omega) (by rw [G.2.1]; dsimp only [rmTb, rmBo, rmTo, rmLv, rmX3_add]; omega) [aI (1 : Int32), aI (x7 + x8), aJ (((J q3 x7.toNatClampNeg) * (J q8 x8.toNatClampNeg)) * x4)] rfl rfl dX9_table_284 h (fun o C12 I13 J14 R15 h => ?_)
      rcases h with ⟨rfl, h⟩ | ⟨q43, rfl, h⟩
      · show AW Γ 0 0 C12 I13 J14 R15 (284 + 3) [(0, aR (some x0)), (1, aR (some x1)), (2, aR (some x2)), (3, aR (some x3)), (4, aJ x4), (6, aI x6), (7, aI x7), (8, aI x8)] []
        refine aw_aload_n G0 2 rfl dX9_table_287 ?_
        obtain ⟨k17, h⟩ := h
        refine aw_getR (f := 1) G0 (by rw [k17]; exact fb_X9_50) dX9_table_288 ?_
        refine aw_iload G0 7 rfl dX9_table_291 ?_
        obtain ⟨q18, e18, h⟩ := h
        refine aw_dr1 e18 ?_
        obtain ⟨k19, h⟩ := h
        obtain ⟨k20, h⟩ := h
        refine aw_lald G0 k19 k20 dX9_table_293 ?_
        refine aw_lconst (v := (0 : Int64)) G0 dX9_table_294 (by decide) ?_
        refine aw_lif_ne G0 302 dX9_table_295 dX9_table_296 (by decide) (fun c21 => ?_) (fun c21 => ?_)
        · have h := h.1 c21
          refine aw_iload G0 6 rfl dX9_table_302 ?_
          refine aw_iload G0 7 rfl dX9_table_304 ?_
          refine aw_iadd G0 dX9_table_306 ?_
          refine aw_bipush (v := (120 : Int32)) G0 dX9_table_307 (by decide) ?_
          refine aw_icmp_le G0 320 dX9_table_309 (by decide) (fun c22 => ?_) (fun c22 => ?_)
          · have h := h.1 c22
            refine aw_aload_n G0 0 rfl dX9_table_320 ?_
            obtain ⟨k23, h⟩ := h
            refine aw_getR (f := 9) G0 (by rw [k23]; exact fb_X9_15) dX9_table_321 ?_
            refine aw_iload G0 6 rfl dX9_table_324 ?_
            refine aw_iload G0 7 rfl dX9_table_326 ?_
            refine aw_iadd G0 dX9_table_328 ?_
            refine aw_dup2IR G0 dX9_table_329 ?_
            obtain ⟨q24, e24, h⟩ := h
            refine aw_dr1 e24 ?_
            obtain ⟨k25, h⟩ := h
            obtain ⟨k26, h⟩ := h
            refine aw_lald G0 k25 k26 dX9_table_330 ?_
            refine aw_aload_n G0 0 rfl dX9_table_331 ?_
            refine aw_getR (f := 8) G0 (by rw [k23]; exact fb_X9_9) dX9_table_332 ?_
            refine aw_iload G0 6 rfl dX9_table_335 ?_
            obtain ⟨q27, e27, h⟩ := h
            refine aw_dr1 e27 ?_
            obtain ⟨k28, h⟩ := h
            obtain ⟨k29, h⟩ := h
            refine aw_lald G0 k28 k29 dX9_table_337 ?_
            refine aw_aload_n G0 2 rfl dX9_table_338 ?_
            refine aw_getR (f := 1) G0 (by rw [k17]; exact fb_X9_50) dX9_table_339 ?_
            refine aw_iload G0 7 rfl dX9_table_342 ?_
            refine aw_dr1 e18 ?_
            refine aw_lald G0 k19 k20 dX9_table_344 ?_
            refine aw_lmul G0 dX9_table_345 ?_
            refine aw_ladd G0 dX9_table_346 ?_
            refine aw_dr2 e24 ?_
            refine aw_last G0 k25 k26 dX9_table_347 ?_
            generalize gJ30 : va_up J14 q24 (va_up (J14 q24) (x7 + x8).toNatClampNeg ((J14 q24 (x7 + x8).toNatClampNeg) + ((J14 q27 x7.toNatClampNeg) * (J14 q18 x8.toNatClampNeg)))) = J30
            have h := h J30 gJ30.symm
            exact (w348 x0 x1 x2 x3 x4 x6 x7 x8 C12 I13 J30 R15 h)
          · have h := h.2 c22
            obtain ⟨q31, z32, h⟩ := h
            refine aw_new (q := q31) (k' := 1) (n' := 6) G0 cl_10 (by decide) q695 q661 q70 nt_10 (by decide) (by decide) (by rw [G.2.1]; exact Nat.le_of_ble_eq_true rfl) (by rw [G.2.1]; exact Nat.le_of_ble_eq_true rfl) z32 dX9_table_312 ?_
            generalize gC33 : va_up C12 q31 (11, 0) = C33
            generalize gI34 : va_up I13 q31 (fun _ => 0) = I34
            generalize gJ35 : va_up J14 q31 (fun _ => 0) = J35
            generalize gR36 : va_up R15 q31 (fun _ => none) = R36
            have h := h C33 I34 J35 R36 gC33.symm gI34.symm gJ35.symm gR36.symm
            refine aw_dupR G0 dX9_table_315 ?_
            refine aw_callI (k1 := 1) (n1 := 6) (k2 := 1) (n2 := 6) (st := [aR (some q31)]) G0 S_X11_init gw_X11_init q70 q696 q670 rfl md_X11_init (Nat.le_of_ble_eq_true rfl) (by decide) (by rw [G.2.1]; dsimp only [rmTb, rmBo, rmTo, rmLv, rmX11_init]; omega) (by rw [G.2.1]; dsimp only [rmTb, rmBo, rmTo, rmLv, rmX11_init]; omega) [] rfl rfl dX9_table_316 h (fun o C37 I38 J39 R40 h => ?_)
            obtain ⟨rfl, h⟩ := h
            show AW Γ 1 6 C37 I38 J39 R40 (316 + 3) [(0, aR (some x0)), (1, aR (some x1)), (2, aR (some x2)), (3, aR (some x3)), (4, aJ x4), (6, aI x6), (7, aI x7), (8, aI x8)] [aR (some q31)]
            obtain ⟨k42, h⟩ := h
            refine aw_athrow G0 dX9_table_319 ?_
            exact ax_out G0 rfl (Or.inr (Or.inl k42)) (by rw [G.2.2]; exact ⟨by decide, by decide⟩) (by rw [G.2.1]; exact ⟨Nat.le_refl 1, Nat.le_refl 6⟩) h
        · have h := h.2 c21
          refine aw_goto G0 348 dX9_table_299 (by decide) ?_
          exact (w348 x0 x1 x2 x3 x4 x6 x7 x8 C12 I13 J14 R15 h)
      · show AX Γ 1 6 C12 I13 J14 R15 284 [(0, aR (some x0)), (1, aR (some x1)), (2, aR (some x2)), (3, aR (some x3)), (4, aJ x4), (6, aI x6), (7, aI x7), (8, aI x8)] q43
        obtain ⟨k44, h⟩ := h
        exact ax_out G0 rfl (Or.inr (Or.inl k44)) (by rw [G.2.2]; exact ⟨by decide, by decide⟩) (by rw [G.2.1]; exact ⟨Nat.le_refl 1, Nat.le_refl 6⟩) h
theorem bX9_table_348 {d : Nat} (G : Gb Γ yX9_table cX9_table 9 (some (.object "TickShare$Table")) [] (rmTb (d + 1)) bdX9_table)
    {Q238 : Nat → Nat → Nat → Nat → Int64 → Int32 → Int32 → Int32 → MC → MI → MJ → MR → Prop} (w238 : ∀ (x0 : Nat) (x1 : Nat) (x2 : Nat) (x3 : Nat) (x4 : Int64) (x6 : Int32) (x7 : Int32) (x8 : Int32) (C : MC) (I : MI) (J : MJ) (R : MR), Q238 x0 x1 x2 x3 x4 x6 x7 x8 C I J R → AW Γ 0 0 C I J R 238 [(0, aR (some x0)), (1, aR (some x1)), (2, aR (some x2)), (3, aR (some x3)), (4, aJ x4), (6, aI x6), (7, aI x7), (8, aI x8)] []) {x0 : Nat} {x1 : Nat} {x2 : Nat} {x3 : Nat} {x4 : Int64} {x6 : Int32} {x7 : Int32} {x8 : Int32}
    (h : Q238 x0 x1 x2 x3 x4 x6 x7 (x8 + 1) C I J R) :
    AW Γ 0 0 C I J R 348 [(0, aR (some x0)), (1, aR (some x1)), (2, aR (some x2)), (3, aR (some x3)), (4, aJ x4), (6, aI x6), (7, aI x7), (8, aI x8)] [] := by
  have G0 := G.1
  refine aw_iinc (v := x8 + 1) (lv' := [(8, aI (x8 + 1)), (0, aR (some x0)), (1, aR (some x1)), (2, aR (some x2)), (3, aR (some x3)), (4, aJ x4), (6, aI x6), (7, aI x7)]) G0 7 rfl rfl (by decide) rfl dX9_table_348 ?_
  refine aw_goto G0 238 dX9_table_351 (by decide) ?_
  exact (aw_lv [1, 2, 3, 4, 5, 6, 7, 0] rfl (w238 x0 x1 x2 x3 x4 x6 x7 (x8 + 1) C I J R h))
theorem bX9_table_354 {d : Nat} (G : Gb Γ yX9_table cX9_table 9 (some (.object "TickShare$Table")) [] (rmTb (d + 1)) bdX9_table)
    {Q228 : Nat → Nat → Nat → Nat → Int64 → Int32 → Int32 → MC → MI → MJ → MR → Prop} (w228 : ∀ (x0 : Nat) (x1 : Nat) (x2 : Nat) (x3 : Nat) (x4 : Int64) (x6 : Int32) (x7 : Int32) (C : MC) (I : MI) (J : MJ) (R : MR), Q228 x0 x1 x2 x3 x4 x6 x7 C I J R → AW Γ 0 0 C I J R 228 [(0, aR (some x0)), (1, aR (some x1)), (2, aR (some x2)), (3, aR (some x3)), (4, aJ x4), (6, aI x6), (7, aI x7)] []) {x0 : Nat} {x1 : Nat} {x2 : Nat} {x3 : Nat} {x4 : Int64} {x6 : Int32} {x7 : Int32}
    (h : Q228 x0 x1 x2 x3 x4 x6 (x7 + 1) C I J R) :
    AW Γ 0 0 C I J R 354 [(0, aR (some x0)), (1, aR (some x1)), (2, aR (some x2)), (3, aR (some x3)), (4, aJ x4), (6, aI x6), (7, aI x7)] [] := by
  have G0 := G.1
  refine aw_iinc (v := x7 + 1) (lv' := [(7, aI (x7 + 1)), (0, aR (some x0)), (1, aR (some x1)), (2, aR (some x2)), (3, aR (some x3)), (4, aJ x4), (6, aI x6)]) G0 6 rfl rfl (by decide) rfl dX9_table_354 ?_
  refine aw_goto G0 228 dX9_table_357 (by decide) ?_
  exact (aw_lv [1, 2, 3, 4, 5, 6, 0] rfl (w228 x0 x1 x2 x3 x4 x6 (x7 + 1) C I J R h))
theorem bX9_table_384 {d : Nat} (G : Gb Γ yX9_table cX9_table 9 (some (.object "TickShare$Table")) [] (rmTb (d + 1)) bdX9_table) {F_X3_less : SPF} (S_X3_less : SpX3_less (gL Γ) F_X3_less) {F_X3_add : SPF} (S_X3_add : SpX3_add (gL Γ) F_X3_add)
    {Q384 : Nat → Nat → Int32 → MC → MI → MJ → MR → Prop} (w384 : ∀ (x0 : Nat) (x3 : Nat) (x6 : Int32) (C : MC) (I : MI) (J : MJ) (R : MR), Q384 x0 x3 x6 C I J R → AW Γ 0 0 C I J R 384 [(0, aR (some x0)), (3, aR (some x3)), (6, aI x6)] []) {x0 : Nat} {x3 : Nat} {x6 : Int32}
    (h : (((120 : Int32) < x6 →
      (C x3).1 = 4 ∧
      F_X3_less [aR (some x3)] C I J R (fun o C3 I4 J5 R6 =>
      ∃ r7 : Nat, o = .inl (some (aR (some r7))) ∧
      gK Γ (.inl (some (aR (some r7)))) C3 I4 J5 R6)) ∧
      (¬ (120 : Int32) < x6 →
      (C x0).1 = 9 ∧
      ∃ q9 : Nat, R x0 8 = some q9 ∧
      (C q9).1 = 21 ∧
      vp_in x6 (C q9).2 ∧
      (C x3).1 = 4 ∧
      F_X3_add [aR (some x3), aI (0 : Int32), aI x6, aJ (J q9 x6.toNatClampNeg)] C I J R (fun o C13 I14 J15 R16 =>
      (o = .inl none ∧
      Q384 x0 x3 (x6 + 1) C13 I14 J15 R16) ∨
      (∃ q18 : Nat, o = .inr q18 ∧
      ((C13 q18).1 = 11 ∧
      gK Γ (.inr q18) C13 I14 J15 R16)))))) :
    AW Γ 0 0 C I J R 384 [(0, aR (some x0)), (3, aR (some x3)), (6, aI x6)] [] := by
  have G0 := G.1
  refine aw_iload G0 2 rfl dX9_table_384 ?_
  refine aw_bipush (v := (120 : Int32)) G0 dX9_table_386 (by decide) ?_
  refine aw_icmp_gt G0 411 dX9_table_388 (by decide) (fun c1 => ?_) (fun c1 => ?_)
  · have h := h.1 c1
    refine aw_aload_n G0 1 rfl dX9_table_411 ?_
    obtain ⟨k2, h⟩ := h
    refine aw_callV (k1 := 0) (n1 := 0) (k2 := 0) (n2 := 0) (st := []) G0 S_X3_less gi_X9_81 (Or.inl (by rw [k2]; decide)) (by rw [k2]; rfl) md_X3_less (Nat.le_of_ble_eq_true rfl) (by decide) (by rw [G.2.1]; dsimp only [rmTb, rmBo, rmTo, rmLv, rmX3_less]; omega) (by rw [G.2.1]; dsimp only [rmTb, rmBo, rmTo, rmLv, rmX3_less]; omega) [] rfl rfl dX9_table_412 h (fun o C3 I4 J5 R6 h => ?_)
    obtain ⟨r7, rfl, h⟩ := h
    show AW Γ 0 0 C3 I4 J5 R6 (412 + 3) [(0, aR (some x0)), (3, aR (some x3)), (6, aI x6)] [aR (some r7)]
    exact aw_areturn G0 ⟨_, rfl, rfl⟩ (by rw [G.2.2]; exact ⟨by decide, by decide⟩) (by rw [G.2.1]; exact ⟨Nat.zero_le _, Nat.zero_le _⟩) dX9_table_415 h
  · have h := h.2 c1
    refine aw_aload_n G0 1 rfl dX9_table_391 ?_
    refine aw_iconst (v := (0 : Int32)) G0 dX9_table_392 (by decide) ?_
    refine aw_iload G0 2 rfl dX9_table_393 ?_
    refine aw_aload_n G0 0 rfl dX9_table_395 ?_
    obtain ⟨k8, h⟩ := h
    refine aw_getR (f := 8) G0 (by rw [k8]; exact fb_X9_9) dX9_table_396 ?_
    refine aw_iload G0 2 rfl dX9_table_399 ?_
    obtain ⟨q9, e9, h⟩ := h
    refine aw_dr1 e9 ?_
    obtain ⟨k10, h⟩ := h
    obtain ⟨k11, h⟩ := h
    refine aw_lald G0 k10 k11 dX9_table_401 ?_
    obtain ⟨k12, h⟩ := h
    refine aw_callV (k1 := 0) (n1 := 0) (k2 := 1) (n2 := 6) (st := []) G0 S_X3_add gi_X9_66 (Or.inl (by rw [k12]; decide)) (by rw [k12]; rfl) md_X3_add (Nat.le_of_ble_eq_true rfl) (by decide) (by rw [G.2.1]; dsimp only [rmTb, rmBo, rmTo, rmLv, rmX3_add]; omega) (by rw [G.2.1]; dsimp only [rmTb, rmBo, rmTo, rmLv, rmX3_add]; omega) [aI (0 : Int32), aI x6, aJ (J q9 x6.toNatClampNeg)] rfl rfl dX9_table_402 h (fun o C13 I14 J15 R16 h => ?_)
    rcases h with ⟨rfl, h⟩ | ⟨q18, rfl, h⟩
    · show AW Γ 0 0 C13 I14 J15 R16 (402 + 3) [(0, aR (some x0)), (3, aR (some x3)), (6, aI x6)] []
      refine aw_iinc (v := x6 + 1) (lv' := [(6, aI (x6 + 1)), (0, aR (some x0)), (3, aR (some x3))]) G0 2 rfl rfl (by decide) rfl dX9_table_405 ?_
      refine aw_goto G0 384 dX9_table_408 (by decide) ?_
      exact (aw_lv [1, 2, 0] rfl (w384 x0 x3 (x6 + 1) C13 I14 J15 R16 h))
    · show AX Γ 1 6 C13 I14 J15 R16 402 [(0, aR (some x0)), (3, aR (some x3)), (6, aI x6)] q18
      obtain ⟨k19, h⟩ := h
      exact ax_out G0 rfl (Or.inr (Or.inl k19)) (by rw [G.2.2]; exact ⟨by decide, by decide⟩) (by rw [G.2.1]; exact ⟨Nat.le_refl 1, Nat.le_refl 6⟩) h
theorem bX9_asks_0 (G : Gb Γ yX9_asks cX9_asks 1 (some .int) [] rmX9_asks bdX9_asks) {x0 : Nat}
    (h : (C x0).1 = 9 ∧
      gK Γ (.inl (some (aI ((I x0 7) + (1 : Int32))))) C I J R) :
    AW Γ 0 0 C I J R 0 [(0, aR (some x0))] [] := by
  have G0 := G.1
  refine aw_aload_n G0 0 rfl dX9_asks_0 ?_
  obtain ⟨k1, h⟩ := h
  refine aw_getI (f := 7) G0 (by rw [k1]; exact fb_X9_22) dX9_asks_1 ?_
  refine aw_iconst (v := (1 : Int32)) G0 dX9_asks_4 (by decide) ?_
  refine aw_iadd G0 dX9_asks_5 ?_
  exact aw_ireturn G0 (Or.inl rfl) (by rw [G.2.2]; decide) (by rw [G.2.1]; decide) dX9_asks_6 h
theorem bX10_init_0 (G : Gb Γ yX10_init cX10_init 3 (none) [] rmX10_init bdX10_init) {F_X4_init : SPF} (S_X4_init : SpX4_init (gL Γ) F_X4_init) {x0 : Nat} {x1 : Nat} {x2 : Int32}
    (h : ∃ q1 : Nat, (C q1).1 = 0 ∧
      ∀ (C3 : MC) (I4 : MI) (J5 : MJ) (R6 : MR), C3 = va_up C q1 (26, 1) → I4 = va_up I q1 (fun _ => 0) → J5 = va_up J q1 (fun _ => 0) → R6 = va_up R q1 (fun _ => none) → 
      (25 ≤ (C3 q1).1 ∧ (C3 q1).1 < 29) ∧
      kFit (C3 q1).1 (C3 x1).1 ∧
      vp_in (0 : Int32) (C3 q1).2 ∧
      ∀ R10 : MR, R10 = va_up R6 q1 (va_up (R6 q1) (0 : Int32).toNatClampNeg (some x1)) →
      F_X4_init [aR (some x0), aR (some q1)] C3 I4 J5 R10 (fun o C11 I12 J13 R14 =>
      o = .inl none ∧
      (C11 x0).1 = 10 ∧
      ∀ I17 : MI, I17 = va_up I12 x0 (va_up (I12 x0) 6 x2) →
      gK Γ (.inl none) C11 I17 J13 R14)) :
    AW Γ 0 0 C I J R 0 [(0, aR (some x0)), (1, aR (some x1)), (2, aI x2)] [] := by
  have G0 := G.1
  refine aw_aload_n G0 0 rfl dX10_init_0 ?_
  refine aw_iconst (v := (1 : Int32)) G0 dX10_init_1 (by decide) ?_
  obtain ⟨q1, z2, h⟩ := h
  refine aw_newqT (q := q1) (k' := 1) (n' := 1) (N := 1) G0 q577 (by decide) (by decide) (by decide) (by decide) (by decide) (by rw [G.2.1]; decide) (by rw [G.2.1]; decide) z2 dX10_init_2 ?_
  generalize gC3 : va_up C q1 (26, 1) = C3
  generalize gI4 : va_up I q1 (fun _ => 0) = I4
  generalize gJ5 : va_up J q1 (fun _ => 0) = J5
  generalize gR6 : va_up R q1 (fun _ => none) = R6
  have h := h C3 I4 J5 R6 gC3.symm gI4.symm gJ5.symm gR6.symm
  refine aw_dupR G0 dX10_init_5 ?_
  refine aw_iconst (v := (0 : Int32)) G0 dX10_init_6 (by decide) ?_
  refine aw_aload_n G0 1 rfl dX10_init_7 ?_
  obtain ⟨k7, h⟩ := h
  obtain ⟨k8, h⟩ := h
  obtain ⟨k9, h⟩ := h
  refine aw_aast G0 k7 (kFit_1 k8) (kFit_2 k8) k9 dX10_init_8 ?_
  generalize gR10 : va_up R6 q1 (va_up (R6 q1) (0 : Int32).toNatClampNeg (some x1)) = R10
  have h := h R10 gR10.symm
  refine aw_callI (k1 := 7) (n1 := 491) (k2 := 1) (n2 := 1) (st := []) G0 S_X4_init gw_X4_init q63 q578 q362 rfl md_X4_init (Nat.le_of_ble_eq_true rfl) (by decide) (by rw [G.2.1]; decide) (by rw [G.2.1]; decide) [aR (some q1)] rfl rfl dX10_init_9 h (fun o C11 I12 J13 R14 h => ?_)
  obtain ⟨rfl, h⟩ := h
  show AW Γ 7 491 C11 I12 J13 R14 (9 + 3) [(0, aR (some x0)), (1, aR (some x1)), (2, aI x2)] []
  refine aw_aload_n G0 0 rfl dX10_init_12 ?_
  refine aw_iload_n G0 2 rfl dX10_init_13 ?_
  obtain ⟨k16, h⟩ := h
  refine aw_putI (f := 6) G0 (by rw [k16]; exact fp_X10_9) dX10_init_14 ?_
  generalize gI17 : va_up I12 x0 (va_up (I12 x0) 6 x2) = I17
  have h := h I17 gI17.symm
  exact aw_return G0 (by rw [G.2.2]; decide) (by rw [G.2.1]; decide) dX10_init_17 h
theorem bX10_kind_0 (G : Gb Γ yX10_kind cX10_kind 1 (some .int) [] rmX10_kind bdX10_kind) {x0 : Nat}
    (h : gK Γ (.inl (some (aI (5 : Int32)))) C I J R) :
    AW Γ 0 0 C I J R 0 [(0, aR (some x0))] [] := by
  have G0 := G.1
  refine aw_iconst (v := (5 : Int32)) G0 dX10_kind_0 (by decide) ?_
  exact aw_ireturn G0 (Or.inl rfl) (by rw [G.2.2]; decide) (by rw [G.2.1]; decide) dX10_kind_1 h
theorem bX10_table_0 {d : Nat} (G : Gb Γ yX10_table cX10_table 6 (some (.object "TickShare$Table")) [] (rmTb (d + 1)) bdX10_table) {F_Vtable : SPF} (S_Vtable : SpVtable (gL Γ) d F_Vtable) {F_X0_times : SPF} (S_X0_times : SpX0_times (gL Γ) F_X0_times) {F_X3_anew : SPF} (S_X3_anew : SpX3_anew (gL Γ) F_X3_anew)
    {Q31 : Nat → Nat → Nat → Int32 → MC → MI → MJ → MR → Prop} (w31 : ∀ (x0 : Nat) (x1 : Nat) (x2 : Nat) (x3 : Int32) (C : MC) (I : MI) (J : MJ) (R : MR), Q31 x0 x1 x2 x3 C I J R → AW Γ 0 0 C I J R 31 [(0, aR (some x0)), (1, aR (some x1)), (2, aR (some x2)), (3, aI x3)] []) {x0 : Nat}
    (h : (C x0).1 = 10 ∧
      ∃ q2 : Nat, R x0 0 = some q2 ∧
      (25 ≤ (C q2).1 ∧ (C q2).1 < 30) ∧
      vp_in (0 : Int32) (C q2).2 ∧
      ∃ q5 : Nat, R q2 (0 : Int32).toNatClampNeg = some q5 ∧
      kTh (C q5).1 ∧
      F_Vtable [aR (some q5)] C I J R (fun o C7 I8 J9 R10 =>
      (∃ r11 : Nat, o = .inl (some (aR (some r11))) ∧
      (C7 x0).1 = 10 ∧
      (C7 r11).1 = 4 ∧
      F_X0_times [aJ (J9 r11 2), aJ (J9 r11 2)] C7 I8 J9 R10 (fun o C14 I15 J16 R17 =>
      (∃ r18 : Int64, o = .inl (some (aJ r18)) ∧
      ∃ q19 : Nat, R10 x0 1 = some q19 ∧
      (C14 q19).1 = 4 ∧
      F_X3_anew [aR (some q19), aJ r18] C14 I15 J16 R17 (fun o C21 I22 J23 R24 =>
      ∃ r25 : Nat, o = .inl (some (aR (some r25))) ∧
      Q31 x0 r11 r25 (0 : Int32) C21 I22 J23 R24)) ∨
      (∃ q26 : Nat, o = .inr q26 ∧
      ((C14 q26).1 = 11 ∧
      gK Γ (.inr q26) C14 I15 J16 R17)))) ∨
      (∃ q28 : Nat, o = .inr q28 ∧
      ((C7 q28).1 = 11 ∧
      gK Γ (.inr q28) C7 I8 J9 R10)))) :
    AW Γ 0 0 C I J R 0 [(0, aR (some x0))] [] := by
  have G0 := G.1
  refine aw_aload_n G0 0 rfl dX10_table_0 ?_
  obtain ⟨k1, h⟩ := h
  refine aw_getR (f := 0) G0 (by rw [k1]; exact fb_X10_15) dX10_table_1 ?_
  refine aw_iconst (v := (0 : Int32)) G0 dX10_table_4 (by decide) ?_
  obtain ⟨q2, e2, h⟩ := h
  refine aw_dr1 e2 ?_
  obtain ⟨k3, h⟩ := h
  obtain ⟨k4, h⟩ := h
  refine aw_aald G0 k3 k4 dX10_table_5 ?_
  obtain ⟨q5, e5, h⟩ := h
  refine aw_dr0 e5 ?_
  obtain ⟨k6, h⟩ := h
  refine vc_X10_19 (k1 := 0) (n1 := 0) (k2 := 1) (n2 := 6) (st := []) G0 S_Vtable k6 (Nat.le_of_ble_eq_true rfl) (by decide) (by rw [G.2.1]; dsimp only [rmTb, rmBo, rmTo, rmLv, bdv]; omega) (by rw [G.2.1]; dsimp only [rmTb, rmBo, rmTo, rmLv, bdv]; omega) [] rfl rfl dX10_table_6 h (fun o C7 I8 J9 R10 h => ?_)
  rcases h with ⟨r11, rfl, h⟩ | ⟨q28, rfl, h⟩
  · show AW Γ 0 0 C7 I8 J9 R10 (6 + 3) [(0, aR (some x0))] [aR (some r11)]
    refine aw_astore_n (lv' := [(1, aR (some r11)), (0, aR (some x0))]) G0 (by decide) rfl dX10_table_9 ?_
    refine aw_aload_n G0 1 rfl dX10_table_10 ?_
    obtain ⟨k12, h⟩ := h
    refine aw_getR (f := 1) G0 (by rw [k12]; exact fb_X10_23) dX10_table_11 ?_
    refine aw_aload_n G0 0 rfl dX10_table_14 ?_
    obtain ⟨k13, h⟩ := h
    refine aw_getJ (f := 2) G0 (by rw [k13]; exact fb_X10_27) dX10_table_15 ?_
    refine aw_aload_n G0 0 rfl dX10_table_18 ?_
    refine aw_getJ (f := 2) G0 (by rw [k13]; exact fb_X10_27) dX10_table_19 ?_
    refine aw_callSN (k1 := 0) (n1 := 0) (k2 := 1) (n2 := 6) (st := [aR (R10 x0 1)]) G0 S_X0_times q699 q658 q50 gw_X0_times md_X0_times (Nat.le_of_ble_eq_true rfl) (by decide) (by rw [G.2.1]; dsimp only [rmTb, rmBo, rmTo, rmLv, rmX0_times]; omega) (by rw [G.2.1]; dsimp only [rmTb, rmBo, rmTo, rmLv, rmX0_times]; omega) [aJ (J9 r11 2), aJ (J9 r11 2)] rfl rfl dX10_table_22 h (fun o C14 I15 J16 R17 h => ?_)
    rcases h with ⟨r18, rfl, h⟩ | ⟨q26, rfl, h⟩
    · show AW Γ 0 0 C14 I15 J16 R17 (22 + 3) [(1, aR (some r11)), (0, aR (some x0))] [aJ r18, aR (R10 x0 1)]
      obtain ⟨q19, e19, h⟩ := h
      refine aw_dr1 e19 ?_
      obtain ⟨k20, h⟩ := h
      refine aw_callV (k1 := 0) (n1 := 0) (k2 := 0) (n2 := 0) (st := []) G0 S_X3_anew gi_X10_37 (Or.inl (by rw [k20]; decide)) (by rw [k20]; rfl) md_X3_anew (Nat.le_of_ble_eq_true rfl) (by decide) (by rw [G.2.1]; dsimp only [rmTb, rmBo, rmTo, rmLv, rmX3_anew]; omega) (by rw [G.2.1]; dsimp only [rmTb, rmBo, rmTo, rmLv, rmX3_anew]; omega) [aJ r18] rfl rfl dX10_table_25 h (fun o C21 I22 J23 R24 h => ?_)
      obtain ⟨r25, rfl, h⟩ := h
      show AW Γ 0 0 C21 I22 J23 R24 (25 + 3) [(1, aR (some r11)), (0, aR (some x0))] [aR (some r25)]
      refine aw_astore_n (lv' := [(2, aR (some r25)), (1, aR (some r11)), (0, aR (some x0))]) G0 (by decide) rfl dX10_table_28 ?_
      refine aw_iconst (v := (0 : Int32)) G0 dX10_table_29 (by decide) ?_
      refine aw_istore_n (lv' := [(3, aI (0 : Int32)), (2, aR (some r25)), (1, aR (some r11)), (0, aR (some x0))]) G0 (by decide) rfl dX10_table_30 ?_
      exact (aw_lv [3, 2, 1, 0] rfl (w31 x0 r11 r25 (0 : Int32) C21 I22 J23 R24 h))
    · show AX Γ 1 6 C14 I15 J16 R17 22 [(1, aR (some r11)), (0, aR (some x0))] q26
      obtain ⟨k27, h⟩ := h
      exact ax_out G0 rfl (Or.inr (Or.inl k27)) (by rw [G.2.2]; exact ⟨by decide, by decide⟩) (by rw [G.2.1]; exact ⟨Nat.le_refl 1, Nat.le_refl 6⟩) h
  · show AX Γ 1 6 C7 I8 J9 R10 6 [(0, aR (some x0))] q28
    obtain ⟨k29, h⟩ := h
    exact ax_out G0 rfl (Or.inr (Or.inl k29)) (by rw [G.2.2]; exact ⟨by decide, by decide⟩) (by rw [G.2.1]; exact ⟨Nat.le_refl 1, Nat.le_refl 6⟩) h
theorem bX10_table_31 {d : Nat} (G : Gb Γ yX10_table cX10_table 6 (some (.object "TickShare$Table")) [] (rmTb (d + 1)) bdX10_table) {F_X3_less : SPF} (S_X3_less : SpX3_less (gL Γ) F_X3_less) {F_X3_add : SPF} (S_X3_add : SpX3_add (gL Γ) F_X3_add)
    {Q85 : Nat → Nat → Nat → Int32 → Int32 → MC → MI → MJ → MR → Prop} (w85 : ∀ (x0 : Nat) (x1 : Nat) (x2 : Nat) (x3 : Int32) (x4 : Int32) (C : MC) (I : MI) (J : MJ) (R : MR), Q85 x0 x1 x2 x3 x4 C I J R → AW Γ 0 0 C I J R 85 [(0, aR (some x0)), (1, aR (some x1)), (2, aR (some x2)), (3, aI x3), (4, aI x4)] [])
    {Q198 : Nat → Nat → Nat → Int32 → MC → MI → MJ → MR → Prop} (w198 : ∀ (x0 : Nat) (x1 : Nat) (x2 : Nat) (x3 : Int32) (C : MC) (I : MI) (J : MJ) (R : MR), Q198 x0 x1 x2 x3 C I J R → AW Γ 0 0 C I J R 198 [(0, aR (some x0)), (1, aR (some x1)), (2, aR (some x2)), (3, aI x3)] []) {x0 : Nat} {x1 : Nat} {x2 : Nat} {x3 : Int32}
    (h : (((120 : Int32) < x3 →
      (C x2).1 = 4 ∧
      F_X3_less [aR (some x2)] C I J R (fun o C3 I4 J5 R6 =>
      ∃ r7 : Nat, o = .inl (some (aR (some r7))) ∧
      gK Γ (.inl (some (aR (some r7)))) C3 I4 J5 R6)) ∧
      (¬ (120 : Int32) < x3 →
      (C x0).1 = 10 ∧
      (((I x0 6) < x3 →
      Q85 x0 x1 x2 x3 (0 : Int32) C I J R) ∧
      (¬ (I x0 6) < x3 →
      (C x1).1 = 4 ∧
      ∃ q11 : Nat, R x1 0 = some q11 ∧
      (C q11).1 = 21 ∧
      vp_in x3 (C q11).2 ∧
      (C x2).1 = 4 ∧
      F_X3_add [aR (some x2), aI (1 : Int32), aI x3, aJ ((J q11 x3.toNatClampNeg) * (J x1 2))] C I J R (fun o C15 I16 J17 R18 =>
      (o = .inl none ∧
      (C15 x1).1 = 4 ∧
      ∃ q21 : Nat, R18 x1 1 = some q21 ∧
      (C15 q21).1 = 21 ∧
      vp_in x3 (C15 q21).2 ∧
      (C15 x2).1 = 4 ∧
      F_X3_add [aR (some x2), aI (0 : Int32), aI x3, aJ ((J17 q21 x3.toNatClampNeg) * (J17 x1 2))] C15 I16 J17 R18 (fun o C25 I26 J27 R28 =>
      (o = .inl none ∧
      Q198 x0 x1 x2 x3 C25 I26 J27 R28) ∨
      (∃ q30 : Nat, o = .inr q30 ∧
      ((C25 q30).1 = 11 ∧
      gK Γ (.inr q30) C25 I26 J27 R28)))) ∨
      (∃ q32 : Nat, o = .inr q32 ∧
      ((C15 q32).1 = 11 ∧
      gK Γ (.inr q32) C15 I16 J17 R18)))))))) :
    AW Γ 0 0 C I J R 31 [(0, aR (some x0)), (1, aR (some x1)), (2, aR (some x2)), (3, aI x3)] [] := by
  have G0 := G.1
  refine aw_iload_n G0 3 rfl dX10_table_31 ?_
  refine aw_bipush (v := (120 : Int32)) G0 dX10_table_32 (by decide) ?_
  refine aw_icmp_gt G0 204 dX10_table_34 (by decide) (fun c1 => ?_) (fun c1 => ?_)
  · have h := h.1 c1
    refine aw_aload_n G0 2 rfl dX10_table_204 ?_
    obtain ⟨k2, h⟩ := h
    refine aw_callV (k1 := 0) (n1 := 0) (k2 := 0) (n2 := 0) (st := []) G0 S_X3_less gi_X10_61 (Or.inl (by rw [k2]; decide)) (by rw [k2]; rfl) md_X3_less (Nat.le_of_ble_eq_true rfl) (by decide) (by rw [G.2.1]; dsimp only [rmTb, rmBo, rmTo, rmLv, rmX3_less]; omega) (by rw [G.2.1]; dsimp only [rmTb, rmBo, rmTo, rmLv, rmX3_less]; omega) [] rfl rfl dX10_table_205 h (fun o C3 I4 J5 R6 h => ?_)
    obtain ⟨r7, rfl, h⟩ := h
    show AW Γ 0 0 C3 I4 J5 R6 (205 + 3) [(0, aR (some x0)), (1, aR (some x1)), (2, aR (some x2)), (3, aI x3)] [aR (some r7)]
    exact aw_areturn G0 ⟨_, rfl, rfl⟩ (by rw [G.2.2]; exact ⟨by decide, by decide⟩) (by rw [G.2.1]; exact ⟨Nat.zero_le _, Nat.zero_le _⟩) dX10_table_208 h
  · have h := h.2 c1
    refine aw_iload_n G0 3 rfl dX10_table_37 ?_
    refine aw_aload_n G0 0 rfl dX10_table_38 ?_
    obtain ⟨k8, h⟩ := h
    refine aw_getI (f := 6) G0 (by rw [k8]; exact fb_X10_9) dX10_table_39 ?_
    refine aw_icmp_gt G0 82 dX10_table_42 (by decide) (fun c9 => ?_) (fun c9 => ?_)
    · have h := h.1 c9
      refine aw_iconst (v := (0 : Int32)) G0 dX10_table_82 (by decide) ?_
      refine aw_istore (lv' := [(4, aI (0 : Int32)), (0, aR (some x0)), (1, aR (some x1)), (2, aR (some x2)), (3, aI x3)]) G0 (by decide) rfl dX10_table_83 ?_
      exact (aw_lv [1, 2, 3, 4, 0] rfl (w85 x0 x1 x2 x3 (0 : Int32) C I J R h))
    · have h := h.2 c9
      refine aw_aload_n G0 2 rfl dX10_table_45 ?_
      refine aw_iconst (v := (1 : Int32)) G0 dX10_table_46 (by decide) ?_
      refine aw_iload_n G0 3 rfl dX10_table_47 ?_
      refine aw_aload_n G0 1 rfl dX10_table_48 ?_
      obtain ⟨k10, h⟩ := h
      refine aw_getR (f := 0) G0 (by rw [k10]; exact fb_X10_41) dX10_table_49 ?_
      refine aw_iload_n G0 3 rfl dX10_table_52 ?_
      obtain ⟨q11, e11, h⟩ := h
      refine aw_dr1 e11 ?_
      obtain ⟨k12, h⟩ := h
      obtain ⟨k13, h⟩ := h
      refine aw_lald G0 k12 k13 dX10_table_53 ?_
      refine aw_aload_n G0 1 rfl dX10_table_54 ?_
      refine aw_getJ (f := 2) G0 (by rw [k10]; exact fb_X10_27) dX10_table_55 ?_
      refine aw_lmul G0 dX10_table_58 ?_
      obtain ⟨k14, h⟩ := h
      refine aw_callV (k1 := 0) (n1 := 0) (k2 := 1) (n2 := 6) (st := []) G0 S_X3_add gi_X10_45 (Or.inl (by rw [k14]; decide)) (by rw [k14]; rfl) md_X3_add (Nat.le_of_ble_eq_true rfl) (by decide) (by rw [G.2.1]; dsimp only [rmTb, rmBo, rmTo, rmLv, rmX3_add]; omega) (by rw [G.2.1]; dsimp only [rmTb, rmBo, rmTo, rmLv, rmX3_add]; omega) [aI (1 : Int32), aI x3, aJ ((J q11 x3.toNatClampNeg) * (J x1 2))] rfl rfl dX10_table_59 h (fun o C15 I16 J17 R18 h => ?_)
      rcases h with ⟨rfl, h⟩ | ⟨q32, rfl, h⟩
      · show AW Γ 0 0 C15 I16 J17 R18 (59 + 3) [(0, aR (some x0)), (1, aR (some x1)), (2, aR (some x2)), (3, aI x3)] []
        refine aw_aload_n G0 2 rfl dX10_table_62 ?_
        refine aw_iconst (v := (0 : Int32)) G0 dX10_table_63 (by decide) ?_
        refine aw_iload_n G0 3 rfl dX10_table_64 ?_
        refine aw_aload_n G0 1 rfl dX10_table_65 ?_
        obtain ⟨k20, h⟩ := h
        refine aw_getR (f := 1) G0 (by rw [k20]; exact fb_X10_49) dX10_table_66 ?_
        refine aw_iload_n G0 3 rfl dX10_table_69 ?_
        obtain ⟨q21, e21, h⟩ := h
        refine aw_dr1 e21 ?_
        obtain ⟨k22, h⟩ := h
        obtain ⟨k23, h⟩ := h
        refine aw_lald G0 k22 k23 dX10_table_70 ?_
        refine aw_aload_n G0 1 rfl dX10_table_71 ?_
        refine aw_getJ (f := 2) G0 (by rw [k20]; exact fb_X10_27) dX10_table_72 ?_
        refine aw_lmul G0 dX10_table_75 ?_
        obtain ⟨k24, h⟩ := h
        refine aw_callV (k1 := 0) (n1 := 0) (k2 := 1) (n2 := 6) (st := []) G0 S_X3_add gi_X10_45 (Or.inl (by rw [k24]; decide)) (by rw [k24]; rfl) md_X3_add (Nat.le_of_ble_eq_true rfl) (by decide) (by rw [G.2.1]; dsimp only [rmTb, rmBo, rmTo, rmLv, rmX3_add]; omega) (by rw [G.2.1]; dsimp only [rmTb, rmBo, rmTo, rmLv, rmX3_add]; omega) [aI (0 : Int32), aI x3, aJ ((J17 q21 x3.toNatClampNeg) * (J17 x1 2))] rfl rfl dX10_table_76 h (fun o C25 I26 J27 R28 h => ?_)
        rcases h with ⟨rfl, h⟩ | ⟨q30, rfl, h⟩
        · show AW Γ 0 0 C25 I26 J27 R28 (76 + 3) [(0, aR (some x0)), (1, aR (some x1)), (2, aR (some x2)), (3, aI x3)] []
          refine aw_goto G0 198 dX10_table_79 (by decide) ?_
          exact (w198 x0 x1 x2 x3 C25 I26 J27 R28 h)
        · show AX Γ 1 6 C25 I26 J27 R28 76 [(0, aR (some x0)), (1, aR (some x1)), (2, aR (some x2)), (3, aI x3)] q30
          obtain ⟨k31, h⟩ := h
          exact ax_out G0 rfl (Or.inr (Or.inl k31)) (by rw [G.2.2]; exact ⟨by decide, by decide⟩) (by rw [G.2.1]; exact ⟨Nat.le_refl 1, Nat.le_refl 6⟩) h
      · show AX Γ 1 6 C15 I16 J17 R18 59 [(0, aR (some x0)), (1, aR (some x1)), (2, aR (some x2)), (3, aI x3)] q32
        obtain ⟨k33, h⟩ := h
        exact ax_out G0 rfl (Or.inr (Or.inl k33)) (by rw [G.2.2]; exact ⟨by decide, by decide⟩) (by rw [G.2.1]; exact ⟨Nat.le_refl 1, Nat.le_refl 6⟩) h
theorem bX10_table_85 {d : Nat} (G : Gb Γ yX10_table cX10_table 6 (some (.object "TickShare$Table")) [] (rmTb (d + 1)) bdX10_table) {F_X3_add : SPF} (S_X3_add : SpX3_add (gL Γ) F_X3_add)
    {Q85 : Nat → Nat → Nat → Int32 → Int32 → MC → MI → MJ → MR → Prop} (w85 : ∀ (x0 : Nat) (x1 : Nat) (x2 : Nat) (x3 : Int32) (x4 : Int32) (C : MC) (I : MI) (J : MJ) (R : MR), Q85 x0 x1 x2 x3 x4 C I J R → AW Γ 0 0 C I J R 85 [(0, aR (some x0)), (1, aR (some x1)), (2, aR (some x2)), (3, aI x3), (4, aI x4)] [])
    {Q198 : Nat → Nat → Nat → Int32 → MC → MI → MJ → MR → Prop} (w198 : ∀ (x0 : Nat) (x1 : Nat) (x2 : Nat) (x3 : Int32) (C : MC) (I : MI) (J : MJ) (R : MR), Q198 x0 x1 x2 x3 C I J R → AW Γ 0 0 C I J R 198 [(0, aR (some x0)), (1, aR (some x1)), (2, aR (some x2)), (3, aI x3)] []) {x0 : Nat} {x1 : Nat} {x2 : Nat} {x3 : Int32} {x4 : Int32}
    (h : (((120 : Int32) < x4 →
      Q198 x0 x1 x2 x3 C I J R) ∧
      (¬ (120 : Int32) < x4 →
      (C x0).1 = 10 ∧
      (C x1).1 = 4 ∧
      ∃ q4 : Nat, R x1 0 = some q4 ∧
      (C q4).1 = 21 ∧
      vp_in x3 (C q4).2 ∧
      vp_in x4 (C q4).2 ∧
      (C x2).1 = 4 ∧
      F_X3_add [aR (some x2), aI (1 : Int32), aI (if ((I x0 6) + x4) < x3 then ((I x0 6) + x4) else x3), aJ ((J q4 x3.toNatClampNeg) * (J q4 x4.toNatClampNeg))] C I J R (fun o C9 I10 J11 R12 =>
      (o = .inl none ∧
      (C9 x1).1 = 4 ∧
      ∃ q15 : Nat, R12 x1 0 = some q15 ∧
      (C9 q15).1 = 21 ∧
      vp_in x3 (C9 q15).2 ∧
      ∃ q18 : Nat, R12 x1 1 = some q18 ∧
      (C9 q18).1 = 21 ∧
      vp_in x4 (C9 q18).2 ∧
      (C9 x2).1 = 4 ∧
      F_X3_add [aR (some x2), aI (1 : Int32), aI x3, aJ ((J11 q15 x3.toNatClampNeg) * (J11 q18 x4.toNatClampNeg))] C9 I10 J11 R12 (fun o C22 I23 J24 R25 =>
      (o = .inl none ∧
      (C22 x1).1 = 4 ∧
      ∃ q28 : Nat, R25 x1 1 = some q28 ∧
      (C22 q28).1 = 21 ∧
      vp_in x3 (C22 q28).2 ∧
      ∃ q31 : Nat, R25 x1 0 = some q31 ∧
      (C22 q31).1 = 21 ∧
      vp_in x4 (C22 q31).2 ∧
      (C22 x2).1 = 4 ∧
      F_X3_add [aR (some x2), aI (1 : Int32), aI ((I x0 6) + x4), aJ ((J24 q28 x3.toNatClampNeg) * (J24 q31 x4.toNatClampNeg))] C22 I23 J24 R25 (fun o C35 I36 J37 R38 =>
      (o = .inl none ∧
      (C35 x1).1 = 4 ∧
      ∃ q41 : Nat, R38 x1 1 = some q41 ∧
      (C35 q41).1 = 21 ∧
      vp_in x3 (C35 q41).2 ∧
      vp_in x4 (C35 q41).2 ∧
      (C35 x2).1 = 4 ∧
      F_X3_add [aR (some x2), aI (0 : Int32), aI (if x3 < ((I x0 6) + x4) then ((I x0 6) + x4) else x3), aJ ((J37 q41 x3.toNatClampNeg) * (J37 q41 x4.toNatClampNeg))] C35 I36 J37 R38 (fun o C46 I47 J48 R49 =>
      (o = .inl none ∧
      Q85 x0 x1 x2 x3 (x4 + 1) C46 I47 J48 R49) ∨
      (∃ q51 : Nat, o = .inr q51 ∧
      ((C46 q51).1 = 11 ∧
      gK Γ (.inr q51) C46 I47 J48 R49)))) ∨
      (∃ q53 : Nat, o = .inr q53 ∧
      ((C35 q53).1 = 11 ∧
      gK Γ (.inr q53) C35 I36 J37 R38)))) ∨
      (∃ q55 : Nat, o = .inr q55 ∧
      ((C22 q55).1 = 11 ∧
      gK Γ (.inr q55) C22 I23 J24 R25)))) ∨
      (∃ q57 : Nat, o = .inr q57 ∧
      ((C9 q57).1 = 11 ∧
      gK Γ (.inr q57) C9 I10 J11 R12)))))) :
    AW Γ 0 0 C I J R 85 [(0, aR (some x0)), (1, aR (some x1)), (2, aR (some x2)), (3, aI x3), (4, aI x4)] [] := by
  have G0 := G.1
  refine aw_iload G0 4 rfl dX10_table_85 ?_
  refine aw_bipush (v := (120 : Int32)) G0 dX10_table_87 (by decide) ?_
  refine aw_icmp_gt G0 198 dX10_table_89 (by decide) (fun c1 => ?_) (fun c1 => ?_)
  · have h := h.1 c1
    exact (aw_lv [0, 1, 2, 3] rfl (w198 x0 x1 x2 x3 C I J R h))
  · have h := h.2 c1
    refine aw_aload_n G0 0 rfl dX10_table_92 ?_
    obtain ⟨k2, h⟩ := h
    refine aw_getI (f := 6) G0 (by rw [k2]; exact fb_X10_9) dX10_table_93 ?_
    refine aw_iload G0 4 rfl dX10_table_96 ?_
    refine aw_iadd G0 dX10_table_98 ?_
    refine aw_istore (lv' := [(5, aI ((I x0 6) + x4)), (0, aR (some x0)), (1, aR (some x1)), (2, aR (some x2)), (3, aI x3), (4, aI x4)]) G0 (by decide) rfl dX10_table_99 ?_
    refine aw_aload_n G0 3 rfl dX10_table_101 ?_
    refine aw_iconst (v := (1 : Int32)) G0 dX10_table_102 (by decide) ?_
    refine aw_iload_n G0 4 rfl dX10_table_103 ?_
    refine aw_iload G0 0 rfl dX10_table_104 ?_
    refine aw_mmin G0 q702 (by rw [G.2.1]; dsimp only [rmTb, rmBo, rmTo, rmLv]; omega) (by rw [G.2.1]; have h9 := nfw; dsimp only [rmTb, rmBo, rmTo, rmLv]; simp only [List.map_nil, List.map_cons, List.sum_nil, List.sum_cons, acat]; omega) (by rw [G.2.1]; exact ⟨Nat.zero_le _, Nat.zero_le _⟩) dX10_table_106 ?_
    refine aw_aload_n G0 2 rfl dX10_table_109 ?_
    obtain ⟨k3, h⟩ := h
    refine aw_getR (f := 0) G0 (by rw [k3]; exact fb_X10_41) dX10_table_110 ?_
    refine aw_iload_n G0 4 rfl dX10_table_113 ?_
    obtain ⟨q4, e4, h⟩ := h
    refine aw_dr1 e4 ?_
    obtain ⟨k5, h⟩ := h
    obtain ⟨k6, h⟩ := h
    refine aw_lald G0 k5 k6 dX10_table_114 ?_
    refine aw_aload_n G0 2 rfl dX10_table_115 ?_
    refine aw_getR (f := 0) G0 (by rw [k3]; exact fb_X10_41) dX10_table_116 ?_
    refine aw_iload G0 5 rfl dX10_table_119 ?_
    refine aw_dr1 e4 ?_
    obtain ⟨k7, h⟩ := h
    refine aw_lald G0 k5 k7 dX10_table_121 ?_
    refine aw_lmul G0 dX10_table_122 ?_
    obtain ⟨k8, h⟩ := h
    refine aw_callV (k1 := 0) (n1 := 0) (k2 := 1) (n2 := 6) (st := []) G0 S_X3_add gi_X10_45 (Or.inl (by rw [k8]; decide)) (by rw [k8]; rfl) md_X3_add (Nat.le_of_ble_eq_true rfl) (by decide) (by rw [G.2.1]; dsimp only [rmTb, rmBo, rmTo, rmLv, rmX3_add]; omega) (by rw [G.2.1]; dsimp only [rmTb, rmBo, rmTo, rmLv, rmX3_add]; omega) [aI (1 : Int32), aI (if ((I x0 6) + x4) < x3 then ((I x0 6) + x4) else x3), aJ ((J q4 x3.toNatClampNeg) * (J q4 x4.toNatClampNeg))] rfl rfl dX10_table_123 h (fun o C9 I10 J11 R12 h => ?_)
    rcases h with ⟨rfl, h⟩ | ⟨q57, rfl, h⟩
    · show AW Γ 0 0 C9 I10 J11 R12 (123 + 3) [(5, aI ((I x0 6) + x4)), (0, aR (some x0)), (1, aR (some x1)), (2, aR (some x2)), (3, aI x3), (4, aI x4)] []
      refine aw_aload_n G0 3 rfl dX10_table_126 ?_
      refine aw_iconst (v := (1 : Int32)) G0 dX10_table_127 (by decide) ?_
      refine aw_iload_n G0 4 rfl dX10_table_128 ?_
      refine aw_aload_n G0 2 rfl dX10_table_129 ?_
      obtain ⟨k14, h⟩ := h
      refine aw_getR (f := 0) G0 (by rw [k14]; exact fb_X10_41) dX10_table_130 ?_
      refine aw_iload_n G0 4 rfl dX10_table_133 ?_
      obtain ⟨q15, e15, h⟩ := h
      refine aw_dr1 e15 ?_
      obtain ⟨k16, h⟩ := h
      obtain ⟨k17, h⟩ := h
      refine aw_lald G0 k16 k17 dX10_table_134 ?_
      refine aw_aload_n G0 2 rfl dX10_table_135 ?_
      refine aw_getR (f := 1) G0 (by rw [k14]; exact fb_X10_49) dX10_table_136 ?_
      refine aw_iload G0 5 rfl dX10_table_139 ?_
      obtain ⟨q18, e18, h⟩ := h
      refine aw_dr1 e18 ?_
      obtain ⟨k19, h⟩ := h
      obtain ⟨k20, h⟩ := h
      refine aw_lald G0 k19 k20 dX10_table_141 ?_
      refine aw_lmul G0 dX10_table_142 ?_
      obtain ⟨k21, h⟩ := h
      refine aw_callV (k1 := 0) (n1 := 0) (k2 := 1) (n2 := 6) (st := []) G0 S_X3_add gi_X10_45 (Or.inl (by rw [k21]; decide)) (by rw [k21]; rfl) md_X3_add (Nat.le_of_ble_eq_true rfl) (by decide) (by rw [G.2.1]; dsimp only [rmTb, rmBo, rmTo, rmLv, rmX3_add]; omega) (by rw [G.2.1]; dsimp only [rmTb, rmBo, rmTo, rmLv, rmX3_add]; omega) [aI (1 : Int32), aI x3, aJ ((J11 q15 x3.toNatClampNeg) * (J11 q18 x4.toNatClampNeg))] rfl rfl dX10_table_143 h (fun o C22 I23 J24 R25 h => ?_)
      rcases h with ⟨rfl, h⟩ | ⟨q55, rfl, h⟩
      · show AW Γ 0 0 C22 I23 J24 R25 (143 + 3) [(5, aI ((I x0 6) + x4)), (0, aR (some x0)), (1, aR (some x1)), (2, aR (some x2)), (3, aI x3), (4, aI x4)] []
        refine aw_aload_n G0 3 rfl dX10_table_146 ?_
        refine aw_iconst (v := (1 : Int32)) G0 dX10_table_147 (by decide) ?_
        refine aw_iload G0 0 rfl dX10_table_148 ?_
        refine aw_aload_n G0 2 rfl dX10_table_150 ?_
        obtain ⟨k27, h⟩ := h
        refine aw_getR (f := 1) G0 (by rw [k27]; exact fb_X10_49) dX10_table_151 ?_
        refine aw_iload_n G0 4 rfl dX10_table_154 ?_
        obtain ⟨q28, e28, h⟩ := h
        refine aw_dr1 e28 ?_
        obtain ⟨k29, h⟩ := h
        obtain ⟨k30, h⟩ := h
        refine aw_lald G0 k29 k30 dX10_table_155 ?_
        refine aw_aload_n G0 2 rfl dX10_table_156 ?_
        refine aw_getR (f := 0) G0 (by rw [k27]; exact fb_X10_41) dX10_table_157 ?_
        refine aw_iload G0 5 rfl dX10_table_160 ?_
        obtain ⟨q31, e31, h⟩ := h
        refine aw_dr1 e31 ?_
        obtain ⟨k32, h⟩ := h
        obtain ⟨k33, h⟩ := h
        refine aw_lald G0 k32 k33 dX10_table_162 ?_
        refine aw_lmul G0 dX10_table_163 ?_
        obtain ⟨k34, h⟩ := h
        refine aw_callV (k1 := 0) (n1 := 0) (k2 := 1) (n2 := 6) (st := []) G0 S_X3_add gi_X10_45 (Or.inl (by rw [k34]; decide)) (by rw [k34]; rfl) md_X3_add (Nat.le_of_ble_eq_true rfl) (by decide) (by rw [G.2.1]; dsimp only [rmTb, rmBo, rmTo, rmLv, rmX3_add]; omega) (by rw [G.2.1]; dsimp only [rmTb, rmBo, rmTo, rmLv, rmX3_add]; omega) [aI (1 : Int32), aI ((I x0 6) + x4), aJ ((J24 q28 x3.toNatClampNeg) * (J24 q31 x4.toNatClampNeg))] rfl rfl dX10_table_164 h (fun o C35 I36 J37 R38 h => ?_)
        rcases h with ⟨rfl, h⟩ | ⟨q53, rfl, h⟩
        · show AW Γ 0 0 C35 I36 J37 R38 (164 + 3) [(5, aI ((I x0 6) + x4)), (0, aR (some x0)), (1, aR (some x1)), (2, aR (some x2)), (3, aI x3), (4, aI x4)] []
          refine aw_aload_n G0 3 rfl dX10_table_167 ?_
          refine aw_iconst (v := (0 : Int32)) G0 dX10_table_168 (by decide) ?_
          refine aw_iload_n G0 4 rfl dX10_table_169 ?_
          refine aw_iload G0 0 rfl dX10_table_170 ?_
          refine aw_mmax G0 q703 (by rw [G.2.1]; dsimp only [rmTb, rmBo, rmTo, rmLv]; omega) (by rw [G.2.1]; have h9 := nfw; dsimp only [rmTb, rmBo, rmTo, rmLv]; simp only [List.map_nil, List.map_cons, List.sum_nil, List.sum_cons, acat]; omega) (by rw [G.2.1]; exact ⟨Nat.zero_le _, Nat.zero_le _⟩) dX10_table_172 ?_
          refine aw_aload_n G0 2 rfl dX10_table_175 ?_
          obtain ⟨k40, h⟩ := h
          refine aw_getR (f := 1) G0 (by rw [k40]; exact fb_X10_49) dX10_table_176 ?_
          refine aw_iload_n G0 4 rfl dX10_table_179 ?_
          obtain ⟨q41, e41, h⟩ := h
          refine aw_dr1 e41 ?_
          obtain ⟨k42, h⟩ := h
          obtain ⟨k43, h⟩ := h
          refine aw_lald G0 k42 k43 dX10_table_180 ?_
          refine aw_aload_n G0 2 rfl dX10_table_181 ?_
          refine aw_getR (f := 1) G0 (by rw [k40]; exact fb_X10_49) dX10_table_182 ?_
          refine aw_iload G0 5 rfl dX10_table_185 ?_
          refine aw_dr1 e41 ?_
          obtain ⟨k44, h⟩ := h
          refine aw_lald G0 k42 k44 dX10_table_187 ?_
          refine aw_lmul G0 dX10_table_188 ?_
          obtain ⟨k45, h⟩ := h
          refine aw_callV (k1 := 0) (n1 := 0) (k2 := 1) (n2 := 6) (st := []) G0 S_X3_add gi_X10_45 (Or.inl (by rw [k45]; decide)) (by rw [k45]; rfl) md_X3_add (Nat.le_of_ble_eq_true rfl) (by decide) (by rw [G.2.1]; dsimp only [rmTb, rmBo, rmTo, rmLv, rmX3_add]; omega) (by rw [G.2.1]; dsimp only [rmTb, rmBo, rmTo, rmLv, rmX3_add]; omega) [aI (0 : Int32), aI (if x3 < ((I x0 6) + x4) then ((I x0 6) + x4) else x3), aJ ((J37 q41 x3.toNatClampNeg) * (J37 q41 x4.toNatClampNeg))] rfl rfl dX10_table_189 h (fun o C46 I47 J48 R49 h => ?_)
          rcases h with ⟨rfl, h⟩ | ⟨q51, rfl, h⟩
          · show AW Γ 0 0 C46 I47 J48 R49 (189 + 3) [(5, aI ((I x0 6) + x4)), (0, aR (some x0)), (1, aR (some x1)), (2, aR (some x2)), (3, aI x3), (4, aI x4)] []
            refine aw_iinc (v := x4 + 1) (lv' := [(4, aI (x4 + 1)), (5, aI ((I x0 6) + x4)), (0, aR (some x0)), (1, aR (some x1)), (2, aR (some x2)), (3, aI x3)]) G0 5 rfl rfl (by decide) rfl dX10_table_192 ?_
            refine aw_goto G0 85 dX10_table_195 (by decide) ?_
            exact (aw_lv [2, 3, 4, 5, 0] rfl (w85 x0 x1 x2 x3 (x4 + 1) C46 I47 J48 R49 h))
          · show AX Γ 1 6 C46 I47 J48 R49 189 [(5, aI ((I x0 6) + x4)), (0, aR (some x0)), (1, aR (some x1)), (2, aR (some x2)), (3, aI x3), (4, aI x4)] q51
            obtain ⟨k52, h⟩ := h
            exact ax_out G0 rfl (Or.inr (Or.inl k52)) (by rw [G.2.2]; exact ⟨by decide, by decide⟩) (by rw [G.2.1]; exact ⟨Nat.le_refl 1, Nat.le_refl 6⟩) h
        · show AX Γ 1 6 C35 I36 J37 R38 164 [(5, aI ((I x0 6) + x4)), (0, aR (some x0)), (1, aR (some x1)), (2, aR (some x2)), (3, aI x3), (4, aI x4)] q53
          obtain ⟨k54, h⟩ := h
          exact ax_out G0 rfl (Or.inr (Or.inl k54)) (by rw [G.2.2]; exact ⟨by decide, by decide⟩) (by rw [G.2.1]; exact ⟨Nat.le_refl 1, Nat.le_refl 6⟩) h
      · show AX Γ 1 6 C22 I23 J24 R25 143 [(5, aI ((I x0 6) + x4)), (0, aR (some x0)), (1, aR (some x1)), (2, aR (some x2)), (3, aI x3), (4, aI x4)] q55
        obtain ⟨k56, h⟩ := h
        exact ax_out G0 rfl (Or.inr (Or.inl k56)) (by rw [G.2.2]; exact ⟨by decide, by decide⟩) (by rw [G.2.1]; exact ⟨Nat.le_refl 1, Nat.le_refl 6⟩) h
    · show AX Γ 1 6 C9 I10 J11 R12 123 [(5, aI ((I x0 6) + x4)), (0, aR (some x0)), (1, aR (some x1)), (2, aR (some x2)), (3, aI x3), (4, aI x4)] q57
      obtain ⟨k58, h⟩ := h
      exact ax_out G0 rfl (Or.inr (Or.inl k58)) (by rw [G.2.2]; exact ⟨by decide, by decide⟩) (by rw [G.2.1]; exact ⟨Nat.le_refl 1, Nat.le_refl 6⟩) h
theorem bX10_table_198 {d : Nat} (G : Gb Γ yX10_table cX10_table 6 (some (.object "TickShare$Table")) [] (rmTb (d + 1)) bdX10_table)
    {Q31 : Nat → Nat → Nat → Int32 → MC → MI → MJ → MR → Prop} (w31 : ∀ (x0 : Nat) (x1 : Nat) (x2 : Nat) (x3 : Int32) (C : MC) (I : MI) (J : MJ) (R : MR), Q31 x0 x1 x2 x3 C I J R → AW Γ 0 0 C I J R 31 [(0, aR (some x0)), (1, aR (some x1)), (2, aR (some x2)), (3, aI x3)] []) {x0 : Nat} {x1 : Nat} {x2 : Nat} {x3 : Int32}
    (h : Q31 x0 x1 x2 (x3 + 1) C I J R) :
    AW Γ 0 0 C I J R 198 [(0, aR (some x0)), (1, aR (some x1)), (2, aR (some x2)), (3, aI x3)] [] := by
  have G0 := G.1
  refine aw_iinc (v := x3 + 1) (lv' := [(3, aI (x3 + 1)), (0, aR (some x0)), (1, aR (some x1)), (2, aR (some x2))]) G0 3 rfl rfl (by decide) rfl dX10_table_198 ?_
  refine aw_goto G0 31 dX10_table_201 (by decide) ?_
  exact (aw_lv [1, 2, 3, 0] rfl (w31 x0 x1 x2 (x3 + 1) C I J R h))
theorem bX10_asks_0 (G : Gb Γ yX10_asks cX10_asks 1 (some .int) [] rmX10_asks bdX10_asks) {x0 : Nat}
    (h : gK Γ (.inl (some (aI (2 : Int32)))) C I J R) :
    AW Γ 0 0 C I J R 0 [(0, aR (some x0))] [] := by
  have G0 := G.1
  refine aw_iconst (v := (2 : Int32)) G0 dX10_asks_0 (by decide) ?_
  exact aw_ireturn G0 (Or.inl rfl) (by rw [G.2.2]; decide) (by rw [G.2.1]; decide) dX10_asks_1 h
end BL
set_option linter.unusedVariables false
def PX1_init_0 (F_J1_init : SPF) (K : AK) (x0 : Nat) (C : MC) (I : MI) (J : MJ) (R : MR) : Prop :=
      F_J1_init [aR (some x0), aR none, aR none, aI (0 : Int32), aI (0 : Int32)] C I J R (fun o C1 I2 J3 R4 =>
      o = .inl none ∧
      K (.inl none) C1 I2 J3 R4)
theorem wX1_init {l : Launch}  {F_J1_init : SPF} (S_J1_init : SpJ1_init l F_J1_init) {F : SPF}
    (h0 : ∀ (As : List AV) (C : MC) (I : MI) (J : MJ) (R : MR) (K : AK), F As C I J R K → ∃ (x0 : Nat), As = [aR (some x0)] ∧ PX1_init_0 F_J1_init K x0 C I J R) : SpX1_init l F := by
  refine Spec.of (by rfl) ?_
  intro Γ C I J R As Gd gl gr _ _ gb hF
  subst gl
  have G : Gb Γ yX1_init cX1_init 1 (none) [] rmX1_init bdX1_init := ⟨Gd, gr, gb⟩
  obtain ⟨x0, rfl, h⟩ := h0 As C I J R (gK Γ) hF
  exact ⟨Nat.le_of_ble_eq_true rfl, bX1_init_0 G S_J1_init h⟩
def PX1_by_0 (K : AK) (x0 : Nat) (x1 : Int32) (C : MC) (I : MI) (J : MJ) (R : MR) : Prop :=
      (C x0).1 = 2 ∧
      ∀ I2 : MI, I2 = va_up I x0 (va_up (I x0) 6 x1) →
      K (.inl (some (aR (some x0)))) C I2 J R
theorem wX1_by {l : Launch}  {F : SPF}
    (h0 : ∀ (As : List AV) (C : MC) (I : MI) (J : MJ) (R : MR) (K : AK), F As C I J R K → ∃ (x0 : Nat) (x1 : Int32), As = [aR (some x0), aI x1] ∧ PX1_by_0 K x0 x1 C I J R) : SpX1_by l F := by
  refine Spec.of (by rfl) ?_
  intro Γ C I J R As Gd gl gr _ _ gb hF
  subst gl
  have G : Gb Γ yX1_by cX1_by 2 (some (.object "TickShare$Refused")) [] rmX1_by bdX1_by := ⟨Gd, gr, gb⟩
  obtain ⟨x0, x1, rfl, h⟩ := h0 As C I J R (gK Γ) hF
  exact ⟨Nat.le_of_ble_eq_true rfl, bX1_by_0 G h⟩
def PX11_init_0 (F_J2_init_2 : SPF) (K : AK) (x0 : Nat) (C : MC) (I : MI) (J : MJ) (R : MR) : Prop :=
      F_J2_init_2 [aR (some x0), aR none, aR none, aI (0 : Int32), aI (0 : Int32)] C I J R (fun o C1 I2 J3 R4 =>
      o = .inl none ∧
      K (.inl none) C1 I2 J3 R4)
theorem wX11_init {l : Launch}  {F_J2_init_2 : SPF} (S_J2_init_2 : SpJ2_init_2 l F_J2_init_2) {F : SPF}
    (h0 : ∀ (As : List AV) (C : MC) (I : MI) (J : MJ) (R : MR) (K : AK), F As C I J R K → ∃ (x0 : Nat), As = [aR (some x0)] ∧ PX11_init_0 F_J2_init_2 K x0 C I J R) : SpX11_init l F := by
  refine Spec.of (by rfl) ?_
  intro Γ C I J R As Gd gl gr _ _ gb hF
  subst gl
  have G : Gb Γ yX11_init cX11_init 1 (none) [] rmX11_init bdX11_init := ⟨Gd, gr, gb⟩
  obtain ⟨x0, rfl, h⟩ := h0 As C I J R (gK Γ) hF
  exact ⟨Nat.le_of_ble_eq_true rfl, bX11_init_0 G S_J2_init_2 h⟩
def PJ1_init_0 (F_J0_init_2 : SPF) (K : AK) (x0 : Nat) (x1 : Option Nat) (x2 : Option Nat) (x3 : Int32) (x4 : Int32) (C : MC) (I : MI) (J : MJ) (R : MR) : Prop :=
      F_J0_init_2 [aR (some x0), aR x1, aR x2, aI x3, aI x4] C I J R (fun o C1 I2 J3 R4 =>
      o = .inl none ∧
      K (.inl none) C1 I2 J3 R4)
theorem wJ1_init {l : Launch}  {F_J0_init_2 : SPF} (S_J0_init_2 : SpJ0_init_2 l F_J0_init_2) {F : SPF}
    (h0 : ∀ (As : List AV) (C : MC) (I : MI) (J : MJ) (R : MR) (K : AK), F As C I J R K → ∃ (x0 : Nat) (x1 : Option Nat) (x2 : Option Nat) (x3 : Int32) (x4 : Int32), As = [aR (some x0), aR x1, aR x2, aI x3, aI x4] ∧ PJ1_init_0 F_J0_init_2 K x0 x1 x2 x3 x4 C I J R) : SpJ1_init l F := by
  refine Spec.of (by rfl) ?_
  intro Γ C I J R As Gd gl gr _ _ gb hF
  subst gl
  have G : Gb Γ yJ1_init cJ1_init 5 (none) [] rmJ1_init bdJ1_init := ⟨Gd, gr, gb⟩
  obtain ⟨x0, x1, x2, x3, x4, rfl, h⟩ := h0 As C I J R (gK Γ) hF
  exact ⟨Nat.le_of_ble_eq_true rfl, bJ1_init_0 G S_J0_init_2 h⟩
def PJ2_init_2_0 (F_J1_init : SPF) (K : AK) (x0 : Nat) (x1 : Option Nat) (x2 : Option Nat) (x3 : Int32) (x4 : Int32) (C : MC) (I : MI) (J : MJ) (R : MR) : Prop :=
      F_J1_init [aR (some x0), aR x1, aR x2, aI x3, aI x4] C I J R (fun o C1 I2 J3 R4 =>
      o = .inl none ∧
      K (.inl none) C1 I2 J3 R4)
theorem wJ2_init_2 {l : Launch}  {F_J1_init : SPF} (S_J1_init : SpJ1_init l F_J1_init) {F : SPF}
    (h0 : ∀ (As : List AV) (C : MC) (I : MI) (J : MJ) (R : MR) (K : AK), F As C I J R K → ∃ (x0 : Nat) (x1 : Option Nat) (x2 : Option Nat) (x3 : Int32) (x4 : Int32), As = [aR (some x0), aR x1, aR x2, aI x3, aI x4] ∧ PJ2_init_2_0 F_J1_init K x0 x1 x2 x3 x4 C I J R) : SpJ2_init_2 l F := by
  refine Spec.of (by rfl) ?_
  intro Γ C I J R As Gd gl gr _ _ gb hF
  subst gl
  have G : Gb Γ yJ2_init_2 cJ2_init_2 5 (none) [] rmJ2_init_2 bdJ2_init_2 := ⟨Gd, gr, gb⟩
  obtain ⟨x0, x1, x2, x3, x4, rfl, h⟩ := h0 As C I J R (gK Γ) hF
  exact ⟨Nat.le_of_ble_eq_true rfl, bJ2_init_2_0 G S_J1_init h⟩
def PJ8_bitCount_0 (K : AK) (x0 : Int32) (C : MC) (I : MI) (J : MJ) (R : MR) : Prop :=
      K (.inl (some (aI ((((((((x0 - (((x0.toUInt32 >>> ((1 : Int32).toUInt32 &&& Int32.toUInt32 31)).toInt32) &&& (1431655765 : Int32))) &&& (858993459 : Int32)) + ((((x0 - (((x0.toUInt32 >>> ((1 : Int32).toUInt32 &&& Int32.toUInt32 31)).toInt32) &&& (1431655765 : Int32))).toUInt32 >>> ((2 : Int32).toUInt32 &&& Int32.toUInt32 31)).toInt32) &&& (858993459 : Int32))) + (((((x0 - (((x0.toUInt32 >>> ((1 : Int32).toUInt32 &&& Int32.toUInt32 31)).toInt32) &&& (1431655765 : Int32))) &&& (858993459 : Int32)) + ((((x0 - (((x0.toUInt32 >>> ((1 : Int32).toUInt32 &&& Int32.toUInt32 31)).toInt32) &&& (1431655765 : Int32))).toUInt32 >>> ((2 : Int32).toUInt32 &&& Int32.toUInt32 31)).toInt32) &&& (858993459 : Int32))).toUInt32 >>> ((4 : Int32).toUInt32 &&& Int32.toUInt32 31)).toInt32)) &&& (252645135 : Int32)) + (((((((x0 - (((x0.toUInt32 >>> ((1 : Int32).toUInt32 &&& Int32.toUInt32 31)).toInt32) &&& (1431655765 : Int32))) &&& (858993459 : Int32)) + ((((x0 - (((x0.toUInt32 >>> ((1 : Int32).toUInt32 &&& Int32.toUInt32 31)).toInt32) &&& (1431655765 : Int32))).toUInt32 >>> ((2 : Int32).toUInt32 &&& Int32.toUInt32 31)).toInt32) &&& (858993459 : Int32))) + (((((x0 - (((x0.toUInt32 >>> ((1 : Int32).toUInt32 &&& Int32.toUInt32 31)).toInt32) &&& (1431655765 : Int32))) &&& (858993459 : Int32)) + ((((x0 - (((x0.toUInt32 >>> ((1 : Int32).toUInt32 &&& Int32.toUInt32 31)).toInt32) &&& (1431655765 : Int32))).toUInt32 >>> ((2 : Int32).toUInt32 &&& Int32.toUInt32 31)).toInt32) &&& (858993459 : Int32))).toUInt32 >>> ((4 : Int32).toUInt32 &&& Int32.toUInt32 31)).toInt32)) &&& (252645135 : Int32)).toUInt32 >>> ((8 : Int32).toUInt32 &&& Int32.toUInt32 31)).toInt32)) + ((((((((x0 - (((x0.toUInt32 >>> ((1 : Int32).toUInt32 &&& Int32.toUInt32 31)).toInt32) &&& (1431655765 : Int32))) &&& (858993459 : Int32)) + ((((x0 - (((x0.toUInt32 >>> ((1 : Int32).toUInt32 &&& Int32.toUInt32 31)).toInt32) &&& (1431655765 : Int32))).toUInt32 >>> ((2 : Int32).toUInt32 &&& Int32.toUInt32 31)).toInt32) &&& (858993459 : Int32))) + (((((x0 - (((x0.toUInt32 >>> ((1 : Int32).toUInt32 &&& Int32.toUInt32 31)).toInt32) &&& (1431655765 : Int32))) &&& (858993459 : Int32)) + ((((x0 - (((x0.toUInt32 >>> ((1 : Int32).toUInt32 &&& Int32.toUInt32 31)).toInt32) &&& (1431655765 : Int32))).toUInt32 >>> ((2 : Int32).toUInt32 &&& Int32.toUInt32 31)).toInt32) &&& (858993459 : Int32))).toUInt32 >>> ((4 : Int32).toUInt32 &&& Int32.toUInt32 31)).toInt32)) &&& (252645135 : Int32)) + (((((((x0 - (((x0.toUInt32 >>> ((1 : Int32).toUInt32 &&& Int32.toUInt32 31)).toInt32) &&& (1431655765 : Int32))) &&& (858993459 : Int32)) + ((((x0 - (((x0.toUInt32 >>> ((1 : Int32).toUInt32 &&& Int32.toUInt32 31)).toInt32) &&& (1431655765 : Int32))).toUInt32 >>> ((2 : Int32).toUInt32 &&& Int32.toUInt32 31)).toInt32) &&& (858993459 : Int32))) + (((((x0 - (((x0.toUInt32 >>> ((1 : Int32).toUInt32 &&& Int32.toUInt32 31)).toInt32) &&& (1431655765 : Int32))) &&& (858993459 : Int32)) + ((((x0 - (((x0.toUInt32 >>> ((1 : Int32).toUInt32 &&& Int32.toUInt32 31)).toInt32) &&& (1431655765 : Int32))).toUInt32 >>> ((2 : Int32).toUInt32 &&& Int32.toUInt32 31)).toInt32) &&& (858993459 : Int32))).toUInt32 >>> ((4 : Int32).toUInt32 &&& Int32.toUInt32 31)).toInt32)) &&& (252645135 : Int32)).toUInt32 >>> ((8 : Int32).toUInt32 &&& Int32.toUInt32 31)).toInt32)).toUInt32 >>> ((16 : Int32).toUInt32 &&& Int32.toUInt32 31)).toInt32)) &&& (63 : Int32))))) C I J R
theorem wJ8_bitCount {l : Launch}  {F : SPF}
    (h0 : ∀ (As : List AV) (C : MC) (I : MI) (J : MJ) (R : MR) (K : AK), F As C I J R K → ∃ (x0 : Int32), As = [aI x0] ∧ PJ8_bitCount_0 K x0 C I J R) : SpJ8_bitCount l F := by
  refine Spec.of (by rfl) ?_
  intro Γ C I J R As Gd gl gr _ _ gb hF
  subst gl
  have G : Gb Γ yJ8_bitCount cJ8_bitCount 1 (some .int) [] rmJ8_bitCount bdJ8_bitCount := ⟨Gd, gr, gb⟩
  obtain ⟨x0, rfl, h⟩ := h0 As C I J R (gK Γ) hF
  exact ⟨Nat.le_of_ble_eq_true rfl, bJ8_bitCount_0 G h⟩
def PX4_init_39 (F_X3_init : SPF) (Q39 : Nat → Nat → Int32 → Int32 → MC → MI → MJ → MR → Prop) (K : AK) (x0 : Nat) (x2 : Nat) (x3 : Int32) (x4 : Int32) (C : MC) (I : MI) (J : MJ) (R : MR) : Prop :=
      ((x3 ≤ x4 →
      K (.inl none) C I J R) ∧
      (¬ x3 ≤ x4 →
      (25 ≤ (C x2).1 ∧ (C x2).1 < 30) ∧
      vp_in x4 (C x2).2 ∧
      ∃ q4 : Nat, R x2 x4.toNatClampNeg = some q4 ∧
      kTh (C q4).1 ∧
      ∀ R6 : MR, R6 = va_up R q4 (va_up (R q4) 3 (some x0)) →
      Q39 x0 x2 x3 (x4 + 1) C I J R6))
def PX4_init_0 (F_X3_init : SPF) (Q39 : Nat → Nat → Int32 → Int32 → MC → MI → MJ → MR → Prop) (K : AK) (x0 : Nat) (x1 : Nat) (C : MC) (I : MI) (J : MJ) (R : MR) : Prop :=
      ∃ q1 : Nat, (C q1).1 = 0 ∧
      ∀ (C3 : MC) (I4 : MI) (J5 : MJ) (R6 : MR), C3 = va_up C q1 (4, 0) → I4 = va_up I q1 (fun _ => 0) → J5 = va_up J q1 (fun _ => 0) → R6 = va_up R q1 (fun _ => none) → 
      F_X3_init [aR (some q1)] C3 I4 J5 R6 (fun o C7 I8 J9 R10 =>
      o = .inl none ∧
      kTh (C7 x0).1 ∧
      ∀ R13 : MR, R13 = va_up R10 x0 (va_up (R10 x0) 1 (some q1)) →
      ∃ q14 : Nat, (C7 q14).1 = 0 ∧
      ∀ (C16 : MC) (I17 : MI) (J18 : MJ) (R19 : MR), C16 = va_up C7 q14 (4, 0) → I17 = va_up I8 q14 (fun _ => 0) → J18 = va_up J9 q14 (fun _ => 0) → R19 = va_up R13 q14 (fun _ => none) → 
      F_X3_init [aR (some q14)] C16 I17 J18 R19 (fun o C20 I21 J22 R23 =>
      o = .inl none ∧
      kTh (C20 x0).1 ∧
      ∀ R26 : MR, R26 = va_up R23 x0 (va_up (R23 x0) 2 (some q14)) →
      ∀ R27 : MR, R27 = va_up R26 x0 (va_up (R26 x0) 0 (some x1)) →
      (20 ≤ (C20 x1).1 ∧ (C20 x1).1 ≤ 30) ∧
      Q39 x0 x1 (nI (C20 x1).2) (0 : Int32) C20 I21 J22 R27))
theorem wX4_init {l : Launch}  {F_X3_init : SPF} (S_X3_init : SpX3_init l F_X3_init)
    (Q39 : Nat → AK → Nat → Nat → Int32 → Int32 → MC → MI → MJ → MR → Prop) {F : SPF}
    (h0 : ∀ (As : List AV) (C : MC) (I : MI) (J : MJ) (R : MR) (K : AK), F As C I J R K → ∃ (x0 : Nat) (x1 : Nat), As = [aR (some x0), aR (some x1)] ∧ PX4_init_0 F_X3_init (fun (x0 : Nat) (x2 : Nat) (x3 : Int32) (x4 : Int32) (C : MC) (I : MI) (J : MJ) (R : MR) => ∃ n, Q39 n K x0 x2 x3 x4 C I J R) K x0 x1 C I J R)
    (h39 : ∀ (n : Nat) (K : AK) (x0 : Nat) (x2 : Nat) (x3 : Int32) (x4 : Int32) (C : MC) (I : MI) (J : MJ) (R : MR), Q39 n K x0 x2 x3 x4 C I J R → PX4_init_39 F_X3_init (fun (x0 : Nat) (x2 : Nat) (x3 : Int32) (x4 : Int32) (C : MC) (I : MI) (J : MJ) (R : MR) => ∃ m, m < n ∧ Q39 m K x0 x2 x3 x4 C I J R) K x0 x2 x3 x4 C I J R) : SpX4_init l F := by
  refine Spec.of (by rfl) ?_
  intro Γ C I J R As Gd gl gr _ _ gb hF
  subst gl
  have G : Gb Γ yX4_init cX4_init 6 (none) [] rmX4_init bdX4_init := ⟨Gd, gr, gb⟩
  have key : ∀ n : Nat, (∀ (x0 : Nat) (x2 : Nat) (x3 : Int32) (x4 : Int32) (C : MC) (I : MI) (J : MJ) (R : MR), Q39 n (gK Γ) x0 x2 x3 x4 C I J R → AW Γ 6 490 C I J R 39 [(0, aR (some x0)), (2, aR (some x2)), (3, aI x3), (4, aI x4)] []) := by
    intro n
    induction n using Nat.strongRecOn with
    | ind n ih =>
    have w39 : ∀ (x0 : Nat) (x2 : Nat) (x3 : Int32) (x4 : Int32) (C : MC) (I : MI) (J : MJ) (R : MR), (∃ m, m < n ∧ Q39 m (gK Γ) x0 x2 x3 x4 C I J R) → AW Γ 6 490 C I J R 39 [(0, aR (some x0)), (2, aR (some x2)), (3, aI x3), (4, aI x4)] [] := fun x0 x2 x3 x4 C I J R ⟨m, hm, hq⟩ => (ih m hm) x0 x2 x3 x4 C I J R hq
    exact fun x0 x2 x3 x4 C I J R h => bX4_init_39 G w39 (h39 n (gK Γ) x0 x2 x3 x4 C I J R h)
  have w39 : ∀ (x0 : Nat) (x2 : Nat) (x3 : Int32) (x4 : Int32) (C : MC) (I : MI) (J : MJ) (R : MR), (∃ n, Q39 n (gK Γ) x0 x2 x3 x4 C I J R) → AW Γ 6 490 C I J R 39 [(0, aR (some x0)), (2, aR (some x2)), (3, aI x3), (4, aI x4)] [] := fun x0 x2 x3 x4 C I J R ⟨m, hq⟩ => (key m) x0 x2 x3 x4 C I J R hq
  obtain ⟨x0, x1, rfl, h⟩ := h0 As C I J R (gK Γ) hF
  exact ⟨Nat.le_of_ble_eq_true rfl, bX4_init_0 G S_X3_init w39 h⟩
def PX4_leaves_13 (F_Vleaves : SPF) (Q13 : Int32 → Option Nat → Int32 → Int32 → MC → MI → MJ → MR → Prop) (K : AK) (x1 : Int32) (x2 : Option Nat) (x3 : Int32) (x4 : Int32) (C : MC) (I : MI) (J : MJ) (R : MR) : Prop :=
      ((x3 ≤ x4 →
      K (.inl (some (aI x1))) C I J R) ∧
      (¬ x3 ≤ x4 →
      ∃ q2 : Nat, x2 = some q2 ∧
      (25 ≤ (C q2).1 ∧ (C q2).1 < 30) ∧
      vp_in x4 (C q2).2 ∧
      ∃ q5 : Nat, R q2 x4.toNatClampNeg = some q5 ∧
      kTh (C q5).1 ∧
      F_Vleaves [aR (some q5)] C I J R (fun o C7 I8 J9 R10 =>
      ∃ r11 : Int32, o = .inl (some (aI r11)) ∧
      Q13 (x1 + r11) x2 x3 (x4 + 1) C7 I8 J9 R10)))
def PX4_leaves_0 (F_Vleaves : SPF) (Q13 : Int32 → Option Nat → Int32 → Int32 → MC → MI → MJ → MR → Prop) (K : AK) (x0 : Nat) (C : MC) (I : MI) (J : MJ) (R : MR) : Prop :=
      kTh (C x0).1 ∧
      ∃ q2 : Nat, R x0 0 = some q2 ∧
      (20 ≤ (C q2).1 ∧ (C q2).1 ≤ 30) ∧
      Q13 (0 : Int32) (R x0 0) (nI (C q2).2) (0 : Int32) C I J R
theorem wX4_leaves {l : Launch} {d : Nat}  {F_Vleaves : SPF} (S_Vleaves : SpVleaves l d F_Vleaves)
    (Q13 : Nat → AK → Int32 → Option Nat → Int32 → Int32 → MC → MI → MJ → MR → Prop) {F : SPF}
    (h0 : ∀ (As : List AV) (C : MC) (I : MI) (J : MJ) (R : MR) (K : AK), F As C I J R K → ∃ (x0 : Nat), As = [aR (some x0)] ∧ PX4_leaves_0 F_Vleaves (fun (x1 : Int32) (x2 : Option Nat) (x3 : Int32) (x4 : Int32) (C : MC) (I : MI) (J : MJ) (R : MR) => ∃ n, Q13 n K x1 x2 x3 x4 C I J R) K x0 C I J R)
    (h13 : ∀ (n : Nat) (K : AK) (x1 : Int32) (x2 : Option Nat) (x3 : Int32) (x4 : Int32) (C : MC) (I : MI) (J : MJ) (R : MR), Q13 n K x1 x2 x3 x4 C I J R → PX4_leaves_13 F_Vleaves (fun (x1 : Int32) (x2 : Option Nat) (x3 : Int32) (x4 : Int32) (C : MC) (I : MI) (J : MJ) (R : MR) => ∃ m, m < n ∧ Q13 m K x1 x2 x3 x4 C I J R) K x1 x2 x3 x4 C I J R) : SpX4_leaves l (d + 1) F := by
  refine Spec.of (by rfl) ?_
  intro Γ C I J R As Gd gl gr _ _ gb hF
  subst gl
  have G : Gb Γ yX4_leaves cX4_leaves 6 (some .int) [] (rmLv (d + 1)) bdX4_leaves := ⟨Gd, gr, gb⟩
  have key : ∀ n : Nat, (∀ (x1 : Int32) (x2 : Option Nat) (x3 : Int32) (x4 : Int32) (C : MC) (I : MI) (J : MJ) (R : MR), Q13 n (gK Γ) x1 x2 x3 x4 C I J R → AW Γ 0 0 C I J R 13 [(1, aI x1), (2, aR x2), (3, aI x3), (4, aI x4)] []) := by
    intro n
    induction n using Nat.strongRecOn with
    | ind n ih =>
    have w13 : ∀ (x1 : Int32) (x2 : Option Nat) (x3 : Int32) (x4 : Int32) (C : MC) (I : MI) (J : MJ) (R : MR), (∃ m, m < n ∧ Q13 m (gK Γ) x1 x2 x3 x4 C I J R) → AW Γ 0 0 C I J R 13 [(1, aI x1), (2, aR x2), (3, aI x3), (4, aI x4)] [] := fun x1 x2 x3 x4 C I J R ⟨m, hm, hq⟩ => (ih m hm) x1 x2 x3 x4 C I J R hq
    exact fun x1 x2 x3 x4 C I J R h => bX4_leaves_13 G S_Vleaves w13 (h13 n (gK Γ) x1 x2 x3 x4 C I J R h)
  have w13 : ∀ (x1 : Int32) (x2 : Option Nat) (x3 : Int32) (x4 : Int32) (C : MC) (I : MI) (J : MJ) (R : MR), (∃ n, Q13 n (gK Γ) x1 x2 x3 x4 C I J R) → AW Γ 0 0 C I J R 13 [(1, aI x1), (2, aR x2), (3, aI x3), (4, aI x4)] [] := fun x1 x2 x3 x4 C I J R ⟨m, hq⟩ => (key m) x1 x2 x3 x4 C I J R hq
  obtain ⟨x0, rfl, h⟩ := h0 As C I J R (gK Γ) hF
  exact ⟨Nat.le_of_ble_eq_true rfl, bX4_leaves_0 G w13 h⟩
def PX4_bounds_7 (F_Vtable : SPF) (F_X0_bounded : SPF) (F_X3_by : SPF) (Q7 : Nat → Nat → Int32 → MC → MI → MJ → MR → Prop) (K : AK) (x1 : Nat) (x2 : Nat) (x3 : Int32) (C : MC) (I : MI) (J : MJ) (R : MR) : Prop :=
      (((120 : Int32) < x3 →
      (C x2).1 = 4 ∧
      F_X0_bounded [aJ (J x2 2)] C I J R (fun o C3 I4 J5 R6 =>
      (∃ r7 : Int64, o = .inl (some (aJ r7)) ∧
      K (.inl (some (aJ r7))) C3 I4 J5 R6) ∨
      (∃ q8 : Nat, o = .inr q8 ∧
      ((C3 q8).1 = 11 ∧
      K (.inr q8) C3 I4 J5 R6)))) ∧
      (¬ (120 : Int32) < x3 →
      (C x2).1 = 4 ∧
      F_X3_by [aR (some x2), aI x3] C I J R (fun o C11 I12 J13 R14 =>
      ∃ r15 : Int64, o = .inl (some (aJ r15)) ∧
      (C11 x1).1 = 21 ∧
      vp_in x3 (C11 x1).2 ∧
      ∀ J18 : MJ, J18 = va_up J13 x1 (va_up (J13 x1) x3.toNatClampNeg ((J x2 2) - r15)) →
      Q7 x1 x2 (x3 + 1) C11 I12 J18 R14)))
def PX4_bounds_0 (F_Vtable : SPF) (F_X0_bounded : SPF) (F_X3_by : SPF) (Q7 : Nat → Nat → Int32 → MC → MI → MJ → MR → Prop) (K : AK) (x0 : Nat) (x1 : Nat) (C : MC) (I : MI) (J : MJ) (R : MR) : Prop :=
      kTh (C x0).1 ∧
      F_Vtable [aR (some x0)] C I J R (fun o C2 I3 J4 R5 =>
      (∃ r6 : Nat, o = .inl (some (aR (some r6))) ∧
      Q7 x1 r6 (0 : Int32) C2 I3 J4 R5) ∨
      (∃ q7 : Nat, o = .inr q7 ∧
      ((C2 q7).1 = 11 ∧
      K (.inr q7) C2 I3 J4 R5)))
theorem wX4_bounds {l : Launch} {d : Nat}  {F_Vtable : SPF} (S_Vtable : SpVtable l d F_Vtable) {F_X0_bounded : SPF} (S_X0_bounded : SpX0_bounded l F_X0_bounded) {F_X3_by : SPF} (S_X3_by : SpX3_by l F_X3_by)
    (Q7 : Nat → AK → Nat → Nat → Int32 → MC → MI → MJ → MR → Prop) {F : SPF}
    (h0 : ∀ (As : List AV) (C : MC) (I : MI) (J : MJ) (R : MR) (K : AK), F As C I J R K → ∃ (x0 : Nat) (x1 : Nat), As = [aR (some x0), aR (some x1)] ∧ PX4_bounds_0 F_Vtable F_X0_bounded F_X3_by (fun (x1 : Nat) (x2 : Nat) (x3 : Int32) (C : MC) (I : MI) (J : MJ) (R : MR) => ∃ n, Q7 n K x1 x2 x3 C I J R) K x0 x1 C I J R)
    (h7 : ∀ (n : Nat) (K : AK) (x1 : Nat) (x2 : Nat) (x3 : Int32) (C : MC) (I : MI) (J : MJ) (R : MR), Q7 n K x1 x2 x3 C I J R → PX4_bounds_7 F_Vtable F_X0_bounded F_X3_by (fun (x1 : Nat) (x2 : Nat) (x3 : Int32) (C : MC) (I : MI) (J : MJ) (R : MR) => ∃ m, m < n ∧ Q7 m K x1 x2 x3 C I J R) K x1 x2 x3 C I J R) : SpX4_bounds l d F := by
  refine Spec.of (by rfl) ?_
  intro Γ C I J R As Gd gl gr _ _ gb hF
  subst gl
  have G : Gb Γ yX4_bounds cX4_bounds 4 (some .long) [] (rmBo d) bdX4_bounds := ⟨Gd, gr, gb⟩
  have key : ∀ n : Nat, (∀ (x1 : Nat) (x2 : Nat) (x3 : Int32) (C : MC) (I : MI) (J : MJ) (R : MR), Q7 n (gK Γ) x1 x2 x3 C I J R → AW Γ 0 0 C I J R 7 [(1, aR (some x1)), (2, aR (some x2)), (3, aI x3)] []) := by
    intro n
    induction n using Nat.strongRecOn with
    | ind n ih =>
    have w7 : ∀ (x1 : Nat) (x2 : Nat) (x3 : Int32) (C : MC) (I : MI) (J : MJ) (R : MR), (∃ m, m < n ∧ Q7 m (gK Γ) x1 x2 x3 C I J R) → AW Γ 0 0 C I J R 7 [(1, aR (some x1)), (2, aR (some x2)), (3, aI x3)] [] := fun x1 x2 x3 C I J R ⟨m, hm, hq⟩ => (ih m hm) x1 x2 x3 C I J R hq
    exact fun x1 x2 x3 C I J R h => bX4_bounds_7 G S_X0_bounded S_X3_by w7 (h7 n (gK Γ) x1 x2 x3 C I J R h)
  have w7 : ∀ (x1 : Nat) (x2 : Nat) (x3 : Int32) (C : MC) (I : MI) (J : MJ) (R : MR), (∃ n, Q7 n (gK Γ) x1 x2 x3 C I J R) → AW Γ 0 0 C I J R 7 [(1, aR (some x1)), (2, aR (some x2)), (3, aI x3)] [] := fun x1 x2 x3 C I J R ⟨m, hq⟩ => (key m) x1 x2 x3 C I J R hq
  obtain ⟨x0, x1, rfl, h⟩ := h0 As C I J R (gK Γ) hF
  exact ⟨Nat.le_of_ble_eq_true rfl, bX4_bounds_0 G S_Vtable w7 h⟩
def PX4_asks_0 (K : AK) (x0 : Nat) (C : MC) (I : MI) (J : MJ) (R : MR) : Prop :=
      K (.inl (some (aI (1 : Int32)))) C I J R
theorem wX4_asks {l : Launch}  {F : SPF}
    (h0 : ∀ (As : List AV) (C : MC) (I : MI) (J : MJ) (R : MR) (K : AK), F As C I J R K → ∃ (x0 : Nat), As = [aR (some x0)] ∧ PX4_asks_0 K x0 C I J R) : SpX4_asks l F := by
  refine Spec.of (by rfl) ?_
  intro Γ C I J R As Gd gl gr _ _ gb hF
  subst gl
  have G : Gb Γ yX4_asks cX4_asks 1 (some .int) [] rmX4_asks bdX4_asks := ⟨Gd, gr, gb⟩
  obtain ⟨x0, rfl, h⟩ := h0 As C I J R (gK Γ) hF
  exact ⟨Nat.le_of_ble_eq_true rfl, bX4_asks_0 G h⟩
def PX5_init_0 (F_X4_init : SPF) (K : AK) (x0 : Nat) (x1 : Nat) (C : MC) (I : MI) (J : MJ) (R : MR) : Prop :=
      ∃ q1 : Nat, (C q1).1 = 0 ∧
      ∀ (C3 : MC) (I4 : MI) (J5 : MJ) (R6 : MR), C3 = va_up C q1 (26, 0) → I4 = va_up I q1 (fun _ => 0) → J5 = va_up J q1 (fun _ => 0) → R6 = va_up R q1 (fun _ => none) → 
      F_X4_init [aR (some x0), aR (some q1)] C3 I4 J5 R6 (fun o C7 I8 J9 R10 =>
      o = .inl none ∧
      ∃ q12 : Nat, (C7 q12).1 = 0 ∧
      ∀ (C14 : MC) (I15 : MI) (J16 : MJ) (R17 : MR), C14 = va_up C7 q12 (27, 3) → I15 = va_up I8 q12 (fun _ => 0) → J16 = va_up J9 q12 (fun _ => 0) → R17 = va_up R10 q12 (fun _ => none) → 
      (C14 x0).1 = 5 ∧
      ∀ R19 : MR, R19 = va_up R17 x0 (va_up (R17 x0) 6 (some q12)) →
      ∃ q20 : Nat, (C14 q20).1 = 0 ∧
      ∀ (C22 : MC) (I23 : MI) (J24 : MJ) (R25 : MR), C22 = va_up C14 q20 (20, 3) → I23 = va_up I15 q20 (fun _ => 0) → J24 = va_up J16 q20 (fun _ => 0) → R25 = va_up R19 q20 (fun _ => none) → 
      (C22 x0).1 = 5 ∧
      ∀ R27 : MR, R27 = va_up R25 x0 (va_up (R25 x0) 7 (some q20)) →
      ∀ I28 : MI, I28 = va_up I23 x0 (va_up (I23 x0) 8 (1 : Int32)) →
      ∀ I29 : MI, I29 = va_up I28 x0 (va_up (I28 x0) 10 (-1 : Int32)) →
      ∀ I30 : MI, I30 = va_up I29 x0 (va_up (I29 x0) 11 (-1 : Int32)) →
      ∃ q31 : Nat, R27 x0 6 = some q31 ∧
      (25 ≤ (C22 q31).1 ∧ (C22 q31).1 < 29) ∧
      kFit (C22 q31).1 (C22 x1).1 ∧
      vp_in (0 : Int32) (C22 q31).2 ∧
      ∀ R35 : MR, R35 = va_up R27 q31 (va_up (R27 q31) (0 : Int32).toNatClampNeg (some x1)) →
      K (.inl none) C22 I30 J24 R35)
theorem wX5_init {l : Launch}  {F_X4_init : SPF} (S_X4_init : SpX4_init l F_X4_init) {F : SPF}
    (h0 : ∀ (As : List AV) (C : MC) (I : MI) (J : MJ) (R : MR) (K : AK), F As C I J R K → ∃ (x0 : Nat) (x1 : Nat), As = [aR (some x0), aR (some x1)] ∧ PX5_init_0 F_X4_init K x0 x1 C I J R) : SpX5_init l F := by
  refine Spec.of (by rfl) ?_
  intro Γ C I J R As Gd gl gr _ _ gb hF
  subst gl
  have G : Gb Γ yX5_init cX5_init 2 (none) [] rmX5_init bdX5_init := ⟨Gd, gr, gb⟩
  obtain ⟨x0, x1, rfl, h⟩ := h0 As C I J R (gK Γ) hF
  exact ⟨Nat.le_of_ble_eq_true rfl, bX5_init_0 G S_X4_init h⟩
def PX5_kind_0 (K : AK) (x0 : Nat) (C : MC) (I : MI) (J : MJ) (R : MR) : Prop :=
      K (.inl (some (aI (0 : Int32)))) C I J R
theorem wX5_kind {l : Launch}  {F : SPF}
    (h0 : ∀ (As : List AV) (C : MC) (I : MI) (J : MJ) (R : MR) (K : AK), F As C I J R K → ∃ (x0 : Nat), As = [aR (some x0)] ∧ PX5_kind_0 K x0 C I J R) : SpX5_kind l F := by
  refine Spec.of (by rfl) ?_
  intro Γ C I J R As Gd gl gr _ _ gb hF
  subst gl
  have G : Gb Γ yX5_kind cX5_kind 1 (some .int) [] rmX5_kind bdX5_kind := ⟨Gd, gr, gb⟩
  obtain ⟨x0, rfl, h⟩ := h0 As C I J R (gK Γ) hF
  exact ⟨Nat.le_of_ble_eq_true rfl, bX5_kind_0 G h⟩
def PX5_leaves_0 (K : AK) (x0 : Nat) (C : MC) (I : MI) (J : MJ) (R : MR) : Prop :=
      K (.inl (some (aI (1 : Int32)))) C I J R
theorem wX5_leaves {l : Launch} {d : Nat}  {F : SPF}
    (h0 : ∀ (As : List AV) (C : MC) (I : MI) (J : MJ) (R : MR) (K : AK), F As C I J R K → ∃ (x0 : Nat), As = [aR (some x0)] ∧ PX5_leaves_0 K x0 C I J R) : SpX5_leaves l d F := by
  refine Spec.of (by rfl) ?_
  intro Γ C I J R As Gd gl gr _ _ gb hF
  subst gl
  have G : Gb Γ yX5_leaves cX5_leaves 1 (some .int) [] (rmLv d) bdX5_leaves := ⟨Gd, gr, gb⟩
  obtain ⟨x0, rfl, h⟩ := h0 As C I J R (gK Γ) hF
  exact ⟨Nat.le_of_ble_eq_true rfl, bX5_leaves_0 G h⟩
def PX5_table_0 (K : AK) (x0 : Nat) (C : MC) (I : MI) (J : MJ) (R : MR) : Prop :=
      (C x0).1 = 5 ∧
      ∃ q2 : Nat, R x0 6 = some q2 ∧
      (25 ≤ (C q2).1 ∧ (C q2).1 < 30) ∧
      vp_in (I x0 9) (C q2).2 ∧
      K (.inl (some (aR (R q2 (I x0 9).toNatClampNeg)))) C I J R
theorem wX5_table {l : Launch} {d : Nat}  {F : SPF}
    (h0 : ∀ (As : List AV) (C : MC) (I : MI) (J : MJ) (R : MR) (K : AK), F As C I J R K → ∃ (x0 : Nat), As = [aR (some x0)] ∧ PX5_table_0 K x0 C I J R) : SpX5_table l d F := by
  refine Spec.of (by rfl) ?_
  intro Γ C I J R As Gd gl gr _ _ gb hF
  subst gl
  have G : Gb Γ yX5_table cX5_table 1 (some (.object "TickShare$Table")) [] (rmTb d) bdX5_table := ⟨Gd, gr, gb⟩
  obtain ⟨x0, rfl, h⟩ := h0 As C I J R (gK Γ) hF
  exact ⟨Nat.le_of_ble_eq_true rfl, bX5_table_0 G h⟩
-- X6_init: to be joined by hand
def PX6_kind_0 (K : AK) (x0 : Nat) (C : MC) (I : MI) (J : MJ) (R : MR) : Prop :=
      K (.inl (some (aI (1 : Int32)))) C I J R
theorem wX6_kind {l : Launch}  {F : SPF}
    (h0 : ∀ (As : List AV) (C : MC) (I : MI) (J : MJ) (R : MR) (K : AK), F As C I J R K → ∃ (x0 : Nat), As = [aR (some x0)] ∧ PX6_kind_0 K x0 C I J R) : SpX6_kind l F := by
  refine Spec.of (by rfl) ?_
  intro Γ C I J R As Gd gl gr _ _ gb hF
  subst gl
  have G : Gb Γ yX6_kind cX6_kind 1 (some .int) [] rmX6_kind bdX6_kind := ⟨Gd, gr, gb⟩
  obtain ⟨x0, rfl, h⟩ := h0 As C I J R (gK Γ) hF
  exact ⟨Nat.le_of_ble_eq_true rfl, bX6_kind_0 G h⟩
def PX6_table_48 (F_Vtable : SPF) (F_X3_less : SPF) (F_X0_times : SPF) (F_X3_anew : SPF) (F_X0_fold : SPF) (Q12 : Nat → Nat → Int32 → MC → MI → MJ → MR → Prop) (K : AK) (x0 : Nat) (x1 : Nat) (x2 : Int32) (x3 : Nat) (s0 : Option Nat) (C : MC) (I : MI) (J : MJ) (R : MR) : Prop :=
      (C x1).1 = 4 ∧
      (C x3).1 = 4 ∧
      F_X0_times [aJ (J x1 2), aJ (J x3 2)] C I J R (fun o C3 I4 J5 R6 =>
      (∃ r7 : Int64, o = .inl (some (aJ r7)) ∧
      ∃ q8 : Nat, s0 = some q8 ∧
      (C3 q8).1 = 4 ∧
      F_X3_anew [aR (some q8), aJ r7] C3 I4 J5 R6 (fun o C10 I11 J12 R13 =>
      ∃ r14 : Nat, o = .inl (some (aR (some r14))) ∧
      F_X0_fold [aR (some x1), aR (some x3), aJ (1 : Int64), aR (some r14)] C10 I11 J12 R13 (fun o C15 I16 J17 R18 =>
      (o = .inl none ∧
      Q12 x0 r14 (x2 + 1) C15 I16 J17 R18) ∨
      (∃ q20 : Nat, o = .inr q20 ∧
      ((C15 q20).1 = 11 ∧
      K (.inr q20) C15 I16 J17 R18))))) ∨
      (∃ q22 : Nat, o = .inr q22 ∧
      ((C3 q22).1 = 11 ∧
      K (.inr q22) C3 I4 J5 R6)))
def PX6_table_12 (F_Vtable : SPF) (F_X3_less : SPF) (F_X0_times : SPF) (F_X3_anew : SPF) (F_X0_fold : SPF) (Q12 : Nat → Nat → Int32 → MC → MI → MJ → MR → Prop) (K : AK) (x0 : Nat) (x1 : Nat) (x2 : Int32) (C : MC) (I : MI) (J : MJ) (R : MR) : Prop :=
      kRF (C x0).1 ∧
      ∃ q2 : Nat, R x0 0 = some q2 ∧
      (20 ≤ (C q2).1 ∧ (C q2).1 ≤ 30) ∧
      (((nI (C q2).2) ≤ x2 →
      (C x1).1 = 4 ∧
      F_X3_less [aR (some x1)] C I J R (fun o C6 I7 J8 R9 =>
      ∃ r10 : Nat, o = .inl (some (aR (some r10))) ∧
      K (.inl (some (aR (some r10)))) C6 I7 J8 R9)) ∧
      (¬ (nI (C q2).2) ≤ x2 →
      (25 ≤ (C q2).1 ∧ (C q2).1 < 30) ∧
      vp_in x2 (C q2).2 ∧
      ∃ q13 : Nat, R q2 x2.toNatClampNeg = some q13 ∧
      kTh (C q13).1 ∧
      F_Vtable [aR (some q13)] C I J R (fun o C15 I16 J17 R18 =>
      (∃ r19 : Nat, o = .inl (some (aR (some r19))) ∧
      ((¬ (x2 - x2 / (2 : Int32) * (2 : Int32)) = 0 →
      kRF (C15 x0).1 ∧
      PX6_table_48 F_Vtable F_X3_less F_X0_times F_X3_anew F_X0_fold Q12 K x0 x1 x2 r19 (R18 x0 1) C15 I16 J17 R18) ∧
      ((x2 - x2 / (2 : Int32) * (2 : Int32)) = 0 →
      kRF (C15 x0).1 ∧
      PX6_table_48 F_Vtable F_X3_less F_X0_times F_X3_anew F_X0_fold Q12 K x0 x1 x2 r19 (R18 x0 2) C15 I16 J17 R18))) ∨
      (∃ q23 : Nat, o = .inr q23 ∧
      ((C15 q23).1 = 11 ∧
      K (.inr q23) C15 I16 J17 R18)))))
def PX6_table_0 (F_Vtable : SPF) (F_X3_less : SPF) (F_X0_times : SPF) (F_X3_anew : SPF) (F_X0_fold : SPF) (Q12 : Nat → Nat → Int32 → MC → MI → MJ → MR → Prop) (K : AK) (x0 : Nat) (C : MC) (I : MI) (J : MJ) (R : MR) : Prop :=
      kRF (C x0).1 ∧
      ∃ q2 : Nat, R x0 0 = some q2 ∧
      (25 ≤ (C q2).1 ∧ (C q2).1 < 30) ∧
      vp_in (0 : Int32) (C q2).2 ∧
      ∃ q5 : Nat, R q2 (0 : Int32).toNatClampNeg = some q5 ∧
      kTh (C q5).1 ∧
      F_Vtable [aR (some q5)] C I J R (fun o C7 I8 J9 R10 =>
      (∃ r11 : Nat, o = .inl (some (aR (some r11))) ∧
      Q12 x0 r11 (1 : Int32) C7 I8 J9 R10) ∨
      (∃ q12 : Nat, o = .inr q12 ∧
      ((C7 q12).1 = 11 ∧
      K (.inr q12) C7 I8 J9 R10)))
theorem wX6_table {l : Launch} {d : Nat}  {F_Vtable : SPF} (S_Vtable : SpVtable l d F_Vtable) {F_X3_less : SPF} (S_X3_less : SpX3_less l F_X3_less) {F_X0_times : SPF} (S_X0_times : SpX0_times l F_X0_times) {F_X3_anew : SPF} (S_X3_anew : SpX3_anew l F_X3_anew) {F_X0_fold : SPF} (S_X0_fold : SpX0_fold l F_X0_fold)
    (Q12 : Nat → AK → Nat → Nat → Int32 → MC → MI → MJ → MR → Prop) {F : SPF}
    (h0 : ∀ (As : List AV) (C : MC) (I : MI) (J : MJ) (R : MR) (K : AK), F As C I J R K → ∃ (x0 : Nat), As = [aR (some x0)] ∧ PX6_table_0 F_Vtable F_X3_less F_X0_times F_X3_anew F_X0_fold (fun (x0 : Nat) (x1 : Nat) (x2 : Int32) (C : MC) (I : MI) (J : MJ) (R : MR) => ∃ n, Q12 n K x0 x1 x2 C I J R) K x0 C I J R)
    (h12 : ∀ (n : Nat) (K : AK) (x0 : Nat) (x1 : Nat) (x2 : Int32) (C : MC) (I : MI) (J : MJ) (R : MR), Q12 n K x0 x1 x2 C I J R → PX6_table_12 F_Vtable F_X3_less F_X0_times F_X3_anew F_X0_fold (fun (x0 : Nat) (x1 : Nat) (x2 : Int32) (C : MC) (I : MI) (J : MJ) (R : MR) => ∃ m, m < n ∧ Q12 m K x0 x1 x2 C I J R) K x0 x1 x2 C I J R) : SpX6_table l (d + 1) F := by
  refine Spec.of (by rfl) ?_
  intro Γ C I J R As Gd gl gr _ _ gb hF
  subst gl
  have G : Gb Γ yX6_table cX6_table 5 (some (.object "TickShare$Table")) [] (rmTb (d + 1)) bdX6_table := ⟨Gd, gr, gb⟩
  have key : ∀ n : Nat, (∀ (x0 : Nat) (x1 : Nat) (x2 : Int32) (C : MC) (I : MI) (J : MJ) (R : MR), Q12 n (gK Γ) x0 x1 x2 C I J R → AW Γ 0 0 C I J R 12 [(0, aR (some x0)), (1, aR (some x1)), (2, aI x2)] []) := by
    intro n
    induction n using Nat.strongRecOn with
    | ind n ih =>
    have w12 : ∀ (x0 : Nat) (x1 : Nat) (x2 : Int32) (C : MC) (I : MI) (J : MJ) (R : MR), (∃ m, m < n ∧ Q12 m (gK Γ) x0 x1 x2 C I J R) → AW Γ 0 0 C I J R 12 [(0, aR (some x0)), (1, aR (some x1)), (2, aI x2)] [] := fun x0 x1 x2 C I J R ⟨m, hm, hq⟩ => (ih m hm) x0 x1 x2 C I J R hq
    have w48 : ∀ (x0 : Nat) (x1 : Nat) (x2 : Int32) (x3 : Nat) (s0 : Option Nat) (C : MC) (I : MI) (J : MJ) (R : MR), PX6_table_48 F_Vtable F_X3_less F_X0_times F_X3_anew F_X0_fold (fun (x0 : Nat) (x1 : Nat) (x2 : Int32) (C : MC) (I : MI) (J : MJ) (R : MR) => ∃ m, m < n ∧ Q12 m (gK Γ) x0 x1 x2 C I J R) (gK Γ) x0 x1 x2 x3 s0 C I J R → AW Γ 0 0 C I J R 48 [(0, aR (some x0)), (1, aR (some x1)), (2, aI x2), (3, aR (some x3))] [aR s0] := fun x0 x1 x2 x3 s0 C I J R h => bX6_table_48 G S_X0_times S_X3_anew S_X0_fold w12 h
    exact fun x0 x1 x2 C I J R h => bX6_table_12 G S_X3_less S_Vtable w48 (h12 n (gK Γ) x0 x1 x2 C I J R h)
  have w12 : ∀ (x0 : Nat) (x1 : Nat) (x2 : Int32) (C : MC) (I : MI) (J : MJ) (R : MR), (∃ n, Q12 n (gK Γ) x0 x1 x2 C I J R) → AW Γ 0 0 C I J R 12 [(0, aR (some x0)), (1, aR (some x1)), (2, aI x2)] [] := fun x0 x1 x2 C I J R ⟨m, hq⟩ => (key m) x0 x1 x2 C I J R hq
  have w48 : ∀ (x0 : Nat) (x1 : Nat) (x2 : Int32) (x3 : Nat) (s0 : Option Nat) (C : MC) (I : MI) (J : MJ) (R : MR), PX6_table_48 F_Vtable F_X3_less F_X0_times F_X3_anew F_X0_fold (fun (x0 : Nat) (x1 : Nat) (x2 : Int32) (C : MC) (I : MI) (J : MJ) (R : MR) => ∃ n, Q12 n (gK Γ) x0 x1 x2 C I J R) (gK Γ) x0 x1 x2 x3 s0 C I J R → AW Γ 0 0 C I J R 48 [(0, aR (some x0)), (1, aR (some x1)), (2, aI x2), (3, aR (some x3))] [aR s0] := fun x0 x1 x2 x3 s0 C I J R h => bX6_table_48 G S_X0_times S_X3_anew S_X0_fold w12 h
  obtain ⟨x0, rfl, h⟩ := h0 As C I J R (gK Γ) hF
  exact ⟨Nat.le_of_ble_eq_true rfl, bX6_table_0 G S_Vtable w12 h⟩
def PX6_tops_68 (F_Vbounds : SPF) (F_X0_times : SPF) (F_X0_bounded : SPF) (Q4 : Nat → Int64 → Int32 → MC → MI → MJ → MR → Prop) (Q56 : Nat → Int64 → Int32 → MC → MI → MJ → MR → Prop) (Q68 : Nat → Int64 → Int32 → Int32 → MC → MI → MJ → MR → Prop) (K : AK) (x0 : Nat) (x1 : Int64) (x3 : Int32) (x4 : Int32) (C : MC) (I : MI) (J : MJ) (R : MR) : Prop :=
      (((120 : Int32) < x4 →
      Q56 x0 x1 (x3 + 1) C I J R) ∧
      (¬ (120 : Int32) < x4 →
      kRF (C x0).1 ∧
      ∃ q3 : Nat, R x0 6 = some q3 ∧
      (25 ≤ (C q3).1 ∧ (C q3).1 < 30) ∧
      vp_in x3 (C q3).2 ∧
      ∃ q6 : Nat, R q3 x3.toNatClampNeg = some q6 ∧
      (C q6).1 = 21 ∧
      vp_in x4 (C q6).2 ∧
      ∃ q9 : Nat, R x0 7 = some q9 ∧
      (C q9).1 = 21 ∧
      vp_in x3 (C q9).2 ∧
      ¬ (J q9 x3.toNatClampNeg) = 0 ∧
      ∀ J13 : MJ, J13 = va_up J q6 (va_up (J q6) x4.toNatClampNeg ((J q6 x4.toNatClampNeg) * (x1 / (J q9 x3.toNatClampNeg)))) →
      Q68 x0 x1 x3 (x4 + 1) C I J13 R))
def PX6_tops_56 (F_Vbounds : SPF) (F_X0_times : SPF) (F_X0_bounded : SPF) (Q4 : Nat → Int64 → Int32 → MC → MI → MJ → MR → Prop) (Q56 : Nat → Int64 → Int32 → MC → MI → MJ → MR → Prop) (Q68 : Nat → Int64 → Int32 → Int32 → MC → MI → MJ → MR → Prop) (K : AK) (x0 : Nat) (x1 : Int64) (x3 : Int32) (C : MC) (I : MI) (J : MJ) (R : MR) : Prop :=
      kRF (C x0).1 ∧
      ∃ q2 : Nat, R x0 0 = some q2 ∧
      (20 ≤ (C q2).1 ∧ (C q2).1 ≤ 30) ∧
      (((nI (C q2).2) ≤ x3 →
      ∃ q5 : Nat, R x0 6 = some q5 ∧
      (25 ≤ (C q5).1 ∧ (C q5).1 < 30) ∧
      vp_in (nI (C q2).2) (C q5).2 ∧
      ∃ q8 : Nat, R q5 (nI (C q2).2).toNatClampNeg = some q8 ∧
      (C q8).1 = 21 ∧
      vp_in (0 : Int32) (C q8).2 ∧
      ∀ J11 : MJ, J11 = va_up J q8 (va_up (J q8) (0 : Int32).toNatClampNeg x1) →
      K (.inl (some (aR (R x0 6)))) C I J11 R) ∧
      (¬ (nI (C q2).2) ≤ x3 →
      Q68 x0 x1 x3 (0 : Int32) C I J R))
def PX6_tops_4 (F_Vbounds : SPF) (F_X0_times : SPF) (F_X0_bounded : SPF) (Q4 : Nat → Int64 → Int32 → MC → MI → MJ → MR → Prop) (Q56 : Nat → Int64 → Int32 → MC → MI → MJ → MR → Prop) (Q68 : Nat → Int64 → Int32 → Int32 → MC → MI → MJ → MR → Prop) (K : AK) (x0 : Nat) (x1 : Int64) (x3 : Int32) (C : MC) (I : MI) (J : MJ) (R : MR) : Prop :=
      kRF (C x0).1 ∧
      ∃ q2 : Nat, R x0 0 = some q2 ∧
      (20 ≤ (C q2).1 ∧ (C q2).1 ≤ 30) ∧
      (((nI (C q2).2) ≤ x3 →
      Q56 x0 x1 (0 : Int32) C I J R) ∧
      (¬ (nI (C q2).2) ≤ x3 →
      (25 ≤ (C q2).1 ∧ (C q2).1 < 30) ∧
      vp_in x3 (C q2).2 ∧
      ∃ q7 : Nat, R x0 6 = some q7 ∧
      (25 ≤ (C q7).1 ∧ (C q7).1 < 30) ∧
      vp_in x3 (C q7).2 ∧
      ∃ q10 : Nat, R q2 x3.toNatClampNeg = some q10 ∧
      kTh (C q10).1 ∧
      F_Vbounds [aR (some q10), aR (R q7 x3.toNatClampNeg)] C I J R (fun o C12 I13 J14 R15 =>
      (∃ r16 : Int64, o = .inl (some (aJ r16)) ∧
      ∃ q17 : Nat, R x0 7 = some q17 ∧
      (C12 q17).1 = 21 ∧
      vp_in x3 (C12 q17).2 ∧
      ∀ J20 : MJ, J20 = va_up J14 q17 (va_up (J14 q17) x3.toNatClampNeg r16) →
      kRF (C12 x0).1 ∧
      ∃ q22 : Nat, R15 x0 7 = some q22 ∧
      (C12 q22).1 = 21 ∧
      vp_in x3 (C12 q22).2 ∧
      F_X0_times [aJ x1, aJ (J20 q22 x3.toNatClampNeg)] C12 I13 J20 R15 (fun o C25 I26 J27 R28 =>
      (∃ r29 : Int64, o = .inl (some (aJ r29)) ∧
      F_X0_bounded [aJ r29] C25 I26 J27 R28 (fun o C30 I31 J32 R33 =>
      (∃ r34 : Int64, o = .inl (some (aJ r34)) ∧
      Q4 x0 r34 (x3 + 1) C30 I31 J32 R33) ∨
      (∃ q35 : Nat, o = .inr q35 ∧
      ((C30 q35).1 = 11 ∧
      K (.inr q35) C30 I31 J32 R33)))) ∨
      (∃ q37 : Nat, o = .inr q37 ∧
      ((C25 q37).1 = 11 ∧
      K (.inr q37) C25 I26 J27 R28)))) ∨
      (∃ q39 : Nat, o = .inr q39 ∧
      ((C12 q39).1 = 11 ∧
      K (.inr q39) C12 I13 J14 R15)))))
def PX6_tops_0 (F_Vbounds : SPF) (F_X0_times : SPF) (F_X0_bounded : SPF) (Q4 : Nat → Int64 → Int32 → MC → MI → MJ → MR → Prop) (Q56 : Nat → Int64 → Int32 → MC → MI → MJ → MR → Prop) (Q68 : Nat → Int64 → Int32 → Int32 → MC → MI → MJ → MR → Prop) (K : AK) (x0 : Nat) (C : MC) (I : MI) (J : MJ) (R : MR) : Prop :=
      Q4 x0 (1 : Int64) (0 : Int32) C I J R
theorem wX6_tops {l : Launch} {d : Nat}  {F_Vbounds : SPF} (S_Vbounds : SpVbounds l d F_Vbounds) {F_X0_times : SPF} (S_X0_times : SpX0_times l F_X0_times) {F_X0_bounded : SPF} (S_X0_bounded : SpX0_bounded l F_X0_bounded)
    (Q4 : Nat → AK → Nat → Int64 → Int32 → MC → MI → MJ → MR → Prop)
    (Q56 : Nat → AK → Nat → Int64 → Int32 → MC → MI → MJ → MR → Prop)
    (Q68 : Nat → AK → Nat → Int64 → Int32 → Int32 → MC → MI → MJ → MR → Prop) {F : SPF}
    (h0 : ∀ (As : List AV) (C : MC) (I : MI) (J : MJ) (R : MR) (K : AK), F As C I J R K → ∃ (x0 : Nat), As = [aR (some x0)] ∧ PX6_tops_0 F_Vbounds F_X0_times F_X0_bounded (fun (x0 : Nat) (x1 : Int64) (x3 : Int32) (C : MC) (I : MI) (J : MJ) (R : MR) => ∃ n, Q4 n K x0 x1 x3 C I J R) (fun (x0 : Nat) (x1 : Int64) (x3 : Int32) (C : MC) (I : MI) (J : MJ) (R : MR) => ∃ n, Q56 n K x0 x1 x3 C I J R) (fun (x0 : Nat) (x1 : Int64) (x3 : Int32) (x4 : Int32) (C : MC) (I : MI) (J : MJ) (R : MR) => ∃ n, Q68 n K x0 x1 x3 x4 C I J R) K x0 C I J R)
    (h4 : ∀ (n : Nat) (K : AK) (x0 : Nat) (x1 : Int64) (x3 : Int32) (C : MC) (I : MI) (J : MJ) (R : MR), Q4 n K x0 x1 x3 C I J R → PX6_tops_4 F_Vbounds F_X0_times F_X0_bounded (fun (x0 : Nat) (x1 : Int64) (x3 : Int32) (C : MC) (I : MI) (J : MJ) (R : MR) => ∃ m, m < n ∧ Q4 m K x0 x1 x3 C I J R) (fun (x0 : Nat) (x1 : Int64) (x3 : Int32) (C : MC) (I : MI) (J : MJ) (R : MR) => ∃ m, m < n ∧ Q56 m K x0 x1 x3 C I J R) (fun (x0 : Nat) (x1 : Int64) (x3 : Int32) (x4 : Int32) (C : MC) (I : MI) (J : MJ) (R : MR) => ∃ m, m < n ∧ Q68 m K x0 x1 x3 x4 C I J R) K x0 x1 x3 C I J R)
    (h56 : ∀ (n : Nat) (K : AK) (x0 : Nat) (x1 : Int64) (x3 : Int32) (C : MC) (I : MI) (J : MJ) (R : MR), Q56 n K x0 x1 x3 C I J R → PX6_tops_56 F_Vbounds F_X0_times F_X0_bounded (fun (x0 : Nat) (x1 : Int64) (x3 : Int32) (C : MC) (I : MI) (J : MJ) (R : MR) => ∃ m, m < n ∧ Q4 m K x0 x1 x3 C I J R) (fun (x0 : Nat) (x1 : Int64) (x3 : Int32) (C : MC) (I : MI) (J : MJ) (R : MR) => ∃ m, m < n ∧ Q56 m K x0 x1 x3 C I J R) (fun (x0 : Nat) (x1 : Int64) (x3 : Int32) (x4 : Int32) (C : MC) (I : MI) (J : MJ) (R : MR) => ∃ m, m < n ∧ Q68 m K x0 x1 x3 x4 C I J R) K x0 x1 x3 C I J R)
    (h68 : ∀ (n : Nat) (K : AK) (x0 : Nat) (x1 : Int64) (x3 : Int32) (x4 : Int32) (C : MC) (I : MI) (J : MJ) (R : MR), Q68 n K x0 x1 x3 x4 C I J R → PX6_tops_68 F_Vbounds F_X0_times F_X0_bounded (fun (x0 : Nat) (x1 : Int64) (x3 : Int32) (C : MC) (I : MI) (J : MJ) (R : MR) => ∃ m, m < n ∧ Q4 m K x0 x1 x3 C I J R) (fun (x0 : Nat) (x1 : Int64) (x3 : Int32) (C : MC) (I : MI) (J : MJ) (R : MR) => ∃ m, m < n ∧ Q56 m K x0 x1 x3 C I J R) (fun (x0 : Nat) (x1 : Int64) (x3 : Int32) (x4 : Int32) (C : MC) (I : MI) (J : MJ) (R : MR) => ∃ m, m < n ∧ Q68 m K x0 x1 x3 x4 C I J R) K x0 x1 x3 x4 C I J R) : SpX6_tops l (d + 1) F := by
  refine Spec.of (by rfl) ?_
  intro Γ C I J R As Gd gl gr _ _ gb hF
  subst gl
  have G : Gb Γ yX6_tops cX6_tops 5 (some (.array (.array (.long)))) [] (rmTo (d + 1)) bdX6_tops := ⟨Gd, gr, gb⟩
  have key : ∀ n : Nat, (∀ (x0 : Nat) (x1 : Int64) (x3 : Int32) (C : MC) (I : MI) (J : MJ) (R : MR), Q4 n (gK Γ) x0 x1 x3 C I J R → AW Γ 0 0 C I J R 4 [(0, aR (some x0)), (1, aJ x1), (3, aI x3)] []) ∧ (∀ (x0 : Nat) (x1 : Int64) (x3 : Int32) (C : MC) (I : MI) (J : MJ) (R : MR), Q56 n (gK Γ) x0 x1 x3 C I J R → AW Γ 0 0 C I J R 56 [(0, aR (some x0)), (1, aJ x1), (3, aI x3)] []) ∧ (∀ (x0 : Nat) (x1 : Int64) (x3 : Int32) (x4 : Int32) (C : MC) (I : MI) (J : MJ) (R : MR), Q68 n (gK Γ) x0 x1 x3 x4 C I J R → AW Γ 0 0 C I J R 68 [(0, aR (some x0)), (1, aJ x1), (3, aI x3), (4, aI x4)] []) := by
    intro n
    induction n using Nat.strongRecOn with
    | ind n ih =>
    have w4 : ∀ (x0 : Nat) (x1 : Int64) (x3 : Int32) (C : MC) (I : MI) (J : MJ) (R : MR), (∃ m, m < n ∧ Q4 m (gK Γ) x0 x1 x3 C I J R) → AW Γ 0 0 C I J R 4 [(0, aR (some x0)), (1, aJ x1), (3, aI x3)] [] := fun x0 x1 x3 C I J R ⟨m, hm, hq⟩ => (ih m hm).1 x0 x1 x3 C I J R hq
    have w56 : ∀ (x0 : Nat) (x1 : Int64) (x3 : Int32) (C : MC) (I : MI) (J : MJ) (R : MR), (∃ m, m < n ∧ Q56 m (gK Γ) x0 x1 x3 C I J R) → AW Γ 0 0 C I J R 56 [(0, aR (some x0)), (1, aJ x1), (3, aI x3)] [] := fun x0 x1 x3 C I J R ⟨m, hm, hq⟩ => (ih m hm).2.1 x0 x1 x3 C I J R hq
    have w68 : ∀ (x0 : Nat) (x1 : Int64) (x3 : Int32) (x4 : Int32) (C : MC) (I : MI) (J : MJ) (R : MR), (∃ m, m < n ∧ Q68 m (gK Γ) x0 x1 x3 x4 C I J R) → AW Γ 0 0 C I J R 68 [(0, aR (some x0)), (1, aJ x1), (3, aI x3), (4, aI x4)] [] := fun x0 x1 x3 x4 C I J R ⟨m, hm, hq⟩ => (ih m hm).2.2 x0 x1 x3 x4 C I J R hq
    exact ⟨fun x0 x1 x3 C I J R h => bX6_tops_4 G S_Vbounds S_X0_times S_X0_bounded w4 w56 (h4 n (gK Γ) x0 x1 x3 C I J R h), fun x0 x1 x3 C I J R h => bX6_tops_56 G w68 (h56 n (gK Γ) x0 x1 x3 C I J R h), fun x0 x1 x3 x4 C I J R h => bX6_tops_68 G w56 w68 (h68 n (gK Γ) x0 x1 x3 x4 C I J R h)⟩
  have w4 : ∀ (x0 : Nat) (x1 : Int64) (x3 : Int32) (C : MC) (I : MI) (J : MJ) (R : MR), (∃ n, Q4 n (gK Γ) x0 x1 x3 C I J R) → AW Γ 0 0 C I J R 4 [(0, aR (some x0)), (1, aJ x1), (3, aI x3)] [] := fun x0 x1 x3 C I J R ⟨m, hq⟩ => (key m).1 x0 x1 x3 C I J R hq
  have w56 : ∀ (x0 : Nat) (x1 : Int64) (x3 : Int32) (C : MC) (I : MI) (J : MJ) (R : MR), (∃ n, Q56 n (gK Γ) x0 x1 x3 C I J R) → AW Γ 0 0 C I J R 56 [(0, aR (some x0)), (1, aJ x1), (3, aI x3)] [] := fun x0 x1 x3 C I J R ⟨m, hq⟩ => (key m).2.1 x0 x1 x3 C I J R hq
  have w68 : ∀ (x0 : Nat) (x1 : Int64) (x3 : Int32) (x4 : Int32) (C : MC) (I : MI) (J : MJ) (R : MR), (∃ n, Q68 n (gK Γ) x0 x1 x3 x4 C I J R) → AW Γ 0 0 C I J R 68 [(0, aR (some x0)), (1, aJ x1), (3, aI x3), (4, aI x4)] [] := fun x0 x1 x3 x4 C I J R ⟨m, hq⟩ => (key m).2.2 x0 x1 x3 x4 C I J R hq
  obtain ⟨x0, rfl, h⟩ := h0 As C I J R (gK Γ) hF
  exact ⟨Nat.le_of_ble_eq_true rfl, bX6_tops_0 G w4 h⟩
def PX6_bounds_112 (F_X6_tops : SPF) (Q29 : Nat → Nat → Nat → Int64 → Int32 → MC → MI → MJ → MR → Prop) (Q43 : Nat → Nat → Nat → Int64 → Int32 → Int32 → MC → MI → MJ → MR → Prop) (Q56 : Nat → Nat → Nat → Int64 → Int32 → Int32 → Int64 → Int32 → MC → MI → MJ → MR → Prop) (Q112 : Nat → Int64 → Int32 → MC → MI → MJ → MR → Prop) (K : AK) (x1 : Nat) (x3 : Int64) (x5 : Int32) (C : MC) (I : MI) (J : MJ) (R : MR) : Prop :=
      (((120 : Int32) < x5 →
      K (.inl (some (aJ x3))) C I J R) ∧
      (¬ (120 : Int32) < x5 →
      (C x1).1 = 21 ∧
      vp_in x5 (C x1).2 ∧
      ∀ J4 : MJ, J4 = va_up J x1 (va_up (J x1) x5.toNatClampNeg (if (J x1 x5.toNatClampNeg) < x3 then (J x1 x5.toNatClampNeg) else x3)) →
      Q112 x1 x3 (x5 + 1) C I J4 R))
def PX6_bounds_56 (F_X6_tops : SPF) (Q29 : Nat → Nat → Nat → Int64 → Int32 → MC → MI → MJ → MR → Prop) (Q43 : Nat → Nat → Nat → Int64 → Int32 → Int32 → MC → MI → MJ → MR → Prop) (Q56 : Nat → Nat → Nat → Int64 → Int32 → Int32 → Int64 → Int32 → MC → MI → MJ → MR → Prop) (Q112 : Nat → Int64 → Int32 → MC → MI → MJ → MR → Prop) (K : AK) (x0 : Nat) (x1 : Nat) (x2 : Nat) (x3 : Int64) (x5 : Int32) (x6 : Int32) (x7 : Int64) (x9 : Int32) (C : MC) (I : MI) (J : MJ) (R : MR) : Prop :=
      ((x6 < x9 →
      (C x1).1 = 21 ∧
      vp_in x6 (C x1).2 ∧
      ∀ J4 : MJ, J4 = va_up J x1 (va_up (J x1) x6.toNatClampNeg x7) →
      Q43 x0 x1 x2 x3 x5 (x6 + (-1)) C I J4 R) ∧
      (¬ x6 < x9 →
      (C x1).1 = 21 ∧
      vp_in x9 (C x1).2 ∧
      (25 ≤ (C x2).1 ∧ (C x2).1 < 30) ∧
      vp_in x5 (C x2).2 ∧
      ∃ q9 : Nat, R x2 x5.toNatClampNeg = some q9 ∧
      (C q9).1 = 21 ∧
      vp_in (x6 - x9) (C q9).2 ∧
      Q56 x0 x1 x2 x3 x5 x6 (if ((J x1 x9.toNatClampNeg) + (J q9 (x6 - x9).toNatClampNeg)) < x7 then ((J x1 x9.toNatClampNeg) + (J q9 (x6 - x9).toNatClampNeg)) else x7) (x9 + 1) C I J R))
def PX6_bounds_43 (F_X6_tops : SPF) (Q29 : Nat → Nat → Nat → Int64 → Int32 → MC → MI → MJ → MR → Prop) (Q43 : Nat → Nat → Nat → Int64 → Int32 → Int32 → MC → MI → MJ → MR → Prop) (Q56 : Nat → Nat → Nat → Int64 → Int32 → Int32 → Int64 → Int32 → MC → MI → MJ → MR → Prop) (Q112 : Nat → Int64 → Int32 → MC → MI → MJ → MR → Prop) (K : AK) (x0 : Nat) (x1 : Nat) (x2 : Nat) (x3 : Int64) (x5 : Int32) (x6 : Int32) (C : MC) (I : MI) (J : MJ) (R : MR) : Prop :=
      ((x6 < 0 →
      Q29 x0 x1 x2 x3 (x5 + 1) C I J R) ∧
      (¬ x6 < 0 →
      Q56 x0 x1 x2 x3 x5 x6 (9223372036854775807 : Int64) (0 : Int32) C I J R))
def PX6_bounds_29 (F_X6_tops : SPF) (Q29 : Nat → Nat → Nat → Int64 → Int32 → MC → MI → MJ → MR → Prop) (Q43 : Nat → Nat → Nat → Int64 → Int32 → Int32 → MC → MI → MJ → MR → Prop) (Q56 : Nat → Nat → Nat → Int64 → Int32 → Int32 → Int64 → Int32 → MC → MI → MJ → MR → Prop) (Q112 : Nat → Int64 → Int32 → MC → MI → MJ → MR → Prop) (K : AK) (x0 : Nat) (x1 : Nat) (x2 : Nat) (x3 : Int64) (x5 : Int32) (C : MC) (I : MI) (J : MJ) (R : MR) : Prop :=
      kRF (C x0).1 ∧
      ∃ q2 : Nat, R x0 0 = some q2 ∧
      (20 ≤ (C q2).1 ∧ (C q2).1 ≤ 30) ∧
      (((nI (C q2).2) ≤ x5 →
      Q112 x1 x3 (0 : Int32) C I J R) ∧
      (¬ (nI (C q2).2) ≤ x5 →
      Q43 x0 x1 x2 x3 x5 (120 : Int32) C I J R))
def PX6_bounds_0 (F_X6_tops : SPF) (Q29 : Nat → Nat → Nat → Int64 → Int32 → MC → MI → MJ → MR → Prop) (Q43 : Nat → Nat → Nat → Int64 → Int32 → Int32 → MC → MI → MJ → MR → Prop) (Q56 : Nat → Nat → Nat → Int64 → Int32 → Int32 → Int64 → Int32 → MC → MI → MJ → MR → Prop) (Q112 : Nat → Int64 → Int32 → MC → MI → MJ → MR → Prop) (K : AK) (x0 : Nat) (x1 : Nat) (C : MC) (I : MI) (J : MJ) (R : MR) : Prop :=
      (C x0).1 = 6 ∧
      F_X6_tops [aR (some x0)] C I J R (fun o C2 I3 J4 R5 =>
      (∃ r6 : Nat, o = .inl (some (aR (some r6))) ∧
      kRF (C2 x0).1 ∧
      ∃ q8 : Nat, R5 x0 0 = some q8 ∧
      (20 ≤ (C2 q8).1 ∧ (C2 q8).1 ≤ 30) ∧
      (25 ≤ (C2 r6).1 ∧ (C2 r6).1 < 30) ∧
      vp_in (nI (C2 q8).2) (C2 r6).2 ∧
      ∃ q12 : Nat, R5 r6 (nI (C2 q8).2).toNatClampNeg = some q12 ∧
      (C2 q12).1 = 21 ∧
      vp_in (0 : Int32) (C2 q12).2 ∧
      vp_in (0 : Int32) (C2 r6).2 ∧
      ∃ q16 : Nat, R5 r6 (0 : Int32).toNatClampNeg = some q16 ∧
      (C2 q16).1 = 21 ∧
      (C2 x1).1 = 21 ∧
      (0 : Int32).toNatClampNeg + (121 : Int32).toNatClampNeg ≤ (C2 q16).2 ∧
      (0 : Int32).toNatClampNeg + (121 : Int32).toNatClampNeg ≤ (C2 x1).2 ∧
      ∀ J21 : MJ, J21 = va_up J4 x1 (va_cpy (J4 q16) (J4 x1) (0 : Int32).toNatClampNeg (0 : Int32).toNatClampNeg (121 : Int32).toNatClampNeg) →
      Q29 x0 x1 r6 (J4 q12 (0 : Int32).toNatClampNeg) (1 : Int32) C2 I3 J21 R5) ∨
      (∃ q22 : Nat, o = .inr q22 ∧
      ((C2 q22).1 = 11 ∧
      K (.inr q22) C2 I3 J4 R5)))
theorem wX6_bounds {l : Launch} {d : Nat}  {F_X6_tops : SPF} (S_X6_tops : SpX6_tops l (d + 1) F_X6_tops)
    (Q29 : Nat → AK → Nat → Nat → Nat → Int64 → Int32 → MC → MI → MJ → MR → Prop)
    (Q43 : Nat → AK → Nat → Nat → Nat → Int64 → Int32 → Int32 → MC → MI → MJ → MR → Prop)
    (Q56 : Nat → AK → Nat → Nat → Nat → Int64 → Int32 → Int32 → Int64 → Int32 → MC → MI → MJ → MR → Prop)
    (Q112 : Nat → AK → Nat → Int64 → Int32 → MC → MI → MJ → MR → Prop) {F : SPF}
    (h0 : ∀ (As : List AV) (C : MC) (I : MI) (J : MJ) (R : MR) (K : AK), F As C I J R K → ∃ (x0 : Nat) (x1 : Nat), As = [aR (some x0), aR (some x1)] ∧ PX6_bounds_0 F_X6_tops (fun (x0 : Nat) (x1 : Nat) (x2 : Nat) (x3 : Int64) (x5 : Int32) (C : MC) (I : MI) (J : MJ) (R : MR) => ∃ n, Q29 n K x0 x1 x2 x3 x5 C I J R) (fun (x0 : Nat) (x1 : Nat) (x2 : Nat) (x3 : Int64) (x5 : Int32) (x6 : Int32) (C : MC) (I : MI) (J : MJ) (R : MR) => ∃ n, Q43 n K x0 x1 x2 x3 x5 x6 C I J R) (fun (x0 : Nat) (x1 : Nat) (x2 : Nat) (x3 : Int64) (x5 : Int32) (x6 : Int32) (x7 : Int64) (x9 : Int32) (C : MC) (I : MI) (J : MJ) (R : MR) => ∃ n, Q56 n K x0 x1 x2 x3 x5 x6 x7 x9 C I J R) (fun (x1 : Nat) (x3 : Int64) (x5 : Int32) (C : MC) (I : MI) (J : MJ) (R : MR) => ∃ n, Q112 n K x1 x3 x5 C I J R) K x0 x1 C I J R)
    (h29 : ∀ (n : Nat) (K : AK) (x0 : Nat) (x1 : Nat) (x2 : Nat) (x3 : Int64) (x5 : Int32) (C : MC) (I : MI) (J : MJ) (R : MR), Q29 n K x0 x1 x2 x3 x5 C I J R → PX6_bounds_29 F_X6_tops (fun (x0 : Nat) (x1 : Nat) (x2 : Nat) (x3 : Int64) (x5 : Int32) (C : MC) (I : MI) (J : MJ) (R : MR) => ∃ m, m < n ∧ Q29 m K x0 x1 x2 x3 x5 C I J R) (fun (x0 : Nat) (x1 : Nat) (x2 : Nat) (x3 : Int64) (x5 : Int32) (x6 : Int32) (C : MC) (I : MI) (J : MJ) (R : MR) => ∃ m, m < n ∧ Q43 m K x0 x1 x2 x3 x5 x6 C I J R) (fun (x0 : Nat) (x1 : Nat) (x2 : Nat) (x3 : Int64) (x5 : Int32) (x6 : Int32) (x7 : Int64) (x9 : Int32) (C : MC) (I : MI) (J : MJ) (R : MR) => ∃ m, m < n ∧ Q56 m K x0 x1 x2 x3 x5 x6 x7 x9 C I J R) (fun (x1 : Nat) (x3 : Int64) (x5 : Int32) (C : MC) (I : MI) (J : MJ) (R : MR) => ∃ m, m < n ∧ Q112 m K x1 x3 x5 C I J R) K x0 x1 x2 x3 x5 C I J R)
    (h43 : ∀ (n : Nat) (K : AK) (x0 : Nat) (x1 : Nat) (x2 : Nat) (x3 : Int64) (x5 : Int32) (x6 : Int32) (C : MC) (I : MI) (J : MJ) (R : MR), Q43 n K x0 x1 x2 x3 x5 x6 C I J R → PX6_bounds_43 F_X6_tops (fun (x0 : Nat) (x1 : Nat) (x2 : Nat) (x3 : Int64) (x5 : Int32) (C : MC) (I : MI) (J : MJ) (R : MR) => ∃ m, m < n ∧ Q29 m K x0 x1 x2 x3 x5 C I J R) (fun (x0 : Nat) (x1 : Nat) (x2 : Nat) (x3 : Int64) (x5 : Int32) (x6 : Int32) (C : MC) (I : MI) (J : MJ) (R : MR) => ∃ m, m < n ∧ Q43 m K x0 x1 x2 x3 x5 x6 C I J R) (fun (x0 : Nat) (x1 : Nat) (x2 : Nat) (x3 : Int64) (x5 : Int32) (x6 : Int32) (x7 : Int64) (x9 : Int32) (C : MC) (I : MI) (J : MJ) (R : MR) => ∃ m, m < n ∧ Q56 m K x0 x1 x2 x3 x5 x6 x7 x9 C I J R) (fun (x1 : Nat) (x3 : Int64) (x5 : Int32) (C : MC) (I : MI) (J : MJ) (R : MR) => ∃ m, m < n ∧ Q112 m K x1 x3 x5 C I J R) K x0 x1 x2 x3 x5 x6 C I J R)
    (h56 : ∀ (n : Nat) (K : AK) (x0 : Nat) (x1 : Nat) (x2 : Nat) (x3 : Int64) (x5 : Int32) (x6 : Int32) (x7 : Int64) (x9 : Int32) (C : MC) (I : MI) (J : MJ) (R : MR), Q56 n K x0 x1 x2 x3 x5 x6 x7 x9 C I J R → PX6_bounds_56 F_X6_tops (fun (x0 : Nat) (x1 : Nat) (x2 : Nat) (x3 : Int64) (x5 : Int32) (C : MC) (I : MI) (J : MJ) (R : MR) => ∃ m, m < n ∧ Q29 m K x0 x1 x2 x3 x5 C I J R) (fun (x0 : Nat) (x1 : Nat) (x2 : Nat) (x3 : Int64) (x5 : Int32) (x6 : Int32) (C : MC) (I : MI) (J : MJ) (R : MR) => ∃ m, m < n ∧ Q43 m K x0 x1 x2 x3 x5 x6 C I J R) (fun (x0 : Nat) (x1 : Nat) (x2 : Nat) (x3 : Int64) (x5 : Int32) (x6 : Int32) (x7 : Int64) (x9 : Int32) (C : MC) (I : MI) (J : MJ) (R : MR) => ∃ m, m < n ∧ Q56 m K x0 x1 x2 x3 x5 x6 x7 x9 C I J R) (fun (x1 : Nat) (x3 : Int64) (x5 : Int32) (C : MC) (I : MI) (J : MJ) (R : MR) => ∃ m, m < n ∧ Q112 m K x1 x3 x5 C I J R) K x0 x1 x2 x3 x5 x6 x7 x9 C I J R)
    (h112 : ∀ (n : Nat) (K : AK) (x1 : Nat) (x3 : Int64) (x5 : Int32) (C : MC) (I : MI) (J : MJ) (R : MR), Q112 n K x1 x3 x5 C I J R → PX6_bounds_112 F_X6_tops (fun (x0 : Nat) (x1 : Nat) (x2 : Nat) (x3 : Int64) (x5 : Int32) (C : MC) (I : MI) (J : MJ) (R : MR) => ∃ m, m < n ∧ Q29 m K x0 x1 x2 x3 x5 C I J R) (fun (x0 : Nat) (x1 : Nat) (x2 : Nat) (x3 : Int64) (x5 : Int32) (x6 : Int32) (C : MC) (I : MI) (J : MJ) (R : MR) => ∃ m, m < n ∧ Q43 m K x0 x1 x2 x3 x5 x6 C I J R) (fun (x0 : Nat) (x1 : Nat) (x2 : Nat) (x3 : Int64) (x5 : Int32) (x6 : Int32) (x7 : Int64) (x9 : Int32) (C : MC) (I : MI) (J : MJ) (R : MR) => ∃ m, m < n ∧ Q56 m K x0 x1 x2 x3 x5 x6 x7 x9 C I J R) (fun (x1 : Nat) (x3 : Int64) (x5 : Int32) (C : MC) (I : MI) (J : MJ) (R : MR) => ∃ m, m < n ∧ Q112 m K x1 x3 x5 C I J R) K x1 x3 x5 C I J R) : SpX6_bounds l (d + 1) F := by
  refine Spec.of (by rfl) ?_
  intro Γ C I J R As Gd gl gr _ _ gb hF
  subst gl
  have G : Gb Γ yX6_bounds cX6_bounds 10 (some .long) [] (rmBo (d + 1)) bdX6_bounds := ⟨Gd, gr, gb⟩
  have key : ∀ n : Nat, (∀ (x0 : Nat) (x1 : Nat) (x2 : Nat) (x3 : Int64) (x5 : Int32) (C : MC) (I : MI) (J : MJ) (R : MR), Q29 n (gK Γ) x0 x1 x2 x3 x5 C I J R → AW Γ 0 0 C I J R 29 [(0, aR (some x0)), (1, aR (some x1)), (2, aR (some x2)), (3, aJ x3), (5, aI x5)] []) ∧ (∀ (x0 : Nat) (x1 : Nat) (x2 : Nat) (x3 : Int64) (x5 : Int32) (x6 : Int32) (C : MC) (I : MI) (J : MJ) (R : MR), Q43 n (gK Γ) x0 x1 x2 x3 x5 x6 C I J R → AW Γ 0 0 C I J R 43 [(0, aR (some x0)), (1, aR (some x1)), (2, aR (some x2)), (3, aJ x3), (5, aI x5), (6, aI x6)] []) ∧ (∀ (x0 : Nat) (x1 : Nat) (x2 : Nat) (x3 : Int64) (x5 : Int32) (x6 : Int32) (x7 : Int64) (x9 : Int32) (C : MC) (I : MI) (J : MJ) (R : MR), Q56 n (gK Γ) x0 x1 x2 x3 x5 x6 x7 x9 C I J R → AW Γ 0 0 C I J R 56 [(0, aR (some x0)), (1, aR (some x1)), (2, aR (some x2)), (3, aJ x3), (5, aI x5), (6, aI x6), (7, aJ x7), (9, aI x9)] []) ∧ (∀ (x1 : Nat) (x3 : Int64) (x5 : Int32) (C : MC) (I : MI) (J : MJ) (R : MR), Q112 n (gK Γ) x1 x3 x5 C I J R → AW Γ 0 0 C I J R 112 [(1, aR (some x1)), (3, aJ x3), (5, aI x5)] []) := by
    intro n
    induction n using Nat.strongRecOn with
    | ind n ih =>
    have w29 : ∀ (x0 : Nat) (x1 : Nat) (x2 : Nat) (x3 : Int64) (x5 : Int32) (C : MC) (I : MI) (J : MJ) (R : MR), (∃ m, m < n ∧ Q29 m (gK Γ) x0 x1 x2 x3 x5 C I J R) → AW Γ 0 0 C I J R 29 [(0, aR (some x0)), (1, aR (some x1)), (2, aR (some x2)), (3, aJ x3), (5, aI x5)] [] := fun x0 x1 x2 x3 x5 C I J R ⟨m, hm, hq⟩ => (ih m hm).1 x0 x1 x2 x3 x5 C I J R hq
    have w43 : ∀ (x0 : Nat) (x1 : Nat) (x2 : Nat) (x3 : Int64) (x5 : Int32) (x6 : Int32) (C : MC) (I : MI) (J : MJ) (R : MR), (∃ m, m < n ∧ Q43 m (gK Γ) x0 x1 x2 x3 x5 x6 C I J R) → AW Γ 0 0 C I J R 43 [(0, aR (some x0)), (1, aR (some x1)), (2, aR (some x2)), (3, aJ x3), (5, aI x5), (6, aI x6)] [] := fun x0 x1 x2 x3 x5 x6 C I J R ⟨m, hm, hq⟩ => (ih m hm).2.1 x0 x1 x2 x3 x5 x6 C I J R hq
    have w56 : ∀ (x0 : Nat) (x1 : Nat) (x2 : Nat) (x3 : Int64) (x5 : Int32) (x6 : Int32) (x7 : Int64) (x9 : Int32) (C : MC) (I : MI) (J : MJ) (R : MR), (∃ m, m < n ∧ Q56 m (gK Γ) x0 x1 x2 x3 x5 x6 x7 x9 C I J R) → AW Γ 0 0 C I J R 56 [(0, aR (some x0)), (1, aR (some x1)), (2, aR (some x2)), (3, aJ x3), (5, aI x5), (6, aI x6), (7, aJ x7), (9, aI x9)] [] := fun x0 x1 x2 x3 x5 x6 x7 x9 C I J R ⟨m, hm, hq⟩ => (ih m hm).2.2.1 x0 x1 x2 x3 x5 x6 x7 x9 C I J R hq
    have w112 : ∀ (x1 : Nat) (x3 : Int64) (x5 : Int32) (C : MC) (I : MI) (J : MJ) (R : MR), (∃ m, m < n ∧ Q112 m (gK Γ) x1 x3 x5 C I J R) → AW Γ 0 0 C I J R 112 [(1, aR (some x1)), (3, aJ x3), (5, aI x5)] [] := fun x1 x3 x5 C I J R ⟨m, hm, hq⟩ => (ih m hm).2.2.2 x1 x3 x5 C I J R hq
    exact ⟨fun x0 x1 x2 x3 x5 C I J R h => bX6_bounds_29 G w43 w112 (h29 n (gK Γ) x0 x1 x2 x3 x5 C I J R h), fun x0 x1 x2 x3 x5 x6 C I J R h => bX6_bounds_43 G w29 w56 (h43 n (gK Γ) x0 x1 x2 x3 x5 x6 C I J R h), fun x0 x1 x2 x3 x5 x6 x7 x9 C I J R h => bX6_bounds_56 G w43 w56 (h56 n (gK Γ) x0 x1 x2 x3 x5 x6 x7 x9 C I J R h), fun x1 x3 x5 C I J R h => bX6_bounds_112 G w112 (h112 n (gK Γ) x1 x3 x5 C I J R h)⟩
  have w29 : ∀ (x0 : Nat) (x1 : Nat) (x2 : Nat) (x3 : Int64) (x5 : Int32) (C : MC) (I : MI) (J : MJ) (R : MR), (∃ n, Q29 n (gK Γ) x0 x1 x2 x3 x5 C I J R) → AW Γ 0 0 C I J R 29 [(0, aR (some x0)), (1, aR (some x1)), (2, aR (some x2)), (3, aJ x3), (5, aI x5)] [] := fun x0 x1 x2 x3 x5 C I J R ⟨m, hq⟩ => (key m).1 x0 x1 x2 x3 x5 C I J R hq
  have w43 : ∀ (x0 : Nat) (x1 : Nat) (x2 : Nat) (x3 : Int64) (x5 : Int32) (x6 : Int32) (C : MC) (I : MI) (J : MJ) (R : MR), (∃ n, Q43 n (gK Γ) x0 x1 x2 x3 x5 x6 C I J R) → AW Γ 0 0 C I J R 43 [(0, aR (some x0)), (1, aR (some x1)), (2, aR (some x2)), (3, aJ x3), (5, aI x5), (6, aI x6)] [] := fun x0 x1 x2 x3 x5 x6 C I J R ⟨m, hq⟩ => (key m).2.1 x0 x1 x2 x3 x5 x6 C I J R hq
  have w56 : ∀ (x0 : Nat) (x1 : Nat) (x2 : Nat) (x3 : Int64) (x5 : Int32) (x6 : Int32) (x7 : Int64) (x9 : Int32) (C : MC) (I : MI) (J : MJ) (R : MR), (∃ n, Q56 n (gK Γ) x0 x1 x2 x3 x5 x6 x7 x9 C I J R) → AW Γ 0 0 C I J R 56 [(0, aR (some x0)), (1, aR (some x1)), (2, aR (some x2)), (3, aJ x3), (5, aI x5), (6, aI x6), (7, aJ x7), (9, aI x9)] [] := fun x0 x1 x2 x3 x5 x6 x7 x9 C I J R ⟨m, hq⟩ => (key m).2.2.1 x0 x1 x2 x3 x5 x6 x7 x9 C I J R hq
  have w112 : ∀ (x1 : Nat) (x3 : Int64) (x5 : Int32) (C : MC) (I : MI) (J : MJ) (R : MR), (∃ n, Q112 n (gK Γ) x1 x3 x5 C I J R) → AW Γ 0 0 C I J R 112 [(1, aR (some x1)), (3, aJ x3), (5, aI x5)] [] := fun x1 x3 x5 C I J R ⟨m, hq⟩ => (key m).2.2.2 x1 x3 x5 C I J R hq
  obtain ⟨x0, x1, rfl, h⟩ := h0 As C I J R (gK Γ) hF
  exact ⟨Nat.le_of_ble_eq_true rfl, bX6_bounds_0 G S_X6_tops w29 h⟩
def PX7_init_0 (F_X6_init : SPF) (K : AK) (x0 : Nat) (x1 : Int32) (x2 : Nat) (C : MC) (I : MI) (J : MJ) (R : MR) : Prop :=
      F_X6_init [aR (some x0), aR (some x2)] C I J R (fun o C1 I2 J3 R4 =>
      o = .inl none ∧
      (C1 x0).1 = 7 ∧
      ∀ I7 : MI, I7 = va_up I2 x0 (va_up (I2 x0) 8 x1) →
      (20 ≤ (C1 x2).1 ∧ (C1 x2).1 ≤ 30) ∧
      ¬ (nI (C1 x2).2) < 0 ∧
      (nI (C1 x2).2).toNatClampNeg ≤ 4 ∧
      ∃ q9 : Nat, (C1 q9).1 = 0 ∧
      ∀ (C13 : MC) (I14 : MI) (J15 : MJ) (R16 : MR), C13 = va_up C1 q9 (27, (nI (C1 x2).2).toNatClampNeg) → I14 = va_up I7 q9 (fun _ => 0) → J15 = va_up J3 q9 (fun _ => 0) → R16 = va_up R4 q9 (fun _ => none) → 
      (C13 x0).1 = 7 ∧
      ∀ R18 : MR, R18 = va_up R16 x0 (va_up (R16 x0) 9 (some q9)) →
      (20 ≤ (C13 x2).1 ∧ (C13 x2).1 ≤ 30) ∧
      ¬ (nI (C13 x2).2) < 0 ∧
      (nI (C13 x2).2).toNatClampNeg ≤ 4 ∧
      ∃ q20 : Nat, (C13 q20).1 = 0 ∧
      ∀ (C24 : MC) (I25 : MI) (J26 : MJ) (R27 : MR), C24 = va_up C13 q20 (21, (nI (C13 x2).2).toNatClampNeg) → I25 = va_up I14 q20 (fun _ => 0) → J26 = va_up J15 q20 (fun _ => 0) → R27 = va_up R18 q20 (fun _ => none) → 
      (C24 x0).1 = 7 ∧
      ∀ R29 : MR, R29 = va_up R27 x0 (va_up (R27 x0) 10 (some q20)) →
      (20 ≤ (C24 x2).1 ∧ (C24 x2).1 ≤ 30) ∧
      ¬ (nI (C24 x2).2) < 0 ∧
      (nI (C24 x2).2).toNatClampNeg ≤ 4 ∧
      ∃ q31 : Nat, (C24 q31).1 = 0 ∧
      ∀ (C35 : MC) (I36 : MI) (J37 : MJ) (R38 : MR), C35 = va_up C24 q31 (21, (nI (C24 x2).2).toNatClampNeg) → I36 = va_up I25 q31 (fun _ => 0) → J37 = va_up J26 q31 (fun _ => 0) → R38 = va_up R29 q31 (fun _ => none) → 
      (C35 x0).1 = 7 ∧
      ∀ R40 : MR, R40 = va_up R38 x0 (va_up (R38 x0) 11 (some q31)) →
      K (.inl none) C35 I36 J37 R40)
theorem wX7_init {l : Launch}  {F_X6_init : SPF} (S_X6_init : SpX6_init l F_X6_init) {F : SPF}
    (h0 : ∀ (As : List AV) (C : MC) (I : MI) (J : MJ) (R : MR) (K : AK), F As C I J R K → ∃ (x0 : Nat) (x1 : Int32) (x2 : Nat), As = [aR (some x0), aI x1, aR (some x2)] ∧ PX7_init_0 F_X6_init K x0 x1 x2 C I J R) : SpX7_init l F := by
  refine Spec.of (by rfl) ?_
  intro Γ C I J R As Gd gl gr _ _ gb hF
  subst gl
  have G : Gb Γ yX7_init cX7_init 3 (none) [] rmX7_init bdX7_init := ⟨Gd, gr, gb⟩
  obtain ⟨x0, x1, x2, rfl, h⟩ := h0 As C I J R (gK Γ) hF
  exact ⟨Nat.le_of_ble_eq_true rfl, bX7_init_0 G S_X6_init h⟩
def PX7_kind_0 (K : AK) (x0 : Nat) (C : MC) (I : MI) (J : MJ) (R : MR) : Prop :=
      K (.inl (some (aI (2 : Int32)))) C I J R
theorem wX7_kind {l : Launch}  {F : SPF}
    (h0 : ∀ (As : List AV) (C : MC) (I : MI) (J : MJ) (R : MR) (K : AK), F As C I J R K → ∃ (x0 : Nat), As = [aR (some x0)] ∧ PX7_kind_0 K x0 C I J R) : SpX7_kind l F := by
  refine Spec.of (by rfl) ?_
  intro Γ C I J R As Gd gl gr _ _ gb hF
  subst gl
  have G : Gb Γ yX7_kind cX7_kind 1 (some .int) [] rmX7_kind bdX7_kind := ⟨Gd, gr, gb⟩
  obtain ⟨x0, rfl, h⟩ := h0 As C I J R (gK Γ) hF
  exact ⟨Nat.le_of_ble_eq_true rfl, bX7_kind_0 G h⟩
def PX7_table_303 (F_X3_anew : SPF) (F_Vtable : SPF) (F_X0_times : SPF) (F_X3_less : SPF) (F_J8_bitCount : SPF) (Q17 : Nat → Int32 → Nat → Int32 → MC → MI → MJ → MR → Prop) (Q85 : Nat → Int32 → Nat → Int64 → Int64 → Int32 → MC → MI → MJ → MR → Prop) (Q95 : Nat → Int32 → Nat → Int64 → Int64 → Int32 → Int32 → MC → MI → MJ → MR → Prop) (Q162 : Nat → Int32 → Nat → Int64 → Int64 → Int32 → Int64 → Int64 → Int32 → MC → MI → MJ → MR → Prop) (Q179 : Nat → Int32 → Nat → Int64 → Int64 → Int32 → Int64 → Int64 → Int32 → Int64 → Int64 → Int32 → MC → MI → MJ → MR → Prop) (K : AK) (x0 : Nat) (x1 : Int32) (x2 : Nat) (x3 : Int64) (x5 : Int64) (x7 : Int32) (x8 : Int64) (x10 : Int64) (x12 : Int32) (C : MC) (I : MI) (J : MJ) (R : MR) : Prop :=
      Q162 x0 x1 x2 x3 x5 x7 x8 x10 (x12 + 1) C I J R
def PX7_table_265 (F_X3_anew : SPF) (F_Vtable : SPF) (F_X0_times : SPF) (F_X3_less : SPF) (F_J8_bitCount : SPF) (Q17 : Nat → Int32 → Nat → Int32 → MC → MI → MJ → MR → Prop) (Q85 : Nat → Int32 → Nat → Int64 → Int64 → Int32 → MC → MI → MJ → MR → Prop) (Q95 : Nat → Int32 → Nat → Int64 → Int64 → Int32 → Int32 → MC → MI → MJ → MR → Prop) (Q162 : Nat → Int32 → Nat → Int64 → Int64 → Int32 → Int64 → Int64 → Int32 → MC → MI → MJ → MR → Prop) (Q179 : Nat → Int32 → Nat → Int64 → Int64 → Int32 → Int64 → Int64 → Int32 → Int64 → Int64 → Int32 → MC → MI → MJ → MR → Prop) (K : AK) (x0 : Nat) (x1 : Int32) (x2 : Nat) (x3 : Int64) (x5 : Int64) (x7 : Int32) (x8 : Int64) (x10 : Int64) (x12 : Int32) (x13 : Int64) (x17 : Int32) (s0 : Int64) (s1 : Int64) (C : MC) (I : MI) (J : MJ) (R : MR) : Prop :=
      Q179 x0 x1 x2 x3 x5 x7 x8 x10 x12 x13 (s0 * s1) (x17 + 1) C I J R
def PX7_table_238 (F_X3_anew : SPF) (F_Vtable : SPF) (F_X0_times : SPF) (F_X3_less : SPF) (F_J8_bitCount : SPF) (Q17 : Nat → Int32 → Nat → Int32 → MC → MI → MJ → MR → Prop) (Q85 : Nat → Int32 → Nat → Int64 → Int64 → Int32 → MC → MI → MJ → MR → Prop) (Q95 : Nat → Int32 → Nat → Int64 → Int64 → Int32 → Int32 → MC → MI → MJ → MR → Prop) (Q162 : Nat → Int32 → Nat → Int64 → Int64 → Int32 → Int64 → Int64 → Int32 → MC → MI → MJ → MR → Prop) (Q179 : Nat → Int32 → Nat → Int64 → Int64 → Int32 → Int64 → Int64 → Int32 → Int64 → Int64 → Int32 → MC → MI → MJ → MR → Prop) (K : AK) (x0 : Nat) (x1 : Int32) (x2 : Nat) (x3 : Int64) (x5 : Int64) (x7 : Int32) (x8 : Int64) (x10 : Int64) (x12 : Int32) (x15 : Int64) (x17 : Int32) (x18 : Int32) (s0 : Int64) (s1 : Int64) (C : MC) (I : MI) (J : MJ) (R : MR) : Prop :=
      ((x18 = 0 →
      (C x0).1 = 7 ∧
      ∃ q3 : Nat, R x0 11 = some q3 ∧
      (C q3).1 = 21 ∧
      vp_in x17 (C q3).2 ∧
      PX7_table_265 F_X3_anew F_Vtable F_X0_times F_X3_less F_J8_bitCount Q17 Q85 Q95 Q162 Q179 K x0 x1 x2 x3 x5 x7 x8 x10 x12 (s0 * s1) x17 x15 (J q3 x17.toNatClampNeg) C I J R) ∧
      (¬ x18 = 0 →
      (C x0).1 = 7 ∧
      ∃ q7 : Nat, R x0 10 = some q7 ∧
      (C q7).1 = 21 ∧
      vp_in x17 (C q7).2 ∧
      PX7_table_265 F_X3_anew F_Vtable F_X0_times F_X3_less F_J8_bitCount Q17 Q85 Q95 Q162 Q179 K x0 x1 x2 x3 x5 x7 x8 x10 x12 (s0 * s1) x17 x15 (J q7 x17.toNatClampNeg) C I J R))
def PX7_table_201 (F_X3_anew : SPF) (F_Vtable : SPF) (F_X0_times : SPF) (F_X3_less : SPF) (F_J8_bitCount : SPF) (Q17 : Nat → Int32 → Nat → Int32 → MC → MI → MJ → MR → Prop) (Q85 : Nat → Int32 → Nat → Int64 → Int64 → Int32 → MC → MI → MJ → MR → Prop) (Q95 : Nat → Int32 → Nat → Int64 → Int64 → Int32 → Int32 → MC → MI → MJ → MR → Prop) (Q162 : Nat → Int32 → Nat → Int64 → Int64 → Int32 → Int64 → Int64 → Int32 → MC → MI → MJ → MR → Prop) (Q179 : Nat → Int32 → Nat → Int64 → Int64 → Int32 → Int64 → Int64 → Int32 → Int64 → Int64 → Int32 → MC → MI → MJ → MR → Prop) (K : AK) (x0 : Nat) (x1 : Int32) (x2 : Nat) (x3 : Int64) (x5 : Int64) (x7 : Int32) (x8 : Int64) (x10 : Int64) (x12 : Int32) (x13 : Int64) (x15 : Int64) (x17 : Int32) (s0 : Int32) (C : MC) (I : MI) (J : MJ) (R : MR) : Prop :=
      ((s0 = 0 →
      (C x0).1 = 7 ∧
      ∃ q3 : Nat, R x0 9 = some q3 ∧
      (25 ≤ (C q3).1 ∧ (C q3).1 < 30) ∧
      vp_in x17 (C q3).2 ∧
      ∃ q6 : Nat, R q3 x17.toNatClampNeg = some q6 ∧
      (C q6).1 = 4 ∧
      ∃ q8 : Nat, R x0 10 = some q8 ∧
      (C q8).1 = 21 ∧
      vp_in x17 (C q8).2 ∧
      PX7_table_238 F_X3_anew F_Vtable F_X0_times F_X3_less F_J8_bitCount Q17 Q85 Q95 Q162 Q179 K x0 x1 x2 x3 x5 x7 x8 x10 x12 x15 x17 s0 x13 ((J q6 2) - (J q8 x17.toNatClampNeg)) C I J R) ∧
      (¬ s0 = 0 →
      (C x0).1 = 7 ∧
      ∃ q12 : Nat, R x0 10 = some q12 ∧
      (C q12).1 = 21 ∧
      vp_in x17 (C q12).2 ∧
      PX7_table_238 F_X3_anew F_Vtable F_X0_times F_X3_less F_J8_bitCount Q17 Q85 Q95 Q162 Q179 K x0 x1 x2 x3 x5 x7 x8 x10 x12 x15 x17 s0 x13 (J q12 x17.toNatClampNeg) C I J R))
def PX7_table_179 (F_X3_anew : SPF) (F_Vtable : SPF) (F_X0_times : SPF) (F_X3_less : SPF) (F_J8_bitCount : SPF) (Q17 : Nat → Int32 → Nat → Int32 → MC → MI → MJ → MR → Prop) (Q85 : Nat → Int32 → Nat → Int64 → Int64 → Int32 → MC → MI → MJ → MR → Prop) (Q95 : Nat → Int32 → Nat → Int64 → Int64 → Int32 → Int32 → MC → MI → MJ → MR → Prop) (Q162 : Nat → Int32 → Nat → Int64 → Int64 → Int32 → Int64 → Int64 → Int32 → MC → MI → MJ → MR → Prop) (Q179 : Nat → Int32 → Nat → Int64 → Int64 → Int32 → Int64 → Int64 → Int32 → Int64 → Int64 → Int32 → MC → MI → MJ → MR → Prop) (K : AK) (x0 : Nat) (x1 : Int32) (x2 : Nat) (x3 : Int64) (x5 : Int64) (x7 : Int32) (x8 : Int64) (x10 : Int64) (x12 : Int32) (x13 : Int64) (x15 : Int64) (x17 : Int32) (C : MC) (I : MI) (J : MJ) (R : MR) : Prop :=
      ((x1 ≤ x17 →
      F_J8_bitCount [aI x12] C I J R (fun o C2 I3 J4 R5 =>
      ∃ r6 : Int32, o = .inl (some (aI r6)) ∧
      (C2 x0).1 = 7 ∧
      ((r6 < (I3 x0 8) →
      PX7_table_303 F_X3_anew F_Vtable F_X0_times F_X3_less F_J8_bitCount Q17 Q85 Q95 Q162 Q179 K x0 x1 x2 x3 x5 x7 x8 (x10 + x15) x12 C2 I3 J4 R5) ∧
      (¬ r6 < (I3 x0 8) →
      PX7_table_303 F_X3_anew F_Vtable F_X0_times F_X3_less F_J8_bitCount Q17 Q85 Q95 Q162 Q179 K x0 x1 x2 x3 x5 x7 (x8 + x13) x10 x12 C2 I3 J4 R5)))) ∧
      (¬ x1 ≤ x17 →
      ((¬ ((x12 >>> (x17 &&& 31)) &&& (1 : Int32)) = (1 : Int32) →
      PX7_table_201 F_X3_anew F_Vtable F_X0_times F_X3_less F_J8_bitCount Q17 Q85 Q95 Q162 Q179 K x0 x1 x2 x3 x5 x7 x8 x10 x12 x13 x15 x17 (0 : Int32) C I J R) ∧
      (((x12 >>> (x17 &&& 31)) &&& (1 : Int32)) = (1 : Int32) →
      PX7_table_201 F_X3_anew F_Vtable F_X0_times F_X3_less F_J8_bitCount Q17 Q85 Q95 Q162 Q179 K x0 x1 x2 x3 x5 x7 x8 x10 x12 x13 x15 x17 (1 : Int32) C I J R))))
def PX7_table_162 (F_X3_anew : SPF) (F_Vtable : SPF) (F_X0_times : SPF) (F_X3_less : SPF) (F_J8_bitCount : SPF) (Q17 : Nat → Int32 → Nat → Int32 → MC → MI → MJ → MR → Prop) (Q85 : Nat → Int32 → Nat → Int64 → Int64 → Int32 → MC → MI → MJ → MR → Prop) (Q95 : Nat → Int32 → Nat → Int64 → Int64 → Int32 → Int32 → MC → MI → MJ → MR → Prop) (Q162 : Nat → Int32 → Nat → Int64 → Int64 → Int32 → Int64 → Int64 → Int32 → MC → MI → MJ → MR → Prop) (Q179 : Nat → Int32 → Nat → Int64 → Int64 → Int32 → Int64 → Int64 → Int32 → Int64 → Int64 → Int32 → MC → MI → MJ → MR → Prop) (K : AK) (x0 : Nat) (x1 : Int32) (x2 : Nat) (x3 : Int64) (x5 : Int64) (x7 : Int32) (x8 : Int64) (x10 : Int64) (x12 : Int32) (C : MC) (I : MI) (J : MJ) (R : MR) : Prop :=
      ((((1 : Int32) <<< (x1 &&& 31)) ≤ x12 →
      (C x2).1 = 4 ∧
      ∃ q3 : Nat, R x2 0 = some q3 ∧
      (C q3).1 = 21 ∧
      vp_in x7 (C q3).2 ∧
      ∀ J6 : MJ, J6 = va_up J q3 (va_up (J q3) x7.toNatClampNeg (x8 - x3)) →
      ∃ q7 : Nat, R x2 1 = some q7 ∧
      (C q7).1 = 21 ∧
      vp_in x7 (C q7).2 ∧
      ∀ J10 : MJ, J10 = va_up J6 q7 (va_up (J6 q7) x7.toNatClampNeg (x10 - x5)) →
      Q85 x0 x1 x2 x8 x10 (x7 + 1) C I J10 R) ∧
      (¬ ((1 : Int32) <<< (x1 &&& 31)) ≤ x12 →
      Q179 x0 x1 x2 x3 x5 x7 x8 x10 x12 (1 : Int64) (1 : Int64) (0 : Int32) C I J R))
def PX7_table_95 (F_X3_anew : SPF) (F_Vtable : SPF) (F_X0_times : SPF) (F_X3_less : SPF) (F_J8_bitCount : SPF) (Q17 : Nat → Int32 → Nat → Int32 → MC → MI → MJ → MR → Prop) (Q85 : Nat → Int32 → Nat → Int64 → Int64 → Int32 → MC → MI → MJ → MR → Prop) (Q95 : Nat → Int32 → Nat → Int64 → Int64 → Int32 → Int32 → MC → MI → MJ → MR → Prop) (Q162 : Nat → Int32 → Nat → Int64 → Int64 → Int32 → Int64 → Int64 → Int32 → MC → MI → MJ → MR → Prop) (Q179 : Nat → Int32 → Nat → Int64 → Int64 → Int32 → Int64 → Int64 → Int32 → Int64 → Int64 → Int32 → MC → MI → MJ → MR → Prop) (K : AK) (x0 : Nat) (x1 : Int32) (x2 : Nat) (x3 : Int64) (x5 : Int64) (x7 : Int32) (x8 : Int32) (C : MC) (I : MI) (J : MJ) (R : MR) : Prop :=
      ((x1 ≤ x8 →
      Q162 x0 x1 x2 x3 x5 x7 (0 : Int64) (0 : Int64) (0 : Int32) C I J R) ∧
      (¬ x1 ≤ x8 →
      (C x0).1 = 7 ∧
      ∃ q3 : Nat, R x0 10 = some q3 ∧
      (C q3).1 = 21 ∧
      vp_in x8 (C q3).2 ∧
      ∃ q6 : Nat, R x0 9 = some q6 ∧
      (25 ≤ (C q6).1 ∧ (C q6).1 < 30) ∧
      vp_in x8 (C q6).2 ∧
      ∃ q9 : Nat, R q6 x8.toNatClampNeg = some q9 ∧
      (C q9).1 = 4 ∧
      ∃ q11 : Nat, R q9 0 = some q11 ∧
      (C q11).1 = 21 ∧
      vp_in x7 (C q11).2 ∧
      ∀ J14 : MJ, J14 = va_up J q3 (va_up (J q3) x8.toNatClampNeg ((J q3 x8.toNatClampNeg) + (J q11 x7.toNatClampNeg))) →
      ∃ q15 : Nat, R x0 11 = some q15 ∧
      (C q15).1 = 21 ∧
      vp_in x8 (C q15).2 ∧
      ∃ q18 : Nat, R q9 1 = some q18 ∧
      (C q18).1 = 21 ∧
      vp_in x7 (C q18).2 ∧
      ∀ J21 : MJ, J21 = va_up J14 q15 (va_up (J14 q15) x8.toNatClampNeg ((J14 q15 x8.toNatClampNeg) + (J14 q18 x7.toNatClampNeg))) →
      Q95 x0 x1 x2 x3 x5 x7 (x8 + 1) C I J21 R))
def PX7_table_85 (F_X3_anew : SPF) (F_Vtable : SPF) (F_X0_times : SPF) (F_X3_less : SPF) (F_J8_bitCount : SPF) (Q17 : Nat → Int32 → Nat → Int32 → MC → MI → MJ → MR → Prop) (Q85 : Nat → Int32 → Nat → Int64 → Int64 → Int32 → MC → MI → MJ → MR → Prop) (Q95 : Nat → Int32 → Nat → Int64 → Int64 → Int32 → Int32 → MC → MI → MJ → MR → Prop) (Q162 : Nat → Int32 → Nat → Int64 → Int64 → Int32 → Int64 → Int64 → Int32 → MC → MI → MJ → MR → Prop) (Q179 : Nat → Int32 → Nat → Int64 → Int64 → Int32 → Int64 → Int64 → Int32 → Int64 → Int64 → Int32 → MC → MI → MJ → MR → Prop) (K : AK) (x0 : Nat) (x1 : Int32) (x2 : Nat) (x3 : Int64) (x5 : Int64) (x7 : Int32) (C : MC) (I : MI) (J : MJ) (R : MR) : Prop :=
      (((120 : Int32) < x7 →
      (C x2).1 = 4 ∧
      F_X3_less [aR (some x2)] C I J R (fun o C3 I4 J5 R6 =>
      ∃ r7 : Nat, o = .inl (some (aR (some r7))) ∧
      K (.inl (some (aR (some r7)))) C3 I4 J5 R6)) ∧
      (¬ (120 : Int32) < x7 →
      Q95 x0 x1 x2 x3 x5 x7 (0 : Int32) C I J R))
def PX7_table_17 (F_X3_anew : SPF) (F_Vtable : SPF) (F_X0_times : SPF) (F_X3_less : SPF) (F_J8_bitCount : SPF) (Q17 : Nat → Int32 → Nat → Int32 → MC → MI → MJ → MR → Prop) (Q85 : Nat → Int32 → Nat → Int64 → Int64 → Int32 → MC → MI → MJ → MR → Prop) (Q95 : Nat → Int32 → Nat → Int64 → Int64 → Int32 → Int32 → MC → MI → MJ → MR → Prop) (Q162 : Nat → Int32 → Nat → Int64 → Int64 → Int32 → Int64 → Int64 → Int32 → MC → MI → MJ → MR → Prop) (Q179 : Nat → Int32 → Nat → Int64 → Int64 → Int32 → Int64 → Int64 → Int32 → Int64 → Int64 → Int32 → MC → MI → MJ → MR → Prop) (K : AK) (x0 : Nat) (x1 : Int32) (x2 : Nat) (x3 : Int32) (C : MC) (I : MI) (J : MJ) (R : MR) : Prop :=
      ((x1 ≤ x3 →
      Q85 x0 x1 x2 (0 : Int64) (0 : Int64) (0 : Int32) C I J R) ∧
      (¬ x1 ≤ x3 →
      (C x0).1 = 7 ∧
      ∃ q3 : Nat, R x0 0 = some q3 ∧
      (25 ≤ (C q3).1 ∧ (C q3).1 < 30) ∧
      vp_in x3 (C q3).2 ∧
      ∃ q6 : Nat, R q3 x3.toNatClampNeg = some q6 ∧
      kTh (C q6).1 ∧
      F_Vtable [aR (some q6)] C I J R (fun o C8 I9 J10 R11 =>
      (∃ r12 : Nat, o = .inl (some (aR (some r12))) ∧
      ∃ q13 : Nat, R x0 9 = some q13 ∧
      (25 ≤ (C8 q13).1 ∧ (C8 q13).1 < 29) ∧
      kFit (C8 q13).1 (C8 r12).1 ∧
      vp_in x3 (C8 q13).2 ∧
      ∀ R17 : MR, R17 = va_up R11 q13 (va_up (R11 q13) x3.toNatClampNeg (some r12)) →
      (C8 x2).1 = 4 ∧
      (C8 x0).1 = 7 ∧
      ∃ q20 : Nat, R17 x0 9 = some q20 ∧
      (25 ≤ (C8 q20).1 ∧ (C8 q20).1 < 30) ∧
      vp_in x3 (C8 q20).2 ∧
      ∃ q23 : Nat, R17 q20 x3.toNatClampNeg = some q23 ∧
      (C8 q23).1 = 4 ∧
      F_X0_times [aJ (J10 x2 2), aJ (J10 q23 2)] C8 I9 J10 R17 (fun o C25 I26 J27 R28 =>
      (∃ r29 : Int64, o = .inl (some (aJ r29)) ∧
      (C25 x2).1 = 4 ∧
      ∀ J31 : MJ, J31 = va_up J27 x2 (va_up (J27 x2) 2 r29) →
      (C25 x0).1 = 7 ∧
      ∃ q33 : Nat, R28 x0 10 = some q33 ∧
      (C25 q33).1 = 21 ∧
      vp_in x3 (C25 q33).2 ∧
      ∀ J36 : MJ, J36 = va_up J31 q33 (va_up (J31 q33) x3.toNatClampNeg (0 : Int64)) →
      ∃ q37 : Nat, R28 x0 11 = some q37 ∧
      (C25 q37).1 = 21 ∧
      vp_in x3 (C25 q37).2 ∧
      ∀ J40 : MJ, J40 = va_up J36 q37 (va_up (J36 q37) x3.toNatClampNeg (0 : Int64)) →
      Q17 x0 x1 x2 (x3 + 1) C25 I26 J40 R28) ∨
      (∃ q41 : Nat, o = .inr q41 ∧
      ((C25 q41).1 = 11 ∧
      K (.inr q41) C25 I26 J27 R28)))) ∨
      (∃ q43 : Nat, o = .inr q43 ∧
      ((C8 q43).1 = 11 ∧
      K (.inr q43) C8 I9 J10 R11)))))
def PX7_table_0 (F_X3_anew : SPF) (F_Vtable : SPF) (F_X0_times : SPF) (F_X3_less : SPF) (F_J8_bitCount : SPF) (Q17 : Nat → Int32 → Nat → Int32 → MC → MI → MJ → MR → Prop) (Q85 : Nat → Int32 → Nat → Int64 → Int64 → Int32 → MC → MI → MJ → MR → Prop) (Q95 : Nat → Int32 → Nat → Int64 → Int64 → Int32 → Int32 → MC → MI → MJ → MR → Prop) (Q162 : Nat → Int32 → Nat → Int64 → Int64 → Int32 → Int64 → Int64 → Int32 → MC → MI → MJ → MR → Prop) (Q179 : Nat → Int32 → Nat → Int64 → Int64 → Int32 → Int64 → Int64 → Int32 → Int64 → Int64 → Int32 → MC → MI → MJ → MR → Prop) (K : AK) (x0 : Nat) (C : MC) (I : MI) (J : MJ) (R : MR) : Prop :=
      (C x0).1 = 7 ∧
      ∃ q2 : Nat, R x0 0 = some q2 ∧
      (20 ≤ (C q2).1 ∧ (C q2).1 ≤ 30) ∧
      ∃ q4 : Nat, R x0 1 = some q4 ∧
      (C q4).1 = 4 ∧
      F_X3_anew [aR (some q4), aJ (1 : Int64)] C I J R (fun o C6 I7 J8 R9 =>
      ∃ r10 : Nat, o = .inl (some (aR (some r10))) ∧
      Q17 x0 (nI (C q2).2) r10 (0 : Int32) C6 I7 J8 R9)
theorem wX7_table {l : Launch} {d : Nat}  {F_X3_anew : SPF} (S_X3_anew : SpX3_anew l F_X3_anew) {F_Vtable : SPF} (S_Vtable : SpVtable l d F_Vtable) {F_X0_times : SPF} (S_X0_times : SpX0_times l F_X0_times) {F_X3_less : SPF} (S_X3_less : SpX3_less l F_X3_less) {F_J8_bitCount : SPF} (S_J8_bitCount : SpJ8_bitCount l F_J8_bitCount)
    (Q17 : Nat → AK → Nat → Int32 → Nat → Int32 → MC → MI → MJ → MR → Prop)
    (Q85 : Nat → AK → Nat → Int32 → Nat → Int64 → Int64 → Int32 → MC → MI → MJ → MR → Prop)
    (Q95 : Nat → AK → Nat → Int32 → Nat → Int64 → Int64 → Int32 → Int32 → MC → MI → MJ → MR → Prop)
    (Q162 : Nat → AK → Nat → Int32 → Nat → Int64 → Int64 → Int32 → Int64 → Int64 → Int32 → MC → MI → MJ → MR → Prop)
    (Q179 : Nat → AK → Nat → Int32 → Nat → Int64 → Int64 → Int32 → Int64 → Int64 → Int32 → Int64 → Int64 → Int32 → MC → MI → MJ → MR → Prop) {F : SPF}
    (h0 : ∀ (As : List AV) (C : MC) (I : MI) (J : MJ) (R : MR) (K : AK), F As C I J R K → ∃ (x0 : Nat), As = [aR (some x0)] ∧ PX7_table_0 F_X3_anew F_Vtable F_X0_times F_X3_less F_J8_bitCount (fun (x0 : Nat) (x1 : Int32) (x2 : Nat) (x3 : Int32) (C : MC) (I : MI) (J : MJ) (R : MR) => ∃ n, Q17 n K x0 x1 x2 x3 C I J R) (fun (x0 : Nat) (x1 : Int32) (x2 : Nat) (x3 : Int64) (x5 : Int64) (x7 : Int32) (C : MC) (I : MI) (J : MJ) (R : MR) => ∃ n, Q85 n K x0 x1 x2 x3 x5 x7 C I J R) (fun (x0 : Nat) (x1 : Int32) (x2 : Nat) (x3 : Int64) (x5 : Int64) (x7 : Int32) (x8 : Int32) (C : MC) (I : MI) (J : MJ) (R : MR) => ∃ n, Q95 n K x0 x1 x2 x3 x5 x7 x8 C I J R) (fun (x0 : Nat) (x1 : Int32) (x2 : Nat) (x3 : Int64) (x5 : Int64) (x7 : Int32) (x8 : Int64) (x10 : Int64) (x12 : Int32) (C : MC) (I : MI) (J : MJ) (R : MR) => ∃ n, Q162 n K x0 x1 x2 x3 x5 x7 x8 x10 x12 C I J R) (fun (x0 : Nat) (x1 : Int32) (x2 : Nat) (x3 : Int64) (x5 : Int64) (x7 : Int32) (x8 : Int64) (x10 : Int64) (x12 : Int32) (x13 : Int64) (x15 : Int64) (x17 : Int32) (C : MC) (I : MI) (J : MJ) (R : MR) => ∃ n, Q179 n K x0 x1 x2 x3 x5 x7 x8 x10 x12 x13 x15 x17 C I J R) K x0 C I J R)
    (h17 : ∀ (n : Nat) (K : AK) (x0 : Nat) (x1 : Int32) (x2 : Nat) (x3 : Int32) (C : MC) (I : MI) (J : MJ) (R : MR), Q17 n K x0 x1 x2 x3 C I J R → PX7_table_17 F_X3_anew F_Vtable F_X0_times F_X3_less F_J8_bitCount (fun (x0 : Nat) (x1 : Int32) (x2 : Nat) (x3 : Int32) (C : MC) (I : MI) (J : MJ) (R : MR) => ∃ m, m < n ∧ Q17 m K x0 x1 x2 x3 C I J R) (fun (x0 : Nat) (x1 : Int32) (x2 : Nat) (x3 : Int64) (x5 : Int64) (x7 : Int32) (C : MC) (I : MI) (J : MJ) (R : MR) => ∃ m, m < n ∧ Q85 m K x0 x1 x2 x3 x5 x7 C I J R) (fun (x0 : Nat) (x1 : Int32) (x2 : Nat) (x3 : Int64) (x5 : Int64) (x7 : Int32) (x8 : Int32) (C : MC) (I : MI) (J : MJ) (R : MR) => ∃ m, m < n ∧ Q95 m K x0 x1 x2 x3 x5 x7 x8 C I J R) (fun (x0 : Nat) (x1 : Int32) (x2 : Nat) (x3 : Int64) (x5 : Int64) (x7 : Int32) (x8 : Int64) (x10 : Int64) (x12 : Int32) (C : MC) (I : MI) (J : MJ) (R : MR) => ∃ m, m < n ∧ Q162 m K x0 x1 x2 x3 x5 x7 x8 x10 x12 C I J R) (fun (x0 : Nat) (x1 : Int32) (x2 : Nat) (x3 : Int64) (x5 : Int64) (x7 : Int32) (x8 : Int64) (x10 : Int64) (x12 : Int32) (x13 : Int64) (x15 : Int64) (x17 : Int32) (C : MC) (I : MI) (J : MJ) (R : MR) => ∃ m, m < n ∧ Q179 m K x0 x1 x2 x3 x5 x7 x8 x10 x12 x13 x15 x17 C I J R) K x0 x1 x2 x3 C I J R)
    (h85 : ∀ (n : Nat) (K : AK) (x0 : Nat) (x1 : Int32) (x2 : Nat) (x3 : Int64) (x5 : Int64) (x7 : Int32) (C : MC) (I : MI) (J : MJ) (R : MR), Q85 n K x0 x1 x2 x3 x5 x7 C I J R → PX7_table_85 F_X3_anew F_Vtable F_X0_times F_X3_less F_J8_bitCount (fun (x0 : Nat) (x1 : Int32) (x2 : Nat) (x3 : Int32) (C : MC) (I : MI) (J : MJ) (R : MR) => ∃ m, m < n ∧ Q17 m K x0 x1 x2 x3 C I J R) (fun (x0 : Nat) (x1 : Int32) (x2 : Nat) (x3 : Int64) (x5 : Int64) (x7 : Int32) (C : MC) (I : MI) (J : MJ) (R : MR) => ∃ m, m < n ∧ Q85 m K x0 x1 x2 x3 x5 x7 C I J R) (fun (x0 : Nat) (x1 : Int32) (x2 : Nat) (x3 : Int64) (x5 : Int64) (x7 : Int32) (x8 : Int32) (C : MC) (I : MI) (J : MJ) (R : MR) => ∃ m, m < n ∧ Q95 m K x0 x1 x2 x3 x5 x7 x8 C I J R) (fun (x0 : Nat) (x1 : Int32) (x2 : Nat) (x3 : Int64) (x5 : Int64) (x7 : Int32) (x8 : Int64) (x10 : Int64) (x12 : Int32) (C : MC) (I : MI) (J : MJ) (R : MR) => ∃ m, m < n ∧ Q162 m K x0 x1 x2 x3 x5 x7 x8 x10 x12 C I J R) (fun (x0 : Nat) (x1 : Int32) (x2 : Nat) (x3 : Int64) (x5 : Int64) (x7 : Int32) (x8 : Int64) (x10 : Int64) (x12 : Int32) (x13 : Int64) (x15 : Int64) (x17 : Int32) (C : MC) (I : MI) (J : MJ) (R : MR) => ∃ m, m < n ∧ Q179 m K x0 x1 x2 x3 x5 x7 x8 x10 x12 x13 x15 x17 C I J R) K x0 x1 x2 x3 x5 x7 C I J R)
    (h95 : ∀ (n : Nat) (K : AK) (x0 : Nat) (x1 : Int32) (x2 : Nat) (x3 : Int64) (x5 : Int64) (x7 : Int32) (x8 : Int32) (C : MC) (I : MI) (J : MJ) (R : MR), Q95 n K x0 x1 x2 x3 x5 x7 x8 C I J R → PX7_table_95 F_X3_anew F_Vtable F_X0_times F_X3_less F_J8_bitCount (fun (x0 : Nat) (x1 : Int32) (x2 : Nat) (x3 : Int32) (C : MC) (I : MI) (J : MJ) (R : MR) => ∃ m, m < n ∧ Q17 m K x0 x1 x2 x3 C I J R) (fun (x0 : Nat) (x1 : Int32) (x2 : Nat) (x3 : Int64) (x5 : Int64) (x7 : Int32) (C : MC) (I : MI) (J : MJ) (R : MR) => ∃ m, m < n ∧ Q85 m K x0 x1 x2 x3 x5 x7 C I J R) (fun (x0 : Nat) (x1 : Int32) (x2 : Nat) (x3 : Int64) (x5 : Int64) (x7 : Int32) (x8 : Int32) (C : MC) (I : MI) (J : MJ) (R : MR) => ∃ m, m < n ∧ Q95 m K x0 x1 x2 x3 x5 x7 x8 C I J R) (fun (x0 : Nat) (x1 : Int32) (x2 : Nat) (x3 : Int64) (x5 : Int64) (x7 : Int32) (x8 : Int64) (x10 : Int64) (x12 : Int32) (C : MC) (I : MI) (J : MJ) (R : MR) => ∃ m, m < n ∧ Q162 m K x0 x1 x2 x3 x5 x7 x8 x10 x12 C I J R) (fun (x0 : Nat) (x1 : Int32) (x2 : Nat) (x3 : Int64) (x5 : Int64) (x7 : Int32) (x8 : Int64) (x10 : Int64) (x12 : Int32) (x13 : Int64) (x15 : Int64) (x17 : Int32) (C : MC) (I : MI) (J : MJ) (R : MR) => ∃ m, m < n ∧ Q179 m K x0 x1 x2 x3 x5 x7 x8 x10 x12 x13 x15 x17 C I J R) K x0 x1 x2 x3 x5 x7 x8 C I J R)
    (h162 : ∀ (n : Nat) (K : AK) (x0 : Nat) (x1 : Int32) (x2 : Nat) (x3 : Int64) (x5 : Int64) (x7 : Int32) (x8 : Int64) (x10 : Int64) (x12 : Int32) (C : MC) (I : MI) (J : MJ) (R : MR), Q162 n K x0 x1 x2 x3 x5 x7 x8 x10 x12 C I J R → PX7_table_162 F_X3_anew F_Vtable F_X0_times F_X3_less F_J8_bitCount (fun (x0 : Nat) (x1 : Int32) (x2 : Nat) (x3 : Int32) (C : MC) (I : MI) (J : MJ) (R : MR) => ∃ m, m < n ∧ Q17 m K x0 x1 x2 x3 C I J R) (fun (x0 : Nat) (x1 : Int32) (x2 : Nat) (x3 : Int64) (x5 : Int64) (x7 : Int32) (C : MC) (I : MI) (J : MJ) (R : MR) => ∃ m, m < n ∧ Q85 m K x0 x1 x2 x3 x5 x7 C I J R) (fun (x0 : Nat) (x1 : Int32) (x2 : Nat) (x3 : Int64) (x5 : Int64) (x7 : Int32) (x8 : Int32) (C : MC) (I : MI) (J : MJ) (R : MR) => ∃ m, m < n ∧ Q95 m K x0 x1 x2 x3 x5 x7 x8 C I J R) (fun (x0 : Nat) (x1 : Int32) (x2 : Nat) (x3 : Int64) (x5 : Int64) (x7 : Int32) (x8 : Int64) (x10 : Int64) (x12 : Int32) (C : MC) (I : MI) (J : MJ) (R : MR) => ∃ m, m < n ∧ Q162 m K x0 x1 x2 x3 x5 x7 x8 x10 x12 C I J R) (fun (x0 : Nat) (x1 : Int32) (x2 : Nat) (x3 : Int64) (x5 : Int64) (x7 : Int32) (x8 : Int64) (x10 : Int64) (x12 : Int32) (x13 : Int64) (x15 : Int64) (x17 : Int32) (C : MC) (I : MI) (J : MJ) (R : MR) => ∃ m, m < n ∧ Q179 m K x0 x1 x2 x3 x5 x7 x8 x10 x12 x13 x15 x17 C I J R) K x0 x1 x2 x3 x5 x7 x8 x10 x12 C I J R)
    (h179 : ∀ (n : Nat) (K : AK) (x0 : Nat) (x1 : Int32) (x2 : Nat) (x3 : Int64) (x5 : Int64) (x7 : Int32) (x8 : Int64) (x10 : Int64) (x12 : Int32) (x13 : Int64) (x15 : Int64) (x17 : Int32) (C : MC) (I : MI) (J : MJ) (R : MR), Q179 n K x0 x1 x2 x3 x5 x7 x8 x10 x12 x13 x15 x17 C I J R → PX7_table_179 F_X3_anew F_Vtable F_X0_times F_X3_less F_J8_bitCount (fun (x0 : Nat) (x1 : Int32) (x2 : Nat) (x3 : Int32) (C : MC) (I : MI) (J : MJ) (R : MR) => ∃ m, m < n ∧ Q17 m K x0 x1 x2 x3 C I J R) (fun (x0 : Nat) (x1 : Int32) (x2 : Nat) (x3 : Int64) (x5 : Int64) (x7 : Int32) (C : MC) (I : MI) (J : MJ) (R : MR) => ∃ m, m < n ∧ Q85 m K x0 x1 x2 x3 x5 x7 C I J R) (fun (x0 : Nat) (x1 : Int32) (x2 : Nat) (x3 : Int64) (x5 : Int64) (x7 : Int32) (x8 : Int32) (C : MC) (I : MI) (J : MJ) (R : MR) => ∃ m, m < n ∧ Q95 m K x0 x1 x2 x3 x5 x7 x8 C I J R) (fun (x0 : Nat) (x1 : Int32) (x2 : Nat) (x3 : Int64) (x5 : Int64) (x7 : Int32) (x8 : Int64) (x10 : Int64) (x12 : Int32) (C : MC) (I : MI) (J : MJ) (R : MR) => ∃ m, m < n ∧ Q162 m K x0 x1 x2 x3 x5 x7 x8 x10 x12 C I J R) (fun (x0 : Nat) (x1 : Int32) (x2 : Nat) (x3 : Int64) (x5 : Int64) (x7 : Int32) (x8 : Int64) (x10 : Int64) (x12 : Int32) (x13 : Int64) (x15 : Int64) (x17 : Int32) (C : MC) (I : MI) (J : MJ) (R : MR) => ∃ m, m < n ∧ Q179 m K x0 x1 x2 x3 x5 x7 x8 x10 x12 x13 x15 x17 C I J R) K x0 x1 x2 x3 x5 x7 x8 x10 x12 x13 x15 x17 C I J R) : SpX7_table l (d + 1) F := by
  refine Spec.of (by rfl) ?_
  intro Γ C I J R As Gd gl gr _ _ gb hF
  subst gl
  have G : Gb Γ yX7_table cX7_table 19 (some (.object "TickShare$Table")) [] (rmTb (d + 1)) bdX7_table := ⟨Gd, gr, gb⟩
  have key : ∀ n : Nat, (∀ (x0 : Nat) (x1 : Int32) (x2 : Nat) (x3 : Int32) (C : MC) (I : MI) (J : MJ) (R : MR), Q17 n (gK Γ) x0 x1 x2 x3 C I J R → AW Γ 0 0 C I J R 17 [(0, aR (some x0)), (1, aI x1), (2, aR (some x2)), (3, aI x3)] []) ∧ (∀ (x0 : Nat) (x1 : Int32) (x2 : Nat) (x3 : Int64) (x5 : Int64) (x7 : Int32) (C : MC) (I : MI) (J : MJ) (R : MR), Q85 n (gK Γ) x0 x1 x2 x3 x5 x7 C I J R → AW Γ 0 0 C I J R 85 [(0, aR (some x0)), (1, aI x1), (2, aR (some x2)), (3, aJ x3), (5, aJ x5), (7, aI x7)] []) ∧ (∀ (x0 : Nat) (x1 : Int32) (x2 : Nat) (x3 : Int64) (x5 : Int64) (x7 : Int32) (x8 : Int32) (C : MC) (I : MI) (J : MJ) (R : MR), Q95 n (gK Γ) x0 x1 x2 x3 x5 x7 x8 C I J R → AW Γ 0 0 C I J R 95 [(0, aR (some x0)), (1, aI x1), (2, aR (some x2)), (3, aJ x3), (5, aJ x5), (7, aI x7), (8, aI x8)] []) ∧ (∀ (x0 : Nat) (x1 : Int32) (x2 : Nat) (x3 : Int64) (x5 : Int64) (x7 : Int32) (x8 : Int64) (x10 : Int64) (x12 : Int32) (C : MC) (I : MI) (J : MJ) (R : MR), Q162 n (gK Γ) x0 x1 x2 x3 x5 x7 x8 x10 x12 C I J R → AW Γ 0 0 C I J R 162 [(0, aR (some x0)), (1, aI x1), (2, aR (some x2)), (3, aJ x3), (5, aJ x5), (7, aI x7), (8, aJ x8), (10, aJ x10), (12, aI x12)] []) ∧ (∀ (x0 : Nat) (x1 : Int32) (x2 : Nat) (x3 : Int64) (x5 : Int64) (x7 : Int32) (x8 : Int64) (x10 : Int64) (x12 : Int32) (x13 : Int64) (x15 : Int64) (x17 : Int32) (C : MC) (I : MI) (J : MJ) (R : MR), Q179 n (gK Γ) x0 x1 x2 x3 x5 x7 x8 x10 x12 x13 x15 x17 C I J R → AW Γ 0 0 C I J R 179 [(0, aR (some x0)), (1, aI x1), (2, aR (some x2)), (3, aJ x3), (5, aJ x5), (7, aI x7), (8, aJ x8), (10, aJ x10), (12, aI x12), (13, aJ x13), (15, aJ x15), (17, aI x17)] []) := by
    intro n
    induction n using Nat.strongRecOn with
    | ind n ih =>
    have w17 : ∀ (x0 : Nat) (x1 : Int32) (x2 : Nat) (x3 : Int32) (C : MC) (I : MI) (J : MJ) (R : MR), (∃ m, m < n ∧ Q17 m (gK Γ) x0 x1 x2 x3 C I J R) → AW Γ 0 0 C I J R 17 [(0, aR (some x0)), (1, aI x1), (2, aR (some x2)), (3, aI x3)] [] := fun x0 x1 x2 x3 C I J R ⟨m, hm, hq⟩ => (ih m hm).1 x0 x1 x2 x3 C I J R hq
    have w85 : ∀ (x0 : Nat) (x1 : Int32) (x2 : Nat) (x3 : Int64) (x5 : Int64) (x7 : Int32) (C : MC) (I : MI) (J : MJ) (R : MR), (∃ m, m < n ∧ Q85 m (gK Γ) x0 x1 x2 x3 x5 x7 C I J R) → AW Γ 0 0 C I J R 85 [(0, aR (some x0)), (1, aI x1), (2, aR (some x2)), (3, aJ x3), (5, aJ x5), (7, aI x7)] [] := fun x0 x1 x2 x3 x5 x7 C I J R ⟨m, hm, hq⟩ => (ih m hm).2.1 x0 x1 x2 x3 x5 x7 C I J R hq
    have w95 : ∀ (x0 : Nat) (x1 : Int32) (x2 : Nat) (x3 : Int64) (x5 : Int64) (x7 : Int32) (x8 : Int32) (C : MC) (I : MI) (J : MJ) (R : MR), (∃ m, m < n ∧ Q95 m (gK Γ) x0 x1 x2 x3 x5 x7 x8 C I J R) → AW Γ 0 0 C I J R 95 [(0, aR (some x0)), (1, aI x1), (2, aR (some x2)), (3, aJ x3), (5, aJ x5), (7, aI x7), (8, aI x8)] [] := fun x0 x1 x2 x3 x5 x7 x8 C I J R ⟨m, hm, hq⟩ => (ih m hm).2.2.1 x0 x1 x2 x3 x5 x7 x8 C I J R hq
    have w162 : ∀ (x0 : Nat) (x1 : Int32) (x2 : Nat) (x3 : Int64) (x5 : Int64) (x7 : Int32) (x8 : Int64) (x10 : Int64) (x12 : Int32) (C : MC) (I : MI) (J : MJ) (R : MR), (∃ m, m < n ∧ Q162 m (gK Γ) x0 x1 x2 x3 x5 x7 x8 x10 x12 C I J R) → AW Γ 0 0 C I J R 162 [(0, aR (some x0)), (1, aI x1), (2, aR (some x2)), (3, aJ x3), (5, aJ x5), (7, aI x7), (8, aJ x8), (10, aJ x10), (12, aI x12)] [] := fun x0 x1 x2 x3 x5 x7 x8 x10 x12 C I J R ⟨m, hm, hq⟩ => (ih m hm).2.2.2.1 x0 x1 x2 x3 x5 x7 x8 x10 x12 C I J R hq
    have w179 : ∀ (x0 : Nat) (x1 : Int32) (x2 : Nat) (x3 : Int64) (x5 : Int64) (x7 : Int32) (x8 : Int64) (x10 : Int64) (x12 : Int32) (x13 : Int64) (x15 : Int64) (x17 : Int32) (C : MC) (I : MI) (J : MJ) (R : MR), (∃ m, m < n ∧ Q179 m (gK Γ) x0 x1 x2 x3 x5 x7 x8 x10 x12 x13 x15 x17 C I J R) → AW Γ 0 0 C I J R 179 [(0, aR (some x0)), (1, aI x1), (2, aR (some x2)), (3, aJ x3), (5, aJ x5), (7, aI x7), (8, aJ x8), (10, aJ x10), (12, aI x12), (13, aJ x13), (15, aJ x15), (17, aI x17)] [] := fun x0 x1 x2 x3 x5 x7 x8 x10 x12 x13 x15 x17 C I J R ⟨m, hm, hq⟩ => (ih m hm).2.2.2.2 x0 x1 x2 x3 x5 x7 x8 x10 x12 x13 x15 x17 C I J R hq
    have w303 : ∀ (x0 : Nat) (x1 : Int32) (x2 : Nat) (x3 : Int64) (x5 : Int64) (x7 : Int32) (x8 : Int64) (x10 : Int64) (x12 : Int32) (C : MC) (I : MI) (J : MJ) (R : MR), PX7_table_303 F_X3_anew F_Vtable F_X0_times F_X3_less F_J8_bitCount (fun (x0 : Nat) (x1 : Int32) (x2 : Nat) (x3 : Int32) (C : MC) (I : MI) (J : MJ) (R : MR) => ∃ m, m < n ∧ Q17 m (gK Γ) x0 x1 x2 x3 C I J R) (fun (x0 : Nat) (x1 : Int32) (x2 : Nat) (x3 : Int64) (x5 : Int64) (x7 : Int32) (C : MC) (I : MI) (J : MJ) (R : MR) => ∃ m, m < n ∧ Q85 m (gK Γ) x0 x1 x2 x3 x5 x7 C I J R) (fun (x0 : Nat) (x1 : Int32) (x2 : Nat) (x3 : Int64) (x5 : Int64) (x7 : Int32) (x8 : Int32) (C : MC) (I : MI) (J : MJ) (R : MR) => ∃ m, m < n ∧ Q95 m (gK Γ) x0 x1 x2 x3 x5 x7 x8 C I J R) (fun (x0 : Nat) (x1 : Int32) (x2 : Nat) (x3 : Int64) (x5 : Int64) (x7 : Int32) (x8 : Int64) (x10 : Int64) (x12 : Int32) (C : MC) (I : MI) (J : MJ) (R : MR) => ∃ m, m < n ∧ Q162 m (gK Γ) x0 x1 x2 x3 x5 x7 x8 x10 x12 C I J R) (fun (x0 : Nat) (x1 : Int32) (x2 : Nat) (x3 : Int64) (x5 : Int64) (x7 : Int32) (x8 : Int64) (x10 : Int64) (x12 : Int32) (x13 : Int64) (x15 : Int64) (x17 : Int32) (C : MC) (I : MI) (J : MJ) (R : MR) => ∃ m, m < n ∧ Q179 m (gK Γ) x0 x1 x2 x3 x5 x7 x8 x10 x12 x13 x15 x17 C I J R) (gK Γ) x0 x1 x2 x3 x5 x7 x8 x10 x12 C I J R → AW Γ 0 0 C I J R 303 [(0, aR (some x0)), (1, aI x1), (2, aR (some x2)), (3, aJ x3), (5, aJ x5), (7, aI x7), (8, aJ x8), (10, aJ x10), (12, aI x12)] [] := fun x0 x1 x2 x3 x5 x7 x8 x10 x12 C I J R h => bX7_table_303 G w162 h
    have w265 : ∀ (x0 : Nat) (x1 : Int32) (x2 : Nat) (x3 : Int64) (x5 : Int64) (x7 : Int32) (x8 : Int64) (x10 : Int64) (x12 : Int32) (x13 : Int64) (x17 : Int32) (s0 : Int64) (s1 : Int64) (C : MC) (I : MI) (J : MJ) (R : MR), PX7_table_265 F_X3_anew F_Vtable F_X0_times F_X3_less F_J8_bitCount (fun (x0 : Nat) (x1 : Int32) (x2 : Nat) (x3 : Int32) (C : MC) (I : MI) (J : MJ) (R : MR) => ∃ m, m < n ∧ Q17 m (gK Γ) x0 x1 x2 x3 C I J R) (fun (x0 : Nat) (x1 : Int32) (x2 : Nat) (x3 : Int64) (x5 : Int64) (x7 : Int32) (C : MC) (I : MI) (J : MJ) (R : MR) => ∃ m, m < n ∧ Q85 m (gK Γ) x0 x1 x2 x3 x5 x7 C I J R) (fun (x0 : Nat) (x1 : Int32) (x2 : Nat) (x3 : Int64) (x5 : Int64) (x7 : Int32) (x8 : Int32) (C : MC) (I : MI) (J : MJ) (R : MR) => ∃ m, m < n ∧ Q95 m (gK Γ) x0 x1 x2 x3 x5 x7 x8 C I J R) (fun (x0 : Nat) (x1 : Int32) (x2 : Nat) (x3 : Int64) (x5 : Int64) (x7 : Int32) (x8 : Int64) (x10 : Int64) (x12 : Int32) (C : MC) (I : MI) (J : MJ) (R : MR) => ∃ m, m < n ∧ Q162 m (gK Γ) x0 x1 x2 x3 x5 x7 x8 x10 x12 C I J R) (fun (x0 : Nat) (x1 : Int32) (x2 : Nat) (x3 : Int64) (x5 : Int64) (x7 : Int32) (x8 : Int64) (x10 : Int64) (x12 : Int32) (x13 : Int64) (x15 : Int64) (x17 : Int32) (C : MC) (I : MI) (J : MJ) (R : MR) => ∃ m, m < n ∧ Q179 m (gK Γ) x0 x1 x2 x3 x5 x7 x8 x10 x12 x13 x15 x17 C I J R) (gK Γ) x0 x1 x2 x3 x5 x7 x8 x10 x12 x13 x17 s0 s1 C I J R → AW Γ 0 0 C I J R 265 [(0, aR (some x0)), (1, aI x1), (2, aR (some x2)), (3, aJ x3), (5, aJ x5), (7, aI x7), (8, aJ x8), (10, aJ x10), (12, aI x12), (13, aJ x13), (17, aI x17)] [aJ s1, aJ s0] := fun x0 x1 x2 x3 x5 x7 x8 x10 x12 x13 x17 s0 s1 C I J R h => bX7_table_265 G w179 h
    have w238 : ∀ (x0 : Nat) (x1 : Int32) (x2 : Nat) (x3 : Int64) (x5 : Int64) (x7 : Int32) (x8 : Int64) (x10 : Int64) (x12 : Int32) (x15 : Int64) (x17 : Int32) (x18 : Int32) (s0 : Int64) (s1 : Int64) (C : MC) (I : MI) (J : MJ) (R : MR), PX7_table_238 F_X3_anew F_Vtable F_X0_times F_X3_less F_J8_bitCount (fun (x0 : Nat) (x1 : Int32) (x2 : Nat) (x3 : Int32) (C : MC) (I : MI) (J : MJ) (R : MR) => ∃ m, m < n ∧ Q17 m (gK Γ) x0 x1 x2 x3 C I J R) (fun (x0 : Nat) (x1 : Int32) (x2 : Nat) (x3 : Int64) (x5 : Int64) (x7 : Int32) (C : MC) (I : MI) (J : MJ) (R : MR) => ∃ m, m < n ∧ Q85 m (gK Γ) x0 x1 x2 x3 x5 x7 C I J R) (fun (x0 : Nat) (x1 : Int32) (x2 : Nat) (x3 : Int64) (x5 : Int64) (x7 : Int32) (x8 : Int32) (C : MC) (I : MI) (J : MJ) (R : MR) => ∃ m, m < n ∧ Q95 m (gK Γ) x0 x1 x2 x3 x5 x7 x8 C I J R) (fun (x0 : Nat) (x1 : Int32) (x2 : Nat) (x3 : Int64) (x5 : Int64) (x7 : Int32) (x8 : Int64) (x10 : Int64) (x12 : Int32) (C : MC) (I : MI) (J : MJ) (R : MR) => ∃ m, m < n ∧ Q162 m (gK Γ) x0 x1 x2 x3 x5 x7 x8 x10 x12 C I J R) (fun (x0 : Nat) (x1 : Int32) (x2 : Nat) (x3 : Int64) (x5 : Int64) (x7 : Int32) (x8 : Int64) (x10 : Int64) (x12 : Int32) (x13 : Int64) (x15 : Int64) (x17 : Int32) (C : MC) (I : MI) (J : MJ) (R : MR) => ∃ m, m < n ∧ Q179 m (gK Γ) x0 x1 x2 x3 x5 x7 x8 x10 x12 x13 x15 x17 C I J R) (gK Γ) x0 x1 x2 x3 x5 x7 x8 x10 x12 x15 x17 x18 s0 s1 C I J R → AW Γ 0 0 C I J R 238 [(0, aR (some x0)), (1, aI x1), (2, aR (some x2)), (3, aJ x3), (5, aJ x5), (7, aI x7), (8, aJ x8), (10, aJ x10), (12, aI x12), (15, aJ x15), (17, aI x17), (18, aI x18)] [aJ s1, aJ s0] := fun x0 x1 x2 x3 x5 x7 x8 x10 x12 x15 x17 x18 s0 s1 C I J R h => bX7_table_238 G w265 h
    have w201 : ∀ (x0 : Nat) (x1 : Int32) (x2 : Nat) (x3 : Int64) (x5 : Int64) (x7 : Int32) (x8 : Int64) (x10 : Int64) (x12 : Int32) (x13 : Int64) (x15 : Int64) (x17 : Int32) (s0 : Int32) (C : MC) (I : MI) (J : MJ) (R : MR), PX7_table_201 F_X3_anew F_Vtable F_X0_times F_X3_less F_J8_bitCount (fun (x0 : Nat) (x1 : Int32) (x2 : Nat) (x3 : Int32) (C : MC) (I : MI) (J : MJ) (R : MR) => ∃ m, m < n ∧ Q17 m (gK Γ) x0 x1 x2 x3 C I J R) (fun (x0 : Nat) (x1 : Int32) (x2 : Nat) (x3 : Int64) (x5 : Int64) (x7 : Int32) (C : MC) (I : MI) (J : MJ) (R : MR) => ∃ m, m < n ∧ Q85 m (gK Γ) x0 x1 x2 x3 x5 x7 C I J R) (fun (x0 : Nat) (x1 : Int32) (x2 : Nat) (x3 : Int64) (x5 : Int64) (x7 : Int32) (x8 : Int32) (C : MC) (I : MI) (J : MJ) (R : MR) => ∃ m, m < n ∧ Q95 m (gK Γ) x0 x1 x2 x3 x5 x7 x8 C I J R) (fun (x0 : Nat) (x1 : Int32) (x2 : Nat) (x3 : Int64) (x5 : Int64) (x7 : Int32) (x8 : Int64) (x10 : Int64) (x12 : Int32) (C : MC) (I : MI) (J : MJ) (R : MR) => ∃ m, m < n ∧ Q162 m (gK Γ) x0 x1 x2 x3 x5 x7 x8 x10 x12 C I J R) (fun (x0 : Nat) (x1 : Int32) (x2 : Nat) (x3 : Int64) (x5 : Int64) (x7 : Int32) (x8 : Int64) (x10 : Int64) (x12 : Int32) (x13 : Int64) (x15 : Int64) (x17 : Int32) (C : MC) (I : MI) (J : MJ) (R : MR) => ∃ m, m < n ∧ Q179 m (gK Γ) x0 x1 x2 x3 x5 x7 x8 x10 x12 x13 x15 x17 C I J R) (gK Γ) x0 x1 x2 x3 x5 x7 x8 x10 x12 x13 x15 x17 s0 C I J R → AW Γ 0 0 C I J R 201 [(0, aR (some x0)), (1, aI x1), (2, aR (some x2)), (3, aJ x3), (5, aJ x5), (7, aI x7), (8, aJ x8), (10, aJ x10), (12, aI x12), (13, aJ x13), (15, aJ x15), (17, aI x17)] [aI s0] := fun x0 x1 x2 x3 x5 x7 x8 x10 x12 x13 x15 x17 s0 C I J R h => bX7_table_201 G w238 h
    exact ⟨fun x0 x1 x2 x3 C I J R h => bX7_table_17 G S_Vtable S_X0_times w17 w85 (h17 n (gK Γ) x0 x1 x2 x3 C I J R h), fun x0 x1 x2 x3 x5 x7 C I J R h => bX7_table_85 G S_X3_less w95 (h85 n (gK Γ) x0 x1 x2 x3 x5 x7 C I J R h), fun x0 x1 x2 x3 x5 x7 x8 C I J R h => bX7_table_95 G w95 w162 (h95 n (gK Γ) x0 x1 x2 x3 x5 x7 x8 C I J R h), fun x0 x1 x2 x3 x5 x7 x8 x10 x12 C I J R h => bX7_table_162 G w85 w179 (h162 n (gK Γ) x0 x1 x2 x3 x5 x7 x8 x10 x12 C I J R h), fun x0 x1 x2 x3 x5 x7 x8 x10 x12 x13 x15 x17 C I J R h => bX7_table_179 G S_J8_bitCount w201 w303 (h179 n (gK Γ) x0 x1 x2 x3 x5 x7 x8 x10 x12 x13 x15 x17 C I J R h)⟩
  have w17 : ∀ (x0 : Nat) (x1 : Int32) (x2 : Nat) (x3 : Int32) (C : MC) (I : MI) (J : MJ) (R : MR), (∃ n, Q17 n (gK Γ) x0 x1 x2 x3 C I J R) → AW Γ 0 0 C I J R 17 [(0, aR (some x0)), (1, aI x1), (2, aR (some x2)), (3, aI x3)] [] := fun x0 x1 x2 x3 C I J R ⟨m, hq⟩ => (key m).1 x0 x1 x2 x3 C I J R hq
  have w85 : ∀ (x0 : Nat) (x1 : Int32) (x2 : Nat) (x3 : Int64) (x5 : Int64) (x7 : Int32) (C : MC) (I : MI) (J : MJ) (R : MR), (∃ n, Q85 n (gK Γ) x0 x1 x2 x3 x5 x7 C I J R) → AW Γ 0 0 C I J R 85 [(0, aR (some x0)), (1, aI x1), (2, aR (some x2)), (3, aJ x3), (5, aJ x5), (7, aI x7)] [] := fun x0 x1 x2 x3 x5 x7 C I J R ⟨m, hq⟩ => (key m).2.1 x0 x1 x2 x3 x5 x7 C I J R hq
  have w95 : ∀ (x0 : Nat) (x1 : Int32) (x2 : Nat) (x3 : Int64) (x5 : Int64) (x7 : Int32) (x8 : Int32) (C : MC) (I : MI) (J : MJ) (R : MR), (∃ n, Q95 n (gK Γ) x0 x1 x2 x3 x5 x7 x8 C I J R) → AW Γ 0 0 C I J R 95 [(0, aR (some x0)), (1, aI x1), (2, aR (some x2)), (3, aJ x3), (5, aJ x5), (7, aI x7), (8, aI x8)] [] := fun x0 x1 x2 x3 x5 x7 x8 C I J R ⟨m, hq⟩ => (key m).2.2.1 x0 x1 x2 x3 x5 x7 x8 C I J R hq
  have w162 : ∀ (x0 : Nat) (x1 : Int32) (x2 : Nat) (x3 : Int64) (x5 : Int64) (x7 : Int32) (x8 : Int64) (x10 : Int64) (x12 : Int32) (C : MC) (I : MI) (J : MJ) (R : MR), (∃ n, Q162 n (gK Γ) x0 x1 x2 x3 x5 x7 x8 x10 x12 C I J R) → AW Γ 0 0 C I J R 162 [(0, aR (some x0)), (1, aI x1), (2, aR (some x2)), (3, aJ x3), (5, aJ x5), (7, aI x7), (8, aJ x8), (10, aJ x10), (12, aI x12)] [] := fun x0 x1 x2 x3 x5 x7 x8 x10 x12 C I J R ⟨m, hq⟩ => (key m).2.2.2.1 x0 x1 x2 x3 x5 x7 x8 x10 x12 C I J R hq
  have w179 : ∀ (x0 : Nat) (x1 : Int32) (x2 : Nat) (x3 : Int64) (x5 : Int64) (x7 : Int32) (x8 : Int64) (x10 : Int64) (x12 : Int32) (x13 : Int64) (x15 : Int64) (x17 : Int32) (C : MC) (I : MI) (J : MJ) (R : MR), (∃ n, Q179 n (gK Γ) x0 x1 x2 x3 x5 x7 x8 x10 x12 x13 x15 x17 C I J R) → AW Γ 0 0 C I J R 179 [(0, aR (some x0)), (1, aI x1), (2, aR (some x2)), (3, aJ x3), (5, aJ x5), (7, aI x7), (8, aJ x8), (10, aJ x10), (12, aI x12), (13, aJ x13), (15, aJ x15), (17, aI x17)] [] := fun x0 x1 x2 x3 x5 x7 x8 x10 x12 x13 x15 x17 C I J R ⟨m, hq⟩ => (key m).2.2.2.2 x0 x1 x2 x3 x5 x7 x8 x10 x12 x13 x15 x17 C I J R hq
  have w303 : ∀ (x0 : Nat) (x1 : Int32) (x2 : Nat) (x3 : Int64) (x5 : Int64) (x7 : Int32) (x8 : Int64) (x10 : Int64) (x12 : Int32) (C : MC) (I : MI) (J : MJ) (R : MR), PX7_table_303 F_X3_anew F_Vtable F_X0_times F_X3_less F_J8_bitCount (fun (x0 : Nat) (x1 : Int32) (x2 : Nat) (x3 : Int32) (C : MC) (I : MI) (J : MJ) (R : MR) => ∃ n, Q17 n (gK Γ) x0 x1 x2 x3 C I J R) (fun (x0 : Nat) (x1 : Int32) (x2 : Nat) (x3 : Int64) (x5 : Int64) (x7 : Int32) (C : MC) (I : MI) (J : MJ) (R : MR) => ∃ n, Q85 n (gK Γ) x0 x1 x2 x3 x5 x7 C I J R) (fun (x0 : Nat) (x1 : Int32) (x2 : Nat) (x3 : Int64) (x5 : Int64) (x7 : Int32) (x8 : Int32) (C : MC) (I : MI) (J : MJ) (R : MR) => ∃ n, Q95 n (gK Γ) x0 x1 x2 x3 x5 x7 x8 C I J R) (fun (x0 : Nat) (x1 : Int32) (x2 : Nat) (x3 : Int64) (x5 : Int64) (x7 : Int32) (x8 : Int64) (x10 : Int64) (x12 : Int32) (C : MC) (I : MI) (J : MJ) (R : MR) => ∃ n, Q162 n (gK Γ) x0 x1 x2 x3 x5 x7 x8 x10 x12 C I J R) (fun (x0 : Nat) (x1 : Int32) (x2 : Nat) (x3 : Int64) (x5 : Int64) (x7 : Int32) (x8 : Int64) (x10 : Int64) (x12 : Int32) (x13 : Int64) (x15 : Int64) (x17 : Int32) (C : MC) (I : MI) (J : MJ) (R : MR) => ∃ n, Q179 n (gK Γ) x0 x1 x2 x3 x5 x7 x8 x10 x12 x13 x15 x17 C I J R) (gK Γ) x0 x1 x2 x3 x5 x7 x8 x10 x12 C I J R → AW Γ 0 0 C I J R 303 [(0, aR (some x0)), (1, aI x1), (2, aR (some x2)), (3, aJ x3), (5, aJ x5), (7, aI x7), (8, aJ x8), (10, aJ x10), (12, aI x12)] [] := fun x0 x1 x2 x3 x5 x7 x8 x10 x12 C I J R h => bX7_table_303 G w162 h
  have w265 : ∀ (x0 : Nat) (x1 : Int32) (x2 : Nat) (x3 : Int64) (x5 : Int64) (x7 : Int32) (x8 : Int64) (x10 : Int64) (x12 : Int32) (x13 : Int64) (x17 : Int32) (s0 : Int64) (s1 : Int64) (C : MC) (I : MI) (J : MJ) (R : MR), PX7_table_265 F_X3_anew F_Vtable F_X0_times F_X3_less F_J8_bitCount (fun (x0 : Nat) (x1 : Int32) (x2 : Nat) (x3 : Int32) (C : MC) (I : MI) (J : MJ) (R : MR) => ∃ n, Q17 n (gK Γ) x0 x1 x2 x3 C I J R) (fun (x0 : Nat) (x1 : Int32) (x2 : Nat) (x3 : Int64) (x5 : Int64) (x7 : Int32) (C : MC) (I : MI) (J : MJ) (R : MR) => ∃ n, Q85 n (gK Γ) x0 x1 x2 x3 x5 x7 C I J R) (fun (x0 : Nat) (x1 : Int32) (x2 : Nat) (x3 : Int64) (x5 : Int64) (x7 : Int32) (x8 : Int32) (C : MC) (I : MI) (J : MJ) (R : MR) => ∃ n, Q95 n (gK Γ) x0 x1 x2 x3 x5 x7 x8 C I J R) (fun (x0 : Nat) (x1 : Int32) (x2 : Nat) (x3 : Int64) (x5 : Int64) (x7 : Int32) (x8 : Int64) (x10 : Int64) (x12 : Int32) (C : MC) (I : MI) (J : MJ) (R : MR) => ∃ n, Q162 n (gK Γ) x0 x1 x2 x3 x5 x7 x8 x10 x12 C I J R) (fun (x0 : Nat) (x1 : Int32) (x2 : Nat) (x3 : Int64) (x5 : Int64) (x7 : Int32) (x8 : Int64) (x10 : Int64) (x12 : Int32) (x13 : Int64) (x15 : Int64) (x17 : Int32) (C : MC) (I : MI) (J : MJ) (R : MR) => ∃ n, Q179 n (gK Γ) x0 x1 x2 x3 x5 x7 x8 x10 x12 x13 x15 x17 C I J R) (gK Γ) x0 x1 x2 x3 x5 x7 x8 x10 x12 x13 x17 s0 s1 C I J R → AW Γ 0 0 C I J R 265 [(0, aR (some x0)), (1, aI x1), (2, aR (some x2)), (3, aJ x3), (5, aJ x5), (7, aI x7), (8, aJ x8), (10, aJ x10), (12, aI x12), (13, aJ x13), (17, aI x17)] [aJ s1, aJ s0] := fun x0 x1 x2 x3 x5 x7 x8 x10 x12 x13 x17 s0 s1 C I J R h => bX7_table_265 G w179 h
  have w238 : ∀ (x0 : Nat) (x1 : Int32) (x2 : Nat) (x3 : Int64) (x5 : Int64) (x7 : Int32) (x8 : Int64) (x10 : Int64) (x12 : Int32) (x15 : Int64) (x17 : Int32) (x18 : Int32) (s0 : Int64) (s1 : Int64) (C : MC) (I : MI) (J : MJ) (R : MR), PX7_table_238 F_X3_anew F_Vtable F_X0_times F_X3_less F_J8_bitCount (fun (x0 : Nat) (x1 : Int32) (x2 : Nat) (x3 : Int32) (C : MC) (I : MI) (J : MJ) (R : MR) => ∃ n, Q17 n (gK Γ) x0 x1 x2 x3 C I J R) (fun (x0 : Nat) (x1 : Int32) (x2 : Nat) (x3 : Int64) (x5 : Int64) (x7 : Int32) (C : MC) (I : MI) (J : MJ) (R : MR) => ∃ n, Q85 n (gK Γ) x0 x1 x2 x3 x5 x7 C I J R) (fun (x0 : Nat) (x1 : Int32) (x2 : Nat) (x3 : Int64) (x5 : Int64) (x7 : Int32) (x8 : Int32) (C : MC) (I : MI) (J : MJ) (R : MR) => ∃ n, Q95 n (gK Γ) x0 x1 x2 x3 x5 x7 x8 C I J R) (fun (x0 : Nat) (x1 : Int32) (x2 : Nat) (x3 : Int64) (x5 : Int64) (x7 : Int32) (x8 : Int64) (x10 : Int64) (x12 : Int32) (C : MC) (I : MI) (J : MJ) (R : MR) => ∃ n, Q162 n (gK Γ) x0 x1 x2 x3 x5 x7 x8 x10 x12 C I J R) (fun (x0 : Nat) (x1 : Int32) (x2 : Nat) (x3 : Int64) (x5 : Int64) (x7 : Int32) (x8 : Int64) (x10 : Int64) (x12 : Int32) (x13 : Int64) (x15 : Int64) (x17 : Int32) (C : MC) (I : MI) (J : MJ) (R : MR) => ∃ n, Q179 n (gK Γ) x0 x1 x2 x3 x5 x7 x8 x10 x12 x13 x15 x17 C I J R) (gK Γ) x0 x1 x2 x3 x5 x7 x8 x10 x12 x15 x17 x18 s0 s1 C I J R → AW Γ 0 0 C I J R 238 [(0, aR (some x0)), (1, aI x1), (2, aR (some x2)), (3, aJ x3), (5, aJ x5), (7, aI x7), (8, aJ x8), (10, aJ x10), (12, aI x12), (15, aJ x15), (17, aI x17), (18, aI x18)] [aJ s1, aJ s0] := fun x0 x1 x2 x3 x5 x7 x8 x10 x12 x15 x17 x18 s0 s1 C I J R h => bX7_table_238 G w265 h
  have w201 : ∀ (x0 : Nat) (x1 : Int32) (x2 : Nat) (x3 : Int64) (x5 : Int64) (x7 : Int32) (x8 : Int64) (x10 : Int64) (x12 : Int32) (x13 : Int64) (x15 : Int64) (x17 : Int32) (s0 : Int32) (C : MC) (I : MI) (J : MJ) (R : MR), PX7_table_201 F_X3_anew F_Vtable F_X0_times F_X3_less F_J8_bitCount (fun (x0 : Nat) (x1 : Int32) (x2 : Nat) (x3 : Int32) (C : MC) (I : MI) (J : MJ) (R : MR) => ∃ n, Q17 n (gK Γ) x0 x1 x2 x3 C I J R) (fun (x0 : Nat) (x1 : Int32) (x2 : Nat) (x3 : Int64) (x5 : Int64) (x7 : Int32) (C : MC) (I : MI) (J : MJ) (R : MR) => ∃ n, Q85 n (gK Γ) x0 x1 x2 x3 x5 x7 C I J R) (fun (x0 : Nat) (x1 : Int32) (x2 : Nat) (x3 : Int64) (x5 : Int64) (x7 : Int32) (x8 : Int32) (C : MC) (I : MI) (J : MJ) (R : MR) => ∃ n, Q95 n (gK Γ) x0 x1 x2 x3 x5 x7 x8 C I J R) (fun (x0 : Nat) (x1 : Int32) (x2 : Nat) (x3 : Int64) (x5 : Int64) (x7 : Int32) (x8 : Int64) (x10 : Int64) (x12 : Int32) (C : MC) (I : MI) (J : MJ) (R : MR) => ∃ n, Q162 n (gK Γ) x0 x1 x2 x3 x5 x7 x8 x10 x12 C I J R) (fun (x0 : Nat) (x1 : Int32) (x2 : Nat) (x3 : Int64) (x5 : Int64) (x7 : Int32) (x8 : Int64) (x10 : Int64) (x12 : Int32) (x13 : Int64) (x15 : Int64) (x17 : Int32) (C : MC) (I : MI) (J : MJ) (R : MR) => ∃ n, Q179 n (gK Γ) x0 x1 x2 x3 x5 x7 x8 x10 x12 x13 x15 x17 C I J R) (gK Γ) x0 x1 x2 x3 x5 x7 x8 x10 x12 x13 x15 x17 s0 C I J R → AW Γ 0 0 C I J R 201 [(0, aR (some x0)), (1, aI x1), (2, aR (some x2)), (3, aJ x3), (5, aJ x5), (7, aI x7), (8, aJ x8), (10, aJ x10), (12, aI x12), (13, aJ x13), (15, aJ x15), (17, aI x17)] [aI s0] := fun x0 x1 x2 x3 x5 x7 x8 x10 x12 x13 x15 x17 s0 C I J R h => bX7_table_201 G w238 h
  obtain ⟨x0, rfl, h⟩ := h0 As C I J R (gK Γ) hF
  exact ⟨Nat.le_of_ble_eq_true rfl, bX7_table_0 G S_X3_anew w17 h⟩
def PX7_bounds_53 (F_X6_tops : SPF) (F_X0_times : SPF) (F_X0_bounded : SPF) (Q40 : Nat → Nat → Nat → Int64 → Int32 → MC → MI → MJ → MR → Prop) (Q53 : Nat → Nat → Nat → Int64 → Int32 → Int64 → Int32 → MC → MI → MJ → MR → Prop) (K : AK) (x0 : Nat) (x1 : Nat) (x2 : Nat) (x4 : Int64) (x6 : Int32) (x7 : Int64) (x9 : Int32) (C : MC) (I : MI) (J : MJ) (R : MR) : Prop :=
      (C x0).1 = 7 ∧
      ∃ q2 : Nat, R x0 0 = some q2 ∧
      (20 ≤ (C q2).1 ∧ (C q2).1 ≤ 30) ∧
      (((nI (C q2).2) ≤ x9 →
      (C x1).1 = 21 ∧
      vp_in x6 (C x1).2 ∧
      ∀ J7 : MJ, J7 = va_up J x1 (va_up (J x1) x6.toNatClampNeg (if x7 < x4 then x7 else x4)) →
      Q40 x0 x1 x2 x4 (x6 + 1) C I J7 R) ∧
      (¬ (nI (C q2).2) ≤ x9 →
      (25 ≤ (C x2).1 ∧ (C x2).1 < 30) ∧
      vp_in x9 (C x2).2 ∧
      ∃ q10 : Nat, R x2 x9.toNatClampNeg = some q10 ∧
      (C q10).1 = 21 ∧
      vp_in x6 (C q10).2 ∧
      Q53 x0 x1 x2 x4 x6 (x7 + (J q10 x6.toNatClampNeg)) (x9 + 1) C I J R))
def PX7_bounds_40 (F_X6_tops : SPF) (F_X0_times : SPF) (F_X0_bounded : SPF) (Q40 : Nat → Nat → Nat → Int64 → Int32 → MC → MI → MJ → MR → Prop) (Q53 : Nat → Nat → Nat → Int64 → Int32 → Int64 → Int32 → MC → MI → MJ → MR → Prop) (K : AK) (x0 : Nat) (x1 : Nat) (x2 : Nat) (x4 : Int64) (x6 : Int32) (C : MC) (I : MI) (J : MJ) (R : MR) : Prop :=
      (((120 : Int32) < x6 →
      K (.inl (some (aJ x4))) C I J R) ∧
      (¬ (120 : Int32) < x6 →
      Q53 x0 x1 x2 x4 x6 (0 : Int64) (0 : Int32) C I J R))
def PX7_bounds_0 (F_X6_tops : SPF) (F_X0_times : SPF) (F_X0_bounded : SPF) (Q40 : Nat → Nat → Nat → Int64 → Int32 → MC → MI → MJ → MR → Prop) (Q53 : Nat → Nat → Nat → Int64 → Int32 → Int64 → Int32 → MC → MI → MJ → MR → Prop) (K : AK) (x0 : Nat) (x1 : Nat) (C : MC) (I : MI) (J : MJ) (R : MR) : Prop :=
      (C x0).1 = 7 ∧
      F_X6_tops [aR (some x0)] C I J R (fun o C2 I3 J4 R5 =>
      (∃ r6 : Nat, o = .inl (some (aR (some r6))) ∧
      (C2 x0).1 = 7 ∧
      ∃ q8 : Nat, R5 x0 0 = some q8 ∧
      (20 ≤ (C2 q8).1 ∧ (C2 q8).1 ≤ 30) ∧
      (25 ≤ (C2 r6).1 ∧ (C2 r6).1 < 30) ∧
      vp_in (nI (C2 q8).2) (C2 r6).2 ∧
      ∃ q12 : Nat, R5 r6 (nI (C2 q8).2).toNatClampNeg = some q12 ∧
      (C2 q12).1 = 21 ∧
      vp_in (0 : Int32) (C2 q12).2 ∧
      F_X0_times [aJ (J4 q12 (0 : Int32).toNatClampNeg), aJ ((((nI (C2 q8).2) - (I3 x0 8)) + (1 : Int32)).toInt64)] C2 I3 J4 R5 (fun o C15 I16 J17 R18 =>
      (∃ r19 : Int64, o = .inl (some (aJ r19)) ∧
      F_X0_bounded [aJ r19] C15 I16 J17 R18 (fun o C20 I21 J22 R23 =>
      (∃ r24 : Int64, o = .inl (some (aJ r24)) ∧
      Q40 x0 x1 r6 r24 (0 : Int32) C20 I21 J22 R23) ∨
      (∃ q25 : Nat, o = .inr q25 ∧
      ((C20 q25).1 = 11 ∧
      K (.inr q25) C20 I21 J22 R23)))) ∨
      (∃ q27 : Nat, o = .inr q27 ∧
      ((C15 q27).1 = 11 ∧
      K (.inr q27) C15 I16 J17 R18)))) ∨
      (∃ q29 : Nat, o = .inr q29 ∧
      ((C2 q29).1 = 11 ∧
      K (.inr q29) C2 I3 J4 R5)))
theorem wX7_bounds {l : Launch} {d : Nat}  {F_X6_tops : SPF} (S_X6_tops : SpX6_tops l (d + 1) F_X6_tops) {F_X0_times : SPF} (S_X0_times : SpX0_times l F_X0_times) {F_X0_bounded : SPF} (S_X0_bounded : SpX0_bounded l F_X0_bounded)
    (Q40 : Nat → AK → Nat → Nat → Nat → Int64 → Int32 → MC → MI → MJ → MR → Prop)
    (Q53 : Nat → AK → Nat → Nat → Nat → Int64 → Int32 → Int64 → Int32 → MC → MI → MJ → MR → Prop) {F : SPF}
    (h0 : ∀ (As : List AV) (C : MC) (I : MI) (J : MJ) (R : MR) (K : AK), F As C I J R K → ∃ (x0 : Nat) (x1 : Nat), As = [aR (some x0), aR (some x1)] ∧ PX7_bounds_0 F_X6_tops F_X0_times F_X0_bounded (fun (x0 : Nat) (x1 : Nat) (x2 : Nat) (x4 : Int64) (x6 : Int32) (C : MC) (I : MI) (J : MJ) (R : MR) => ∃ n, Q40 n K x0 x1 x2 x4 x6 C I J R) (fun (x0 : Nat) (x1 : Nat) (x2 : Nat) (x4 : Int64) (x6 : Int32) (x7 : Int64) (x9 : Int32) (C : MC) (I : MI) (J : MJ) (R : MR) => ∃ n, Q53 n K x0 x1 x2 x4 x6 x7 x9 C I J R) K x0 x1 C I J R)
    (h40 : ∀ (n : Nat) (K : AK) (x0 : Nat) (x1 : Nat) (x2 : Nat) (x4 : Int64) (x6 : Int32) (C : MC) (I : MI) (J : MJ) (R : MR), Q40 n K x0 x1 x2 x4 x6 C I J R → PX7_bounds_40 F_X6_tops F_X0_times F_X0_bounded (fun (x0 : Nat) (x1 : Nat) (x2 : Nat) (x4 : Int64) (x6 : Int32) (C : MC) (I : MI) (J : MJ) (R : MR) => ∃ m, m < n ∧ Q40 m K x0 x1 x2 x4 x6 C I J R) (fun (x0 : Nat) (x1 : Nat) (x2 : Nat) (x4 : Int64) (x6 : Int32) (x7 : Int64) (x9 : Int32) (C : MC) (I : MI) (J : MJ) (R : MR) => ∃ m, m < n ∧ Q53 m K x0 x1 x2 x4 x6 x7 x9 C I J R) K x0 x1 x2 x4 x6 C I J R)
    (h53 : ∀ (n : Nat) (K : AK) (x0 : Nat) (x1 : Nat) (x2 : Nat) (x4 : Int64) (x6 : Int32) (x7 : Int64) (x9 : Int32) (C : MC) (I : MI) (J : MJ) (R : MR), Q53 n K x0 x1 x2 x4 x6 x7 x9 C I J R → PX7_bounds_53 F_X6_tops F_X0_times F_X0_bounded (fun (x0 : Nat) (x1 : Nat) (x2 : Nat) (x4 : Int64) (x6 : Int32) (C : MC) (I : MI) (J : MJ) (R : MR) => ∃ m, m < n ∧ Q40 m K x0 x1 x2 x4 x6 C I J R) (fun (x0 : Nat) (x1 : Nat) (x2 : Nat) (x4 : Int64) (x6 : Int32) (x7 : Int64) (x9 : Int32) (C : MC) (I : MI) (J : MJ) (R : MR) => ∃ m, m < n ∧ Q53 m K x0 x1 x2 x4 x6 x7 x9 C I J R) K x0 x1 x2 x4 x6 x7 x9 C I J R) : SpX7_bounds l (d + 1) F := by
  refine Spec.of (by rfl) ?_
  intro Γ C I J R As Gd gl gr _ _ gb hF
  subst gl
  have G : Gb Γ yX7_bounds cX7_bounds 10 (some .long) [] (rmBo (d + 1)) bdX7_bounds := ⟨Gd, gr, gb⟩
  have key : ∀ n : Nat, (∀ (x0 : Nat) (x1 : Nat) (x2 : Nat) (x4 : Int64) (x6 : Int32) (C : MC) (I : MI) (J : MJ) (R : MR), Q40 n (gK Γ) x0 x1 x2 x4 x6 C I J R → AW Γ 0 0 C I J R 40 [(0, aR (some x0)), (1, aR (some x1)), (2, aR (some x2)), (4, aJ x4), (6, aI x6)] []) ∧ (∀ (x0 : Nat) (x1 : Nat) (x2 : Nat) (x4 : Int64) (x6 : Int32) (x7 : Int64) (x9 : Int32) (C : MC) (I : MI) (J : MJ) (R : MR), Q53 n (gK Γ) x0 x1 x2 x4 x6 x7 x9 C I J R → AW Γ 0 0 C I J R 53 [(0, aR (some x0)), (1, aR (some x1)), (2, aR (some x2)), (4, aJ x4), (6, aI x6), (7, aJ x7), (9, aI x9)] []) := by
    intro n
    induction n using Nat.strongRecOn with
    | ind n ih =>
    have w40 : ∀ (x0 : Nat) (x1 : Nat) (x2 : Nat) (x4 : Int64) (x6 : Int32) (C : MC) (I : MI) (J : MJ) (R : MR), (∃ m, m < n ∧ Q40 m (gK Γ) x0 x1 x2 x4 x6 C I J R) → AW Γ 0 0 C I J R 40 [(0, aR (some x0)), (1, aR (some x1)), (2, aR (some x2)), (4, aJ x4), (6, aI x6)] [] := fun x0 x1 x2 x4 x6 C I J R ⟨m, hm, hq⟩ => (ih m hm).1 x0 x1 x2 x4 x6 C I J R hq
    have w53 : ∀ (x0 : Nat) (x1 : Nat) (x2 : Nat) (x4 : Int64) (x6 : Int32) (x7 : Int64) (x9 : Int32) (C : MC) (I : MI) (J : MJ) (R : MR), (∃ m, m < n ∧ Q53 m (gK Γ) x0 x1 x2 x4 x6 x7 x9 C I J R) → AW Γ 0 0 C I J R 53 [(0, aR (some x0)), (1, aR (some x1)), (2, aR (some x2)), (4, aJ x4), (6, aI x6), (7, aJ x7), (9, aI x9)] [] := fun x0 x1 x2 x4 x6 x7 x9 C I J R ⟨m, hm, hq⟩ => (ih m hm).2 x0 x1 x2 x4 x6 x7 x9 C I J R hq
    exact ⟨fun x0 x1 x2 x4 x6 C I J R h => bX7_bounds_40 G w53 (h40 n (gK Γ) x0 x1 x2 x4 x6 C I J R h), fun x0 x1 x2 x4 x6 x7 x9 C I J R h => bX7_bounds_53 G w40 w53 (h53 n (gK Γ) x0 x1 x2 x4 x6 x7 x9 C I J R h)⟩
  have w40 : ∀ (x0 : Nat) (x1 : Nat) (x2 : Nat) (x4 : Int64) (x6 : Int32) (C : MC) (I : MI) (J : MJ) (R : MR), (∃ n, Q40 n (gK Γ) x0 x1 x2 x4 x6 C I J R) → AW Γ 0 0 C I J R 40 [(0, aR (some x0)), (1, aR (some x1)), (2, aR (some x2)), (4, aJ x4), (6, aI x6)] [] := fun x0 x1 x2 x4 x6 C I J R ⟨m, hq⟩ => (key m).1 x0 x1 x2 x4 x6 C I J R hq
  have w53 : ∀ (x0 : Nat) (x1 : Nat) (x2 : Nat) (x4 : Int64) (x6 : Int32) (x7 : Int64) (x9 : Int32) (C : MC) (I : MI) (J : MJ) (R : MR), (∃ n, Q53 n (gK Γ) x0 x1 x2 x4 x6 x7 x9 C I J R) → AW Γ 0 0 C I J R 53 [(0, aR (some x0)), (1, aR (some x1)), (2, aR (some x2)), (4, aJ x4), (6, aI x6), (7, aJ x7), (9, aI x9)] [] := fun x0 x1 x2 x4 x6 x7 x9 C I J R ⟨m, hq⟩ => (key m).2 x0 x1 x2 x4 x6 x7 x9 C I J R hq
  obtain ⟨x0, x1, rfl, h⟩ := h0 As C I J R (gK Γ) hF
  exact ⟨Nat.le_of_ble_eq_true rfl, bX7_bounds_0 G S_X6_tops S_X0_times S_X0_bounded w40 h⟩
def PX8_init_0 (F_X4_init : SPF) (K : AK) (x0 : Nat) (x1 : Nat) (x2 : Nat) (x3 : Int32) (x4 : Int32) (C : MC) (I : MI) (J : MJ) (R : MR) : Prop :=
      ∃ q1 : Nat, (C q1).1 = 0 ∧
      ∀ (C3 : MC) (I4 : MI) (J5 : MJ) (R6 : MR), C3 = va_up C q1 (26, 2) → I4 = va_up I q1 (fun _ => 0) → J5 = va_up J q1 (fun _ => 0) → R6 = va_up R q1 (fun _ => none) → 
      (25 ≤ (C3 q1).1 ∧ (C3 q1).1 < 29) ∧
      kFit (C3 q1).1 (C3 x1).1 ∧
      vp_in (0 : Int32) (C3 q1).2 ∧
      ∀ R10 : MR, R10 = va_up R6 q1 (va_up (R6 q1) (0 : Int32).toNatClampNeg (some x1)) →
      kFit (C3 q1).1 (C3 x2).1 ∧
      vp_in (1 : Int32) (C3 q1).2 ∧
      ∀ R13 : MR, R13 = va_up R10 q1 (va_up (R10 q1) (1 : Int32).toNatClampNeg (some x2)) →
      F_X4_init [aR (some x0), aR (some q1)] C3 I4 J5 R13 (fun o C14 I15 J16 R17 =>
      o = .inl none ∧
      (C14 x0).1 = 8 ∧
      ∀ I20 : MI, I20 = va_up I15 x0 (va_up (I15 x0) 6 x3) →
      ∀ I21 : MI, I21 = va_up I20 x0 (va_up (I20 x0) 7 x4) →
      K (.inl none) C14 I21 J16 R17)
theorem wX8_init {l : Launch}  {F_X4_init : SPF} (S_X4_init : SpX4_init l F_X4_init) {F : SPF}
    (h0 : ∀ (As : List AV) (C : MC) (I : MI) (J : MJ) (R : MR) (K : AK), F As C I J R K → ∃ (x0 : Nat) (x1 : Nat) (x2 : Nat) (x3 : Int32) (x4 : Int32), As = [aR (some x0), aR (some x1), aR (some x2), aI x3, aI x4] ∧ PX8_init_0 F_X4_init K x0 x1 x2 x3 x4 C I J R) : SpX8_init l F := by
  refine Spec.of (by rfl) ?_
  intro Γ C I J R As Gd gl gr _ _ gb hF
  subst gl
  have G : Gb Γ yX8_init cX8_init 5 (none) [] rmX8_init bdX8_init := ⟨Gd, gr, gb⟩
  obtain ⟨x0, x1, x2, x3, x4, rfl, h⟩ := h0 As C I J R (gK Γ) hF
  exact ⟨Nat.le_of_ble_eq_true rfl, bX8_init_0 G S_X4_init h⟩
def PX8_kind_0 (K : AK) (x0 : Nat) (C : MC) (I : MI) (J : MJ) (R : MR) : Prop :=
      K (.inl (some (aI (3 : Int32)))) C I J R
theorem wX8_kind {l : Launch}  {F : SPF}
    (h0 : ∀ (As : List AV) (C : MC) (I : MI) (J : MJ) (R : MR) (K : AK), F As C I J R K → ∃ (x0 : Nat), As = [aR (some x0)] ∧ PX8_kind_0 K x0 C I J R) : SpX8_kind l F := by
  refine Spec.of (by rfl) ?_
  intro Γ C I J R As Gd gl gr _ _ gb hF
  subst gl
  have G : Gb Γ yX8_kind cX8_kind 1 (some .int) [] rmX8_kind bdX8_kind := ⟨Gd, gr, gb⟩
  obtain ⟨x0, rfl, h⟩ := h0 As C I J R (gK Γ) hF
  exact ⟨Nat.le_of_ble_eq_true rfl, bX8_kind_0 G h⟩
def PX8_table_50 (F_Vtable : SPF) (F_X0_times : SPF) (F_X3_anew : SPF) (F_X0_fold : SPF) (F_X3_less : SPF) (F_X3_add : SPF) (Q50 : Nat → Nat → Nat → Nat → Int32 → MC → MI → MJ → MR → Prop) (K : AK) (x0 : Nat) (x1 : Nat) (x2 : Nat) (x3 : Nat) (x4 : Int32) (C : MC) (I : MI) (J : MJ) (R : MR) : Prop :=
      (((120 : Int32) < x4 →
      (C x0).1 = 8 ∧
      F_X0_fold [aR (some x1), aR (some x2), aJ (((I x0 7) - (I x0 6)).toInt64), aR (some x3)] C I J R (fun o C3 I4 J5 R6 =>
      (o = .inl none ∧
      (C3 x3).1 = 4 ∧
      F_X3_less [aR (some x3)] C3 I4 J5 R6 (fun o C9 I10 J11 R12 =>
      ∃ r13 : Nat, o = .inl (some (aR (some r13))) ∧
      K (.inl (some (aR (some r13)))) C9 I10 J11 R12)) ∨
      (∃ q14 : Nat, o = .inr q14 ∧
      ((C3 q14).1 = 11 ∧
      K (.inr q14) C3 I4 J5 R6)))) ∧
      (¬ (120 : Int32) < x4 →
      (C x1).1 = 4 ∧
      ∃ q17 : Nat, R x1 0 = some q17 ∧
      (C q17).1 = 21 ∧
      vp_in x4 (C q17).2 ∧
      (C x2).1 = 4 ∧
      (C x0).1 = 8 ∧
      (C x3).1 = 4 ∧
      F_X3_add [aR (some x3), aI (1 : Int32), aI x4, aJ (((J q17 x4.toNatClampNeg) * (J x2 2)) * ((I x0 6).toInt64))] C I J R (fun o C23 I24 J25 R26 =>
      (o = .inl none ∧
      (C23 x1).1 = 4 ∧
      ∃ q29 : Nat, R26 x1 1 = some q29 ∧
      (C23 q29).1 = 21 ∧
      vp_in x4 (C23 q29).2 ∧
      (C23 x2).1 = 4 ∧
      (C23 x0).1 = 8 ∧
      (C23 x3).1 = 4 ∧
      F_X3_add [aR (some x3), aI (0 : Int32), aI x4, aJ (((J25 q29 x4.toNatClampNeg) * (J25 x2 2)) * ((I24 x0 6).toInt64))] C23 I24 J25 R26 (fun o C35 I36 J37 R38 =>
      (o = .inl none ∧
      Q50 x0 x1 x2 x3 (x4 + 1) C35 I36 J37 R38) ∨
      (∃ q40 : Nat, o = .inr q40 ∧
      ((C35 q40).1 = 11 ∧
      K (.inr q40) C35 I36 J37 R38)))) ∨
      (∃ q42 : Nat, o = .inr q42 ∧
      ((C23 q42).1 = 11 ∧
      K (.inr q42) C23 I24 J25 R26)))))
def PX8_table_0 (F_Vtable : SPF) (F_X0_times : SPF) (F_X3_anew : SPF) (F_X0_fold : SPF) (F_X3_less : SPF) (F_X3_add : SPF) (Q50 : Nat → Nat → Nat → Nat → Int32 → MC → MI → MJ → MR → Prop) (K : AK) (x0 : Nat) (C : MC) (I : MI) (J : MJ) (R : MR) : Prop :=
      (C x0).1 = 8 ∧
      ∃ q2 : Nat, R x0 0 = some q2 ∧
      (25 ≤ (C q2).1 ∧ (C q2).1 < 30) ∧
      vp_in (0 : Int32) (C q2).2 ∧
      ∃ q5 : Nat, R q2 (0 : Int32).toNatClampNeg = some q5 ∧
      kTh (C q5).1 ∧
      F_Vtable [aR (some q5)] C I J R (fun o C7 I8 J9 R10 =>
      (∃ r11 : Nat, o = .inl (some (aR (some r11))) ∧
      (C7 x0).1 = 8 ∧
      ∃ q13 : Nat, R10 x0 0 = some q13 ∧
      (25 ≤ (C7 q13).1 ∧ (C7 q13).1 < 30) ∧
      vp_in (1 : Int32) (C7 q13).2 ∧
      ∃ q16 : Nat, R10 q13 (1 : Int32).toNatClampNeg = some q16 ∧
      kTh (C7 q16).1 ∧
      F_Vtable [aR (some q16)] C7 I8 J9 R10 (fun o C18 I19 J20 R21 =>
      (∃ r22 : Nat, o = .inl (some (aR (some r22))) ∧
      (C18 x0).1 = 8 ∧
      (C18 r11).1 = 4 ∧
      (C18 r22).1 = 4 ∧
      F_X0_times [aJ (J20 r11 2), aJ (J20 r22 2)] C18 I19 J20 R21 (fun o C26 I27 J28 R29 =>
      (∃ r30 : Int64, o = .inl (some (aJ r30)) ∧
      (C26 x0).1 = 8 ∧
      F_X0_times [aJ r30, aJ ((I27 x0 7).toInt64)] C26 I27 J28 R29 (fun o C32 I33 J34 R35 =>
      (∃ r36 : Int64, o = .inl (some (aJ r36)) ∧
      ∃ q37 : Nat, R21 x0 1 = some q37 ∧
      (C32 q37).1 = 4 ∧
      F_X3_anew [aR (some q37), aJ r36] C32 I33 J34 R35 (fun o C39 I40 J41 R42 =>
      ∃ r43 : Nat, o = .inl (some (aR (some r43))) ∧
      Q50 x0 r11 r22 r43 (0 : Int32) C39 I40 J41 R42)) ∨
      (∃ q44 : Nat, o = .inr q44 ∧
      ((C32 q44).1 = 11 ∧
      K (.inr q44) C32 I33 J34 R35)))) ∨
      (∃ q46 : Nat, o = .inr q46 ∧
      ((C26 q46).1 = 11 ∧
      K (.inr q46) C26 I27 J28 R29)))) ∨
      (∃ q48 : Nat, o = .inr q48 ∧
      ((C18 q48).1 = 11 ∧
      K (.inr q48) C18 I19 J20 R21)))) ∨
      (∃ q50 : Nat, o = .inr q50 ∧
      ((C7 q50).1 = 11 ∧
      K (.inr q50) C7 I8 J9 R10)))
theorem wX8_table {l : Launch} {d : Nat}  {F_Vtable : SPF} (S_Vtable : SpVtable l d F_Vtable) {F_X0_times : SPF} (S_X0_times : SpX0_times l F_X0_times) {F_X3_anew : SPF} (S_X3_anew : SpX3_anew l F_X3_anew) {F_X0_fold : SPF} (S_X0_fold : SpX0_fold l F_X0_fold) {F_X3_less : SPF} (S_X3_less : SpX3_less l F_X3_less) {F_X3_add : SPF} (S_X3_add : SpX3_add l F_X3_add)
    (Q50 : Nat → AK → Nat → Nat → Nat → Nat → Int32 → MC → MI → MJ → MR → Prop) {F : SPF}
    (h0 : ∀ (As : List AV) (C : MC) (I : MI) (J : MJ) (R : MR) (K : AK), F As C I J R K → ∃ (x0 : Nat), As = [aR (some x0)] ∧ PX8_table_0 F_Vtable F_X0_times F_X3_anew F_X0_fold F_X3_less F_X3_add (fun (x0 : Nat) (x1 : Nat) (x2 : Nat) (x3 : Nat) (x4 : Int32) (C : MC) (I : MI) (J : MJ) (R : MR) => ∃ n, Q50 n K x0 x1 x2 x3 x4 C I J R) K x0 C I J R)
    (h50 : ∀ (n : Nat) (K : AK) (x0 : Nat) (x1 : Nat) (x2 : Nat) (x3 : Nat) (x4 : Int32) (C : MC) (I : MI) (J : MJ) (R : MR), Q50 n K x0 x1 x2 x3 x4 C I J R → PX8_table_50 F_Vtable F_X0_times F_X3_anew F_X0_fold F_X3_less F_X3_add (fun (x0 : Nat) (x1 : Nat) (x2 : Nat) (x3 : Nat) (x4 : Int32) (C : MC) (I : MI) (J : MJ) (R : MR) => ∃ m, m < n ∧ Q50 m K x0 x1 x2 x3 x4 C I J R) K x0 x1 x2 x3 x4 C I J R) : SpX8_table l (d + 1) F := by
  refine Spec.of (by rfl) ?_
  intro Γ C I J R As Gd gl gr _ _ gb hF
  subst gl
  have G : Gb Γ yX8_table cX8_table 5 (some (.object "TickShare$Table")) [] (rmTb (d + 1)) bdX8_table := ⟨Gd, gr, gb⟩
  have key : ∀ n : Nat, (∀ (x0 : Nat) (x1 : Nat) (x2 : Nat) (x3 : Nat) (x4 : Int32) (C : MC) (I : MI) (J : MJ) (R : MR), Q50 n (gK Γ) x0 x1 x2 x3 x4 C I J R → AW Γ 0 0 C I J R 50 [(0, aR (some x0)), (1, aR (some x1)), (2, aR (some x2)), (3, aR (some x3)), (4, aI x4)] []) := by
    intro n
    induction n using Nat.strongRecOn with
    | ind n ih =>
    have w50 : ∀ (x0 : Nat) (x1 : Nat) (x2 : Nat) (x3 : Nat) (x4 : Int32) (C : MC) (I : MI) (J : MJ) (R : MR), (∃ m, m < n ∧ Q50 m (gK Γ) x0 x1 x2 x3 x4 C I J R) → AW Γ 0 0 C I J R 50 [(0, aR (some x0)), (1, aR (some x1)), (2, aR (some x2)), (3, aR (some x3)), (4, aI x4)] [] := fun x0 x1 x2 x3 x4 C I J R ⟨m, hm, hq⟩ => (ih m hm) x0 x1 x2 x3 x4 C I J R hq
    exact fun x0 x1 x2 x3 x4 C I J R h => bX8_table_50 G S_X0_fold S_X3_less S_X3_add w50 (h50 n (gK Γ) x0 x1 x2 x3 x4 C I J R h)
  have w50 : ∀ (x0 : Nat) (x1 : Nat) (x2 : Nat) (x3 : Nat) (x4 : Int32) (C : MC) (I : MI) (J : MJ) (R : MR), (∃ n, Q50 n (gK Γ) x0 x1 x2 x3 x4 C I J R) → AW Γ 0 0 C I J R 50 [(0, aR (some x0)), (1, aR (some x1)), (2, aR (some x2)), (3, aR (some x3)), (4, aI x4)] [] := fun x0 x1 x2 x3 x4 C I J R ⟨m, hq⟩ => (key m) x0 x1 x2 x3 x4 C I J R hq
  obtain ⟨x0, rfl, h⟩ := h0 As C I J R (gK Γ) hF
  exact ⟨Nat.le_of_ble_eq_true rfl, bX8_table_0 G S_Vtable S_X0_times S_X3_anew w50 h⟩
def PX9_init_0 (F_X4_init : SPF) (K : AK) (x0 : Nat) (x1 : Nat) (x2 : Int32) (x3 : Int32) (C : MC) (I : MI) (J : MJ) (R : MR) : Prop :=
      ∃ q1 : Nat, (C q1).1 = 0 ∧
      ∀ (C3 : MC) (I4 : MI) (J5 : MJ) (R6 : MR), C3 = va_up C q1 (26, 1) → I4 = va_up I q1 (fun _ => 0) → J5 = va_up J q1 (fun _ => 0) → R6 = va_up R q1 (fun _ => none) → 
      (25 ≤ (C3 q1).1 ∧ (C3 q1).1 < 29) ∧
      kFit (C3 q1).1 (C3 x1).1 ∧
      vp_in (0 : Int32) (C3 q1).2 ∧
      ∀ R10 : MR, R10 = va_up R6 q1 (va_up (R6 q1) (0 : Int32).toNatClampNeg (some x1)) →
      F_X4_init [aR (some x0), aR (some q1)] C3 I4 J5 R10 (fun o C11 I12 J13 R14 =>
      o = .inl none ∧
      ∃ q16 : Nat, (C11 q16).1 = 0 ∧
      ∀ (C18 : MC) (I19 : MI) (J20 : MJ) (R21 : MR), C18 = va_up C11 q16 (21, 121) → I19 = va_up I12 q16 (fun _ => 0) → J20 = va_up J13 q16 (fun _ => 0) → R21 = va_up R14 q16 (fun _ => none) → 
      (C18 x0).1 = 9 ∧
      ∀ R23 : MR, R23 = va_up R21 x0 (va_up (R21 x0) 8 (some q16)) →
      ∃ q24 : Nat, (C18 q24).1 = 0 ∧
      ∀ (C26 : MC) (I27 : MI) (J28 : MJ) (R29 : MR), C26 = va_up C18 q24 (21, 121) → I27 = va_up I19 q24 (fun _ => 0) → J28 = va_up J20 q24 (fun _ => 0) → R29 = va_up R23 q24 (fun _ => none) → 
      (C26 x0).1 = 9 ∧
      ∀ R31 : MR, R31 = va_up R29 x0 (va_up (R29 x0) 9 (some q24)) →
      ∀ I32 : MI, I32 = va_up I27 x0 (va_up (I27 x0) 6 x2) →
      ∀ I33 : MI, I33 = va_up I32 x0 (va_up (I32 x0) 7 x3) →
      K (.inl none) C26 I33 J28 R31)
theorem wX9_init {l : Launch}  {F_X4_init : SPF} (S_X4_init : SpX4_init l F_X4_init) {F : SPF}
    (h0 : ∀ (As : List AV) (C : MC) (I : MI) (J : MJ) (R : MR) (K : AK), F As C I J R K → ∃ (x0 : Nat) (x1 : Nat) (x2 : Int32) (x3 : Int32), As = [aR (some x0), aR (some x1), aI x2, aI x3] ∧ PX9_init_0 F_X4_init K x0 x1 x2 x3 C I J R) : SpX9_init l F := by
  refine Spec.of (by rfl) ?_
  intro Γ C I J R As Gd gl gr _ _ gb hF
  subst gl
  have G : Gb Γ yX9_init cX9_init 4 (none) [] rmX9_init bdX9_init := ⟨Gd, gr, gb⟩
  obtain ⟨x0, x1, x2, x3, rfl, h⟩ := h0 As C I J R (gK Γ) hF
  exact ⟨Nat.le_of_ble_eq_true rfl, bX9_init_0 G S_X4_init h⟩
def PX9_kind_0 (K : AK) (x0 : Nat) (C : MC) (I : MI) (J : MJ) (R : MR) : Prop :=
      K (.inl (some (aI (4 : Int32)))) C I J R
theorem wX9_kind {l : Launch}  {F : SPF}
    (h0 : ∀ (As : List AV) (C : MC) (I : MI) (J : MJ) (R : MR) (K : AK), F As C I J R K → ∃ (x0 : Nat), As = [aR (some x0)] ∧ PX9_kind_0 K x0 C I J R) : SpX9_kind l F := by
  refine Spec.of (by rfl) ?_
  intro Γ C I J R As Gd gl gr _ _ gb hF
  subst gl
  have G : Gb Γ yX9_kind cX9_kind 1 (some .int) [] rmX9_kind bdX9_kind := ⟨Gd, gr, gb⟩
  obtain ⟨x0, rfl, h⟩ := h0 As C I J R (gK Γ) hF
  exact ⟨Nat.le_of_ble_eq_true rfl, bX9_kind_0 G h⟩
def PX9_table_384 (F_Vtable : SPF) (F_X3_anew : SPF) (F_X0_times : SPF) (F_X3_add : SPF) (F_X11_init : SPF) (F_X3_less : SPF) (Q24 : Nat → Nat → Nat → Int32 → MC → MI → MJ → MR → Prop) (Q111 : Nat → Nat → Nat → Nat → Int32 → MC → MI → MJ → MR → Prop) (Q144 : Nat → Nat → Nat → Nat → Int32 → MC → MI → MJ → MR → Prop) (Q183 : Nat → Nat → Nat → Nat → Int64 → Int32 → MC → MI → MJ → MR → Prop) (Q204 : Nat → Nat → Nat → Nat → Int64 → Int32 → Int32 → MC → MI → MJ → MR → Prop) (Q228 : Nat → Nat → Nat → Nat → Int64 → Int32 → Int32 → MC → MI → MJ → MR → Prop) (Q238 : Nat → Nat → Nat → Nat → Int64 → Int32 → Int32 → Int32 → MC → MI → MJ → MR → Prop) (Q384 : Nat → Nat → Int32 → MC → MI → MJ → MR → Prop) (K : AK) (x0 : Nat) (x3 : Nat) (x6 : Int32) (C : MC) (I : MI) (J : MJ) (R : MR) : Prop :=
      (((120 : Int32) < x6 →
      (C x3).1 = 4 ∧
      F_X3_less [aR (some x3)] C I J R (fun o C3 I4 J5 R6 =>
      ∃ r7 : Nat, o = .inl (some (aR (some r7))) ∧
      K (.inl (some (aR (some r7)))) C3 I4 J5 R6)) ∧
      (¬ (120 : Int32) < x6 →
      (C x0).1 = 9 ∧
      ∃ q9 : Nat, R x0 8 = some q9 ∧
      (C q9).1 = 21 ∧
      vp_in x6 (C q9).2 ∧
      (C x3).1 = 4 ∧
      F_X3_add [aR (some x3), aI (0 : Int32), aI x6, aJ (J q9 x6.toNatClampNeg)] C I J R (fun o C13 I14 J15 R16 =>
      (o = .inl none ∧
      Q384 x0 x3 (x6 + 1) C13 I14 J15 R16) ∨
      (∃ q18 : Nat, o = .inr q18 ∧
      ((C13 q18).1 = 11 ∧
      K (.inr q18) C13 I14 J15 R16)))))
def PX9_table_354 (F_Vtable : SPF) (F_X3_anew : SPF) (F_X0_times : SPF) (F_X3_add : SPF) (F_X11_init : SPF) (F_X3_less : SPF) (Q24 : Nat → Nat → Nat → Int32 → MC → MI → MJ → MR → Prop) (Q111 : Nat → Nat → Nat → Nat → Int32 → MC → MI → MJ → MR → Prop) (Q144 : Nat → Nat → Nat → Nat → Int32 → MC → MI → MJ → MR → Prop) (Q183 : Nat → Nat → Nat → Nat → Int64 → Int32 → MC → MI → MJ → MR → Prop) (Q204 : Nat → Nat → Nat → Nat → Int64 → Int32 → Int32 → MC → MI → MJ → MR → Prop) (Q228 : Nat → Nat → Nat → Nat → Int64 → Int32 → Int32 → MC → MI → MJ → MR → Prop) (Q238 : Nat → Nat → Nat → Nat → Int64 → Int32 → Int32 → Int32 → MC → MI → MJ → MR → Prop) (Q384 : Nat → Nat → Int32 → MC → MI → MJ → MR → Prop) (K : AK) (x0 : Nat) (x1 : Nat) (x2 : Nat) (x3 : Nat) (x4 : Int64) (x6 : Int32) (x7 : Int32) (C : MC) (I : MI) (J : MJ) (R : MR) : Prop :=
      Q228 x0 x1 x2 x3 x4 x6 (x7 + 1) C I J R
def PX9_table_348 (F_Vtable : SPF) (F_X3_anew : SPF) (F_X0_times : SPF) (F_X3_add : SPF) (F_X11_init : SPF) (F_X3_less : SPF) (Q24 : Nat → Nat → Nat → Int32 → MC → MI → MJ → MR → Prop) (Q111 : Nat → Nat → Nat → Nat → Int32 → MC → MI → MJ → MR → Prop) (Q144 : Nat → Nat → Nat → Nat → Int32 → MC → MI → MJ → MR → Prop) (Q183 : Nat → Nat → Nat → Nat → Int64 → Int32 → MC → MI → MJ → MR → Prop) (Q204 : Nat → Nat → Nat → Nat → Int64 → Int32 → Int32 → MC → MI → MJ → MR → Prop) (Q228 : Nat → Nat → Nat → Nat → Int64 → Int32 → Int32 → MC → MI → MJ → MR → Prop) (Q238 : Nat → Nat → Nat → Nat → Int64 → Int32 → Int32 → Int32 → MC → MI → MJ → MR → Prop) (Q384 : Nat → Nat → Int32 → MC → MI → MJ → MR → Prop) (K : AK) (x0 : Nat) (x1 : Nat) (x2 : Nat) (x3 : Nat) (x4 : Int64) (x6 : Int32) (x7 : Int32) (x8 : Int32) (C : MC) (I : MI) (J : MJ) (R : MR) : Prop :=
      Q238 x0 x1 x2 x3 x4 x6 x7 (x8 + 1) C I J R
def PX9_table_238 (F_Vtable : SPF) (F_X3_anew : SPF) (F_X0_times : SPF) (F_X3_add : SPF) (F_X11_init : SPF) (F_X3_less : SPF) (Q24 : Nat → Nat → Nat → Int32 → MC → MI → MJ → MR → Prop) (Q111 : Nat → Nat → Nat → Nat → Int32 → MC → MI → MJ → MR → Prop) (Q144 : Nat → Nat → Nat → Nat → Int32 → MC → MI → MJ → MR → Prop) (Q183 : Nat → Nat → Nat → Nat → Int64 → Int32 → MC → MI → MJ → MR → Prop) (Q204 : Nat → Nat → Nat → Nat → Int64 → Int32 → Int32 → MC → MI → MJ → MR → Prop) (Q228 : Nat → Nat → Nat → Nat → Int64 → Int32 → Int32 → MC → MI → MJ → MR → Prop) (Q238 : Nat → Nat → Nat → Nat → Int64 → Int32 → Int32 → Int32 → MC → MI → MJ → MR → Prop) (Q384 : Nat → Nat → Int32 → MC → MI → MJ → MR → Prop) (K : AK) (x0 : Nat) (x1 : Nat) (x2 : Nat) (x3 : Nat) (x4 : Int64) (x6 : Int32) (x7 : Int32) (x8 : Int32) (C : MC) (I : MI) (J : MJ) (R : MR) : Prop :=
      (C x0).1 = 9 ∧
      (((I x0 6) < x8 →
      PX9_table_354 F_Vtable F_X3_anew F_X0_times F_X3_add F_X11_init F_X3_less Q24 Q111 Q144 Q183 Q204 Q228 Q238 Q384 K x0 x1 x2 x3 x4 x6 x7 C I J R) ∧
      (¬ (I x0 6) < x8 →
      ∃ q3 : Nat, R x0 8 = some q3 ∧
      (C q3).1 = 21 ∧
      vp_in x7 (C q3).2 ∧
      (((J q3 x7.toNatClampNeg) ≤ (0 : Int64) →
      PX9_table_354 F_Vtable F_X3_anew F_X0_times F_X3_add F_X11_init F_X3_less Q24 Q111 Q144 Q183 Q204 Q228 Q238 Q384 K x0 x1 x2 x3 x4 x6 x7 C I J R) ∧
      (¬ (J q3 x7.toNatClampNeg) ≤ (0 : Int64) →
      (C x2).1 = 4 ∧
      ∃ q8 : Nat, R x2 0 = some q8 ∧
      (C q8).1 = 21 ∧
      vp_in x8 (C q8).2 ∧
      (C x3).1 = 4 ∧
      F_X3_add [aR (some x3), aI (1 : Int32), aI (x7 + x8), aJ (((J q3 x7.toNatClampNeg) * (J q8 x8.toNatClampNeg)) * x4)] C I J R (fun o C12 I13 J14 R15 =>
      (o = .inl none ∧
      (C12 x2).1 = 4 ∧
      ∃ q18 : Nat, R15 x2 1 = some q18 ∧
      (C12 q18).1 = 21 ∧
      vp_in x8 (C12 q18).2 ∧
      ((¬ (J14 q18 x8.toNatClampNeg) = (0 : Int64) →
      (((x7 + x8) ≤ (120 : Int32) →
      (C12 x0).1 = 9 ∧
      ∃ q24 : Nat, R15 x0 9 = some q24 ∧
      (C12 q24).1 = 21 ∧
      vp_in (x7 + x8) (C12 q24).2 ∧
      ∃ q27 : Nat, R15 x0 8 = some q27 ∧
      (C12 q27).1 = 21 ∧
      vp_in x7 (C12 q27).2 ∧
      ∀ J30 : MJ, J30 = va_up J14 q24 (va_up (J14 q24) (x7 + x8).toNatClampNeg ((J14 q24 (x7 + x8).toNatClampNeg) + ((J14 q27 x7.toNatClampNeg) * (J14 q18 x8.toNatClampNeg)))) →
      PX9_table_348 F_Vtable F_X3_anew F_X0_times F_X3_add F_X11_init F_X3_less Q24 Q111 Q144 Q183 Q204 Q228 Q238 Q384 K x0 x1 x2 x3 x4 x6 x7 x8 C12 I13 J30 R15) ∧
      (¬ (x7 + x8) ≤ (120 : Int32) →
      ∃ q31 : Nat, (C12 q31).1 = 0 ∧
      ∀ (C33 : MC) (I34 : MI) (J35 : MJ) (R36 : MR), C33 = va_up C12 q31 (11, 0) → I34 = va_up I13 q31 (fun _ => 0) → J35 = va_up J14 q31 (fun _ => 0) → R36 = va_up R15 q31 (fun _ => none) → 
      F_X11_init [aR (some q31)] C33 I34 J35 R36 (fun o C37 I38 J39 R40 =>
      o = .inl none ∧
      (C37 q31).1 = 11 ∧
      K (.inr q31) C37 I38 J39 R40)))) ∧
      ((J14 q18 x8.toNatClampNeg) = (0 : Int64) →
      PX9_table_348 F_Vtable F_X3_anew F_X0_times F_X3_add F_X11_init F_X3_less Q24 Q111 Q144 Q183 Q204 Q228 Q238 Q384 K x0 x1 x2 x3 x4 x6 x7 x8 C12 I13 J14 R15))) ∨
      (∃ q43 : Nat, o = .inr q43 ∧
      ((C12 q43).1 = 11 ∧
      K (.inr q43) C12 I13 J14 R15)))))))
def PX9_table_228 (F_Vtable : SPF) (F_X3_anew : SPF) (F_X0_times : SPF) (F_X3_add : SPF) (F_X11_init : SPF) (F_X3_less : SPF) (Q24 : Nat → Nat → Nat → Int32 → MC → MI → MJ → MR → Prop) (Q111 : Nat → Nat → Nat → Nat → Int32 → MC → MI → MJ → MR → Prop) (Q144 : Nat → Nat → Nat → Nat → Int32 → MC → MI → MJ → MR → Prop) (Q183 : Nat → Nat → Nat → Nat → Int64 → Int32 → MC → MI → MJ → MR → Prop) (Q204 : Nat → Nat → Nat → Nat → Int64 → Int32 → Int32 → MC → MI → MJ → MR → Prop) (Q228 : Nat → Nat → Nat → Nat → Int64 → Int32 → Int32 → MC → MI → MJ → MR → Prop) (Q238 : Nat → Nat → Nat → Nat → Int64 → Int32 → Int32 → Int32 → MC → MI → MJ → MR → Prop) (Q384 : Nat → Nat → Int32 → MC → MI → MJ → MR → Prop) (K : AK) (x0 : Nat) (x1 : Nat) (x2 : Nat) (x3 : Nat) (x4 : Int64) (x6 : Int32) (x7 : Int32) (C : MC) (I : MI) (J : MJ) (R : MR) : Prop :=
      (((120 : Int32) < x7 →
      (C x0).1 = 9 ∧
      ∃ q3 : Nat, R x0 8 = some q3 ∧
      ∃ q4 : Nat, R x0 9 = some q4 ∧
      (C q4).1 = 21 ∧
      (C q3).1 = 21 ∧
      (0 : Int32).toNatClampNeg + (121 : Int32).toNatClampNeg ≤ (C q4).2 ∧
      (0 : Int32).toNatClampNeg + (121 : Int32).toNatClampNeg ≤ (C q3).2 ∧
      ∀ J9 : MJ, J9 = va_up J q3 (va_cpy (J q4) (J q3) (0 : Int32).toNatClampNeg (0 : Int32).toNatClampNeg (121 : Int32).toNatClampNeg) →
      Q183 x0 x1 x2 x3 x4 (x6 + 1) C I J9 R) ∧
      (¬ (120 : Int32) < x7 →
      Q238 x0 x1 x2 x3 x4 x6 x7 (0 : Int32) C I J R))
def PX9_table_204 (F_Vtable : SPF) (F_X3_anew : SPF) (F_X0_times : SPF) (F_X3_add : SPF) (F_X11_init : SPF) (F_X3_less : SPF) (Q24 : Nat → Nat → Nat → Int32 → MC → MI → MJ → MR → Prop) (Q111 : Nat → Nat → Nat → Nat → Int32 → MC → MI → MJ → MR → Prop) (Q144 : Nat → Nat → Nat → Nat → Int32 → MC → MI → MJ → MR → Prop) (Q183 : Nat → Nat → Nat → Nat → Int64 → Int32 → MC → MI → MJ → MR → Prop) (Q204 : Nat → Nat → Nat → Nat → Int64 → Int32 → Int32 → MC → MI → MJ → MR → Prop) (Q228 : Nat → Nat → Nat → Nat → Int64 → Int32 → Int32 → MC → MI → MJ → MR → Prop) (Q238 : Nat → Nat → Nat → Nat → Int64 → Int32 → Int32 → Int32 → MC → MI → MJ → MR → Prop) (Q384 : Nat → Nat → Int32 → MC → MI → MJ → MR → Prop) (K : AK) (x0 : Nat) (x1 : Nat) (x2 : Nat) (x3 : Nat) (x4 : Int64) (x6 : Int32) (x7 : Int32) (C : MC) (I : MI) (J : MJ) (R : MR) : Prop :=
      (((120 : Int32) < x7 →
      Q228 x0 x1 x2 x3 x4 x6 (0 : Int32) C I J R) ∧
      (¬ (120 : Int32) < x7 →
      (C x0).1 = 9 ∧
      ∃ q3 : Nat, R x0 9 = some q3 ∧
      (C q3).1 = 21 ∧
      vp_in x7 (C q3).2 ∧
      ∀ J6 : MJ, J6 = va_up J q3 (va_up (J q3) x7.toNatClampNeg (0 : Int64)) →
      Q204 x0 x1 x2 x3 x4 x6 (x7 + 1) C I J6 R))
def PX9_table_183 (F_Vtable : SPF) (F_X3_anew : SPF) (F_X0_times : SPF) (F_X3_add : SPF) (F_X11_init : SPF) (F_X3_less : SPF) (Q24 : Nat → Nat → Nat → Int32 → MC → MI → MJ → MR → Prop) (Q111 : Nat → Nat → Nat → Nat → Int32 → MC → MI → MJ → MR → Prop) (Q144 : Nat → Nat → Nat → Nat → Int32 → MC → MI → MJ → MR → Prop) (Q183 : Nat → Nat → Nat → Nat → Int64 → Int32 → MC → MI → MJ → MR → Prop) (Q204 : Nat → Nat → Nat → Nat → Int64 → Int32 → Int32 → MC → MI → MJ → MR → Prop) (Q228 : Nat → Nat → Nat → Nat → Int64 → Int32 → Int32 → MC → MI → MJ → MR → Prop) (Q238 : Nat → Nat → Nat → Nat → Int64 → Int32 → Int32 → Int32 → MC → MI → MJ → MR → Prop) (Q384 : Nat → Nat → Int32 → MC → MI → MJ → MR → Prop) (K : AK) (x0 : Nat) (x1 : Nat) (x2 : Nat) (x3 : Nat) (x4 : Int64) (x6 : Int32) (C : MC) (I : MI) (J : MJ) (R : MR) : Prop :=
      (C x0).1 = 9 ∧
      (((I x0 7) < x6 →
      Q384 x0 x3 (0 : Int32) C I J R) ∧
      (¬ (I x0 7) < x6 →
      (C x1).1 = 4 ∧
      ¬ (J x1 2) = 0 ∧
      Q204 x0 x1 x2 x3 (x4 / (J x1 2)) x6 (0 : Int32) C I J R))
def PX9_table_167 (F_Vtable : SPF) (F_X3_anew : SPF) (F_X0_times : SPF) (F_X3_add : SPF) (F_X11_init : SPF) (F_X3_less : SPF) (Q24 : Nat → Nat → Nat → Int32 → MC → MI → MJ → MR → Prop) (Q111 : Nat → Nat → Nat → Nat → Int32 → MC → MI → MJ → MR → Prop) (Q144 : Nat → Nat → Nat → Nat → Int32 → MC → MI → MJ → MR → Prop) (Q183 : Nat → Nat → Nat → Nat → Int64 → Int32 → MC → MI → MJ → MR → Prop) (Q204 : Nat → Nat → Nat → Nat → Int64 → Int32 → Int32 → MC → MI → MJ → MR → Prop) (Q228 : Nat → Nat → Nat → Nat → Int64 → Int32 → Int32 → MC → MI → MJ → MR → Prop) (Q238 : Nat → Nat → Nat → Nat → Int64 → Int32 → Int32 → Int32 → MC → MI → MJ → MR → Prop) (Q384 : Nat → Nat → Int32 → MC → MI → MJ → MR → Prop) (K : AK) (x0 : Nat) (x1 : Nat) (x2 : Nat) (x3 : Nat) (x4 : Int32) (s0 : Option Nat) (s1 : Int32) (s2 : Int64) (C : MC) (I : MI) (J : MJ) (R : MR) : Prop :=
      ∃ q1 : Nat, s0 = some q1 ∧
      (C q1).1 = 21 ∧
      vp_in s1 (C q1).2 ∧
      ∀ J4 : MJ, J4 = va_up J q1 (va_up (J q1) s1.toNatClampNeg s2) →
      Q144 x0 x1 x2 x3 (x4 + 1) C I J4 R
def PX9_table_144 (F_Vtable : SPF) (F_X3_anew : SPF) (F_X0_times : SPF) (F_X3_add : SPF) (F_X11_init : SPF) (F_X3_less : SPF) (Q24 : Nat → Nat → Nat → Int32 → MC → MI → MJ → MR → Prop) (Q111 : Nat → Nat → Nat → Nat → Int32 → MC → MI → MJ → MR → Prop) (Q144 : Nat → Nat → Nat → Nat → Int32 → MC → MI → MJ → MR → Prop) (Q183 : Nat → Nat → Nat → Nat → Int64 → Int32 → MC → MI → MJ → MR → Prop) (Q204 : Nat → Nat → Nat → Nat → Int64 → Int32 → Int32 → MC → MI → MJ → MR → Prop) (Q228 : Nat → Nat → Nat → Nat → Int64 → Int32 → Int32 → MC → MI → MJ → MR → Prop) (Q238 : Nat → Nat → Nat → Nat → Int64 → Int32 → Int32 → Int32 → MC → MI → MJ → MR → Prop) (Q384 : Nat → Nat → Int32 → MC → MI → MJ → MR → Prop) (K : AK) (x0 : Nat) (x1 : Nat) (x2 : Nat) (x3 : Nat) (x4 : Int32) (C : MC) (I : MI) (J : MJ) (R : MR) : Prop :=
      (((120 : Int32) < x4 →
      (C x3).1 = 4 ∧
      Q183 x0 x1 x2 x3 (J x3 2) (0 : Int32) C I J R) ∧
      (¬ (120 : Int32) < x4 →
      (C x0).1 = 9 ∧
      ((¬ x4 = 0 →
      PX9_table_167 F_Vtable F_X3_anew F_X0_times F_X3_add F_X11_init F_X3_less Q24 Q111 Q144 Q183 Q204 Q228 Q238 Q384 K x0 x1 x2 x3 x4 (R x0 8) x4 (0 : Int64) C I J R) ∧
      (x4 = 0 →
      PX9_table_167 F_Vtable F_X3_anew F_X0_times F_X3_add F_X11_init F_X3_less Q24 Q111 Q144 Q183 Q204 Q228 Q238 Q384 K x0 x1 x2 x3 x4 (R x0 8) x4 (1 : Int64) C I J R))))
def PX9_table_111 (F_Vtable : SPF) (F_X3_anew : SPF) (F_X0_times : SPF) (F_X3_add : SPF) (F_X11_init : SPF) (F_X3_less : SPF) (Q24 : Nat → Nat → Nat → Int32 → MC → MI → MJ → MR → Prop) (Q111 : Nat → Nat → Nat → Nat → Int32 → MC → MI → MJ → MR → Prop) (Q144 : Nat → Nat → Nat → Nat → Int32 → MC → MI → MJ → MR → Prop) (Q183 : Nat → Nat → Nat → Nat → Int64 → Int32 → MC → MI → MJ → MR → Prop) (Q204 : Nat → Nat → Nat → Nat → Int64 → Int32 → Int32 → MC → MI → MJ → MR → Prop) (Q228 : Nat → Nat → Nat → Nat → Int64 → Int32 → Int32 → MC → MI → MJ → MR → Prop) (Q238 : Nat → Nat → Nat → Nat → Int64 → Int32 → Int32 → Int32 → MC → MI → MJ → MR → Prop) (Q384 : Nat → Nat → Int32 → MC → MI → MJ → MR → Prop) (K : AK) (x0 : Nat) (x1 : Nat) (x2 : Nat) (x3 : Nat) (x4 : Int32) (C : MC) (I : MI) (J : MJ) (R : MR) : Prop :=
      (C x0).1 = 9 ∧
      (((I x0 7) < x4 →
      Q144 x0 x1 x2 x3 (0 : Int32) C I J R) ∧
      (¬ (I x0 7) < x4 →
      (C x3).1 = 4 ∧
      (C x1).1 = 4 ∧
      F_X0_times [aJ (J x3 2), aJ (J x1 2)] C I J R (fun o C5 I6 J7 R8 =>
      (∃ r9 : Int64, o = .inl (some (aJ r9)) ∧
      (C5 x3).1 = 4 ∧
      ∀ J11 : MJ, J11 = va_up J7 x3 (va_up (J7 x3) 2 r9) →
      Q111 x0 x1 x2 x3 (x4 + 1) C5 I6 J11 R8) ∨
      (∃ q12 : Nat, o = .inr q12 ∧
      ((C5 q12).1 = 11 ∧
      K (.inr q12) C5 I6 J7 R8)))))
def PX9_table_71 (F_Vtable : SPF) (F_X3_anew : SPF) (F_X0_times : SPF) (F_X3_add : SPF) (F_X11_init : SPF) (F_X3_less : SPF) (Q24 : Nat → Nat → Nat → Int32 → MC → MI → MJ → MR → Prop) (Q111 : Nat → Nat → Nat → Nat → Int32 → MC → MI → MJ → MR → Prop) (Q144 : Nat → Nat → Nat → Nat → Int32 → MC → MI → MJ → MR → Prop) (Q183 : Nat → Nat → Nat → Nat → Int64 → Int32 → MC → MI → MJ → MR → Prop) (Q204 : Nat → Nat → Nat → Nat → Int64 → Int32 → Int32 → MC → MI → MJ → MR → Prop) (Q228 : Nat → Nat → Nat → Nat → Int64 → Int32 → Int32 → MC → MI → MJ → MR → Prop) (Q238 : Nat → Nat → Nat → Nat → Int64 → Int32 → Int32 → Int32 → MC → MI → MJ → MR → Prop) (Q384 : Nat → Nat → Int32 → MC → MI → MJ → MR → Prop) (K : AK) (x0 : Nat) (x1 : Nat) (x2 : Nat) (x3 : Int32) (C : MC) (I : MI) (J : MJ) (R : MR) : Prop :=
      (C x2).1 = 4 ∧
      (C x0).1 = 9 ∧
      ∃ q3 : Nat, R x2 1 = some q3 ∧
      (C q3).1 = 21 ∧
      vp_in (if (I x0 6) < x3 then (I x0 6) else x3) (C q3).2 ∧
      (C x1).1 = 4 ∧
      ∃ q7 : Nat, R x1 1 = some q7 ∧
      (C q7).1 = 21 ∧
      vp_in x3 (C q7).2 ∧
      ∀ J10 : MJ, J10 = va_up J q3 (va_up (J q3) (if (I x0 6) < x3 then (I x0 6) else x3).toNatClampNeg ((J q3 (if (I x0 6) < x3 then (I x0 6) else x3).toNatClampNeg) + (J q7 x3.toNatClampNeg))) →
      Q24 x0 x1 x2 (x3 + 1) C I J10 R
def PX9_table_24 (F_Vtable : SPF) (F_X3_anew : SPF) (F_X0_times : SPF) (F_X3_add : SPF) (F_X11_init : SPF) (F_X3_less : SPF) (Q24 : Nat → Nat → Nat → Int32 → MC → MI → MJ → MR → Prop) (Q111 : Nat → Nat → Nat → Nat → Int32 → MC → MI → MJ → MR → Prop) (Q144 : Nat → Nat → Nat → Nat → Int32 → MC → MI → MJ → MR → Prop) (Q183 : Nat → Nat → Nat → Nat → Int64 → Int32 → MC → MI → MJ → MR → Prop) (Q204 : Nat → Nat → Nat → Nat → Int64 → Int32 → Int32 → MC → MI → MJ → MR → Prop) (Q228 : Nat → Nat → Nat → Nat → Int64 → Int32 → Int32 → MC → MI → MJ → MR → Prop) (Q238 : Nat → Nat → Nat → Nat → Int64 → Int32 → Int32 → Int32 → MC → MI → MJ → MR → Prop) (Q384 : Nat → Nat → Int32 → MC → MI → MJ → MR → Prop) (K : AK) (x0 : Nat) (x1 : Nat) (x2 : Nat) (x3 : Int32) (C : MC) (I : MI) (J : MJ) (R : MR) : Prop :=
      (((120 : Int32) < x3 →
      (C x0).1 = 9 ∧
      ∃ q3 : Nat, R x0 1 = some q3 ∧
      (C q3).1 = 4 ∧
      F_X3_anew [aR (some q3), aJ (1 : Int64)] C I J R (fun o C5 I6 J7 R8 =>
      ∃ r9 : Nat, o = .inl (some (aR (some r9))) ∧
      Q111 x0 x1 x2 r9 (0 : Int32) C5 I6 J7 R8)) ∧
      (¬ (120 : Int32) < x3 →
      (C x0).1 = 9 ∧
      (((I x0 6) < x3 →
      (C x2).1 = 4 ∧
      ∃ q13 : Nat, R x2 1 = some q13 ∧
      (C q13).1 = 21 ∧
      vp_in (I x0 6) (C q13).2 ∧
      (C x1).1 = 4 ∧
      ∃ q17 : Nat, R x1 0 = some q17 ∧
      (C q17).1 = 21 ∧
      vp_in x3 (C q17).2 ∧
      ∀ J20 : MJ, J20 = va_up J q13 (va_up (J q13) (I x0 6).toNatClampNeg ((J q13 (I x0 6).toNatClampNeg) + (J q17 x3.toNatClampNeg))) →
      PX9_table_71 F_Vtable F_X3_anew F_X0_times F_X3_add F_X11_init F_X3_less Q24 Q111 Q144 Q183 Q204 Q228 Q238 Q384 K x0 x1 x2 x3 C I J20 R) ∧
      (¬ (I x0 6) < x3 →
      (C x2).1 = 4 ∧
      (C x1).1 = 4 ∧
      ∃ q23 : Nat, R x1 0 = some q23 ∧
      (C q23).1 = 21 ∧
      vp_in x3 (C q23).2 ∧
      ∃ q26 : Nat, R x2 0 = some q26 ∧
      (C q26).1 = 21 ∧
      vp_in x3 (C q26).2 ∧
      ∀ J29 : MJ, J29 = va_up J q26 (va_up (J q26) x3.toNatClampNeg (J q23 x3.toNatClampNeg)) →
      PX9_table_71 F_Vtable F_X3_anew F_X0_times F_X3_add F_X11_init F_X3_less Q24 Q111 Q144 Q183 Q204 Q228 Q238 Q384 K x0 x1 x2 x3 C I J29 R))))
def PX9_table_0 (F_Vtable : SPF) (F_X3_anew : SPF) (F_X0_times : SPF) (F_X3_add : SPF) (F_X11_init : SPF) (F_X3_less : SPF) (Q24 : Nat → Nat → Nat → Int32 → MC → MI → MJ → MR → Prop) (Q111 : Nat → Nat → Nat → Nat → Int32 → MC → MI → MJ → MR → Prop) (Q144 : Nat → Nat → Nat → Nat → Int32 → MC → MI → MJ → MR → Prop) (Q183 : Nat → Nat → Nat → Nat → Int64 → Int32 → MC → MI → MJ → MR → Prop) (Q204 : Nat → Nat → Nat → Nat → Int64 → Int32 → Int32 → MC → MI → MJ → MR → Prop) (Q228 : Nat → Nat → Nat → Nat → Int64 → Int32 → Int32 → MC → MI → MJ → MR → Prop) (Q238 : Nat → Nat → Nat → Nat → Int64 → Int32 → Int32 → Int32 → MC → MI → MJ → MR → Prop) (Q384 : Nat → Nat → Int32 → MC → MI → MJ → MR → Prop) (K : AK) (x0 : Nat) (C : MC) (I : MI) (J : MJ) (R : MR) : Prop :=
      (C x0).1 = 9 ∧
      ∃ q2 : Nat, R x0 0 = some q2 ∧
      (25 ≤ (C q2).1 ∧ (C q2).1 < 30) ∧
      vp_in (0 : Int32) (C q2).2 ∧
      ∃ q5 : Nat, R q2 (0 : Int32).toNatClampNeg = some q5 ∧
      kTh (C q5).1 ∧
      F_Vtable [aR (some q5)] C I J R (fun o C7 I8 J9 R10 =>
      (∃ r11 : Nat, o = .inl (some (aR (some r11))) ∧
      (C7 x0).1 = 9 ∧
      (C7 r11).1 = 4 ∧
      ∃ q14 : Nat, R10 x0 2 = some q14 ∧
      (C7 q14).1 = 4 ∧
      F_X3_anew [aR (some q14), aJ (J9 r11 2)] C7 I8 J9 R10 (fun o C16 I17 J18 R19 =>
      ∃ r20 : Nat, o = .inl (some (aR (some r20))) ∧
      Q24 x0 r11 r20 (0 : Int32) C16 I17 J18 R19)) ∨
      (∃ q21 : Nat, o = .inr q21 ∧
      ((C7 q21).1 = 11 ∧
      K (.inr q21) C7 I8 J9 R10)))
theorem wX9_table {l : Launch} {d : Nat}  {F_Vtable : SPF} (S_Vtable : SpVtable l d F_Vtable) {F_X3_anew : SPF} (S_X3_anew : SpX3_anew l F_X3_anew) {F_X0_times : SPF} (S_X0_times : SpX0_times l F_X0_times) {F_X3_add : SPF} (S_X3_add : SpX3_add l F_X3_add) {F_X11_init : SPF} (S_X11_init : SpX11_init l F_X11_init) {F_X3_less : SPF} (S_X3_less : SpX3_less l F_X3_less)
    (Q24 : Nat → AK → Nat → Nat → Nat → Int32 → MC → MI → MJ → MR → Prop)
    (Q111 : Nat → AK → Nat → Nat → Nat → Nat → Int32 → MC → MI → MJ → MR → Prop)
    (Q144 : Nat → AK → Nat → Nat → Nat → Nat → Int32 → MC → MI → MJ → MR → Prop)
    (Q183 : Nat → AK → Nat → Nat → Nat → Nat → Int64 → Int32 → MC → MI → MJ → MR → Prop)
    (Q204 : Nat → AK → Nat → Nat → Nat → Nat → Int64 → Int32 → Int32 → MC → MI → MJ → MR → Prop)
    (Q228 : Nat → AK → Nat → Nat → Nat → Nat → Int64 → Int32 → Int32 → MC → MI → MJ → MR → Prop)
    (Q238 : Nat → AK → Nat → Nat → Nat → Nat → Int64 → Int32 → Int32 → Int32 → MC → MI → MJ → MR → Prop)
    (Q384 : Nat → AK → Nat → Nat → Int32 → MC → MI → MJ → MR → Prop) {F : SPF}
    (h0 : ∀ (As : List AV) (C : MC) (I : MI) (J : MJ) (R : MR) (K : AK), F As C I J R K → ∃ (x0 : Nat), As = [aR (some x0)] ∧ PX9_table_0 F_Vtable F_X3_anew F_X0_times F_X3_add F_X11_init F_X3_less (fun (x0 : Nat) (x1 : Nat) (x2 : Nat) (x3 : Int32) (C : MC) (I : MI) (J : MJ) (R : MR) => ∃ n, Q24 n K x0 x1 x2 x3 C I J R) (fun (x0 : Nat) (x1 : Nat) (x2 : Nat) (x3 : Nat) (x4 : Int32) (C : MC) (I : MI) (J : MJ) (R : MR) => ∃ n, Q111 n K x0 x1 x2 x3 x4 C I J R) (fun (x0 : Nat) (x1 : Nat) (x2 : Nat) (x3 : Nat) (x4 : Int32) (C : MC) (I : MI) (J : MJ) (R : MR) => ∃ n, Q144 n K x0 x1 x2 x3 x4 C I J R) (fun (x0 : Nat) (x1 : Nat) (x2 : Nat) (x3 : Nat) (x4 : Int64) (x6 : Int32) (C : MC) (I : MI) (J : MJ) (R : MR) => ∃ n, Q183 n K x0 x1 x2 x3 x4 x6 C I J R) (fun (x0 : Nat) (x1 : Nat) (x2 : Nat) (x3 : Nat) (x4 : Int64) (x6 : Int32) (x7 : Int32) (C : MC) (I : MI) (J : MJ) (R : MR) => ∃ n, Q204 n K x0 x1 x2 x3 x4 x6 x7 C I J R) (fun (x0 : Nat) (x1 : Nat) (x2 : Nat) (x3 : Nat) (x4 : Int64) (x6 : Int32) (x7 : Int32) (C : MC) (I : MI) (J : MJ) (R : MR) => ∃ n, Q228 n K x0 x1 x2 x3 x4 x6 x7 C I J R) (fun (x0 : Nat) (x1 : Nat) (x2 : Nat) (x3 : Nat) (x4 : Int64) (x6 : Int32) (x7 : Int32) (x8 : Int32) (C : MC) (I : MI) (J : MJ) (R : MR) => ∃ n, Q238 n K x0 x1 x2 x3 x4 x6 x7 x8 C I J R) (fun (x0 : Nat) (x3 : Nat) (x6 : Int32) (C : MC) (I : MI) (J : MJ) (R : MR) => ∃ n, Q384 n K x0 x3 x6 C I J R) K x0 C I J R)
    (h24 : ∀ (n : Nat) (K : AK) (x0 : Nat) (x1 : Nat) (x2 : Nat) (x3 : Int32) (C : MC) (I : MI) (J : MJ) (R : MR), Q24 n K x0 x1 x2 x3 C I J R → PX9_table_24 F_Vtable F_X3_anew F_X0_times F_X3_add F_X11_init F_X3_less (fun (x0 : Nat) (x1 : Nat) (x2 : Nat) (x3 : Int32) (C : MC) (I : MI) (J : MJ) (R : MR) => ∃ m, m < n ∧ Q24 m K x0 x1 x2 x3 C I J R) (fun (x0 : Nat) (x1 : Nat) (x2 : Nat) (x3 : Nat) (x4 : Int32) (C : MC) (I : MI) (J : MJ) (R : MR) => ∃ m, m < n ∧ Q111 m K x0 x1 x2 x3 x4 C I J R) (fun (x0 : Nat) (x1 : Nat) (x2 : Nat) (x3 : Nat) (x4 : Int32) (C : MC) (I : MI) (J : MJ) (R : MR) => ∃ m, m < n ∧ Q144 m K x0 x1 x2 x3 x4 C I J R) (fun (x0 : Nat) (x1 : Nat) (x2 : Nat) (x3 : Nat) (x4 : Int64) (x6 : Int32) (C : MC) (I : MI) (J : MJ) (R : MR) => ∃ m, m < n ∧ Q183 m K x0 x1 x2 x3 x4 x6 C I J R) (fun (x0 : Nat) (x1 : Nat) (x2 : Nat) (x3 : Nat) (x4 : Int64) (x6 : Int32) (x7 : Int32) (C : MC) (I : MI) (J : MJ) (R : MR) => ∃ m, m < n ∧ Q204 m K x0 x1 x2 x3 x4 x6 x7 C I J R) (fun (x0 : Nat) (x1 : Nat) (x2 : Nat) (x3 : Nat) (x4 : Int64) (x6 : Int32) (x7 : Int32) (C : MC) (I : MI) (J : MJ) (R : MR) => ∃ m, m < n ∧ Q228 m K x0 x1 x2 x3 x4 x6 x7 C I J R) (fun (x0 : Nat) (x1 : Nat) (x2 : Nat) (x3 : Nat) (x4 : Int64) (x6 : Int32) (x7 : Int32) (x8 : Int32) (C : MC) (I : MI) (J : MJ) (R : MR) => ∃ m, m < n ∧ Q238 m K x0 x1 x2 x3 x4 x6 x7 x8 C I J R) (fun (x0 : Nat) (x3 : Nat) (x6 : Int32) (C : MC) (I : MI) (J : MJ) (R : MR) => ∃ m, m < n ∧ Q384 m K x0 x3 x6 C I J R) K x0 x1 x2 x3 C I J R)
    (h111 : ∀ (n : Nat) (K : AK) (x0 : Nat) (x1 : Nat) (x2 : Nat) (x3 : Nat) (x4 : Int32) (C : MC) (I : MI) (J : MJ) (R : MR), Q111 n K x0 x1 x2 x3 x4 C I J R → PX9_table_111 F_Vtable F_X3_anew F_X0_times F_X3_add F_X11_init F_X3_less (fun (x0 : Nat) (x1 : Nat) (x2 : Nat) (x3 : Int32) (C : MC) (I : MI) (J : MJ) (R : MR) => ∃ m, m < n ∧ Q24 m K x0 x1 x2 x3 C I J R) (fun (x0 : Nat) (x1 : Nat) (x2 : Nat) (x3 : Nat) (x4 : Int32) (C : MC) (I : MI) (J : MJ) (R : MR) => ∃ m, m < n ∧ Q111 m K x0 x1 x2 x3 x4 C I J R) (fun (x0 : Nat) (x1 : Nat) (x2 : Nat) (x3 : Nat) (x4 : Int32) (C : MC) (I : MI) (J : MJ) (R : MR) => ∃ m, m < n ∧ Q144 m K x0 x1 x2 x3 x4 C I J R) (fun (x0 : Nat) (x1 : Nat) (x2 : Nat) (x3 : Nat) (x4 : Int64) (x6 : Int32) (C : MC) (I : MI) (J : MJ) (R : MR) => ∃ m, m < n ∧ Q183 m K x0 x1 x2 x3 x4 x6 C I J R) (fun (x0 : Nat) (x1 : Nat) (x2 : Nat) (x3 : Nat) (x4 : Int64) (x6 : Int32) (x7 : Int32) (C : MC) (I : MI) (J : MJ) (R : MR) => ∃ m, m < n ∧ Q204 m K x0 x1 x2 x3 x4 x6 x7 C I J R) (fun (x0 : Nat) (x1 : Nat) (x2 : Nat) (x3 : Nat) (x4 : Int64) (x6 : Int32) (x7 : Int32) (C : MC) (I : MI) (J : MJ) (R : MR) => ∃ m, m < n ∧ Q228 m K x0 x1 x2 x3 x4 x6 x7 C I J R) (fun (x0 : Nat) (x1 : Nat) (x2 : Nat) (x3 : Nat) (x4 : Int64) (x6 : Int32) (x7 : Int32) (x8 : Int32) (C : MC) (I : MI) (J : MJ) (R : MR) => ∃ m, m < n ∧ Q238 m K x0 x1 x2 x3 x4 x6 x7 x8 C I J R) (fun (x0 : Nat) (x3 : Nat) (x6 : Int32) (C : MC) (I : MI) (J : MJ) (R : MR) => ∃ m, m < n ∧ Q384 m K x0 x3 x6 C I J R) K x0 x1 x2 x3 x4 C I J R)
    (h144 : ∀ (n : Nat) (K : AK) (x0 : Nat) (x1 : Nat) (x2 : Nat) (x3 : Nat) (x4 : Int32) (C : MC) (I : MI) (J : MJ) (R : MR), Q144 n K x0 x1 x2 x3 x4 C I J R → PX9_table_144 F_Vtable F_X3_anew F_X0_times F_X3_add F_X11_init F_X3_less (fun (x0 : Nat) (x1 : Nat) (x2 : Nat) (x3 : Int32) (C : MC) (I : MI) (J : MJ) (R : MR) => ∃ m, m < n ∧ Q24 m K x0 x1 x2 x3 C I J R) (fun (x0 : Nat) (x1 : Nat) (x2 : Nat) (x3 : Nat) (x4 : Int32) (C : MC) (I : MI) (J : MJ) (R : MR) => ∃ m, m < n ∧ Q111 m K x0 x1 x2 x3 x4 C I J R) (fun (x0 : Nat) (x1 : Nat) (x2 : Nat) (x3 : Nat) (x4 : Int32) (C : MC) (I : MI) (J : MJ) (R : MR) => ∃ m, m < n ∧ Q144 m K x0 x1 x2 x3 x4 C I J R) (fun (x0 : Nat) (x1 : Nat) (x2 : Nat) (x3 : Nat) (x4 : Int64) (x6 : Int32) (C : MC) (I : MI) (J : MJ) (R : MR) => ∃ m, m < n ∧ Q183 m K x0 x1 x2 x3 x4 x6 C I J R) (fun (x0 : Nat) (x1 : Nat) (x2 : Nat) (x3 : Nat) (x4 : Int64) (x6 : Int32) (x7 : Int32) (C : MC) (I : MI) (J : MJ) (R : MR) => ∃ m, m < n ∧ Q204 m K x0 x1 x2 x3 x4 x6 x7 C I J R) (fun (x0 : Nat) (x1 : Nat) (x2 : Nat) (x3 : Nat) (x4 : Int64) (x6 : Int32) (x7 : Int32) (C : MC) (I : MI) (J : MJ) (R : MR) => ∃ m, m < n ∧ Q228 m K x0 x1 x2 x3 x4 x6 x7 C I J R) (fun (x0 : Nat) (x1 : Nat) (x2 : Nat) (x3 : Nat) (x4 : Int64) (x6 : Int32) (x7 : Int32) (x8 : Int32) (C : MC) (I : MI) (J : MJ) (R : MR) => ∃ m, m < n ∧ Q238 m K x0 x1 x2 x3 x4 x6 x7 x8 C I J R) (fun (x0 : Nat) (x3 : Nat) (x6 : Int32) (C : MC) (I : MI) (J : MJ) (R : MR) => ∃ m, m < n ∧ Q384 m K x0 x3 x6 C I J R) K x0 x1 x2 x3 x4 C I J R)
    (h183 : ∀ (n : Nat) (K : AK) (x0 : Nat) (x1 : Nat) (x2 : Nat) (x3 : Nat) (x4 : Int64) (x6 : Int32) (C : MC) (I : MI) (J : MJ) (R : MR), Q183 n K x0 x1 x2 x3 x4 x6 C I J R → PX9_table_183 F_Vtable F_X3_anew F_X0_times F_X3_add F_X11_init F_X3_less (fun (x0 : Nat) (x1 : Nat) (x2 : Nat) (x3 : Int32) (C : MC) (I : MI) (J : MJ) (R : MR) => ∃ m, m < n ∧ Q24 m K x0 x1 x2 x3 C I J R) (fun (x0 : Nat) (x1 : Nat) (x2 : Nat) (x3 : Nat) (x4 : Int32) (C : MC) (I : MI) (J : MJ) (R : MR) => ∃ m, m < n ∧ Q111 m K x0 x1 x2 x3 x4 C I J R) (fun (x0 : Nat) (x1 : Nat) (x2 : Nat) (x3 : Nat) (x4 : Int32) (C : MC) (I : MI) (J : MJ) (R : MR) => ∃ m, m < n ∧ Q144 m K x0 x1 x2 x3 x4 C I J R) (fun (x0 : Nat) (x1 : Nat) (x2 : Nat) (x3 : Nat) (x4 : Int64) (x6 : Int32) (C : MC) (I : MI) (J : MJ) (R : MR) => ∃ m, m < n ∧ Q183 m K x0 x1 x2 x3 x4 x6 C I J R) (fun (x0 : Nat) (x1 : Nat) (x2 : Nat) (x3 : Nat) (x4 : Int64) (x6 : Int32) (x7 : Int32) (C : MC) (I : MI) (J : MJ) (R : MR) => ∃ m, m < n ∧ Q204 m K x0 x1 x2 x3 x4 x6 x7 C I J R) (fun (x0 : Nat) (x1 : Nat) (x2 : Nat) (x3 : Nat) (x4 : Int64) (x6 : Int32) (x7 : Int32) (C : MC) (I : MI) (J : MJ) (R : MR) => ∃ m, m < n ∧ Q228 m K x0 x1 x2 x3 x4 x6 x7 C I J R) (fun (x0 : Nat) (x1 : Nat) (x2 : Nat) (x3 : Nat) (x4 : Int64) (x6 : Int32) (x7 : Int32) (x8 : Int32) (C : MC) (I : MI) (J : MJ) (R : MR) => ∃ m, m < n ∧ Q238 m K x0 x1 x2 x3 x4 x6 x7 x8 C I J R) (fun (x0 : Nat) (x3 : Nat) (x6 : Int32) (C : MC) (I : MI) (J : MJ) (R : MR) => ∃ m, m < n ∧ Q384 m K x0 x3 x6 C I J R) K x0 x1 x2 x3 x4 x6 C I J R)
    (h204 : ∀ (n : Nat) (K : AK) (x0 : Nat) (x1 : Nat) (x2 : Nat) (x3 : Nat) (x4 : Int64) (x6 : Int32) (x7 : Int32) (C : MC) (I : MI) (J : MJ) (R : MR), Q204 n K x0 x1 x2 x3 x4 x6 x7 C I J R → PX9_table_204 F_Vtable F_X3_anew F_X0_times F_X3_add F_X11_init F_X3_less (fun (x0 : Nat) (x1 : Nat) (x2 : Nat) (x3 : Int32) (C : MC) (I : MI) (J : MJ) (R : MR) => ∃ m, m < n ∧ Q24 m K x0 x1 x2 x3 C I J R) (fun (x0 : Nat) (x1 : Nat) (x2 : Nat) (x3 : Nat) (x4 : Int32) (C : MC) (I : MI) (J : MJ) (R : MR) => ∃ m, m < n ∧ Q111 m K x0 x1 x2 x3 x4 C I J R) (fun (x0 : Nat) (x1 : Nat) (x2 : Nat) (x3 : Nat) (x4 : Int32) (C : MC) (I : MI) (J : MJ) (R : MR) => ∃ m, m < n ∧ Q144 m K x0 x1 x2 x3 x4 C I J R) (fun (x0 : Nat) (x1 : Nat) (x2 : Nat) (x3 : Nat) (x4 : Int64) (x6 : Int32) (C : MC) (I : MI) (J : MJ) (R : MR) => ∃ m, m < n ∧ Q183 m K x0 x1 x2 x3 x4 x6 C I J R) (fun (x0 : Nat) (x1 : Nat) (x2 : Nat) (x3 : Nat) (x4 : Int64) (x6 : Int32) (x7 : Int32) (C : MC) (I : MI) (J : MJ) (R : MR) => ∃ m, m < n ∧ Q204 m K x0 x1 x2 x3 x4 x6 x7 C I J R) (fun (x0 : Nat) (x1 : Nat) (x2 : Nat) (x3 : Nat) (x4 : Int64) (x6 : Int32) (x7 : Int32) (C : MC) (I : MI) (J : MJ) (R : MR) => ∃ m, m < n ∧ Q228 m K x0 x1 x2 x3 x4 x6 x7 C I J R) (fun (x0 : Nat) (x1 : Nat) (x2 : Nat) (x3 : Nat) (x4 : Int64) (x6 : Int32) (x7 : Int32) (x8 : Int32) (C : MC) (I : MI) (J : MJ) (R : MR) => ∃ m, m < n ∧ Q238 m K x0 x1 x2 x3 x4 x6 x7 x8 C I J R) (fun (x0 : Nat) (x3 : Nat) (x6 : Int32) (C : MC) (I : MI) (J : MJ) (R : MR) => ∃ m, m < n ∧ Q384 m K x0 x3 x6 C I J R) K x0 x1 x2 x3 x4 x6 x7 C I J R)
    (h228 : ∀ (n : Nat) (K : AK) (x0 : Nat) (x1 : Nat) (x2 : Nat) (x3 : Nat) (x4 : Int64) (x6 : Int32) (x7 : Int32) (C : MC) (I : MI) (J : MJ) (R : MR), Q228 n K x0 x1 x2 x3 x4 x6 x7 C I J R → PX9_table_228 F_Vtable F_X3_anew F_X0_times F_X3_add F_X11_init F_X3_less (fun (x0 : Nat) (x1 : Nat) (x2 : Nat) (x3 : Int32) (C : MC) (I : MI) (J : MJ) (R : MR) => ∃ m, m < n ∧ Q24 m K x0 x1 x2 x3 C I J R) (fun (x0 : Nat) (x1 : Nat) (x2 : Nat) (x3 : Nat) (x4 : Int32) (C : MC) (I : MI) (J : MJ) (R : MR) => ∃ m, m < n ∧ Q111 m K x0 x1 x2 x3 x4 C I J R) (fun (x0 : Nat) (x1 : Nat) (x2 : Nat) (x3 : Nat) (x4 : Int32) (C : MC) (I : MI) (J : MJ) (R : MR) => ∃ m, m < n ∧ Q144 m K x0 x1 x2 x3 x4 C I J R) (fun (x0 : Nat) (x1 : Nat) (x2 : Nat) (x3 : Nat) (x4 : Int64) (x6 : Int32) (C : MC) (I : MI) (J : MJ) (R : MR) => ∃ m, m < n ∧ Q183 m K x0 x1 x2 x3 x4 x6 C I J R) (fun (x0 : Nat) (x1 : Nat) (x2 : Nat) (x3 : Nat) (x4 : Int64) (x6 : Int32) (x7 : Int32) (C : MC) (I : MI) (J : MJ) (R : MR) => ∃ m, m < n ∧ Q204 m K x0 x1 x2 x3 x4 x6 x7 C I J R) (fun (x0 : Nat) (x1 : Nat) (x2 : Nat) (x3 : Nat) (x4 : Int64) (x6 : Int32) (x7 : Int32) (C : MC) (I : MI) (J : MJ) (R : MR) => ∃ m, m < n ∧ Q228 m K x0 x1 x2 x3 x4 x6 x7 C I J R) (fun (x0 : Nat) (x1 : Nat) (x2 : Nat) (x3 : Nat) (x4 : Int64) (x6 : Int32) (x7 : Int32) (x8 : Int32) (C : MC) (I : MI) (J : MJ) (R : MR) => ∃ m, m < n ∧ Q238 m K x0 x1 x2 x3 x4 x6 x7 x8 C I J R) (fun (x0 : Nat) (x3 : Nat) (x6 : Int32) (C : MC) (I : MI) (J : MJ) (R : MR) => ∃ m, m < n ∧ Q384 m K x0 x3 x6 C I J R) K x0 x1 x2 x3 x4 x6 x7 C I J R)
    (h238 : ∀ (n : Nat) (K : AK) (x0 : Nat) (x1 : Nat) (x2 : Nat) (x3 : Nat) (x4 : Int64) (x6 : Int32) (x7 : Int32) (x8 : Int32) (C : MC) (I : MI) (J : MJ) (R : MR), Q238 n K x0 x1 x2 x3 x4 x6 x7 x8 C I J R → PX9_table_238 F_Vtable F_X3_anew F_X0_times F_X3_add F_X11_init F_X3_less (fun (x0 : Nat) (x1 : Nat) (x2 : Nat) (x3 : Int32) (C : MC) (I : MI) (J : MJ) (R : MR) => ∃ m, m < n ∧ Q24 m K x0 x1 x2 x3 C I J R) (fun (x0 : Nat) (x1 : Nat) (x2 : Nat) (x3 : Nat) (x4 : Int32) (C : MC) (I : MI) (J : MJ) (R : MR) => ∃ m, m < n ∧ Q111 m K x0 x1 x2 x3 x4 C I J R) (fun (x0 : Nat) (x1 : Nat) (x2 : Nat) (x3 : Nat) (x4 : Int32) (C : MC) (I : MI) (J : MJ) (R : MR) => ∃ m, m < n ∧ Q144 m K x0 x1 x2 x3 x4 C I J R) (fun (x0 : Nat) (x1 : Nat) (x2 : Nat) (x3 : Nat) (x4 : Int64) (x6 : Int32) (C : MC) (I : MI) (J : MJ) (R : MR) => ∃ m, m < n ∧ Q183 m K x0 x1 x2 x3 x4 x6 C I J R) (fun (x0 : Nat) (x1 : Nat) (x2 : Nat) (x3 : Nat) (x4 : Int64) (x6 : Int32) (x7 : Int32) (C : MC) (I : MI) (J : MJ) (R : MR) => ∃ m, m < n ∧ Q204 m K x0 x1 x2 x3 x4 x6 x7 C I J R) (fun (x0 : Nat) (x1 : Nat) (x2 : Nat) (x3 : Nat) (x4 : Int64) (x6 : Int32) (x7 : Int32) (C : MC) (I : MI) (J : MJ) (R : MR) => ∃ m, m < n ∧ Q228 m K x0 x1 x2 x3 x4 x6 x7 C I J R) (fun (x0 : Nat) (x1 : Nat) (x2 : Nat) (x3 : Nat) (x4 : Int64) (x6 : Int32) (x7 : Int32) (x8 : Int32) (C : MC) (I : MI) (J : MJ) (R : MR) => ∃ m, m < n ∧ Q238 m K x0 x1 x2 x3 x4 x6 x7 x8 C I J R) (fun (x0 : Nat) (x3 : Nat) (x6 : Int32) (C : MC) (I : MI) (J : MJ) (R : MR) => ∃ m, m < n ∧ Q384 m K x0 x3 x6 C I J R) K x0 x1 x2 x3 x4 x6 x7 x8 C I J R)
    (h384 : ∀ (n : Nat) (K : AK) (x0 : Nat) (x3 : Nat) (x6 : Int32) (C : MC) (I : MI) (J : MJ) (R : MR), Q384 n K x0 x3 x6 C I J R → PX9_table_384 F_Vtable F_X3_anew F_X0_times F_X3_add F_X11_init F_X3_less (fun (x0 : Nat) (x1 : Nat) (x2 : Nat) (x3 : Int32) (C : MC) (I : MI) (J : MJ) (R : MR) => ∃ m, m < n ∧ Q24 m K x0 x1 x2 x3 C I J R) (fun (x0 : Nat) (x1 : Nat) (x2 : Nat) (x3 : Nat) (x4 : Int32) (C : MC) (I : MI) (J : MJ) (R : MR) => ∃ m, m < n ∧ Q111 m K x0 x1 x2 x3 x4 C I J R) (fun (x0 : Nat) (x1 : Nat) (x2 : Nat) (x3 : Nat) (x4 : Int32) (C : MC) (I : MI) (J : MJ) (R : MR) => ∃ m, m < n ∧ Q144 m K x0 x1 x2 x3 x4 C I J R) (fun (x0 : Nat) (x1 : Nat) (x2 : Nat) (x3 : Nat) (x4 : Int64) (x6 : Int32) (C : MC) (I : MI) (J : MJ) (R : MR) => ∃ m, m < n ∧ Q183 m K x0 x1 x2 x3 x4 x6 C I J R) (fun (x0 : Nat) (x1 : Nat) (x2 : Nat) (x3 : Nat) (x4 : Int64) (x6 : Int32) (x7 : Int32) (C : MC) (I : MI) (J : MJ) (R : MR) => ∃ m, m < n ∧ Q204 m K x0 x1 x2 x3 x4 x6 x7 C I J R) (fun (x0 : Nat) (x1 : Nat) (x2 : Nat) (x3 : Nat) (x4 : Int64) (x6 : Int32) (x7 : Int32) (C : MC) (I : MI) (J : MJ) (R : MR) => ∃ m, m < n ∧ Q228 m K x0 x1 x2 x3 x4 x6 x7 C I J R) (fun (x0 : Nat) (x1 : Nat) (x2 : Nat) (x3 : Nat) (x4 : Int64) (x6 : Int32) (x7 : Int32) (x8 : Int32) (C : MC) (I : MI) (J : MJ) (R : MR) => ∃ m, m < n ∧ Q238 m K x0 x1 x2 x3 x4 x6 x7 x8 C I J R) (fun (x0 : Nat) (x3 : Nat) (x6 : Int32) (C : MC) (I : MI) (J : MJ) (R : MR) => ∃ m, m < n ∧ Q384 m K x0 x3 x6 C I J R) K x0 x3 x6 C I J R) : SpX9_table l (d + 1) F := by
  refine Spec.of (by rfl) ?_
  intro Γ C I J R As Gd gl gr _ _ gb hF
  subst gl
  have G : Gb Γ yX9_table cX9_table 9 (some (.object "TickShare$Table")) [] (rmTb (d + 1)) bdX9_table := ⟨Gd, gr, gb⟩
  have key : ∀ n : Nat, (∀ (x0 : Nat) (x1 : Nat) (x2 : Nat) (x3 : Int32) (C : MC) (I : MI) (J : MJ) (R : MR), Q24 n (gK Γ) x0 x1 x2 x3 C I J R → AW Γ 0 0 C I J R 24 [(0, aR (some x0)), (1, aR (some x1)), (2, aR (some x2)), (3, aI x3)] []) ∧ (∀ (x0 : Nat) (x1 : Nat) (x2 : Nat) (x3 : Nat) (x4 : Int32) (C : MC) (I : MI) (J : MJ) (R : MR), Q111 n (gK Γ) x0 x1 x2 x3 x4 C I J R → AW Γ 0 0 C I J R 111 [(0, aR (some x0)), (1, aR (some x1)), (2, aR (some x2)), (3, aR (some x3)), (4, aI x4)] []) ∧ (∀ (x0 : Nat) (x1 : Nat) (x2 : Nat) (x3 : Nat) (x4 : Int32) (C : MC) (I : MI) (J : MJ) (R : MR), Q144 n (gK Γ) x0 x1 x2 x3 x4 C I J R → AW Γ 0 0 C I J R 144 [(0, aR (some x0)), (1, aR (some x1)), (2, aR (some x2)), (3, aR (some x3)), (4, aI x4)] []) ∧ (∀ (x0 : Nat) (x1 : Nat) (x2 : Nat) (x3 : Nat) (x4 : Int64) (x6 : Int32) (C : MC) (I : MI) (J : MJ) (R : MR), Q183 n (gK Γ) x0 x1 x2 x3 x4 x6 C I J R → AW Γ 0 0 C I J R 183 [(0, aR (some x0)), (1, aR (some x1)), (2, aR (some x2)), (3, aR (some x3)), (4, aJ x4), (6, aI x6)] []) ∧ (∀ (x0 : Nat) (x1 : Nat) (x2 : Nat) (x3 : Nat) (x4 : Int64) (x6 : Int32) (x7 : Int32) (C : MC) (I : MI) (J : MJ) (R : MR), Q204 n (gK Γ) x0 x1 x2 x3 x4 x6 x7 C I J R → AW Γ 0 0 C I J R 204 [(0, aR (some x0)), (1, aR (some x1)), (2, aR (some x2)), (3, aR (some x3)), (4, aJ x4), (6, aI x6), (7, aI x7)] []) ∧ (∀ (x0 : Nat) (x1 : Nat) (x2 : Nat) (x3 : Nat) (x4 : Int64) (x6 : Int32) (x7 : Int32) (C : MC) (I : MI) (J : MJ) (R : MR), Q228 n (gK Γ) x0 x1 x2 x3 x4 x6 x7 C I J R → AW Γ 0 0 C I J R 228 [(0, aR (some x0)), (1, aR (some x1)), (2, aR (some x2)), (3, aR (some x3)), (4, aJ x4), (6, aI x6), (7, aI x7)] []) ∧ (∀ (x0 : Nat) (x1 : Nat) (x2 : Nat) (x3 : Nat) (x4 : Int64) (x6 : Int32) (x7 : Int32) (x8 : Int32) (C : MC) (I : MI) (J : MJ) (R : MR), Q238 n (gK Γ) x0 x1 x2 x3 x4 x6 x7 x8 C I J R → AW Γ 0 0 C I J R 238 [(0, aR (some x0)), (1, aR (some x1)), (2, aR (some x2)), (3, aR (some x3)), (4, aJ x4), (6, aI x6), (7, aI x7), (8, aI x8)] []) ∧ (∀ (x0 : Nat) (x3 : Nat) (x6 : Int32) (C : MC) (I : MI) (J : MJ) (R : MR), Q384 n (gK Γ) x0 x3 x6 C I J R → AW Γ 0 0 C I J R 384 [(0, aR (some x0)), (3, aR (some x3)), (6, aI x6)] []) := by
    intro n
    induction n using Nat.strongRecOn with
    | ind n ih =>
    have w24 : ∀ (x0 : Nat) (x1 : Nat) (x2 : Nat) (x3 : Int32) (C : MC) (I : MI) (J : MJ) (R : MR), (∃ m, m < n ∧ Q24 m (gK Γ) x0 x1 x2 x3 C I J R) → AW Γ 0 0 C I J R 24 [(0, aR (some x0)), (1, aR (some x1)), (2, aR (some x2)), (3, aI x3)] [] := fun x0 x1 x2 x3 C I J R ⟨m, hm, hq⟩ => (ih m hm).1 x0 x1 x2 x3 C I J R hq
    have w111 : ∀ (x0 : Nat) (x1 : Nat) (x2 : Nat) (x3 : Nat) (x4 : Int32) (C : MC) (I : MI) (J : MJ) (R : MR), (∃ m, m < n ∧ Q111 m (gK Γ) x0 x1 x2 x3 x4 C I J R) → AW Γ 0 0 C I J R 111 [(0, aR (some x0)), (1, aR (some x1)), (2, aR (some x2)), (3, aR (some x3)), (4, aI x4)] [] := fun x0 x1 x2 x3 x4 C I J R ⟨m, hm, hq⟩ => (ih m hm).2.1 x0 x1 x2 x3 x4 C I J R hq
    have w144 : ∀ (x0 : Nat) (x1 : Nat) (x2 : Nat) (x3 : Nat) (x4 : Int32) (C : MC) (I : MI) (J : MJ) (R : MR), (∃ m, m < n ∧ Q144 m (gK Γ) x0 x1 x2 x3 x4 C I J R) → AW Γ 0 0 C I J R 144 [(0, aR (some x0)), (1, aR (some x1)), (2, aR (some x2)), (3, aR (some x3)), (4, aI x4)] [] := fun x0 x1 x2 x3 x4 C I J R ⟨m, hm, hq⟩ => (ih m hm).2.2.1 x0 x1 x2 x3 x4 C I J R hq
    have w183 : ∀ (x0 : Nat) (x1 : Nat) (x2 : Nat) (x3 : Nat) (x4 : Int64) (x6 : Int32) (C : MC) (I : MI) (J : MJ) (R : MR), (∃ m, m < n ∧ Q183 m (gK Γ) x0 x1 x2 x3 x4 x6 C I J R) → AW Γ 0 0 C I J R 183 [(0, aR (some x0)), (1, aR (some x1)), (2, aR (some x2)), (3, aR (some x3)), (4, aJ x4), (6, aI x6)] [] := fun x0 x1 x2 x3 x4 x6 C I J R ⟨m, hm, hq⟩ => (ih m hm).2.2.2.1 x0 x1 x2 x3 x4 x6 C I J R hq
    have w204 : ∀ (x0 : Nat) (x1 : Nat) (x2 : Nat) (x3 : Nat) (x4 : Int64) (x6 : Int32) (x7 : Int32) (C : MC) (I : MI) (J : MJ) (R : MR), (∃ m, m < n ∧ Q204 m (gK Γ) x0 x1 x2 x3 x4 x6 x7 C I J R) → AW Γ 0 0 C I J R 204 [(0, aR (some x0)), (1, aR (some x1)), (2, aR (some x2)), (3, aR (some x3)), (4, aJ x4), (6, aI x6), (7, aI x7)] [] := fun x0 x1 x2 x3 x4 x6 x7 C I J R ⟨m, hm, hq⟩ => (ih m hm).2.2.2.2.1 x0 x1 x2 x3 x4 x6 x7 C I J R hq
    have w228 : ∀ (x0 : Nat) (x1 : Nat) (x2 : Nat) (x3 : Nat) (x4 : Int64) (x6 : Int32) (x7 : Int32) (C : MC) (I : MI) (J : MJ) (R : MR), (∃ m, m < n ∧ Q228 m (gK Γ) x0 x1 x2 x3 x4 x6 x7 C I J R) → AW Γ 0 0 C I J R 228 [(0, aR (some x0)), (1, aR (some x1)), (2, aR (some x2)), (3, aR (some x3)), (4, aJ x4), (6, aI x6), (7, aI x7)] [] := fun x0 x1 x2 x3 x4 x6 x7 C I J R ⟨m, hm, hq⟩ => (ih m hm).2.2.2.2.2.1 x0 x1 x2 x3 x4 x6 x7 C I J R hq
    have w238 : ∀ (x0 : Nat) (x1 : Nat) (x2 : Nat) (x3 : Nat) (x4 : Int64) (x6 : Int32) (x7 : Int32) (x8 : Int32) (C : MC) (I : MI) (J : MJ) (R : MR), (∃ m, m < n ∧ Q238 m (gK Γ) x0 x1 x2 x3 x4 x6 x7 x8 C I J R) → AW Γ 0 0 C I J R 238 [(0, aR (some x0)), (1, aR (some x1)), (2, aR (some x2)), (3, aR (some x3)), (4, aJ x4), (6, aI x6), (7, aI x7), (8, aI x8)] [] := fun x0 x1 x2 x3 x4 x6 x7 x8 C I J R ⟨m, hm, hq⟩ => (ih m hm).2.2.2.2.2.2.1 x0 x1 x2 x3 x4 x6 x7 x8 C I J R hq
    have w384 : ∀ (x0 : Nat) (x3 : Nat) (x6 : Int32) (C : MC) (I : MI) (J : MJ) (R : MR), (∃ m, m < n ∧ Q384 m (gK Γ) x0 x3 x6 C I J R) → AW Γ 0 0 C I J R 384 [(0, aR (some x0)), (3, aR (some x3)), (6, aI x6)] [] := fun x0 x3 x6 C I J R ⟨m, hm, hq⟩ => (ih m hm).2.2.2.2.2.2.2 x0 x3 x6 C I J R hq
    have w354 : ∀ (x0 : Nat) (x1 : Nat) (x2 : Nat) (x3 : Nat) (x4 : Int64) (x6 : Int32) (x7 : Int32) (C : MC) (I : MI) (J : MJ) (R : MR), PX9_table_354 F_Vtable F_X3_anew F_X0_times F_X3_add F_X11_init F_X3_less (fun (x0 : Nat) (x1 : Nat) (x2 : Nat) (x3 : Int32) (C : MC) (I : MI) (J : MJ) (R : MR) => ∃ m, m < n ∧ Q24 m (gK Γ) x0 x1 x2 x3 C I J R) (fun (x0 : Nat) (x1 : Nat) (x2 : Nat) (x3 : Nat) (x4 : Int32) (C : MC) (I : MI) (J : MJ) (R : MR) => ∃ m, m < n ∧ Q111 m (gK Γ) x0 x1 x2 x3 x4 C I J R) (fun (x0 : Nat) (x1 : Nat) (x2 : Nat) (x3 : Nat) (x4 : Int32) (C : MC) (I : MI) (J : MJ) (R : MR) => ∃ m, m < n ∧ Q144 m (gK Γ) x0 x1 x2 x3 x4 C I J R) (fun (x0 : Nat) (x1 : Nat) (x2 : Nat) (x3 : Nat) (x4 : Int64) (x6 : Int32) (C : MC) (I : MI) (J : MJ) (R : MR) => ∃ m, m < n ∧ Q183 m (gK Γ) x0 x1 x2 x3 x4 x6 C I J R) (fun (x0 : Nat) (x1 : Nat) (x2 : Nat) (x3 : Nat) (x4 : Int64) (x6 : Int32) (x7 : Int32) (C : MC) (I : MI) (J : MJ) (R : MR) => ∃ m, m < n ∧ Q204 m (gK Γ) x0 x1 x2 x3 x4 x6 x7 C I J R) (fun (x0 : Nat) (x1 : Nat) (x2 : Nat) (x3 : Nat) (x4 : Int64) (x6 : Int32) (x7 : Int32) (C : MC) (I : MI) (J : MJ) (R : MR) => ∃ m, m < n ∧ Q228 m (gK Γ) x0 x1 x2 x3 x4 x6 x7 C I J R) (fun (x0 : Nat) (x1 : Nat) (x2 : Nat) (x3 : Nat) (x4 : Int64) (x6 : Int32) (x7 : Int32) (x8 : Int32) (C : MC) (I : MI) (J : MJ) (R : MR) => ∃ m, m < n ∧ Q238 m (gK Γ) x0 x1 x2 x3 x4 x6 x7 x8 C I J R) (fun (x0 : Nat) (x3 : Nat) (x6 : Int32) (C : MC) (I : MI) (J : MJ) (R : MR) => ∃ m, m < n ∧ Q384 m (gK Γ) x0 x3 x6 C I J R) (gK Γ) x0 x1 x2 x3 x4 x6 x7 C I J R → AW Γ 0 0 C I J R 354 [(0, aR (some x0)), (1, aR (some x1)), (2, aR (some x2)), (3, aR (some x3)), (4, aJ x4), (6, aI x6), (7, aI x7)] [] := fun x0 x1 x2 x3 x4 x6 x7 C I J R h => bX9_table_354 G w228 h
    have w348 : ∀ (x0 : Nat) (x1 : Nat) (x2 : Nat) (x3 : Nat) (x4 : Int64) (x6 : Int32) (x7 : Int32) (x8 : Int32) (C : MC) (I : MI) (J : MJ) (R : MR), PX9_table_348 F_Vtable F_X3_anew F_X0_times F_X3_add F_X11_init F_X3_less (fun (x0 : Nat) (x1 : Nat) (x2 : Nat) (x3 : Int32) (C : MC) (I : MI) (J : MJ) (R : MR) => ∃ m, m < n ∧ Q24 m (gK Γ) x0 x1 x2 x3 C I J R) (fun (x0 : Nat) (x1 : Nat) (x2 : Nat) (x3 : Nat) (x4 : Int32) (C : MC) (I : MI) (J : MJ) (R : MR) => ∃ m, m < n ∧ Q111 m (gK Γ) x0 x1 x2 x3 x4 C I J R) (fun (x0 : Nat) (x1 : Nat) (x2 : Nat) (x3 : Nat) (x4 : Int32) (C : MC) (I : MI) (J : MJ) (R : MR) => ∃ m, m < n ∧ Q144 m (gK Γ) x0 x1 x2 x3 x4 C I J R) (fun (x0 : Nat) (x1 : Nat) (x2 : Nat) (x3 : Nat) (x4 : Int64) (x6 : Int32) (C : MC) (I : MI) (J : MJ) (R : MR) => ∃ m, m < n ∧ Q183 m (gK Γ) x0 x1 x2 x3 x4 x6 C I J R) (fun (x0 : Nat) (x1 : Nat) (x2 : Nat) (x3 : Nat) (x4 : Int64) (x6 : Int32) (x7 : Int32) (C : MC) (I : MI) (J : MJ) (R : MR) => ∃ m, m < n ∧ Q204 m (gK Γ) x0 x1 x2 x3 x4 x6 x7 C I J R) (fun (x0 : Nat) (x1 : Nat) (x2 : Nat) (x3 : Nat) (x4 : Int64) (x6 : Int32) (x7 : Int32) (C : MC) (I : MI) (J : MJ) (R : MR) => ∃ m, m < n ∧ Q228 m (gK Γ) x0 x1 x2 x3 x4 x6 x7 C I J R) (fun (x0 : Nat) (x1 : Nat) (x2 : Nat) (x3 : Nat) (x4 : Int64) (x6 : Int32) (x7 : Int32) (x8 : Int32) (C : MC) (I : MI) (J : MJ) (R : MR) => ∃ m, m < n ∧ Q238 m (gK Γ) x0 x1 x2 x3 x4 x6 x7 x8 C I J R) (fun (x0 : Nat) (x3 : Nat) (x6 : Int32) (C : MC) (I : MI) (J : MJ) (R : MR) => ∃ m, m < n ∧ Q384 m (gK Γ) x0 x3 x6 C I J R) (gK Γ) x0 x1 x2 x3 x4 x6 x7 x8 C I J R → AW Γ 0 0 C I J R 348 [(0, aR (some x0)), (1, aR (some x1)), (2, aR (some x2)), (3, aR (some x3)), (4, aJ x4), (6, aI x6), (7, aI x7), (8, aI x8)] [] := fun x0 x1 x2 x3 x4 x6 x7 x8 C I J R h => bX9_table_348 G w238 h
    have w167 : ∀ (x0 : Nat) (x1 : Nat) (x2 : Nat) (x3 : Nat) (x4 : Int32) (s0 : Option Nat) (s1 : Int32) (s2 : Int64) (C : MC) (I : MI) (J : MJ) (R : MR), PX9_table_167 F_Vtable F_X3_anew F_X0_times F_X3_add F_X11_init F_X3_less (fun (x0 : Nat) (x1 : Nat) (x2 : Nat) (x3 : Int32) (C : MC) (I : MI) (J : MJ) (R : MR) => ∃ m, m < n ∧ Q24 m (gK Γ) x0 x1 x2 x3 C I J R) (fun (x0 : Nat) (x1 : Nat) (x2 : Nat) (x3 : Nat) (x4 : Int32) (C : MC) (I : MI) (J : MJ) (R : MR) => ∃ m, m < n ∧ Q111 m (gK Γ) x0 x1 x2 x3 x4 C I J R) (fun (x0 : Nat) (x1 : Nat) (x2 : Nat) (x3 : Nat) (x4 : Int32) (C : MC) (I : MI) (J : MJ) (R : MR) => ∃ m, m < n ∧ Q144 m (gK Γ) x0 x1 x2 x3 x4 C I J R) (fun (x0 : Nat) (x1 : Nat) (x2 : Nat) (x3 : Nat) (x4 : Int64) (x6 : Int32) (C : MC) (I : MI) (J : MJ) (R : MR) => ∃ m, m < n ∧ Q183 m (gK Γ) x0 x1 x2 x3 x4 x6 C I J R) (fun (x0 : Nat) (x1 : Nat) (x2 : Nat) (x3 : Nat) (x4 : Int64) (x6 : Int32) (x7 : Int32) (C : MC) (I : MI) (J : MJ) (R : MR) => ∃ m, m < n ∧ Q204 m (gK Γ) x0 x1 x2 x3 x4 x6 x7 C I J R) (fun (x0 : Nat) (x1 : Nat) (x2 : Nat) (x3 : Nat) (x4 : Int64) (x6 : Int32) (x7 : Int32) (C : MC) (I : MI) (J : MJ) (R : MR) => ∃ m, m < n ∧ Q228 m (gK Γ) x0 x1 x2 x3 x4 x6 x7 C I J R) (fun (x0 : Nat) (x1 : Nat) (x2 : Nat) (x3 : Nat) (x4 : Int64) (x6 : Int32) (x7 : Int32) (x8 : Int32) (C : MC) (I : MI) (J : MJ) (R : MR) => ∃ m, m < n ∧ Q238 m (gK Γ) x0 x1 x2 x3 x4 x6 x7 x8 C I J R) (fun (x0 : Nat) (x3 : Nat) (x6 : Int32) (C : MC) (I : MI) (J : MJ) (R : MR) => ∃ m, m < n ∧ Q384 m (gK Γ) x0 x3 x6 C I J R) (gK Γ) x0 x1 x2 x3 x4 s0 s1 s2 C I J R → AW Γ 0 0 C I J R 167 [(0, aR (some x0)), (1, aR (some x1)), (2, aR (some x2)), (3, aR (some x3)), (4, aI x4)] [aJ s2, aI s1, aR s0] := fun x0 x1 x2 x3 x4 s0 s1 s2 C I J R h => bX9_table_167 G w144 h
    have w71 : ∀ (x0 : Nat) (x1 : Nat) (x2 : Nat) (x3 : Int32) (C : MC) (I : MI) (J : MJ) (R : MR), PX9_table_71 F_Vtable F_X3_anew F_X0_times F_X3_add F_X11_init F_X3_less (fun (x0 : Nat) (x1 : Nat) (x2 : Nat) (x3 : Int32) (C : MC) (I : MI) (J : MJ) (R : MR) => ∃ m, m < n ∧ Q24 m (gK Γ) x0 x1 x2 x3 C I J R) (fun (x0 : Nat) (x1 : Nat) (x2 : Nat) (x3 : Nat) (x4 : Int32) (C : MC) (I : MI) (J : MJ) (R : MR) => ∃ m, m < n ∧ Q111 m (gK Γ) x0 x1 x2 x3 x4 C I J R) (fun (x0 : Nat) (x1 : Nat) (x2 : Nat) (x3 : Nat) (x4 : Int32) (C : MC) (I : MI) (J : MJ) (R : MR) => ∃ m, m < n ∧ Q144 m (gK Γ) x0 x1 x2 x3 x4 C I J R) (fun (x0 : Nat) (x1 : Nat) (x2 : Nat) (x3 : Nat) (x4 : Int64) (x6 : Int32) (C : MC) (I : MI) (J : MJ) (R : MR) => ∃ m, m < n ∧ Q183 m (gK Γ) x0 x1 x2 x3 x4 x6 C I J R) (fun (x0 : Nat) (x1 : Nat) (x2 : Nat) (x3 : Nat) (x4 : Int64) (x6 : Int32) (x7 : Int32) (C : MC) (I : MI) (J : MJ) (R : MR) => ∃ m, m < n ∧ Q204 m (gK Γ) x0 x1 x2 x3 x4 x6 x7 C I J R) (fun (x0 : Nat) (x1 : Nat) (x2 : Nat) (x3 : Nat) (x4 : Int64) (x6 : Int32) (x7 : Int32) (C : MC) (I : MI) (J : MJ) (R : MR) => ∃ m, m < n ∧ Q228 m (gK Γ) x0 x1 x2 x3 x4 x6 x7 C I J R) (fun (x0 : Nat) (x1 : Nat) (x2 : Nat) (x3 : Nat) (x4 : Int64) (x6 : Int32) (x7 : Int32) (x8 : Int32) (C : MC) (I : MI) (J : MJ) (R : MR) => ∃ m, m < n ∧ Q238 m (gK Γ) x0 x1 x2 x3 x4 x6 x7 x8 C I J R) (fun (x0 : Nat) (x3 : Nat) (x6 : Int32) (C : MC) (I : MI) (J : MJ) (R : MR) => ∃ m, m < n ∧ Q384 m (gK Γ) x0 x3 x6 C I J R) (gK Γ) x0 x1 x2 x3 C I J R → AW Γ 0 0 C I J R 71 [(0, aR (some x0)), (1, aR (some x1)), (2, aR (some x2)), (3, aI x3)] [] := fun x0 x1 x2 x3 C I J R h => bX9_table_71 G w24 h
    exact ⟨fun x0 x1 x2 x3 C I J R h => bX9_table_24 G S_X3_anew w71 w111 (h24 n (gK Γ) x0 x1 x2 x3 C I J R h), fun x0 x1 x2 x3 x4 C I J R h => bX9_table_111 G S_X0_times w111 w144 (h111 n (gK Γ) x0 x1 x2 x3 x4 C I J R h), fun x0 x1 x2 x3 x4 C I J R h => bX9_table_144 G w167 w183 (h144 n (gK Γ) x0 x1 x2 x3 x4 C I J R h), fun x0 x1 x2 x3 x4 x6 C I J R h => bX9_table_183 G w204 w384 (h183 n (gK Γ) x0 x1 x2 x3 x4 x6 C I J R h), fun x0 x1 x2 x3 x4 x6 x7 C I J R h => bX9_table_204 G w204 w228 (h204 n (gK Γ) x0 x1 x2 x3 x4 x6 x7 C I J R h), fun x0 x1 x2 x3 x4 x6 x7 C I J R h => bX9_table_228 G w183 w238 (h228 n (gK Γ) x0 x1 x2 x3 x4 x6 x7 C I J R h), fun x0 x1 x2 x3 x4 x6 x7 x8 C I J R h => bX9_table_238 G S_X3_add S_X11_init w348 w354 (h238 n (gK Γ) x0 x1 x2 x3 x4 x6 x7 x8 C I J R h), fun x0 x3 x6 C I J R h => bX9_table_384 G S_X3_less S_X3_add w384 (h384 n (gK Γ) x0 x3 x6 C I J R h)⟩
  have w24 : ∀ (x0 : Nat) (x1 : Nat) (x2 : Nat) (x3 : Int32) (C : MC) (I : MI) (J : MJ) (R : MR), (∃ n, Q24 n (gK Γ) x0 x1 x2 x3 C I J R) → AW Γ 0 0 C I J R 24 [(0, aR (some x0)), (1, aR (some x1)), (2, aR (some x2)), (3, aI x3)] [] := fun x0 x1 x2 x3 C I J R ⟨m, hq⟩ => (key m).1 x0 x1 x2 x3 C I J R hq
  have w111 : ∀ (x0 : Nat) (x1 : Nat) (x2 : Nat) (x3 : Nat) (x4 : Int32) (C : MC) (I : MI) (J : MJ) (R : MR), (∃ n, Q111 n (gK Γ) x0 x1 x2 x3 x4 C I J R) → AW Γ 0 0 C I J R 111 [(0, aR (some x0)), (1, aR (some x1)), (2, aR (some x2)), (3, aR (some x3)), (4, aI x4)] [] := fun x0 x1 x2 x3 x4 C I J R ⟨m, hq⟩ => (key m).2.1 x0 x1 x2 x3 x4 C I J R hq
  have w144 : ∀ (x0 : Nat) (x1 : Nat) (x2 : Nat) (x3 : Nat) (x4 : Int32) (C : MC) (I : MI) (J : MJ) (R : MR), (∃ n, Q144 n (gK Γ) x0 x1 x2 x3 x4 C I J R) → AW Γ 0 0 C I J R 144 [(0, aR (some x0)), (1, aR (some x1)), (2, aR (some x2)), (3, aR (some x3)), (4, aI x4)] [] := fun x0 x1 x2 x3 x4 C I J R ⟨m, hq⟩ => (key m).2.2.1 x0 x1 x2 x3 x4 C I J R hq
  have w183 : ∀ (x0 : Nat) (x1 : Nat) (x2 : Nat) (x3 : Nat) (x4 : Int64) (x6 : Int32) (C : MC) (I : MI) (J : MJ) (R : MR), (∃ n, Q183 n (gK Γ) x0 x1 x2 x3 x4 x6 C I J R) → AW Γ 0 0 C I J R 183 [(0, aR (some x0)), (1, aR (some x1)), (2, aR (some x2)), (3, aR (some x3)), (4, aJ x4), (6, aI x6)] [] := fun x0 x1 x2 x3 x4 x6 C I J R ⟨m, hq⟩ => (key m).2.2.2.1 x0 x1 x2 x3 x4 x6 C I J R hq
  have w204 : ∀ (x0 : Nat) (x1 : Nat) (x2 : Nat) (x3 : Nat) (x4 : Int64) (x6 : Int32) (x7 : Int32) (C : MC) (I : MI) (J : MJ) (R : MR), (∃ n, Q204 n (gK Γ) x0 x1 x2 x3 x4 x6 x7 C I J R) → AW Γ 0 0 C I J R 204 [(0, aR (some x0)), (1, aR (some x1)), (2, aR (some x2)), (3, aR (some x3)), (4, aJ x4), (6, aI x6), (7, aI x7)] [] := fun x0 x1 x2 x3 x4 x6 x7 C I J R ⟨m, hq⟩ => (key m).2.2.2.2.1 x0 x1 x2 x3 x4 x6 x7 C I J R hq
  have w228 : ∀ (x0 : Nat) (x1 : Nat) (x2 : Nat) (x3 : Nat) (x4 : Int64) (x6 : Int32) (x7 : Int32) (C : MC) (I : MI) (J : MJ) (R : MR), (∃ n, Q228 n (gK Γ) x0 x1 x2 x3 x4 x6 x7 C I J R) → AW Γ 0 0 C I J R 228 [(0, aR (some x0)), (1, aR (some x1)), (2, aR (some x2)), (3, aR (some x3)), (4, aJ x4), (6, aI x6), (7, aI x7)] [] := fun x0 x1 x2 x3 x4 x6 x7 C I J R ⟨m, hq⟩ => (key m).2.2.2.2.2.1 x0 x1 x2 x3 x4 x6 x7 C I J R hq
  have w238 : ∀ (x0 : Nat) (x1 : Nat) (x2 : Nat) (x3 : Nat) (x4 : Int64) (x6 : Int32) (x7 : Int32) (x8 : Int32) (C : MC) (I : MI) (J : MJ) (R : MR), (∃ n, Q238 n (gK Γ) x0 x1 x2 x3 x4 x6 x7 x8 C I J R) → AW Γ 0 0 C I J R 238 [(0, aR (some x0)), (1, aR (some x1)), (2, aR (some x2)), (3, aR (some x3)), (4, aJ x4), (6, aI x6), (7, aI x7), (8, aI x8)] [] := fun x0 x1 x2 x3 x4 x6 x7 x8 C I J R ⟨m, hq⟩ => (key m).2.2.2.2.2.2.1 x0 x1 x2 x3 x4 x6 x7 x8 C I J R hq
  have w384 : ∀ (x0 : Nat) (x3 : Nat) (x6 : Int32) (C : MC) (I : MI) (J : MJ) (R : MR), (∃ n, Q384 n (gK Γ) x0 x3 x6 C I J R) → AW Γ 0 0 C I J R 384 [(0, aR (some x0)), (3, aR (some x3)), (6, aI x6)] [] := fun x0 x3 x6 C I J R ⟨m, hq⟩ => (key m).2.2.2.2.2.2.2 x0 x3 x6 C I J R hq
  have w354 : ∀ (x0 : Nat) (x1 : Nat) (x2 : Nat) (x3 : Nat) (x4 : Int64) (x6 : Int32) (x7 : Int32) (C : MC) (I : MI) (J : MJ) (R : MR), PX9_table_354 F_Vtable F_X3_anew F_X0_times F_X3_add F_X11_init F_X3_less (fun (x0 : Nat) (x1 : Nat) (x2 : Nat) (x3 : Int32) (C : MC) (I : MI) (J : MJ) (R : MR) => ∃ n, Q24 n (gK Γ) x0 x1 x2 x3 C I J R) (fun (x0 : Nat) (x1 : Nat) (x2 : Nat) (x3 : Nat) (x4 : Int32) (C : MC) (I : MI) (J : MJ) (R : MR) => ∃ n, Q111 n (gK Γ) x0 x1 x2 x3 x4 C I J R) (fun (x0 : Nat) (x1 : Nat) (x2 : Nat) (x3 : Nat) (x4 : Int32) (C : MC) (I : MI) (J : MJ) (R : MR) => ∃ n, Q144 n (gK Γ) x0 x1 x2 x3 x4 C I J R) (fun (x0 : Nat) (x1 : Nat) (x2 : Nat) (x3 : Nat) (x4 : Int64) (x6 : Int32) (C : MC) (I : MI) (J : MJ) (R : MR) => ∃ n, Q183 n (gK Γ) x0 x1 x2 x3 x4 x6 C I J R) (fun (x0 : Nat) (x1 : Nat) (x2 : Nat) (x3 : Nat) (x4 : Int64) (x6 : Int32) (x7 : Int32) (C : MC) (I : MI) (J : MJ) (R : MR) => ∃ n, Q204 n (gK Γ) x0 x1 x2 x3 x4 x6 x7 C I J R) (fun (x0 : Nat) (x1 : Nat) (x2 : Nat) (x3 : Nat) (x4 : Int64) (x6 : Int32) (x7 : Int32) (C : MC) (I : MI) (J : MJ) (R : MR) => ∃ n, Q228 n (gK Γ) x0 x1 x2 x3 x4 x6 x7 C I J R) (fun (x0 : Nat) (x1 : Nat) (x2 : Nat) (x3 : Nat) (x4 : Int64) (x6 : Int32) (x7 : Int32) (x8 : Int32) (C : MC) (I : MI) (J : MJ) (R : MR) => ∃ n, Q238 n (gK Γ) x0 x1 x2 x3 x4 x6 x7 x8 C I J R) (fun (x0 : Nat) (x3 : Nat) (x6 : Int32) (C : MC) (I : MI) (J : MJ) (R : MR) => ∃ n, Q384 n (gK Γ) x0 x3 x6 C I J R) (gK Γ) x0 x1 x2 x3 x4 x6 x7 C I J R → AW Γ 0 0 C I J R 354 [(0, aR (some x0)), (1, aR (some x1)), (2, aR (some x2)), (3, aR (some x3)), (4, aJ x4), (6, aI x6), (7, aI x7)] [] := fun x0 x1 x2 x3 x4 x6 x7 C I J R h => bX9_table_354 G w228 h
  have w348 : ∀ (x0 : Nat) (x1 : Nat) (x2 : Nat) (x3 : Nat) (x4 : Int64) (x6 : Int32) (x7 : Int32) (x8 : Int32) (C : MC) (I : MI) (J : MJ) (R : MR), PX9_table_348 F_Vtable F_X3_anew F_X0_times F_X3_add F_X11_init F_X3_less (fun (x0 : Nat) (x1 : Nat) (x2 : Nat) (x3 : Int32) (C : MC) (I : MI) (J : MJ) (R : MR) => ∃ n, Q24 n (gK Γ) x0 x1 x2 x3 C I J R) (fun (x0 : Nat) (x1 : Nat) (x2 : Nat) (x3 : Nat) (x4 : Int32) (C : MC) (I : MI) (J : MJ) (R : MR) => ∃ n, Q111 n (gK Γ) x0 x1 x2 x3 x4 C I J R) (fun (x0 : Nat) (x1 : Nat) (x2 : Nat) (x3 : Nat) (x4 : Int32) (C : MC) (I : MI) (J : MJ) (R : MR) => ∃ n, Q144 n (gK Γ) x0 x1 x2 x3 x4 C I J R) (fun (x0 : Nat) (x1 : Nat) (x2 : Nat) (x3 : Nat) (x4 : Int64) (x6 : Int32) (C : MC) (I : MI) (J : MJ) (R : MR) => ∃ n, Q183 n (gK Γ) x0 x1 x2 x3 x4 x6 C I J R) (fun (x0 : Nat) (x1 : Nat) (x2 : Nat) (x3 : Nat) (x4 : Int64) (x6 : Int32) (x7 : Int32) (C : MC) (I : MI) (J : MJ) (R : MR) => ∃ n, Q204 n (gK Γ) x0 x1 x2 x3 x4 x6 x7 C I J R) (fun (x0 : Nat) (x1 : Nat) (x2 : Nat) (x3 : Nat) (x4 : Int64) (x6 : Int32) (x7 : Int32) (C : MC) (I : MI) (J : MJ) (R : MR) => ∃ n, Q228 n (gK Γ) x0 x1 x2 x3 x4 x6 x7 C I J R) (fun (x0 : Nat) (x1 : Nat) (x2 : Nat) (x3 : Nat) (x4 : Int64) (x6 : Int32) (x7 : Int32) (x8 : Int32) (C : MC) (I : MI) (J : MJ) (R : MR) => ∃ n, Q238 n (gK Γ) x0 x1 x2 x3 x4 x6 x7 x8 C I J R) (fun (x0 : Nat) (x3 : Nat) (x6 : Int32) (C : MC) (I : MI) (J : MJ) (R : MR) => ∃ n, Q384 n (gK Γ) x0 x3 x6 C I J R) (gK Γ) x0 x1 x2 x3 x4 x6 x7 x8 C I J R → AW Γ 0 0 C I J R 348 [(0, aR (some x0)), (1, aR (some x1)), (2, aR (some x2)), (3, aR (some x3)), (4, aJ x4), (6, aI x6), (7, aI x7), (8, aI x8)] [] := fun x0 x1 x2 x3 x4 x6 x7 x8 C I J R h => bX9_table_348 G w238 h
  have w167 : ∀ (x0 : Nat) (x1 : Nat) (x2 : Nat) (x3 : Nat) (x4 : Int32) (s0 : Option Nat) (s1 : Int32) (s2 : Int64) (C : MC) (I : MI) (J : MJ) (R : MR), PX9_table_167 F_Vtable F_X3_anew F_X0_times F_X3_add F_X11_init F_X3_less (fun (x0 : Nat) (x1 : Nat) (x2 : Nat) (x3 : Int32) (C : MC) (I : MI) (J : MJ) (R : MR) => ∃ n, Q24 n (gK Γ) x0 x1 x2 x3 C I J R) (fun (x0 : Nat) (x1 : Nat) (x2 : Nat) (x3 : Nat) (x4 : Int32) (C : MC) (I : MI) (J : MJ) (R : MR) => ∃ n, Q111 n (gK Γ) x0 x1 x2 x3 x4 C I J R) (fun (x0 : Nat) (x1 : Nat) (x2 : Nat) (x3 : Nat) (x4 : Int32) (C : MC) (I : MI) (J : MJ) (R : MR) => ∃ n, Q144 n (gK Γ) x0 x1 x2 x3 x4 C I J R) (fun (x0 : Nat) (x1 : Nat) (x2 : Nat) (x3 : Nat) (x4 : Int64) (x6 : Int32) (C : MC) (I : MI) (J : MJ) (R : MR) => ∃ n, Q183 n (gK Γ) x0 x1 x2 x3 x4 x6 C I J R) (fun (x0 : Nat) (x1 : Nat) (x2 : Nat) (x3 : Nat) (x4 : Int64) (x6 : Int32) (x7 : Int32) (C : MC) (I : MI) (J : MJ) (R : MR) => ∃ n, Q204 n (gK Γ) x0 x1 x2 x3 x4 x6 x7 C I J R) (fun (x0 : Nat) (x1 : Nat) (x2 : Nat) (x3 : Nat) (x4 : Int64) (x6 : Int32) (x7 : Int32) (C : MC) (I : MI) (J : MJ) (R : MR) => ∃ n, Q228 n (gK Γ) x0 x1 x2 x3 x4 x6 x7 C I J R) (fun (x0 : Nat) (x1 : Nat) (x2 : Nat) (x3 : Nat) (x4 : Int64) (x6 : Int32) (x7 : Int32) (x8 : Int32) (C : MC) (I : MI) (J : MJ) (R : MR) => ∃ n, Q238 n (gK Γ) x0 x1 x2 x3 x4 x6 x7 x8 C I J R) (fun (x0 : Nat) (x3 : Nat) (x6 : Int32) (C : MC) (I : MI) (J : MJ) (R : MR) => ∃ n, Q384 n (gK Γ) x0 x3 x6 C I J R) (gK Γ) x0 x1 x2 x3 x4 s0 s1 s2 C I J R → AW Γ 0 0 C I J R 167 [(0, aR (some x0)), (1, aR (some x1)), (2, aR (some x2)), (3, aR (some x3)), (4, aI x4)] [aJ s2, aI s1, aR s0] := fun x0 x1 x2 x3 x4 s0 s1 s2 C I J R h => bX9_table_167 G w144 h
  have w71 : ∀ (x0 : Nat) (x1 : Nat) (x2 : Nat) (x3 : Int32) (C : MC) (I : MI) (J : MJ) (R : MR), PX9_table_71 F_Vtable F_X3_anew F_X0_times F_X3_add F_X11_init F_X3_less (fun (x0 : Nat) (x1 : Nat) (x2 : Nat) (x3 : Int32) (C : MC) (I : MI) (J : MJ) (R : MR) => ∃ n, Q24 n (gK Γ) x0 x1 x2 x3 C I J R) (fun (x0 : Nat) (x1 : Nat) (x2 : Nat) (x3 : Nat) (x4 : Int32) (C : MC) (I : MI) (J : MJ) (R : MR) => ∃ n, Q111 n (gK Γ) x0 x1 x2 x3 x4 C I J R) (fun (x0 : Nat) (x1 : Nat) (x2 : Nat) (x3 : Nat) (x4 : Int32) (C : MC) (I : MI) (J : MJ) (R : MR) => ∃ n, Q144 n (gK Γ) x0 x1 x2 x3 x4 C I J R) (fun (x0 : Nat) (x1 : Nat) (x2 : Nat) (x3 : Nat) (x4 : Int64) (x6 : Int32) (C : MC) (I : MI) (J : MJ) (R : MR) => ∃ n, Q183 n (gK Γ) x0 x1 x2 x3 x4 x6 C I J R) (fun (x0 : Nat) (x1 : Nat) (x2 : Nat) (x3 : Nat) (x4 : Int64) (x6 : Int32) (x7 : Int32) (C : MC) (I : MI) (J : MJ) (R : MR) => ∃ n, Q204 n (gK Γ) x0 x1 x2 x3 x4 x6 x7 C I J R) (fun (x0 : Nat) (x1 : Nat) (x2 : Nat) (x3 : Nat) (x4 : Int64) (x6 : Int32) (x7 : Int32) (C : MC) (I : MI) (J : MJ) (R : MR) => ∃ n, Q228 n (gK Γ) x0 x1 x2 x3 x4 x6 x7 C I J R) (fun (x0 : Nat) (x1 : Nat) (x2 : Nat) (x3 : Nat) (x4 : Int64) (x6 : Int32) (x7 : Int32) (x8 : Int32) (C : MC) (I : MI) (J : MJ) (R : MR) => ∃ n, Q238 n (gK Γ) x0 x1 x2 x3 x4 x6 x7 x8 C I J R) (fun (x0 : Nat) (x3 : Nat) (x6 : Int32) (C : MC) (I : MI) (J : MJ) (R : MR) => ∃ n, Q384 n (gK Γ) x0 x3 x6 C I J R) (gK Γ) x0 x1 x2 x3 C I J R → AW Γ 0 0 C I J R 71 [(0, aR (some x0)), (1, aR (some x1)), (2, aR (some x2)), (3, aI x3)] [] := fun x0 x1 x2 x3 C I J R h => bX9_table_71 G w24 h
  obtain ⟨x0, rfl, h⟩ := h0 As C I J R (gK Γ) hF
  exact ⟨Nat.le_of_ble_eq_true rfl, bX9_table_0 G S_Vtable S_X3_anew w24 h⟩
def PX9_asks_0 (K : AK) (x0 : Nat) (C : MC) (I : MI) (J : MJ) (R : MR) : Prop :=
      (C x0).1 = 9 ∧
      K (.inl (some (aI ((I x0 7) + (1 : Int32))))) C I J R
theorem wX9_asks {l : Launch}  {F : SPF}
    (h0 : ∀ (As : List AV) (C : MC) (I : MI) (J : MJ) (R : MR) (K : AK), F As C I J R K → ∃ (x0 : Nat), As = [aR (some x0)] ∧ PX9_asks_0 K x0 C I J R) : SpX9_asks l F := by
  refine Spec.of (by rfl) ?_
  intro Γ C I J R As Gd gl gr _ _ gb hF
  subst gl
  have G : Gb Γ yX9_asks cX9_asks 1 (some .int) [] rmX9_asks bdX9_asks := ⟨Gd, gr, gb⟩
  obtain ⟨x0, rfl, h⟩ := h0 As C I J R (gK Γ) hF
  exact ⟨Nat.le_of_ble_eq_true rfl, bX9_asks_0 G h⟩
def PX10_init_0 (F_X4_init : SPF) (K : AK) (x0 : Nat) (x1 : Nat) (x2 : Int32) (C : MC) (I : MI) (J : MJ) (R : MR) : Prop :=
      ∃ q1 : Nat, (C q1).1 = 0 ∧
      ∀ (C3 : MC) (I4 : MI) (J5 : MJ) (R6 : MR), C3 = va_up C q1 (26, 1) → I4 = va_up I q1 (fun _ => 0) → J5 = va_up J q1 (fun _ => 0) → R6 = va_up R q1 (fun _ => none) → 
      (25 ≤ (C3 q1).1 ∧ (C3 q1).1 < 29) ∧
      kFit (C3 q1).1 (C3 x1).1 ∧
      vp_in (0 : Int32) (C3 q1).2 ∧
      ∀ R10 : MR, R10 = va_up R6 q1 (va_up (R6 q1) (0 : Int32).toNatClampNeg (some x1)) →
      F_X4_init [aR (some x0), aR (some q1)] C3 I4 J5 R10 (fun o C11 I12 J13 R14 =>
      o = .inl none ∧
      (C11 x0).1 = 10 ∧
      ∀ I17 : MI, I17 = va_up I12 x0 (va_up (I12 x0) 6 x2) →
      K (.inl none) C11 I17 J13 R14)
theorem wX10_init {l : Launch}  {F_X4_init : SPF} (S_X4_init : SpX4_init l F_X4_init) {F : SPF}
    (h0 : ∀ (As : List AV) (C : MC) (I : MI) (J : MJ) (R : MR) (K : AK), F As C I J R K → ∃ (x0 : Nat) (x1 : Nat) (x2 : Int32), As = [aR (some x0), aR (some x1), aI x2] ∧ PX10_init_0 F_X4_init K x0 x1 x2 C I J R) : SpX10_init l F := by
  refine Spec.of (by rfl) ?_
  intro Γ C I J R As Gd gl gr _ _ gb hF
  subst gl
  have G : Gb Γ yX10_init cX10_init 3 (none) [] rmX10_init bdX10_init := ⟨Gd, gr, gb⟩
  obtain ⟨x0, x1, x2, rfl, h⟩ := h0 As C I J R (gK Γ) hF
  exact ⟨Nat.le_of_ble_eq_true rfl, bX10_init_0 G S_X4_init h⟩
def PX10_kind_0 (K : AK) (x0 : Nat) (C : MC) (I : MI) (J : MJ) (R : MR) : Prop :=
      K (.inl (some (aI (5 : Int32)))) C I J R
theorem wX10_kind {l : Launch}  {F : SPF}
    (h0 : ∀ (As : List AV) (C : MC) (I : MI) (J : MJ) (R : MR) (K : AK), F As C I J R K → ∃ (x0 : Nat), As = [aR (some x0)] ∧ PX10_kind_0 K x0 C I J R) : SpX10_kind l F := by
  refine Spec.of (by rfl) ?_
  intro Γ C I J R As Gd gl gr _ _ gb hF
  subst gl
  have G : Gb Γ yX10_kind cX10_kind 1 (some .int) [] rmX10_kind bdX10_kind := ⟨Gd, gr, gb⟩
  obtain ⟨x0, rfl, h⟩ := h0 As C I J R (gK Γ) hF
  exact ⟨Nat.le_of_ble_eq_true rfl, bX10_kind_0 G h⟩
def PX10_table_198 (F_Vtable : SPF) (F_X0_times : SPF) (F_X3_anew : SPF) (F_X3_less : SPF) (F_X3_add : SPF) (Q31 : Nat → Nat → Nat → Int32 → MC → MI → MJ → MR → Prop) (Q85 : Nat → Nat → Nat → Int32 → Int32 → MC → MI → MJ → MR → Prop) (K : AK) (x0 : Nat) (x1 : Nat) (x2 : Nat) (x3 : Int32) (C : MC) (I : MI) (J : MJ) (R : MR) : Prop :=
      Q31 x0 x1 x2 (x3 + 1) C I J R
def PX10_table_85 (F_Vtable : SPF) (F_X0_times : SPF) (F_X3_anew : SPF) (F_X3_less : SPF) (F_X3_add : SPF) (Q31 : Nat → Nat → Nat → Int32 → MC → MI → MJ → MR → Prop) (Q85 : Nat → Nat → Nat → Int32 → Int32 → MC → MI → MJ → MR → Prop) (K : AK) (x0 : Nat) (x1 : Nat) (x2 : Nat) (x3 : Int32) (x4 : Int32) (C : MC) (I : MI) (J : MJ) (R : MR) : Prop :=
      (((120 : Int32) < x4 →
      PX10_table_198 F_Vtable F_X0_times F_X3_anew F_X3_less F_X3_add Q31 Q85 K x0 x1 x2 x3 C I J R) ∧
      (¬ (120 : Int32) < x4 →
      (C x0).1 = 10 ∧
      (C x1).1 = 4 ∧
      ∃ q4 : Nat, R x1 0 = some q4 ∧
      (C q4).1 = 21 ∧
      vp_in x3 (C q4).2 ∧
      vp_in x4 (C q4).2 ∧
      (C x2).1 = 4 ∧
      F_X3_add [aR (some x2), aI (1 : Int32), aI (if ((I x0 6) + x4) < x3 then ((I x0 6) + x4) else x3), aJ ((J q4 x3.toNatClampNeg) * (J q4 x4.toNatClampNeg))] C I J R (fun o C9 I10 J11 R12 =>
      (o = .inl none ∧
      (C9 x1).1 = 4 ∧
      ∃ q15 : Nat, R12 x1 0 = some q15 ∧
      (C9 q15).1 = 21 ∧
      vp_in x3 (C9 q15).2 ∧
      ∃ q18 : Nat, R12 x1 1 = some q18 ∧
      (C9 q18).1 = 21 ∧
      vp_in x4 (C9 q18).2 ∧
      (C9 x2).1 = 4 ∧
      F_X3_add [aR (some x2), aI (1 : Int32), aI x3, aJ ((J11 q15 x3.toNatClampNeg) * (J11 q18 x4.toNatClampNeg))] C9 I10 J11 R12 (fun o C22 I23 J24 R25 =>
      (o = .inl none ∧
      (C22 x1).1 = 4 ∧
      ∃ q28 : Nat, R25 x1 1 = some q28 ∧
      (C22 q28).1 = 21 ∧
      vp_in x3 (C22 q28).2 ∧
      ∃ q31 : Nat, R25 x1 0 = some q31 ∧
      (C22 q31).1 = 21 ∧
      vp_in x4 (C22 q31).2 ∧
      (C22 x2).1 = 4 ∧
      F_X3_add [aR (some x2), aI (1 : Int32), aI ((I x0 6) + x4), aJ ((J24 q28 x3.toNatClampNeg) * (J24 q31 x4.toNatClampNeg))] C22 I23 J24 R25 (fun o C35 I36 J37 R38 =>
      (o = .inl none ∧
      (C35 x1).1 = 4 ∧
      ∃ q41 : Nat, R38 x1 1 = some q41 ∧
      (C35 q41).1 = 21 ∧
      vp_in x3 (C35 q41).2 ∧
      vp_in x4 (C35 q41).2 ∧
      (C35 x2).1 = 4 ∧
      F_X3_add [aR (some x2), aI (0 : Int32), aI (if x3 < ((I x0 6) + x4) then ((I x0 6) + x4) else x3), aJ ((J37 q41 x3.toNatClampNeg) * (J37 q41 x4.toNatClampNeg))] C35 I36 J37 R38 (fun o C46 I47 J48 R49 =>
      (o = .inl none ∧
      Q85 x0 x1 x2 x3 (x4 + 1) C46 I47 J48 R49) ∨
      (∃ q51 : Nat, o = .inr q51 ∧
      ((C46 q51).1 = 11 ∧
      K (.inr q51) C46 I47 J48 R49)))) ∨
      (∃ q53 : Nat, o = .inr q53 ∧
      ((C35 q53).1 = 11 ∧
      K (.inr q53) C35 I36 J37 R38)))) ∨
      (∃ q55 : Nat, o = .inr q55 ∧
      ((C22 q55).1 = 11 ∧
      K (.inr q55) C22 I23 J24 R25)))) ∨
      (∃ q57 : Nat, o = .inr q57 ∧
      ((C9 q57).1 = 11 ∧
      K (.inr q57) C9 I10 J11 R12)))))
def PX10_table_31 (F_Vtable : SPF) (F_X0_times : SPF) (F_X3_anew : SPF) (F_X3_less : SPF) (F_X3_add : SPF) (Q31 : Nat → Nat → Nat → Int32 → MC → MI → MJ → MR → Prop) (Q85 : Nat → Nat → Nat → Int32 → Int32 → MC → MI → MJ → MR → Prop) (K : AK) (x0 : Nat) (x1 : Nat) (x2 : Nat) (x3 : Int32) (C : MC) (I : MI) (J : MJ) (R : MR) : Prop :=
      (((120 : Int32) < x3 →
      (C x2).1 = 4 ∧
      F_X3_less [aR (some x2)] C I J R (fun o C3 I4 J5 R6 =>
      ∃ r7 : Nat, o = .inl (some (aR (some r7))) ∧
      K (.inl (some (aR (some r7)))) C3 I4 J5 R6)) ∧
      (¬ (120 : Int32) < x3 →
      (C x0).1 = 10 ∧
      (((I x0 6) < x3 →
      Q85 x0 x1 x2 x3 (0 : Int32) C I J R) ∧
      (¬ (I x0 6) < x3 →
      (C x1).1 = 4 ∧
      ∃ q11 : Nat, R x1 0 = some q11 ∧
      (C q11).1 = 21 ∧
      vp_in x3 (C q11).2 ∧
      (C x2).1 = 4 ∧
      F_X3_add [aR (some x2), aI (1 : Int32), aI x3, aJ ((J q11 x3.toNatClampNeg) * (J x1 2))] C I J R (fun o C15 I16 J17 R18 =>
      (o = .inl none ∧
      (C15 x1).1 = 4 ∧
      ∃ q21 : Nat, R18 x1 1 = some q21 ∧
      (C15 q21).1 = 21 ∧
      vp_in x3 (C15 q21).2 ∧
      (C15 x2).1 = 4 ∧
      F_X3_add [aR (some x2), aI (0 : Int32), aI x3, aJ ((J17 q21 x3.toNatClampNeg) * (J17 x1 2))] C15 I16 J17 R18 (fun o C25 I26 J27 R28 =>
      (o = .inl none ∧
      PX10_table_198 F_Vtable F_X0_times F_X3_anew F_X3_less F_X3_add Q31 Q85 K x0 x1 x2 x3 C25 I26 J27 R28) ∨
      (∃ q30 : Nat, o = .inr q30 ∧
      ((C25 q30).1 = 11 ∧
      K (.inr q30) C25 I26 J27 R28)))) ∨
      (∃ q32 : Nat, o = .inr q32 ∧
      ((C15 q32).1 = 11 ∧
      K (.inr q32) C15 I16 J17 R18)))))))
def PX10_table_0 (F_Vtable : SPF) (F_X0_times : SPF) (F_X3_anew : SPF) (F_X3_less : SPF) (F_X3_add : SPF) (Q31 : Nat → Nat → Nat → Int32 → MC → MI → MJ → MR → Prop) (Q85 : Nat → Nat → Nat → Int32 → Int32 → MC → MI → MJ → MR → Prop) (K : AK) (x0 : Nat) (C : MC) (I : MI) (J : MJ) (R : MR) : Prop :=
      (C x0).1 = 10 ∧
      ∃ q2 : Nat, R x0 0 = some q2 ∧
      (25 ≤ (C q2).1 ∧ (C q2).1 < 30) ∧
      vp_in (0 : Int32) (C q2).2 ∧
      ∃ q5 : Nat, R q2 (0 : Int32).toNatClampNeg = some q5 ∧
      kTh (C q5).1 ∧
      F_Vtable [aR (some q5)] C I J R (fun o C7 I8 J9 R10 =>
      (∃ r11 : Nat, o = .inl (some (aR (some r11))) ∧
      (C7 x0).1 = 10 ∧
      (C7 r11).1 = 4 ∧
      F_X0_times [aJ (J9 r11 2), aJ (J9 r11 2)] C7 I8 J9 R10 (fun o C14 I15 J16 R17 =>
      (∃ r18 : Int64, o = .inl (some (aJ r18)) ∧
      ∃ q19 : Nat, R10 x0 1 = some q19 ∧
      (C14 q19).1 = 4 ∧
      F_X3_anew [aR (some q19), aJ r18] C14 I15 J16 R17 (fun o C21 I22 J23 R24 =>
      ∃ r25 : Nat, o = .inl (some (aR (some r25))) ∧
      Q31 x0 r11 r25 (0 : Int32) C21 I22 J23 R24)) ∨
      (∃ q26 : Nat, o = .inr q26 ∧
      ((C14 q26).1 = 11 ∧
      K (.inr q26) C14 I15 J16 R17)))) ∨
      (∃ q28 : Nat, o = .inr q28 ∧
      ((C7 q28).1 = 11 ∧
      K (.inr q28) C7 I8 J9 R10)))
theorem wX10_table {l : Launch} {d : Nat}  {F_Vtable : SPF} (S_Vtable : SpVtable l d F_Vtable) {F_X0_times : SPF} (S_X0_times : SpX0_times l F_X0_times) {F_X3_anew : SPF} (S_X3_anew : SpX3_anew l F_X3_anew) {F_X3_less : SPF} (S_X3_less : SpX3_less l F_X3_less) {F_X3_add : SPF} (S_X3_add : SpX3_add l F_X3_add)
    (Q31 : Nat → AK → Nat → Nat → Nat → Int32 → MC → MI → MJ → MR → Prop)
    (Q85 : Nat → AK → Nat → Nat → Nat → Int32 → Int32 → MC → MI → MJ → MR → Prop) {F : SPF}
    (h0 : ∀ (As : List AV) (C : MC) (I : MI) (J : MJ) (R : MR) (K : AK), F As C I J R K → ∃ (x0 : Nat), As = [aR (some x0)] ∧ PX10_table_0 F_Vtable F_X0_times F_X3_anew F_X3_less F_X3_add (fun (x0 : Nat) (x1 : Nat) (x2 : Nat) (x3 : Int32) (C : MC) (I : MI) (J : MJ) (R : MR) => ∃ n, Q31 n K x0 x1 x2 x3 C I J R) (fun (x0 : Nat) (x1 : Nat) (x2 : Nat) (x3 : Int32) (x4 : Int32) (C : MC) (I : MI) (J : MJ) (R : MR) => ∃ n, Q85 n K x0 x1 x2 x3 x4 C I J R) K x0 C I J R)
    (h31 : ∀ (n : Nat) (K : AK) (x0 : Nat) (x1 : Nat) (x2 : Nat) (x3 : Int32) (C : MC) (I : MI) (J : MJ) (R : MR), Q31 n K x0 x1 x2 x3 C I J R → PX10_table_31 F_Vtable F_X0_times F_X3_anew F_X3_less F_X3_add (fun (x0 : Nat) (x1 : Nat) (x2 : Nat) (x3 : Int32) (C : MC) (I : MI) (J : MJ) (R : MR) => ∃ m, m < n ∧ Q31 m K x0 x1 x2 x3 C I J R) (fun (x0 : Nat) (x1 : Nat) (x2 : Nat) (x3 : Int32) (x4 : Int32) (C : MC) (I : MI) (J : MJ) (R : MR) => ∃ m, m < n ∧ Q85 m K x0 x1 x2 x3 x4 C I J R) K x0 x1 x2 x3 C I J R)
    (h85 : ∀ (n : Nat) (K : AK) (x0 : Nat) (x1 : Nat) (x2 : Nat) (x3 : Int32) (x4 : Int32) (C : MC) (I : MI) (J : MJ) (R : MR), Q85 n K x0 x1 x2 x3 x4 C I J R → PX10_table_85 F_Vtable F_X0_times F_X3_anew F_X3_less F_X3_add (fun (x0 : Nat) (x1 : Nat) (x2 : Nat) (x3 : Int32) (C : MC) (I : MI) (J : MJ) (R : MR) => ∃ m, m < n ∧ Q31 m K x0 x1 x2 x3 C I J R) (fun (x0 : Nat) (x1 : Nat) (x2 : Nat) (x3 : Int32) (x4 : Int32) (C : MC) (I : MI) (J : MJ) (R : MR) => ∃ m, m < n ∧ Q85 m K x0 x1 x2 x3 x4 C I J R) K x0 x1 x2 x3 x4 C I J R) : SpX10_table l (d + 1) F := by
  refine Spec.of (by rfl) ?_
  intro Γ C I J R As Gd gl gr _ _ gb hF
  subst gl
  have G : Gb Γ yX10_table cX10_table 6 (some (.object "TickShare$Table")) [] (rmTb (d + 1)) bdX10_table := ⟨Gd, gr, gb⟩
  have key : ∀ n : Nat, (∀ (x0 : Nat) (x1 : Nat) (x2 : Nat) (x3 : Int32) (C : MC) (I : MI) (J : MJ) (R : MR), Q31 n (gK Γ) x0 x1 x2 x3 C I J R → AW Γ 0 0 C I J R 31 [(0, aR (some x0)), (1, aR (some x1)), (2, aR (some x2)), (3, aI x3)] []) ∧ (∀ (x0 : Nat) (x1 : Nat) (x2 : Nat) (x3 : Int32) (x4 : Int32) (C : MC) (I : MI) (J : MJ) (R : MR), Q85 n (gK Γ) x0 x1 x2 x3 x4 C I J R → AW Γ 0 0 C I J R 85 [(0, aR (some x0)), (1, aR (some x1)), (2, aR (some x2)), (3, aI x3), (4, aI x4)] []) := by
    intro n
    induction n using Nat.strongRecOn with
    | ind n ih =>
    have w31 : ∀ (x0 : Nat) (x1 : Nat) (x2 : Nat) (x3 : Int32) (C : MC) (I : MI) (J : MJ) (R : MR), (∃ m, m < n ∧ Q31 m (gK Γ) x0 x1 x2 x3 C I J R) → AW Γ 0 0 C I J R 31 [(0, aR (some x0)), (1, aR (some x1)), (2, aR (some x2)), (3, aI x3)] [] := fun x0 x1 x2 x3 C I J R ⟨m, hm, hq⟩ => (ih m hm).1 x0 x1 x2 x3 C I J R hq
    have w85 : ∀ (x0 : Nat) (x1 : Nat) (x2 : Nat) (x3 : Int32) (x4 : Int32) (C : MC) (I : MI) (J : MJ) (R : MR), (∃ m, m < n ∧ Q85 m (gK Γ) x0 x1 x2 x3 x4 C I J R) → AW Γ 0 0 C I J R 85 [(0, aR (some x0)), (1, aR (some x1)), (2, aR (some x2)), (3, aI x3), (4, aI x4)] [] := fun x0 x1 x2 x3 x4 C I J R ⟨m, hm, hq⟩ => (ih m hm).2 x0 x1 x2 x3 x4 C I J R hq
    have w198 : ∀ (x0 : Nat) (x1 : Nat) (x2 : Nat) (x3 : Int32) (C : MC) (I : MI) (J : MJ) (R : MR), PX10_table_198 F_Vtable F_X0_times F_X3_anew F_X3_less F_X3_add (fun (x0 : Nat) (x1 : Nat) (x2 : Nat) (x3 : Int32) (C : MC) (I : MI) (J : MJ) (R : MR) => ∃ m, m < n ∧ Q31 m (gK Γ) x0 x1 x2 x3 C I J R) (fun (x0 : Nat) (x1 : Nat) (x2 : Nat) (x3 : Int32) (x4 : Int32) (C : MC) (I : MI) (J : MJ) (R : MR) => ∃ m, m < n ∧ Q85 m (gK Γ) x0 x1 x2 x3 x4 C I J R) (gK Γ) x0 x1 x2 x3 C I J R → AW Γ 0 0 C I J R 198 [(0, aR (some x0)), (1, aR (some x1)), (2, aR (some x2)), (3, aI x3)] [] := fun x0 x1 x2 x3 C I J R h => bX10_table_198 G w31 h
    exact ⟨fun x0 x1 x2 x3 C I J R h => bX10_table_31 G S_X3_less S_X3_add w85 w198 (h31 n (gK Γ) x0 x1 x2 x3 C I J R h), fun x0 x1 x2 x3 x4 C I J R h => bX10_table_85 G S_X3_add w85 w198 (h85 n (gK Γ) x0 x1 x2 x3 x4 C I J R h)⟩
  have w31 : ∀ (x0 : Nat) (x1 : Nat) (x2 : Nat) (x3 : Int32) (C : MC) (I : MI) (J : MJ) (R : MR), (∃ n, Q31 n (gK Γ) x0 x1 x2 x3 C I J R) → AW Γ 0 0 C I J R 31 [(0, aR (some x0)), (1, aR (some x1)), (2, aR (some x2)), (3, aI x3)] [] := fun x0 x1 x2 x3 C I J R ⟨m, hq⟩ => (key m).1 x0 x1 x2 x3 C I J R hq
  have w85 : ∀ (x0 : Nat) (x1 : Nat) (x2 : Nat) (x3 : Int32) (x4 : Int32) (C : MC) (I : MI) (J : MJ) (R : MR), (∃ n, Q85 n (gK Γ) x0 x1 x2 x3 x4 C I J R) → AW Γ 0 0 C I J R 85 [(0, aR (some x0)), (1, aR (some x1)), (2, aR (some x2)), (3, aI x3), (4, aI x4)] [] := fun x0 x1 x2 x3 x4 C I J R ⟨m, hq⟩ => (key m).2 x0 x1 x2 x3 x4 C I J R hq
  have w198 : ∀ (x0 : Nat) (x1 : Nat) (x2 : Nat) (x3 : Int32) (C : MC) (I : MI) (J : MJ) (R : MR), PX10_table_198 F_Vtable F_X0_times F_X3_anew F_X3_less F_X3_add (fun (x0 : Nat) (x1 : Nat) (x2 : Nat) (x3 : Int32) (C : MC) (I : MI) (J : MJ) (R : MR) => ∃ n, Q31 n (gK Γ) x0 x1 x2 x3 C I J R) (fun (x0 : Nat) (x1 : Nat) (x2 : Nat) (x3 : Int32) (x4 : Int32) (C : MC) (I : MI) (J : MJ) (R : MR) => ∃ n, Q85 n (gK Γ) x0 x1 x2 x3 x4 C I J R) (gK Γ) x0 x1 x2 x3 C I J R → AW Γ 0 0 C I J R 198 [(0, aR (some x0)), (1, aR (some x1)), (2, aR (some x2)), (3, aI x3)] [] := fun x0 x1 x2 x3 C I J R h => bX10_table_198 G w31 h
  obtain ⟨x0, rfl, h⟩ := h0 As C I J R (gK Γ) hF
  exact ⟨Nat.le_of_ble_eq_true rfl, bX10_table_0 G S_Vtable S_X0_times S_X3_anew w31 h⟩
def PX10_asks_0 (K : AK) (x0 : Nat) (C : MC) (I : MI) (J : MJ) (R : MR) : Prop :=
      K (.inl (some (aI (2 : Int32)))) C I J R
theorem wX10_asks {l : Launch}  {F : SPF}
    (h0 : ∀ (As : List AV) (C : MC) (I : MI) (J : MJ) (R : MR) (K : AK), F As C I J R K → ∃ (x0 : Nat), As = [aR (some x0)] ∧ PX10_asks_0 K x0 C I J R) : SpX10_asks l F := by
  refine Spec.of (by rfl) ?_
  intro Γ C I J R As Gd gl gr _ _ gb hF
  subst gl
  have G : Gb Γ yX10_asks cX10_asks 1 (some .int) [] rmX10_asks bdX10_asks := ⟨Gd, gr, gb⟩
  obtain ⟨x0, rfl, h⟩ := h0 As C I J R (gK Γ) hF
  exact ⟨Nat.le_of_ble_eq_true rfl, bX10_asks_0 G h⟩
