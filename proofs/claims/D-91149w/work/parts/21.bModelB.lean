/-! WALKS of X2_told X2_wrongTable X2_usual X2_tables X2_clear X2_wholeOf X2_product X2_make X2_makeRow X2_at X2_makeFan X2_count X2_makeRetry X2_makeHedge X2_settle X2_common X2_leaves X2_has (printed by gen/blocks.py) -/
set_option maxRecDepth 100000
section BL
variable {Γ : Gm} {C : MC} {I : MI} {J : MJ} {R : MR}
set_option maxHeartbeats 1000000
theorem bX2_told_0 (G : Gb Γ yX2_told cX2_told 5 (some .int) [] rmX2_told bdX2_told) {F_X2_refuse : SPF} (S_X2_refuse : SpX2_refuse (gL Γ) F_X2_refuse) {F_X2_isThing : SPF} (S_X2_isThing : SpX2_isThing (gL Γ) F_X2_isThing) {F_X2_wrongTable : SPF} (S_X2_wrongTable : SpX2_wrongTable (gL Γ) F_X2_wrongTable)
    {Q44 : Nat → Int32 → Int32 → MC → MI → MJ → MR → Prop} (w44 : ∀ (x0 : Nat) (x1 : Int32) (x2 : Int32) (C : MC) (I : MI) (J : MJ) (R : MR), Q44 x0 x1 x2 C I J R → AW Γ 0 0 C I J R 44 [(0, aR (some x0)), (1, aI x1), (2, aI x2)] []) {x0 : Nat} {x1 : Int32} {x2 : Int32}
    (h : ((x2 < 0 →
      (C x0).1 = 3 ∧
      F_X2_refuse [aR (some x0), aI (1 : Int32)] C I J R (fun o C3 I4 J5 R6 =>
      ∃ r7 : Int32, o = .inl (some (aI r7)) ∧
      gK Γ (.inl (some (aI r7))) C3 I4 J5 R6)) ∧
      (¬ x2 < 0 →
      (((5 : Int32) < x2 →
      (C x0).1 = 3 ∧
      F_X2_refuse [aR (some x0), aI (1 : Int32)] C I J R (fun o C10 I11 J12 R13 =>
      ∃ r14 : Int32, o = .inl (some (aI r14)) ∧
      gK Γ (.inl (some (aI r14))) C10 I11 J12 R13)) ∧
      (¬ (5 : Int32) < x2 →
      (C x0).1 = 3 ∧
      F_X2_isThing [aR (some x0), aI x1] C I J R (fun o C16 I17 J18 R19 =>
      ∃ r20 : Int32, o = .inl (some (aI r20)) ∧
      ((¬ r20 = 0 →
      ((¬ x2 = (5 : Int32) →
      Q44 x0 x1 x2 C16 I17 J18 R19) ∧
      (x2 = (5 : Int32) →
      (C16 x0).1 = 3 ∧
      F_X2_wrongTable [aR (some x0), aI x1] C16 I17 J18 R19 (fun o C24 I25 J26 R27 =>
      ∃ r28 : Int32, o = .inl (some (aI r28)) ∧
      ((r28 ≤ 0 →
      Q44 x0 x1 x2 C24 I25 J26 R27) ∧
      (¬ r28 ≤ 0 →
      (C24 x0).1 = 3 ∧
      F_X2_refuse [aR (some x0), aI r28] C24 I25 J26 R27 (fun o C31 I32 J33 R34 =>
      ∃ r35 : Int32, o = .inl (some (aI r35)) ∧
      gK Γ (.inl (some (aI r35))) C31 I32 J33 R34))))))) ∧
      (r20 = 0 →
      (C16 x0).1 = 3 ∧
      F_X2_refuse [aR (some x0), aI (1 : Int32)] C16 I17 J18 R19 (fun o C37 I38 J39 R40 =>
      ∃ r41 : Int32, o = .inl (some (aI r41)) ∧
      gK Γ (.inl (some (aI r41))) C37 I38 J39 R40))))))))) :
    AW Γ 0 0 C I J R 0 [(0, aR (some x0)), (1, aI x1), (2, aI x2)] [] := by
  have G0 := G.1
  refine aw_iload_n G0 2 rfl dX2_told_0 ?_
  refine aw_if_lt G0 17 dX2_told_1 (by decide) (fun c1 => ?_) (fun c1 => ?_)
  · have h := h.1 c1
    refine aw_aload_n G0 0 rfl dX2_told_17 ?_
    refine aw_iconst (v := (1 : Int32)) G0 dX2_told_18 (by decide) ?_
    obtain ⟨k2, h⟩ := h
    refine aw_callV (k1 := 0) (n1 := 0) (k2 := 0) (n2 := 0) (st := []) G0 S_X2_refuse gi_X2_147 (Or.inl (by rw [k2]; decide)) (by rw [k2]; rfl) md_X2_refuse (Nat.le_of_ble_eq_true rfl) (by decide) (by rw [G.2.1]; decide) (by rw [G.2.1]; decide) [aI (1 : Int32)] rfl rfl dX2_told_19 h (fun o C3 I4 J5 R6 h => ?_)
    obtain ⟨r7, rfl, h⟩ := h
    show AW Γ 0 0 C3 I4 J5 R6 (19 + 3) [(0, aR (some x0)), (1, aI x1), (2, aI x2)] [aI r7]
    exact aw_ireturn G0 (Or.inl rfl) (by rw [G.2.2]; decide) (by rw [G.2.1]; decide) dX2_told_22 h
  · have h := h.2 c1
    refine aw_iload_n G0 2 rfl dX2_told_4 ?_
    refine aw_iconst (v := (5 : Int32)) G0 dX2_told_5 (by decide) ?_
    refine aw_icmp_gt G0 17 dX2_told_6 (by decide) (fun c8 => ?_) (fun c8 => ?_)
    · have h := h.1 c8
      refine aw_aload_n G0 0 rfl dX2_told_17 ?_
      refine aw_iconst (v := (1 : Int32)) G0 dX2_told_18 (by decide) ?_
      obtain ⟨k9, h⟩ := h
      refine aw_callV (k1 := 0) (n1 := 0) (k2 := 0) (n2 := 0) (st := []) G0 S_X2_refuse gi_X2_147 (Or.inl (by rw [k9]; decide)) (by rw [k9]; rfl) md_X2_refuse (Nat.le_of_ble_eq_true rfl) (by decide) (by rw [G.2.1]; decide) (by rw [G.2.1]; decide) [aI (1 : Int32)] rfl rfl dX2_told_19 h (fun o C10 I11 J12 R13 h => ?_)
      obtain ⟨r14, rfl, h⟩ := h
      show AW Γ 0 0 C10 I11 J12 R13 (19 + 3) [(0, aR (some x0)), (1, aI x1), (2, aI x2)] [aI r14]
      exact aw_ireturn G0 (Or.inl rfl) (by rw [G.2.2]; decide) (by rw [G.2.1]; decide) dX2_told_22 h
    · have h := h.2 c8
      refine aw_aload_n G0 0 rfl dX2_told_9 ?_
      refine aw_iload_n G0 1 rfl dX2_told_10 ?_
      obtain ⟨k15, h⟩ := h
      refine aw_callV (k1 := 0) (n1 := 0) (k2 := 0) (n2 := 0) (st := []) G0 S_X2_isThing gi_X2_139 (Or.inl (by rw [k15]; decide)) (by rw [k15]; rfl) md_X2_isThing (Nat.le_of_ble_eq_true rfl) (by decide) (by rw [G.2.1]; decide) (by rw [G.2.1]; decide) [aI x1] rfl rfl dX2_told_11 h (fun o C16 I17 J18 R19 h => ?_)
      obtain ⟨r20, rfl, h⟩ := h
      show AW Γ 0 0 C16 I17 J18 R19 (11 + 3) [(0, aR (some x0)), (1, aI x1), (2, aI x2)] [aI r20]
      refine aw_if_ne G0 23 dX2_told_14 (by decide) (fun c21 => ?_) (fun c21 => ?_)
      · have h := h.1 c21
        refine aw_iload_n G0 2 rfl dX2_told_23 ?_
        refine aw_iconst (v := (5 : Int32)) G0 dX2_told_24 (by decide) ?_
        refine aw_icmp_ne G0 44 dX2_told_25 (by decide) (fun c22 => ?_) (fun c22 => ?_)
        · have h := h.1 c22
          exact (w44 x0 x1 x2 C16 I17 J18 R19 h)
        · have h := h.2 c22
          refine aw_aload_n G0 0 rfl dX2_told_28 ?_
          refine aw_iload_n G0 1 rfl dX2_told_29 ?_
          obtain ⟨k23, h⟩ := h
          refine aw_callV (k1 := 0) (n1 := 0) (k2 := 0) (n2 := 0) (st := []) G0 S_X2_wrongTable gi_X2_230 (Or.inl (by rw [k23]; decide)) (by rw [k23]; rfl) md_X2_wrongTable (Nat.le_of_ble_eq_true rfl) (by decide) (by rw [G.2.1]; decide) (by rw [G.2.1]; decide) [aI x1] rfl rfl dX2_told_30 h (fun o C24 I25 J26 R27 h => ?_)
          obtain ⟨r28, rfl, h⟩ := h
          show AW Γ 0 0 C24 I25 J26 R27 (30 + 3) [(0, aR (some x0)), (1, aI x1), (2, aI x2)] [aI r28]
          refine aw_istore_n (lv' := [(3, aI r28), (0, aR (some x0)), (1, aI x1), (2, aI x2)]) G0 (by decide) rfl dX2_told_33 ?_
          refine aw_iload_n G0 0 rfl dX2_told_34 ?_
          refine aw_if_le G0 44 dX2_told_35 (by decide) (fun c29 => ?_) (fun c29 => ?_)
          · have h := h.1 c29
            exact (aw_lv [1, 2, 3] rfl (w44 x0 x1 x2 C24 I25 J26 R27 h))
          · have h := h.2 c29
            refine aw_aload_n G0 1 rfl dX2_told_38 ?_
            refine aw_iload_n G0 0 rfl dX2_told_39 ?_
            obtain ⟨k30, h⟩ := h
            refine aw_callV (k1 := 0) (n1 := 0) (k2 := 0) (n2 := 0) (st := []) G0 S_X2_refuse gi_X2_147 (Or.inl (by rw [k30]; decide)) (by rw [k30]; rfl) md_X2_refuse (Nat.le_of_ble_eq_true rfl) (by decide) (by rw [G.2.1]; decide) (by rw [G.2.1]; decide) [aI r28] rfl rfl dX2_told_40 h (fun o C31 I32 J33 R34 h => ?_)
            obtain ⟨r35, rfl, h⟩ := h
            show AW Γ 0 0 C31 I32 J33 R34 (40 + 3) [(3, aI r28), (0, aR (some x0)), (1, aI x1), (2, aI x2)] [aI r35]
            exact aw_ireturn G0 (Or.inl rfl) (by rw [G.2.2]; decide) (by rw [G.2.1]; decide) dX2_told_43 h
      · have h := h.2 c21
        refine aw_aload_n G0 0 rfl dX2_told_17 ?_
        refine aw_iconst (v := (1 : Int32)) G0 dX2_told_18 (by decide) ?_
        obtain ⟨k36, h⟩ := h
        refine aw_callV (k1 := 0) (n1 := 0) (k2 := 0) (n2 := 0) (st := []) G0 S_X2_refuse gi_X2_147 (Or.inl (by rw [k36]; decide)) (by rw [k36]; rfl) md_X2_refuse (Nat.le_of_ble_eq_true rfl) (by decide) (by rw [G.2.1]; decide) (by rw [G.2.1]; decide) [aI (1 : Int32)] rfl rfl dX2_told_19 h (fun o C37 I38 J39 R40 h => ?_)
        obtain ⟨r41, rfl, h⟩ := h
        show AW Γ 0 0 C37 I38 J39 R40 (19 + 3) [(0, aR (some x0)), (1, aI x1), (2, aI x2)] [aI r41]
        exact aw_ireturn G0 (Or.inl rfl) (by rw [G.2.2]; decide) (by rw [G.2.1]; decide) dX2_told_22 h
theorem bX2_told_44 (G : Gb Γ yX2_told cX2_told 5 (some .int) [] rmX2_told bdX2_told) {F_X2_leaves : SPF} (S_X2_leaves : SpX2_leaves (gL Γ) F_X2_leaves)
    {Q110 : Nat → Int32 → Int32 → Int32 → MC → MI → MJ → MR → Prop} (w110 : ∀ (x0 : Nat) (x1 : Int32) (x3 : Int32) (x4 : Int32) (C : MC) (I : MI) (J : MJ) (R : MR), Q110 x0 x1 x3 x4 C I J R → AW Γ 0 0 C I J R 110 [(0, aR (some x0)), (1, aI x1), (3, aI x3), (4, aI x4)] [])
    {Q156 : Nat → Int32 → Int32 → Int32 → MC → MI → MJ → MR → Prop} (w156 : ∀ (x0 : Nat) (x1 : Int32) (x3 : Int32) (x4 : Int32) (C : MC) (I : MI) (J : MJ) (R : MR), Q156 x0 x1 x3 x4 C I J R → AW Γ 0 0 C I J R 156 [(0, aR (some x0)), (1, aI x1), (3, aI x3), (4, aI x4)] []) {x0 : Nat} {x1 : Int32} {x2 : Int32}
    (h : (C x0).1 = 3 ∧
      ∀ I2 : MI, I2 = va_up I x0 (va_up (I x0) 0 (0 : Int32)) →
      ((x2.toInt = 0 →
      gK Γ (.inl (some (aI (I2 x0 6)))) C I2 J R) ∧
      (x2.toInt = 1 →
      ∃ q4 : Nat, R x0 7 = some q4 ∧
      (C q4).1 = 20 ∧
      vp_in x1 (C q4).2 ∧
      gK Γ (.inl (some (aI (I2 q4 x1.toNatClampNeg)))) C I2 J R) ∧
      (x2.toInt = 2 →
      ∃ q7 : Nat, R x0 11 = some q7 ∧
      (C q7).1 = 20 ∧
      vp_in x1 (C q7).2 ∧
      gK Γ (.inl (some (aI (I2 q7 x1.toNatClampNeg)))) C I2 J R) ∧
      (x2.toInt = 3 →
      Q110 x0 x1 (0 : Int32) (0 : Int32) C I2 J R) ∧
      (x2.toInt = 4 →
      F_X2_leaves [aR (some x0), aI x1] C I2 J R (fun o C10 I11 J12 R13 =>
      ∃ r14 : Int32, o = .inl (some (aI r14)) ∧
      gK Γ (.inl (some (aI r14))) C10 I11 J12 R13)) ∧
      ((x2.toInt < 0 ∨ 4 < x2.toInt) →
      Q156 x0 x1 (0 : Int32) (0 : Int32) C I2 J R))) :
    AW Γ 0 0 C I J R 44 [(0, aR (some x0)), (1, aI x1), (2, aI x2)] [] := by
  have G0 := G.1
  refine aw_aload_n G0 0 rfl dX2_told_44 ?_
  refine aw_iconst (v := (0 : Int32)) G0 dX2_told_45 (by decide) ?_
  obtain ⟨k1, h⟩ := h
  refine aw_putI (f := 0) G0 (by rw [k1]; exact fp_X2_112 _) dX2_told_46 ?_
  generalize gI2 : va_up I x0 (va_up (I x0) 0 (0 : Int32)) = I2
  have h := h I2 gI2.symm
  refine aw_iconst (v := (0 : Int32)) G0 dX2_told_49 (by decide) ?_
  refine aw_istore_n (lv' := [(3, aI (0 : Int32)), (0, aR (some x0)), (1, aI x1), (2, aI x2)]) G0 (by decide) rfl dX2_told_50 ?_
  refine aw_iload_n G0 3 rfl dX2_told_51 ?_
  have h3 := h
  refine aw_tsw G0 dX2_told_52 (by decide) (fun j off tgt ho ht hx => ?_) (fun j off ho => ?_) (fun tgt ht hx => ?_) (by decide)
  · match j, ho with
    | 0, ho =>
      have ho2 : off = (36 : Int) := by simpa using ho.symm
      subst ho2
      have et : tgt = 88 := by omega
      subst et
      have h := h3.1 (by simpa using hx)
      refine aw_aload_n G0 1 rfl dX2_told_88 ?_
      refine aw_getI (f := 6) G0 (by rw [k1]; exact fb_X2_136) dX2_told_89 ?_
      exact aw_ireturn G0 (Or.inl rfl) (by rw [G.2.2]; decide) (by rw [G.2.1]; decide) dX2_told_92 h
    | 1, ho =>
      have ho2 : off = (41 : Int) := by simpa using ho.symm
      subst ho2
      have et : tgt = 93 := by omega
      subst et
      have h := h3.2.1 (by simpa using hx)
      refine aw_aload_n G0 1 rfl dX2_told_93 ?_
      refine aw_getR (f := 7) G0 (by rw [k1]; exact fb_X2_24) dX2_told_94 ?_
      refine aw_iload_n G0 2 rfl dX2_told_97 ?_
      obtain ⟨q4, e4, h⟩ := h
      refine aw_dr1 e4 ?_
      obtain ⟨k5, h⟩ := h
      obtain ⟨k6, h⟩ := h
      refine aw_iald G0 (Or.inl k5) k6 dX2_told_98 ?_
      exact aw_ireturn G0 (Or.inl rfl) (by rw [G.2.2]; decide) (by rw [G.2.1]; decide) dX2_told_99 h
    | 2, ho =>
      have ho2 : off = (48 : Int) := by simpa using ho.symm
      subst ho2
      have et : tgt = 100 := by omega
      subst et
      have h := h3.2.2.1 (by simpa using hx)
      refine aw_aload_n G0 1 rfl dX2_told_100 ?_
      refine aw_getR (f := 11) G0 (by rw [k1]; exact fb_X2_36) dX2_told_101 ?_
      refine aw_iload_n G0 2 rfl dX2_told_104 ?_
      obtain ⟨q7, e7, h⟩ := h
      refine aw_dr1 e7 ?_
      obtain ⟨k8, h⟩ := h
      obtain ⟨k9, h⟩ := h
      refine aw_iald G0 (Or.inl k8) k9 dX2_told_105 ?_
      exact aw_ireturn G0 (Or.inl rfl) (by rw [G.2.2]; decide) (by rw [G.2.1]; decide) dX2_told_106 h
    | 3, ho =>
      have ho2 : off = (55 : Int) := by simpa using ho.symm
      subst ho2
      have et : tgt = 107 := by omega
      subst et
      have h := h3.2.2.2.1 (by simpa using hx)
      refine aw_iconst (v := (0 : Int32)) G0 dX2_told_107 (by decide) ?_
      refine aw_istore (lv' := [(4, aI (0 : Int32)), (3, aI (0 : Int32)), (0, aR (some x0)), (1, aI x1), (2, aI x2)]) G0 (by decide) rfl dX2_told_108 ?_
      exact (aw_lv [2, 3, 1, 0] rfl (w110 x0 x1 (0 : Int32) (0 : Int32) C I2 J R h))
    | 4, ho =>
      have ho2 : off = (95 : Int) := by simpa using ho.symm
      subst ho2
      have et : tgt = 147 := by omega
      subst et
      have h := h3.2.2.2.2.1 (by simpa using hx)
      refine aw_aload_n G0 1 rfl dX2_told_147 ?_
      refine aw_iload_n G0 2 rfl dX2_told_148 ?_
      refine aw_callV (k1 := 0) (n1 := 0) (k2 := 0) (n2 := 0) (st := []) G0 S_X2_leaves gi_X2_233 (Or.inl (by rw [k1]; decide)) (by rw [k1]; rfl) md_X2_leaves (Nat.le_of_ble_eq_true rfl) (by decide) (by rw [G.2.1]; decide) (by rw [G.2.1]; decide) [aI x1] rfl rfl dX2_told_149 h (fun o C10 I11 J12 R13 h => ?_)
      obtain ⟨r14, rfl, h⟩ := h
      show AW Γ 0 0 C10 I11 J12 R13 (149 + 3) [(3, aI (0 : Int32)), (0, aR (some x0)), (1, aI x1), (2, aI x2)] [aI r14]
      exact aw_ireturn G0 (Or.inl rfl) (by rw [G.2.2]; decide) (by rw [G.2.1]; decide) dX2_told_152 h
    | j + 5, ho => simp at ho
  · match j, ho with
    | 0, ho => cases ho; decide
    | 1, ho => cases ho; decide
    | 2, ho => cases ho; decide
    | 3, ho => cases ho; decide
    | 4, ho => cases ho; decide
    | j + 5, ho => simp at ho
  · have et : tgt = 153 := by omega
    subst et
    have h := h3.2.2.2.2.2 hx
    refine aw_iconst (v := (0 : Int32)) G0 dX2_told_153 (by decide) ?_
    refine aw_istore (lv' := [(4, aI (0 : Int32)), (3, aI (0 : Int32)), (0, aR (some x0)), (1, aI x1), (2, aI x2)]) G0 (by decide) rfl dX2_told_154 ?_
    exact (aw_lv [2, 3, 1, 0] rfl (w156 x0 x1 (0 : Int32) (0 : Int32) C I2 J R h))
theorem bX2_told_110 (G : Gb Γ yX2_told cX2_told 5 (some .int) [] rmX2_told bdX2_told)
    {Q137 : Nat → Int32 → Int32 → Int32 → Int32 → MC → MI → MJ → MR → Prop} (w137 : ∀ (x0 : Nat) (x1 : Int32) (x4 : Int32) (s0 : Int32) (s1 : Int32) (C : MC) (I : MI) (J : MJ) (R : MR), Q137 x0 x1 x4 s0 s1 C I J R → AW Γ 0 0 C I J R 137 [(0, aR (some x0)), (1, aI x1), (4, aI x4)] [aI s1, aI s0]) {x0 : Nat} {x1 : Int32} {x3 : Int32} {x4 : Int32}
    (h : (((4 : Int32) ≤ x4 →
      gK Γ (.inl (some (aI x3))) C I J R) ∧
      (¬ (4 : Int32) ≤ x4 →
      (C x0).1 = 3 ∧
      ∃ q3 : Nat, R x0 8 = some q3 ∧
      (C q3).1 = 20 ∧
      vp_in (((4 : Int32) * x1) + x4) (C q3).2 ∧
      ((¬ (I q3 (((4 : Int32) * x1) + x4).toNatClampNeg) = (-1 : Int32) →
      Q137 x0 x1 x4 x3 (1 : Int32) C I J R) ∧
      ((I q3 (((4 : Int32) * x1) + x4).toNatClampNeg) = (-1 : Int32) →
      Q137 x0 x1 x4 x3 (0 : Int32) C I J R))))) :
    AW Γ 0 0 C I J R 110 [(0, aR (some x0)), (1, aI x1), (3, aI x3), (4, aI x4)] [] := by
  have G0 := G.1
  refine aw_iload G0 3 rfl dX2_told_110 ?_
  refine aw_iconst (v := (4 : Int32)) G0 dX2_told_112 (by decide) ?_
  refine aw_icmp_ge G0 145 dX2_told_113 (by decide) (fun c1 => ?_) (fun c1 => ?_)
  · have h := h.1 c1
    refine aw_iload_n G0 2 rfl dX2_told_145 ?_
    exact aw_ireturn G0 (Or.inl rfl) (by rw [G.2.2]; decide) (by rw [G.2.1]; decide) dX2_told_146 h
  · have h := h.2 c1
    refine aw_iload_n G0 2 rfl dX2_told_116 ?_
    refine aw_aload_n G0 0 rfl dX2_told_117 ?_
    obtain ⟨k2, h⟩ := h
    refine aw_getR (f := 8) G0 (by rw [k2]; exact fb_X2_27) dX2_told_118 ?_
    refine aw_iconst (v := (4 : Int32)) G0 dX2_told_121 (by decide) ?_
    refine aw_iload_n G0 1 rfl dX2_told_122 ?_
    refine aw_imul G0 dX2_told_123 ?_
    refine aw_iload G0 3 rfl dX2_told_124 ?_
    refine aw_iadd G0 dX2_told_126 ?_
    obtain ⟨q3, e3, h⟩ := h
    refine aw_dr1 e3 ?_
    obtain ⟨k4, h⟩ := h
    obtain ⟨k5, h⟩ := h
    refine aw_iald G0 (Or.inl k4) k5 dX2_told_127 ?_
    refine aw_iconst (v := (-1 : Int32)) G0 dX2_told_128 (by decide) ?_
    refine aw_icmp_ne G0 136 dX2_told_129 (by decide) (fun c6 => ?_) (fun c6 => ?_)
    · have h := h.1 c6
      refine aw_iconst (v := (1 : Int32)) G0 dX2_told_136 (by decide) ?_
      exact (aw_lv [0, 1, 3] rfl (w137 x0 x1 x4 x3 (1 : Int32) C I J R h))
    · have h := h.2 c6
      refine aw_iconst (v := (0 : Int32)) G0 dX2_told_132 (by decide) ?_
      refine aw_goto G0 137 dX2_told_133 (by decide) ?_
      exact (aw_lv [0, 1, 3] rfl (w137 x0 x1 x4 x3 (0 : Int32) C I J R h))
theorem bX2_told_137 (G : Gb Γ yX2_told cX2_told 5 (some .int) [] rmX2_told bdX2_told)
    {Q110 : Nat → Int32 → Int32 → Int32 → MC → MI → MJ → MR → Prop} (w110 : ∀ (x0 : Nat) (x1 : Int32) (x3 : Int32) (x4 : Int32) (C : MC) (I : MI) (J : MJ) (R : MR), Q110 x0 x1 x3 x4 C I J R → AW Γ 0 0 C I J R 110 [(0, aR (some x0)), (1, aI x1), (3, aI x3), (4, aI x4)] []) {x0 : Nat} {x1 : Int32} {x4 : Int32} {s0 : Int32} {s1 : Int32}
    (h : Q110 x0 x1 (s0 + s1) (x4 + 1) C I J R) :
    AW Γ 0 0 C I J R 137 [(0, aR (some x0)), (1, aI x1), (4, aI x4)] [aI s1, aI s0] := by
  have G0 := G.1
  refine aw_iadd G0 dX2_told_137 ?_
  refine aw_istore_n (lv' := [(3, aI (s0 + s1)), (0, aR (some x0)), (1, aI x1), (4, aI x4)]) G0 (by decide) rfl dX2_told_138 ?_
  refine aw_iinc (v := x4 + 1) (lv' := [(4, aI (x4 + 1)), (3, aI (s0 + s1)), (0, aR (some x0)), (1, aI x1)]) G0 3 rfl rfl (by decide) rfl dX2_told_139 ?_
  refine aw_goto G0 110 dX2_told_142 (by decide) ?_
  exact (aw_lv [2, 3, 1, 0] rfl (w110 x0 x1 (s0 + s1) (x4 + 1) C I J R h))
theorem bX2_told_156 (G : Gb Γ yX2_told cX2_told 5 (some .int) [] rmX2_told bdX2_told) {F_X2_at : SPF} (S_X2_at : SpX2_at (gL Γ) F_X2_at)
    {Q195 : Nat → Int32 → Int32 → MC → MI → MJ → MR → Prop} (w195 : ∀ (x0 : Nat) (x1 : Int32) (x4 : Int32) (C : MC) (I : MI) (J : MJ) (R : MR), Q195 x0 x1 x4 C I J R → AW Γ 0 0 C I J R 195 [(0, aR (some x0)), (1, aI x1), (4, aI x4)] [])
    {Q201 : Nat → Int32 → Int32 → Int32 → MC → MI → MJ → MR → Prop} (w201 : ∀ (x0 : Nat) (x1 : Int32) (x4 : Int32) (s0 : Int32) (C : MC) (I : MI) (J : MJ) (R : MR), Q201 x0 x1 x4 s0 C I J R → AW Γ 0 0 C I J R 201 [(0, aR (some x0)), (1, aI x1), (4, aI x4)] [aI s0]) {x0 : Nat} {x1 : Int32} {x3 : Int32} {x4 : Int32}
    (h : (((121 : Int32) ≤ x4 →
      gK Γ (.inl (some (aI x3))) C I J R) ∧
      (¬ (121 : Int32) ≤ x4 →
      (C x0).1 = 3 ∧
      F_X2_at [aI x1, aI x4] C I J R (fun o C3 I4 J5 R6 =>
      ∃ r7 : Int32, o = .inl (some (aI r7)) ∧
      ∃ q8 : Nat, R x0 22 = some q8 ∧
      (C3 q8).1 = 21 ∧
      vp_in r7 (C3 q8).2 ∧
      (((0 : Int64) < (J5 q8 r7.toNatClampNeg) →
      Q195 x0 x1 x4 C3 I4 J5 R6) ∧
      (¬ (0 : Int64) < (J5 q8 r7.toNatClampNeg) →
      (C3 x0).1 = 3 ∧
      F_X2_at [aI x1, aI x4] C3 I4 J5 R6 (fun o C13 I14 J15 R16 =>
      ∃ r17 : Int32, o = .inl (some (aI r17)) ∧
      ∃ q18 : Nat, R6 x0 23 = some q18 ∧
      (C13 q18).1 = 21 ∧
      vp_in r17 (C13 q18).2 ∧
      (((J15 q18 r17.toNatClampNeg) ≤ (0 : Int64) →
      Q201 x0 x1 x4 x3 C13 I14 J15 R16) ∧
      (¬ (J15 q18 r17.toNatClampNeg) ≤ (0 : Int64) →
      Q195 x0 x1 x4 C13 I14 J15 R16))))))))) :
    AW Γ 0 0 C I J R 156 [(0, aR (some x0)), (1, aI x1), (3, aI x3), (4, aI x4)] [] := by
  have G0 := G.1
  refine aw_iload G0 3 rfl dX2_told_156 ?_
  refine aw_bipush (v := (121 : Int32)) G0 dX2_told_158 (by decide) ?_
  refine aw_icmp_ge G0 208 dX2_told_160 (by decide) (fun c1 => ?_) (fun c1 => ?_)
  · have h := h.1 c1
    refine aw_iload_n G0 2 rfl dX2_told_208 ?_
    exact aw_ireturn G0 (Or.inl rfl) (by rw [G.2.2]; decide) (by rw [G.2.1]; decide) dX2_told_209 h
  · have h := h.2 c1
    refine aw_aload_n G0 0 rfl dX2_told_163 ?_
    obtain ⟨k2, h⟩ := h
    refine aw_getR (f := 22) G0 (by rw [k2]; exact fb_X2_66) dX2_told_164 ?_
    refine aw_iload_n G0 1 rfl dX2_told_167 ?_
    refine aw_iload G0 3 rfl dX2_told_168 ?_
    refine aw_callS (k1 := 0) (n1 := 0) (k2 := 0) (n2 := 0) (st := [aR (R x0 22)]) G0 S_X2_at gi_X2_173 md_X2_at (Nat.le_of_ble_eq_true rfl) (by decide) (by rw [G.2.1]; decide) (by rw [G.2.1]; decide) [aI x1, aI x4] rfl rfl dX2_told_170 h (fun o C3 I4 J5 R6 h => ?_)
    obtain ⟨r7, rfl, h⟩ := h
    show AW Γ 0 0 C3 I4 J5 R6 (170 + 3) [(0, aR (some x0)), (1, aI x1), (3, aI x3), (4, aI x4)] [aI r7, aR (R x0 22)]
    obtain ⟨q8, e8, h⟩ := h
    refine aw_dr1 e8 ?_
    obtain ⟨k9, h⟩ := h
    obtain ⟨k10, h⟩ := h
    refine aw_lald G0 k9 k10 dX2_told_173 ?_
    refine aw_lconst (v := (0 : Int64)) G0 dX2_told_174 (by decide) ?_
    refine aw_lif_gt G0 195 dX2_told_175 dX2_told_176 (by decide) (fun c11 => ?_) (fun c11 => ?_)
    · have h := h.1 c11
      exact (aw_lv [0, 1, 3] rfl (w195 x0 x1 x4 C3 I4 J5 R6 h))
    · have h := h.2 c11
      refine aw_aload_n G0 0 rfl dX2_told_179 ?_
      obtain ⟨k12, h⟩ := h
      refine aw_getR (f := 23) G0 (by rw [k12]; exact fb_X2_69) dX2_told_180 ?_
      refine aw_iload_n G0 1 rfl dX2_told_183 ?_
      refine aw_iload G0 3 rfl dX2_told_184 ?_
      refine aw_callS (k1 := 0) (n1 := 0) (k2 := 0) (n2 := 0) (st := [aR (R6 x0 23)]) G0 S_X2_at gi_X2_173 md_X2_at (Nat.le_of_ble_eq_true rfl) (by decide) (by rw [G.2.1]; decide) (by rw [G.2.1]; decide) [aI x1, aI x4] rfl rfl dX2_told_186 h (fun o C13 I14 J15 R16 h => ?_)
      obtain ⟨r17, rfl, h⟩ := h
      show AW Γ 0 0 C13 I14 J15 R16 (186 + 3) [(0, aR (some x0)), (1, aI x1), (3, aI x3), (4, aI x4)] [aI r17, aR (R6 x0 23)]
      obtain ⟨q18, e18, h⟩ := h
      refine aw_dr1 e18 ?_
      obtain ⟨k19, h⟩ := h
      obtain ⟨k20, h⟩ := h
      refine aw_lald G0 k19 k20 dX2_told_189 ?_
      refine aw_lconst (v := (0 : Int64)) G0 dX2_told_190 (by decide) ?_
      refine aw_lif_le G0 200 dX2_told_191 dX2_told_192 (by decide) (fun c21 => ?_) (fun c21 => ?_)
      · have h := h.1 c21
        refine aw_iload_n G0 2 rfl dX2_told_200 ?_
        exact (aw_lv [0, 1, 3] rfl (w201 x0 x1 x4 x3 C13 I14 J15 R16 h))
      · have h := h.2 c21
        exact (aw_lv [0, 1, 3] rfl (w195 x0 x1 x4 C13 I14 J15 R16 h))
theorem bX2_told_195 (G : Gb Γ yX2_told cX2_told 5 (some .int) [] rmX2_told bdX2_told)
    {Q201 : Nat → Int32 → Int32 → Int32 → MC → MI → MJ → MR → Prop} (w201 : ∀ (x0 : Nat) (x1 : Int32) (x4 : Int32) (s0 : Int32) (C : MC) (I : MI) (J : MJ) (R : MR), Q201 x0 x1 x4 s0 C I J R → AW Γ 0 0 C I J R 201 [(0, aR (some x0)), (1, aI x1), (4, aI x4)] [aI s0]) {x0 : Nat} {x1 : Int32} {x4 : Int32}
    (h : Q201 x0 x1 x4 x4 C I J R) :
    AW Γ 0 0 C I J R 195 [(0, aR (some x0)), (1, aI x1), (4, aI x4)] [] := by
  have G0 := G.1
  refine aw_iload G0 2 rfl dX2_told_195 ?_
  refine aw_goto G0 201 dX2_told_197 (by decide) ?_
  exact (w201 x0 x1 x4 x4 C I J R h)
theorem bX2_told_201 (G : Gb Γ yX2_told cX2_told 5 (some .int) [] rmX2_told bdX2_told)
    {Q156 : Nat → Int32 → Int32 → Int32 → MC → MI → MJ → MR → Prop} (w156 : ∀ (x0 : Nat) (x1 : Int32) (x3 : Int32) (x4 : Int32) (C : MC) (I : MI) (J : MJ) (R : MR), Q156 x0 x1 x3 x4 C I J R → AW Γ 0 0 C I J R 156 [(0, aR (some x0)), (1, aI x1), (3, aI x3), (4, aI x4)] []) {x0 : Nat} {x1 : Int32} {x4 : Int32} {s0 : Int32}
    (h : Q156 x0 x1 s0 (x4 + 1) C I J R) :
    AW Γ 0 0 C I J R 201 [(0, aR (some x0)), (1, aI x1), (4, aI x4)] [aI s0] := by
  have G0 := G.1
  refine aw_istore_n (lv' := [(3, aI s0), (0, aR (some x0)), (1, aI x1), (4, aI x4)]) G0 (by decide) rfl dX2_told_201 ?_
  refine aw_iinc (v := x4 + 1) (lv' := [(4, aI (x4 + 1)), (3, aI s0), (0, aR (some x0)), (1, aI x1)]) G0 3 rfl rfl (by decide) rfl dX2_told_202 ?_
  refine aw_goto G0 156 dX2_told_205 (by decide) ?_
  exact (aw_lv [2, 3, 1, 0] rfl (w156 x0 x1 s0 (x4 + 1) C I J R h))
theorem bX2_wrongTable_0 (G : Gb Γ yX2_wrongTable cX2_wrongTable 2 (some .int) [] rmX2_wrongTable bdX2_wrongTable) {F_X2_isThing : SPF} (S_X2_isThing : SpX2_isThing (gL Γ) F_X2_isThing) {F_X2_usual : SPF} (S_X2_usual : SpX2_usual (gL Γ) F_X2_usual) {F_X2_tables : SPF} (S_X2_tables : SpX2_tables (gL Γ) F_X2_tables) {x0 : Nat} {x1 : Int32}
    (h : (C x0).1 = 3 ∧
      F_X2_isThing [aR (some x0), aI x1] C I J R (fun o C2 I3 J4 R5 =>
      ∃ r6 : Int32, o = .inl (some (aI r6)) ∧
      ((¬ r6 = 0 →
      (C2 x0).1 = 3 ∧
      F_X2_usual [aR (some x0)] C2 I3 J4 R5 (fun o C9 I10 J11 R12 =>
      o = .inl none ∧
      (C9 x0).1 = 3 ∧
      F_X2_tables [aR (some x0), aI x1] C9 I10 J11 R12 (fun o C15 I16 J17 R18 =>
      o = .inl none ∧
      (C15 x0).1 = 3 ∧
      ∃ q21 : Nat, R18 x0 25 = some q21 ∧
      (C15 q21).1 = 24 ∧
      vp_in x1 (C15 q21).2 ∧
      (((I16 q21 x1.toNatClampNeg) = 0 →
      gK Γ (.inl (some (aI (0 : Int32)))) C15 I16 J17 R18) ∧
      (¬ (I16 q21 x1.toNatClampNeg) = 0 →
      gK Γ (.inl (some (aI (9 : Int32)))) C15 I16 J17 R18))))) ∧
      (r6 = 0 →
      gK Γ (.inl (some (aI (1 : Int32)))) C2 I3 J4 R5)))) :
    AW Γ 0 0 C I J R 0 [(0, aR (some x0)), (1, aI x1)] [] := by
  have G0 := G.1
  refine aw_aload_n G0 0 rfl dX2_wrongTable_0 ?_
  refine aw_iload_n G0 1 rfl dX2_wrongTable_1 ?_
  obtain ⟨k1, h⟩ := h
  refine aw_callV (k1 := 0) (n1 := 0) (k2 := 0) (n2 := 0) (st := []) G0 S_X2_isThing gi_X2_139 (Or.inl (by rw [k1]; decide)) (by rw [k1]; rfl) md_X2_isThing (Nat.le_of_ble_eq_true rfl) (by decide) (by rw [G.2.1]; decide) (by rw [G.2.1]; decide) [aI x1] rfl rfl dX2_wrongTable_2 h (fun o C2 I3 J4 R5 h => ?_)
  obtain ⟨r6, rfl, h⟩ := h
  show AW Γ 0 0 C2 I3 J4 R5 (2 + 3) [(0, aR (some x0)), (1, aI x1)] [aI r6]
  refine aw_if_ne G0 10 dX2_wrongTable_5 (by decide) (fun c7 => ?_) (fun c7 => ?_)
  · have h := h.1 c7
    refine aw_aload_n G0 0 rfl dX2_wrongTable_10 ?_
    obtain ⟨k8, h⟩ := h
    refine aw_callV (k1 := 0) (n1 := 0) (k2 := 0) (n2 := 0) (st := []) G0 S_X2_usual gi_X2_220 (Or.inl (by rw [k8]; decide)) (by rw [k8]; rfl) md_X2_usual (Nat.le_of_ble_eq_true rfl) (by decide) (by rw [G.2.1]; decide) (by rw [G.2.1]; decide) [] rfl rfl dX2_wrongTable_11 h (fun o C9 I10 J11 R12 h => ?_)
    obtain ⟨rfl, h⟩ := h
    show AW Γ 0 0 C9 I10 J11 R12 (11 + 3) [(0, aR (some x0)), (1, aI x1)] []
    refine aw_aload_n G0 0 rfl dX2_wrongTable_14 ?_
    refine aw_iload_n G0 1 rfl dX2_wrongTable_15 ?_
    obtain ⟨k14, h⟩ := h
    refine aw_callV (k1 := 0) (n1 := 0) (k2 := 0) (n2 := 0) (st := []) G0 S_X2_tables gi_X2_223 (Or.inl (by rw [k14]; decide)) (by rw [k14]; rfl) md_X2_tables (Nat.le_of_ble_eq_true rfl) (by decide) (by rw [G.2.1]; decide) (by rw [G.2.1]; decide) [aI x1] rfl rfl dX2_wrongTable_16 h (fun o C15 I16 J17 R18 h => ?_)
    obtain ⟨rfl, h⟩ := h
    show AW Γ 0 0 C15 I16 J17 R18 (16 + 3) [(0, aR (some x0)), (1, aI x1)] []
    refine aw_aload_n G0 0 rfl dX2_wrongTable_19 ?_
    obtain ⟨k20, h⟩ := h
    refine aw_getR (f := 25) G0 (by rw [k20]; exact fb_X2_75) dX2_wrongTable_20 ?_
    refine aw_iload_n G0 1 rfl dX2_wrongTable_23 ?_
    obtain ⟨q21, e21, h⟩ := h
    refine aw_dr1 e21 ?_
    obtain ⟨k22, h⟩ := h
    obtain ⟨k23, h⟩ := h
    refine aw_zald G0 k22 k23 dX2_wrongTable_24 ?_
    refine aw_if_eq G0 33 dX2_wrongTable_25 (by decide) (fun c24 => ?_) (fun c24 => ?_)
    · have h := h.1 c24
      refine aw_iconst (v := (0 : Int32)) G0 dX2_wrongTable_33 (by decide) ?_
      exact aw_ireturn G0 (Or.inl rfl) (by rw [G.2.2]; decide) (by rw [G.2.1]; decide) dX2_wrongTable_34 h
    · have h := h.2 c24
      refine aw_bipush (v := (9 : Int32)) G0 dX2_wrongTable_28 (by decide) ?_
      refine aw_goto G0 34 dX2_wrongTable_30 (by decide) ?_
      exact aw_ireturn G0 (Or.inl rfl) (by rw [G.2.2]; decide) (by rw [G.2.1]; decide) dX2_wrongTable_34 h
  · have h := h.2 c7
    refine aw_iconst (v := (1 : Int32)) G0 dX2_wrongTable_8 (by decide) ?_
    exact aw_ireturn G0 (Or.inl rfl) (by rw [G.2.2]; decide) (by rw [G.2.1]; decide) dX2_wrongTable_9 h
theorem bX2_usual_0 (G : Gb Γ yX2_usual cX2_usual 2 (none) [] rmX2_usual bdX2_usual)
    {Q2 : Nat → Int32 → MC → MI → MJ → MR → Prop} (w2 : ∀ (x0 : Nat) (x1 : Int32) (C : MC) (I : MI) (J : MJ) (R : MR), Q2 x0 x1 C I J R → AW Γ 0 0 C I J R 2 [(0, aR (some x0)), (1, aI x1)] []) {x0 : Nat}
    (h : Q2 x0 (0 : Int32) C I J R) :
    AW Γ 0 0 C I J R 0 [(0, aR (some x0))] [] := by
  have G0 := G.1
  refine aw_iconst (v := (0 : Int32)) G0 dX2_usual_0 (by decide) ?_
  refine aw_istore_n (lv' := [(1, aI (0 : Int32)), (0, aR (some x0))]) G0 (by decide) rfl dX2_usual_1 ?_
  exact (aw_lv [1, 0] rfl (w2 x0 (0 : Int32) C I J R h))
theorem bX2_usual_2 (G : Gb Γ yX2_usual cX2_usual 2 (none) [] rmX2_usual bdX2_usual)
    {Q2 : Nat → Int32 → MC → MI → MJ → MR → Prop} (w2 : ∀ (x0 : Nat) (x1 : Int32) (C : MC) (I : MI) (J : MJ) (R : MR), Q2 x0 x1 C I J R → AW Γ 0 0 C I J R 2 [(0, aR (some x0)), (1, aI x1)] []) {x0 : Nat} {x1 : Int32}
    (h : (C x0).1 = 3 ∧
      (((I x0 6) ≤ x1 →
      gK Γ (.inl none) C I J R) ∧
      (¬ (I x0 6) ≤ x1 →
      ∃ q3 : Nat, R x0 15 = some q3 ∧
      (C q3).1 = 20 ∧
      vp_in x1 (C q3).2 ∧
      ∀ I6 : MI, I6 = va_up I q3 (va_up (I q3) x1.toNatClampNeg (0 : Int32)) →
      Q2 x0 (x1 + 1) C I6 J R))) :
    AW Γ 0 0 C I J R 2 [(0, aR (some x0)), (1, aI x1)] [] := by
  have G0 := G.1
  refine aw_iload_n G0 1 rfl dX2_usual_2 ?_
  refine aw_aload_n G0 0 rfl dX2_usual_3 ?_
  obtain ⟨k1, h⟩ := h
  refine aw_getI (f := 6) G0 (by rw [k1]; exact fb_X2_136) dX2_usual_4 ?_
  refine aw_icmp_ge G0 23 dX2_usual_7 (by decide) (fun c2 => ?_) (fun c2 => ?_)
  · have h := h.1 c2
    exact aw_return G0 (by rw [G.2.2]; decide) (by rw [G.2.1]; decide) dX2_usual_23 h
  · have h := h.2 c2
    refine aw_aload_n G0 0 rfl dX2_usual_10 ?_
    refine aw_getR (f := 15) G0 (by rw [k1]; exact fb_X2_48) dX2_usual_11 ?_
    refine aw_iload_n G0 1 rfl dX2_usual_14 ?_
    refine aw_iconst (v := (0 : Int32)) G0 dX2_usual_15 (by decide) ?_
    obtain ⟨q3, e3, h⟩ := h
    refine aw_dr2 e3 ?_
    obtain ⟨k4, h⟩ := h
    obtain ⟨k5, h⟩ := h
    refine aw_iast G0 k4 k5 dX2_usual_16 ?_
    generalize gI6 : va_up I q3 (va_up (I q3) x1.toNatClampNeg (0 : Int32)) = I6
    have h := h I6 gI6.symm
    refine aw_iinc (v := x1 + 1) (lv' := [(1, aI (x1 + 1)), (0, aR (some x0))]) G0 1 rfl rfl (by decide) rfl dX2_usual_17 ?_
    refine aw_goto G0 2 dX2_usual_20 (by decide) ?_
    exact (aw_lv [1, 0] rfl (w2 x0 (x1 + 1) C I6 J R h))
theorem bX2_tables_0 (G : Gb Γ yX2_tables cX2_tables 5 (none) [] rmX2_tables bdX2_tables)
    {Q2 : Nat → Int32 → Int32 → MC → MI → MJ → MR → Prop} (w2 : ∀ (x0 : Nat) (x1 : Int32) (x2 : Int32) (C : MC) (I : MI) (J : MJ) (R : MR), Q2 x0 x1 x2 C I J R → AW Γ 0 0 C I J R 2 [(0, aR (some x0)), (1, aI x1), (2, aI x2)] []) {x0 : Nat} {x1 : Int32}
    (h : Q2 x0 x1 (0 : Int32) C I J R) :
    AW Γ 0 0 C I J R 0 [(0, aR (some x0)), (1, aI x1)] [] := by
  have G0 := G.1
  refine aw_iconst (v := (0 : Int32)) G0 dX2_tables_0 (by decide) ?_
  refine aw_istore_n (lv' := [(2, aI (0 : Int32)), (0, aR (some x0)), (1, aI x1)]) G0 (by decide) rfl dX2_tables_1 ?_
  exact (aw_lv [1, 2, 0] rfl (w2 x0 x1 (0 : Int32) C I J R h))
theorem bX2_tables_2 (G : Gb Γ yX2_tables cX2_tables 5 (none) [] rmX2_tables bdX2_tables)
    {Q16 : Nat → Int32 → Int32 → Int32 → MC → MI → MJ → MR → Prop} (w16 : ∀ (x0 : Nat) (x1 : Int32) (x2 : Int32) (x3 : Int32) (C : MC) (I : MI) (J : MJ) (R : MR), Q16 x0 x1 x2 x3 C I J R → AW Γ 0 0 C I J R 16 [(0, aR (some x0)), (1, aI x1), (2, aI x2), (3, aI x3)] []) {x0 : Nat} {x1 : Int32} {x2 : Int32}
    (h : ((x1 < x2 →
      gK Γ (.inl none) C I J R) ∧
      (¬ x1 < x2 →
      (C x0).1 = 3 ∧
      ∃ q3 : Nat, R x0 25 = some q3 ∧
      (C q3).1 = 24 ∧
      vp_in x2 (C q3).2 ∧
      ∀ I6 : MI, I6 = va_up I q3 (va_up (I q3) x2.toNatClampNeg (0 : Int32)) →
      Q16 x0 x1 x2 (0 : Int32) C I6 J R))) :
    AW Γ 0 0 C I J R 2 [(0, aR (some x0)), (1, aI x1), (2, aI x2)] [] := by
  have G0 := G.1
  refine aw_iload_n G0 2 rfl dX2_tables_2 ?_
  refine aw_iload_n G0 1 rfl dX2_tables_3 ?_
  refine aw_icmp_gt G0 139 dX2_tables_4 (by decide) (fun c1 => ?_) (fun c1 => ?_)
  · have h := h.1 c1
    exact aw_return G0 (by rw [G.2.2]; decide) (by rw [G.2.1]; decide) dX2_tables_139 h
  · have h := h.2 c1
    refine aw_aload_n G0 0 rfl dX2_tables_7 ?_
    obtain ⟨k2, h⟩ := h
    refine aw_getR (f := 25) G0 (by rw [k2]; exact fb_X2_75) dX2_tables_8 ?_
    refine aw_iload_n G0 2 rfl dX2_tables_11 ?_
    refine aw_iconst (v := (0 : Int32)) G0 dX2_tables_12 (by decide) ?_
    obtain ⟨q3, e3, h⟩ := h
    refine aw_dr2 e3 ?_
    obtain ⟨k4, h⟩ := h
    obtain ⟨k5, h⟩ := h
    refine aw_zast G0 k4 k5 (by decide) dX2_tables_13 ?_
    generalize gI6 : va_up I q3 (va_up (I q3) x2.toNatClampNeg (0 : Int32)) = I6
    have h := h I6 gI6.symm
    refine aw_iconst (v := (0 : Int32)) G0 dX2_tables_14 (by decide) ?_
    refine aw_istore_n (lv' := [(3, aI (0 : Int32)), (0, aR (some x0)), (1, aI x1), (2, aI x2)]) G0 (by decide) rfl dX2_tables_15 ?_
    exact (aw_lv [1, 2, 3, 0] rfl (w16 x0 x1 x2 (0 : Int32) C I6 J R h))
theorem bX2_tables_16 (G : Gb Γ yX2_tables cX2_tables 5 (none) [] rmX2_tables bdX2_tables) {F_X2_clear : SPF} (S_X2_clear : SpX2_clear (gL Γ) F_X2_clear) {F_X2_wholeOf : SPF} (S_X2_wholeOf : SpX2_wholeOf (gL Γ) F_X2_wholeOf) {F_X2_make : SPF} (S_X2_make : SpX2_make (gL Γ) F_X2_make) {F_X2_settle : SPF} (S_X2_settle : SpX2_settle (gL Γ) F_X2_settle)
    {Q60 : Nat → Int32 → Int32 → Int32 → MC → MI → MJ → MR → Prop} (w60 : ∀ (x0 : Nat) (x1 : Int32) (x2 : Int32) (x3 : Int32) (C : MC) (I : MI) (J : MJ) (R : MR), Q60 x0 x1 x2 x3 C I J R → AW Γ 0 0 C I J R 60 [(0, aR (some x0)), (1, aI x1), (2, aI x2), (3, aI x3)] [])
    {Q133 : Nat → Int32 → Int32 → MC → MI → MJ → MR → Prop} (w133 : ∀ (x0 : Nat) (x1 : Int32) (x2 : Int32) (C : MC) (I : MI) (J : MJ) (R : MR), Q133 x0 x1 x2 C I J R → AW Γ 0 0 C I J R 133 [(0, aR (some x0)), (1, aI x1), (2, aI x2)] []) {x0 : Nat} {x1 : Int32} {x2 : Int32} {x3 : Int32}
    (h : (((4 : Int32) ≤ x3 →
      (C x0).1 = 3 ∧
      ∃ q3 : Nat, R x0 25 = some q3 ∧
      (C q3).1 = 24 ∧
      vp_in x2 (C q3).2 ∧
      (((I q3 x2.toNatClampNeg) = 0 →
      F_X2_clear [aR (some x0), aR (R x0 26)] C I J R (fun o C7 I8 J9 R10 =>
      o = .inl none ∧
      (C7 x0).1 = 3 ∧
      F_X2_clear [aR (some x0), aR (R10 x0 27)] C7 I8 J9 R10 (fun o C13 I14 J15 R16 =>
      o = .inl none ∧
      (C13 x0).1 = 3 ∧
      ∀ I19 : MI, I19 = va_up I14 x0 (va_up (I14 x0) 30 (0 : Int32)) →
      F_X2_wholeOf [aR (some x0), aI x2] C13 I19 J15 R16 (fun o C20 I21 J22 R23 =>
      ∃ r24 : Int64, o = .inl (some (aJ r24)) ∧
      (C20 x0).1 = 3 ∧
      (((I21 x0 30) = 0 →
      F_X2_make [aR (some x0), aI x2] C20 I21 J22 R23 (fun o C27 I28 J29 R30 =>
      o = .inl none ∧
      (C27 x0).1 = 3 ∧
      F_X2_settle [aR (some x0), aI x2, aJ r24] C27 I28 J29 R30 (fun o C33 I34 J35 R36 =>
      o = .inl none ∧
      Q133 x0 x1 x2 C33 I34 J35 R36))) ∧
      (¬ (I21 x0 30) = 0 →
      ∃ q38 : Nat, R23 x0 25 = some q38 ∧
      (C20 q38).1 = 24 ∧
      vp_in x2 (C20 q38).2 ∧
      ∀ I41 : MI, I41 = va_up I21 q38 (va_up (I21 q38) x2.toNatClampNeg (1 : Int32)) →
      Q133 x0 x1 x2 C20 I41 J22 R23)))))) ∧
      (¬ (I q3 x2.toNatClampNeg) = 0 →
      Q133 x0 x1 x2 C I J R))) ∧
      (¬ (4 : Int32) ≤ x3 →
      (C x0).1 = 3 ∧
      ∃ q43 : Nat, R x0 8 = some q43 ∧
      (C q43).1 = 20 ∧
      vp_in (((4 : Int32) * x2) + x3) (C q43).2 ∧
      (((I q43 (((4 : Int32) * x2) + x3).toNatClampNeg) = (-1 : Int32) →
      Q60 x0 x1 x2 x3 C I J R) ∧
      (¬ (I q43 (((4 : Int32) * x2) + x3).toNatClampNeg) = (-1 : Int32) →
      ∃ q47 : Nat, R x0 25 = some q47 ∧
      (C q47).1 = 24 ∧
      vp_in (I q43 (((4 : Int32) * x2) + x3).toNatClampNeg) (C q47).2 ∧
      (((I q47 (I q43 (((4 : Int32) * x2) + x3).toNatClampNeg).toNatClampNeg) = 0 →
      Q60 x0 x1 x2 x3 C I J R) ∧
      (¬ (I q47 (I q43 (((4 : Int32) * x2) + x3).toNatClampNeg).toNatClampNeg) = 0 →
      vp_in x2 (C q47).2 ∧
      ∀ I52 : MI, I52 = va_up I q47 (va_up (I q47) x2.toNatClampNeg (1 : Int32)) →
      Q60 x0 x1 x2 x3 C I52 J R))))))) :
    AW Γ 0 0 C I J R 16 [(0, aR (some x0)), (1, aI x1), (2, aI x2), (3, aI x3)] [] := by
  have G0 := G.1
  refine aw_iload_n G0 3 rfl dX2_tables_16 ?_
  refine aw_iconst (v := (4 : Int32)) G0 dX2_tables_17 (by decide) ?_
  refine aw_icmp_ge G0 66 dX2_tables_18 (by decide) (fun c1 => ?_) (fun c1 => ?_)
  · have h := h.1 c1
    refine aw_aload_n G0 0 rfl dX2_tables_66 ?_
    obtain ⟨k2, h⟩ := h
    refine aw_getR (f := 25) G0 (by rw [k2]; exact fb_X2_75) dX2_tables_67 ?_
    refine aw_iload_n G0 2 rfl dX2_tables_70 ?_
    obtain ⟨q3, e3, h⟩ := h
    refine aw_dr1 e3 ?_
    obtain ⟨k4, h⟩ := h
    obtain ⟨k5, h⟩ := h
    refine aw_zald G0 k4 k5 dX2_tables_71 ?_
    refine aw_if_eq G0 78 dX2_tables_72 (by decide) (fun c6 => ?_) (fun c6 => ?_)
    · have h := h.1 c6
      refine aw_aload_n G0 0 rfl dX2_tables_78 ?_
      refine aw_aload_n G0 0 rfl dX2_tables_79 ?_
      refine aw_getR (f := 26) G0 (by rw [k2]; exact fb_X2_79) dX2_tables_80 ?_
      refine aw_callV (k1 := 0) (n1 := 0) (k2 := 0) (n2 := 0) (st := []) G0 S_X2_clear gi_X2_176 (Or.inl (by rw [k2]; decide)) (by rw [k2]; rfl) md_X2_clear (Nat.le_of_ble_eq_true rfl) (by decide) (by rw [G.2.1]; decide) (by rw [G.2.1]; decide) [aR (R x0 26)] rfl rfl dX2_tables_83 h (fun o C7 I8 J9 R10 h => ?_)
      obtain ⟨rfl, h⟩ := h
      show AW Γ 0 0 C7 I8 J9 R10 (83 + 3) [(0, aR (some x0)), (1, aI x1), (2, aI x2), (3, aI x3)] []
      refine aw_aload_n G0 0 rfl dX2_tables_86 ?_
      refine aw_aload_n G0 0 rfl dX2_tables_87 ?_
      obtain ⟨k12, h⟩ := h
      refine aw_getR (f := 27) G0 (by rw [k12]; exact fb_X2_82) dX2_tables_88 ?_
      refine aw_callV (k1 := 0) (n1 := 0) (k2 := 0) (n2 := 0) (st := []) G0 S_X2_clear gi_X2_176 (Or.inl (by rw [k12]; decide)) (by rw [k12]; rfl) md_X2_clear (Nat.le_of_ble_eq_true rfl) (by decide) (by rw [G.2.1]; decide) (by rw [G.2.1]; decide) [aR (R10 x0 27)] rfl rfl dX2_tables_91 h (fun o C13 I14 J15 R16 h => ?_)
      obtain ⟨rfl, h⟩ := h
      show AW Γ 0 0 C13 I14 J15 R16 (91 + 3) [(0, aR (some x0)), (1, aI x1), (2, aI x2), (3, aI x3)] []
      refine aw_aload_n G0 0 rfl dX2_tables_94 ?_
      refine aw_iconst (v := (0 : Int32)) G0 dX2_tables_95 (by decide) ?_
      obtain ⟨k18, h⟩ := h
      refine aw_putZ (f := 30) G0 (by decide) (by rw [k18]; exact fp_X2_165 _) dX2_tables_96 ?_
      generalize gI19 : va_up I14 x0 (va_up (I14 x0) 30 (0 : Int32)) = I19
      have h := h I19 gI19.symm
      refine aw_aload_n G0 0 rfl dX2_tables_99 ?_
      refine aw_iload_n G0 2 rfl dX2_tables_100 ?_
      refine aw_callV (k1 := 0) (n1 := 0) (k2 := 0) (n2 := 0) (st := []) G0 S_X2_wholeOf gi_X2_180 (Or.inl (by rw [k18]; decide)) (by rw [k18]; rfl) md_X2_wholeOf (Nat.le_of_ble_eq_true rfl) (by decide) (by rw [G.2.1]; decide) (by rw [G.2.1]; decide) [aI x2] rfl rfl dX2_tables_101 h (fun o C20 I21 J22 R23 h => ?_)
      obtain ⟨r24, rfl, h⟩ := h
      show AW Γ 0 0 C20 I21 J22 R23 (101 + 3) [(0, aR (some x0)), (1, aI x1), (2, aI x2), (3, aI x3)] [aJ r24]
      refine aw_lstore_n (lv' := [(3, aJ r24), (0, aR (some x0)), (1, aI x1), (2, aI x2)]) G0 (by decide) rfl dX2_tables_104 ?_
      refine aw_aload_n G0 1 rfl dX2_tables_105 ?_
      obtain ⟨k25, h⟩ := h
      refine aw_getZ (f := 30) G0 (by rw [k25]; exact fb_X2_165) dX2_tables_106 ?_
      refine aw_if_eq G0 122 dX2_tables_109 (by decide) (fun c26 => ?_) (fun c26 => ?_)
      · have h := h.1 c26
        refine aw_aload_n G0 1 rfl dX2_tables_122 ?_
        refine aw_iload_n G0 3 rfl dX2_tables_123 ?_
        refine aw_callV (k1 := 0) (n1 := 0) (k2 := 0) (n2 := 0) (st := []) G0 S_X2_make gi_X2_184 (Or.inl (by rw [k25]; decide)) (by rw [k25]; rfl) md_X2_make (Nat.le_of_ble_eq_true rfl) (by decide) (by rw [G.2.1]; decide) (by rw [G.2.1]; decide) [aI x2] rfl rfl dX2_tables_124 h (fun o C27 I28 J29 R30 h => ?_)
        obtain ⟨rfl, h⟩ := h
        show AW Γ 0 0 C27 I28 J29 R30 (124 + 3) [(3, aJ r24), (0, aR (some x0)), (1, aI x1), (2, aI x2)] []
        refine aw_aload_n G0 1 rfl dX2_tables_127 ?_
        refine aw_iload_n G0 3 rfl dX2_tables_128 ?_
        refine aw_lload_n G0 0 rfl dX2_tables_129 ?_
        obtain ⟨k32, h⟩ := h
        refine aw_callV (k1 := 0) (n1 := 0) (k2 := 0) (n2 := 0) (st := []) G0 S_X2_settle gi_X2_188 (Or.inl (by rw [k32]; decide)) (by rw [k32]; rfl) md_X2_settle (Nat.le_of_ble_eq_true rfl) (by decide) (by rw [G.2.1]; decide) (by rw [G.2.1]; decide) [aI x2, aJ r24] rfl rfl dX2_tables_130 h (fun o C33 I34 J35 R36 h => ?_)
        obtain ⟨rfl, h⟩ := h
        show AW Γ 0 0 C33 I34 J35 R36 (130 + 3) [(3, aJ r24), (0, aR (some x0)), (1, aI x1), (2, aI x2)] []
        exact (aw_lv [1, 2, 3] rfl (w133 x0 x1 x2 C33 I34 J35 R36 h))
      · have h := h.2 c26
        refine aw_aload_n G0 1 rfl dX2_tables_112 ?_
        refine aw_getR (f := 25) G0 (by rw [k25]; exact fb_X2_75) dX2_tables_113 ?_
        refine aw_iload_n G0 3 rfl dX2_tables_116 ?_
        refine aw_iconst (v := (1 : Int32)) G0 dX2_tables_117 (by decide) ?_
        obtain ⟨q38, e38, h⟩ := h
        refine aw_dr2 e38 ?_
        obtain ⟨k39, h⟩ := h
        obtain ⟨k40, h⟩ := h
        refine aw_zast G0 k39 k40 (by decide) dX2_tables_118 ?_
        generalize gI41 : va_up I21 q38 (va_up (I21 q38) x2.toNatClampNeg (1 : Int32)) = I41
        have h := h I41 gI41.symm
        refine aw_goto G0 133 dX2_tables_119 (by decide) ?_
        exact (aw_lv [1, 2, 3] rfl (w133 x0 x1 x2 C20 I41 J22 R23 h))
    · have h := h.2 c6
      refine aw_goto G0 133 dX2_tables_75 (by decide) ?_
      exact (aw_lv [0, 1, 2] rfl (w133 x0 x1 x2 C I J R h))
  · have h := h.2 c1
    refine aw_aload_n G0 0 rfl dX2_tables_21 ?_
    obtain ⟨k42, h⟩ := h
    refine aw_getR (f := 8) G0 (by rw [k42]; exact fb_X2_27) dX2_tables_22 ?_
    refine aw_iconst (v := (4 : Int32)) G0 dX2_tables_25 (by decide) ?_
    refine aw_iload_n G0 2 rfl dX2_tables_26 ?_
    refine aw_imul G0 dX2_tables_27 ?_
    refine aw_iload_n G0 3 rfl dX2_tables_28 ?_
    refine aw_iadd G0 dX2_tables_29 ?_
    obtain ⟨q43, e43, h⟩ := h
    refine aw_dr1 e43 ?_
    obtain ⟨k44, h⟩ := h
    obtain ⟨k45, h⟩ := h
    refine aw_iald G0 (Or.inl k44) k45 dX2_tables_30 ?_
    refine aw_iconst (v := (-1 : Int32)) G0 dX2_tables_31 (by decide) ?_
    refine aw_icmp_eq G0 60 dX2_tables_32 (by decide) (fun c46 => ?_) (fun c46 => ?_)
    · have h := h.1 c46
      exact (w60 x0 x1 x2 x3 C I J R h)
    · have h := h.2 c46
      refine aw_aload_n G0 0 rfl dX2_tables_35 ?_
      refine aw_getR (f := 25) G0 (by rw [k42]; exact fb_X2_75) dX2_tables_36 ?_
      refine aw_aload_n G0 0 rfl dX2_tables_39 ?_
      refine aw_getR (f := 8) G0 (by rw [k42]; exact fb_X2_27) dX2_tables_40 ?_
      refine aw_iconst (v := (4 : Int32)) G0 dX2_tables_43 (by decide) ?_
      refine aw_iload_n G0 2 rfl dX2_tables_44 ?_
      refine aw_imul G0 dX2_tables_45 ?_
      refine aw_iload_n G0 3 rfl dX2_tables_46 ?_
      refine aw_iadd G0 dX2_tables_47 ?_
      refine aw_dr1 e43 ?_
      refine aw_iald G0 (Or.inl k44) k45 dX2_tables_48 ?_
      obtain ⟨q47, e47, h⟩ := h
      refine aw_dr1 e47 ?_
      obtain ⟨k48, h⟩ := h
      obtain ⟨k49, h⟩ := h
      refine aw_zald G0 k48 k49 dX2_tables_49 ?_
      refine aw_if_eq G0 60 dX2_tables_50 (by decide) (fun c50 => ?_) (fun c50 => ?_)
      · have h := h.1 c50
        exact (w60 x0 x1 x2 x3 C I J R h)
      · have h := h.2 c50
        refine aw_aload_n G0 0 rfl dX2_tables_53 ?_
        refine aw_getR (f := 25) G0 (by rw [k42]; exact fb_X2_75) dX2_tables_54 ?_
        refine aw_iload_n G0 2 rfl dX2_tables_57 ?_
        refine aw_iconst (v := (1 : Int32)) G0 dX2_tables_58 (by decide) ?_
        refine aw_dr2 e47 ?_
        obtain ⟨k51, h⟩ := h
        refine aw_zast G0 k48 k51 (by decide) dX2_tables_59 ?_
        generalize gI52 : va_up I q47 (va_up (I q47) x2.toNatClampNeg (1 : Int32)) = I52
        have h := h I52 gI52.symm
        exact (w60 x0 x1 x2 x3 C I52 J R h)
theorem bX2_tables_60 (G : Gb Γ yX2_tables cX2_tables 5 (none) [] rmX2_tables bdX2_tables)
    {Q16 : Nat → Int32 → Int32 → Int32 → MC → MI → MJ → MR → Prop} (w16 : ∀ (x0 : Nat) (x1 : Int32) (x2 : Int32) (x3 : Int32) (C : MC) (I : MI) (J : MJ) (R : MR), Q16 x0 x1 x2 x3 C I J R → AW Γ 0 0 C I J R 16 [(0, aR (some x0)), (1, aI x1), (2, aI x2), (3, aI x3)] []) {x0 : Nat} {x1 : Int32} {x2 : Int32} {x3 : Int32}
    (h : Q16 x0 x1 x2 (x3 + 1) C I J R) :
    AW Γ 0 0 C I J R 60 [(0, aR (some x0)), (1, aI x1), (2, aI x2), (3, aI x3)] [] := by
  have G0 := G.1
  refine aw_iinc (v := x3 + 1) (lv' := [(3, aI (x3 + 1)), (0, aR (some x0)), (1, aI x1), (2, aI x2)]) G0 3 rfl rfl (by decide) rfl dX2_tables_60 ?_
  refine aw_goto G0 16 dX2_tables_63 (by decide) ?_
  exact (aw_lv [1, 2, 3, 0] rfl (w16 x0 x1 x2 (x3 + 1) C I J R h))
theorem bX2_tables_133 (G : Gb Γ yX2_tables cX2_tables 5 (none) [] rmX2_tables bdX2_tables)
    {Q2 : Nat → Int32 → Int32 → MC → MI → MJ → MR → Prop} (w2 : ∀ (x0 : Nat) (x1 : Int32) (x2 : Int32) (C : MC) (I : MI) (J : MJ) (R : MR), Q2 x0 x1 x2 C I J R → AW Γ 0 0 C I J R 2 [(0, aR (some x0)), (1, aI x1), (2, aI x2)] []) {x0 : Nat} {x1 : Int32} {x2 : Int32}
    (h : Q2 x0 x1 (x2 + 1) C I J R) :
    AW Γ 0 0 C I J R 133 [(0, aR (some x0)), (1, aI x1), (2, aI x2)] [] := by
  have G0 := G.1
  refine aw_iinc (v := x2 + 1) (lv' := [(2, aI (x2 + 1)), (0, aR (some x0)), (1, aI x1)]) G0 2 rfl rfl (by decide) rfl dX2_tables_133 ?_
  refine aw_goto G0 2 dX2_tables_136 (by decide) ?_
  exact (aw_lv [1, 2, 0] rfl (w2 x0 x1 (x2 + 1) C I J R h))
theorem bX2_clear_0 (G : Gb Γ yX2_clear cX2_clear 3 (none) [] rmX2_clear bdX2_clear)
    {Q2 : Nat → Int32 → MC → MI → MJ → MR → Prop} (w2 : ∀ (x1 : Nat) (x2 : Int32) (C : MC) (I : MI) (J : MJ) (R : MR), Q2 x1 x2 C I J R → AW Γ 0 0 C I J R 2 [(1, aR (some x1)), (2, aI x2)] []) {x0 : Nat} {x1 : Nat}
    (h : Q2 x1 (0 : Int32) C I J R) :
    AW Γ 0 0 C I J R 0 [(0, aR (some x0)), (1, aR (some x1))] [] := by
  have G0 := G.1
  refine aw_iconst (v := (0 : Int32)) G0 dX2_clear_0 (by decide) ?_
  refine aw_istore_n (lv' := [(2, aI (0 : Int32)), (0, aR (some x0)), (1, aR (some x1))]) G0 (by decide) rfl dX2_clear_1 ?_
  exact (aw_lv [2, 0] rfl (w2 x1 (0 : Int32) C I J R h))
theorem bX2_clear_2 (G : Gb Γ yX2_clear cX2_clear 3 (none) [] rmX2_clear bdX2_clear)
    {Q2 : Nat → Int32 → MC → MI → MJ → MR → Prop} (w2 : ∀ (x1 : Nat) (x2 : Int32) (C : MC) (I : MI) (J : MJ) (R : MR), Q2 x1 x2 C I J R → AW Γ 0 0 C I J R 2 [(1, aR (some x1)), (2, aI x2)] []) {x1 : Nat} {x2 : Int32}
    (h : (20 ≤ (C x1).1 ∧ (C x1).1 ≤ 30) ∧
      (((nI (C x1).2) ≤ x2 →
      gK Γ (.inl none) C I J R) ∧
      (¬ (nI (C x1).2) ≤ x2 →
      (C x1).1 = 21 ∧
      vp_in x2 (C x1).2 ∧
      ∀ J5 : MJ, J5 = va_up J x1 (va_up (J x1) x2.toNatClampNeg (0 : Int64)) →
      Q2 x1 (x2 + 1) C I J5 R))) :
    AW Γ 0 0 C I J R 2 [(1, aR (some x1)), (2, aI x2)] [] := by
  have G0 := G.1
  refine aw_iload_n G0 1 rfl dX2_clear_2 ?_
  refine aw_aload_n G0 0 rfl dX2_clear_3 ?_
  obtain ⟨k1, h⟩ := h
  refine aw_alen (v := nI (C x1).2) G0 k1 rfl dX2_clear_4 ?_
  refine aw_icmp_ge G0 18 dX2_clear_5 (by decide) (fun c2 => ?_) (fun c2 => ?_)
  · have h := h.1 c2
    exact aw_return G0 (by rw [G.2.2]; decide) (by rw [G.2.1]; decide) dX2_clear_18 h
  · have h := h.2 c2
    refine aw_aload_n G0 0 rfl dX2_clear_8 ?_
    refine aw_iload_n G0 1 rfl dX2_clear_9 ?_
    refine aw_lconst (v := (0 : Int64)) G0 dX2_clear_10 (by decide) ?_
    obtain ⟨k3, h⟩ := h
    obtain ⟨k4, h⟩ := h
    refine aw_last G0 k3 k4 dX2_clear_11 ?_
    generalize gJ5 : va_up J x1 (va_up (J x1) x2.toNatClampNeg (0 : Int64)) = J5
    have h := h J5 gJ5.symm
    refine aw_iinc (v := x2 + 1) (lv' := [(2, aI (x2 + 1)), (1, aR (some x1))]) G0 1 rfl rfl (by decide) rfl dX2_clear_12 ?_
    refine aw_goto G0 2 dX2_clear_15 (by decide) ?_
    exact (aw_lv [1, 0] rfl (w2 x1 (x2 + 1) C I J5 R h))
theorem bX2_wholeOf_0 (G : Gb Γ yX2_wholeOf cX2_wholeOf 7 (some .long) [] rmX2_wholeOf bdX2_wholeOf)
    {Q16 : Nat → Int32 → Int64 → Int32 → MC → MI → MJ → MR → Prop} (w16 : ∀ (x0 : Nat) (x1 : Int32) (x2 : Int64) (x4 : Int32) (C : MC) (I : MI) (J : MJ) (R : MR), Q16 x0 x1 x2 x4 C I J R → AW Γ 0 0 C I J R 16 [(0, aR (some x0)), (1, aI x1), (2, aJ x2), (4, aI x4)] [])
    {Q92 : Nat → Int32 → Int64 → Int32 → MC → MI → MJ → MR → Prop} (w92 : ∀ (x0 : Nat) (x1 : Int32) (x2 : Int64) (s0 : Int32) (C : MC) (I : MI) (J : MJ) (R : MR), Q92 x0 x1 x2 s0 C I J R → AW Γ 0 0 C I J R 92 [(0, aR (some x0)), (1, aI x1), (2, aJ x2)] [aI s0]) {x0 : Nat} {x1 : Int32}
    (h : (C x0).1 = 3 ∧
      ∃ q2 : Nat, R x0 7 = some q2 ∧
      (C q2).1 = 20 ∧
      vp_in x1 (C q2).2 ∧
      ((¬ (I q2 x1.toNatClampNeg) = 0 →
      ((¬ (I q2 x1.toNatClampNeg) = (4 : Int32) →
      ((¬ (I q2 x1.toNatClampNeg) = (5 : Int32) →
      Q92 x0 x1 (1 : Int64) (1 : Int32) C I J R) ∧
      ((I q2 x1.toNatClampNeg) = (5 : Int32) →
      Q92 x0 x1 (1 : Int64) (2 : Int32) C I J R))) ∧
      ((I q2 x1.toNatClampNeg) = (4 : Int32) →
      ∃ q8 : Nat, R x0 10 = some q8 ∧
      (C q8).1 = 20 ∧
      vp_in x1 (C q8).2 ∧
      Q92 x0 x1 (1 : Int64) ((I q8 x1.toNatClampNeg) + (1 : Int32)) C I J R))) ∧
      ((I q2 x1.toNatClampNeg) = 0 →
      Q16 x0 x1 (0 : Int64) (0 : Int32) C I J R))) :
    AW Γ 0 0 C I J R 0 [(0, aR (some x0)), (1, aI x1)] [] := by
  have G0 := G.1
  refine aw_lconst (v := (1 : Int64)) G0 dX2_wholeOf_0 (by decide) ?_
  refine aw_lstore_n (lv' := [(2, aJ (1 : Int64)), (0, aR (some x0)), (1, aI x1)]) G0 (by decide) rfl dX2_wholeOf_1 ?_
  refine aw_aload_n G0 1 rfl dX2_wholeOf_2 ?_
  obtain ⟨k1, h⟩ := h
  refine aw_getR (f := 7) G0 (by rw [k1]; exact fb_X2_24) dX2_wholeOf_3 ?_
  refine aw_iload_n G0 2 rfl dX2_wholeOf_6 ?_
  obtain ⟨q2, e2, h⟩ := h
  refine aw_dr1 e2 ?_
  obtain ⟨k3, h⟩ := h
  obtain ⟨k4, h⟩ := h
  refine aw_iald G0 (Or.inl k3) k4 dX2_wholeOf_7 ?_
  refine aw_if_ne G0 56 dX2_wholeOf_8 (by decide) (fun c5 => ?_) (fun c5 => ?_)
  · have h := h.1 c5
    refine aw_aload_n G0 1 rfl dX2_wholeOf_56 ?_
    refine aw_getR (f := 7) G0 (by rw [k1]; exact fb_X2_24) dX2_wholeOf_57 ?_
    refine aw_iload_n G0 2 rfl dX2_wholeOf_60 ?_
    refine aw_dr1 e2 ?_
    refine aw_iald G0 (Or.inl k3) k4 dX2_wholeOf_61 ?_
    refine aw_iconst (v := (4 : Int32)) G0 dX2_wholeOf_62 (by decide) ?_
    refine aw_icmp_ne G0 77 dX2_wholeOf_63 (by decide) (fun c6 => ?_) (fun c6 => ?_)
    · have h := h.1 c6
      refine aw_aload_n G0 1 rfl dX2_wholeOf_77 ?_
      refine aw_getR (f := 7) G0 (by rw [k1]; exact fb_X2_24) dX2_wholeOf_78 ?_
      refine aw_iload_n G0 2 rfl dX2_wholeOf_81 ?_
      refine aw_dr1 e2 ?_
      refine aw_iald G0 (Or.inl k3) k4 dX2_wholeOf_82 ?_
      refine aw_iconst (v := (5 : Int32)) G0 dX2_wholeOf_83 (by decide) ?_
      refine aw_icmp_ne G0 91 dX2_wholeOf_84 (by decide) (fun c7 => ?_) (fun c7 => ?_)
      · have h := h.1 c7
        refine aw_iconst (v := (1 : Int32)) G0 dX2_wholeOf_91 (by decide) ?_
        exact (aw_lv [1, 2, 0] rfl (w92 x0 x1 (1 : Int64) (1 : Int32) C I J R h))
      · have h := h.2 c7
        refine aw_iconst (v := (2 : Int32)) G0 dX2_wholeOf_87 (by decide) ?_
        refine aw_goto G0 92 dX2_wholeOf_88 (by decide) ?_
        exact (aw_lv [1, 2, 0] rfl (w92 x0 x1 (1 : Int64) (2 : Int32) C I J R h))
    · have h := h.2 c6
      refine aw_aload_n G0 1 rfl dX2_wholeOf_66 ?_
      refine aw_getR (f := 10) G0 (by rw [k1]; exact fb_X2_33) dX2_wholeOf_67 ?_
      refine aw_iload_n G0 2 rfl dX2_wholeOf_70 ?_
      obtain ⟨q8, e8, h⟩ := h
      refine aw_dr1 e8 ?_
      obtain ⟨k9, h⟩ := h
      obtain ⟨k10, h⟩ := h
      refine aw_iald G0 (Or.inl k9) k10 dX2_wholeOf_71 ?_
      refine aw_iconst (v := (1 : Int32)) G0 dX2_wholeOf_72 (by decide) ?_
      refine aw_iadd G0 dX2_wholeOf_73 ?_
      refine aw_goto G0 92 dX2_wholeOf_74 (by decide) ?_
      exact (aw_lv [1, 2, 0] rfl (w92 x0 x1 (1 : Int64) ((I q8 x1.toNatClampNeg) + (1 : Int32)) C I J R h))
  · have h := h.2 c5
    refine aw_lconst (v := (0 : Int64)) G0 dX2_wholeOf_11 (by decide) ?_
    refine aw_lstore_n (lv' := [(2, aJ (0 : Int64)), (0, aR (some x0)), (1, aI x1)]) G0 (by decide) rfl dX2_wholeOf_12 ?_
    refine aw_iconst (v := (0 : Int32)) G0 dX2_wholeOf_13 (by decide) ?_
    refine aw_istore (lv' := [(4, aI (0 : Int32)), (2, aJ (0 : Int64)), (0, aR (some x0)), (1, aI x1)]) G0 (by decide) rfl dX2_wholeOf_14 ?_
    exact (aw_lv [2, 3, 1, 0] rfl (w16 x0 x1 (0 : Int64) (0 : Int32) C I J R h))
theorem bX2_wholeOf_16 (G : Gb Γ yX2_wholeOf cX2_wholeOf 7 (some .long) [] rmX2_wholeOf bdX2_wholeOf)
    {Q16 : Nat → Int32 → Int64 → Int32 → MC → MI → MJ → MR → Prop} (w16 : ∀ (x0 : Nat) (x1 : Int32) (x2 : Int64) (x4 : Int32) (C : MC) (I : MI) (J : MJ) (R : MR), Q16 x0 x1 x2 x4 C I J R → AW Γ 0 0 C I J R 16 [(0, aR (some x0)), (1, aI x1), (2, aJ x2), (4, aI x4)] []) {x0 : Nat} {x1 : Int32} {x2 : Int64} {x4 : Int32}
    (h : (((60 : Int32) ≤ x4 →
      gK Γ (.inl (some (aJ x2))) C I J R) ∧
      (¬ (60 : Int32) ≤ x4 →
      (C x0).1 = 3 ∧
      ∃ q3 : Nat, R x0 15 = some q3 ∧
      (C q3).1 = 20 ∧
      vp_in x1 (C q3).2 ∧
      ∃ q6 : Nat, R x0 14 = some q6 ∧
      (C q6).1 = 20 ∧
      vp_in (((60 : Int32) * (((3 : Int32) * x1) + (I q3 x1.toNatClampNeg))) + x4) (C q6).2 ∧
      Q16 x0 x1 (x2 + ((I q6 (((60 : Int32) * (((3 : Int32) * x1) + (I q3 x1.toNatClampNeg))) + x4).toNatClampNeg).toInt64)) (x4 + 1) C I J R))) :
    AW Γ 0 0 C I J R 16 [(0, aR (some x0)), (1, aI x1), (2, aJ x2), (4, aI x4)] [] := by
  have G0 := G.1
  refine aw_iload G0 3 rfl dX2_wholeOf_16 ?_
  refine aw_bipush (v := (60 : Int32)) G0 dX2_wholeOf_18 (by decide) ?_
  refine aw_icmp_ge G0 54 dX2_wholeOf_20 (by decide) (fun c1 => ?_) (fun c1 => ?_)
  · have h := h.1 c1
    refine aw_lload_n G0 2 rfl dX2_wholeOf_54 ?_
    exact aw_lreturn G0 (by rw [G.2.2]; decide) (by rw [G.2.1]; decide) dX2_wholeOf_55 h
  · have h := h.2 c1
    refine aw_lload_n G0 2 rfl dX2_wholeOf_23 ?_
    refine aw_aload_n G0 0 rfl dX2_wholeOf_24 ?_
    obtain ⟨k2, h⟩ := h
    refine aw_getR (f := 14) G0 (by rw [k2]; exact fb_X2_45) dX2_wholeOf_25 ?_
    refine aw_bipush (v := (60 : Int32)) G0 dX2_wholeOf_28 (by decide) ?_
    refine aw_iconst (v := (3 : Int32)) G0 dX2_wholeOf_30 (by decide) ?_
    refine aw_iload_n G0 1 rfl dX2_wholeOf_31 ?_
    refine aw_imul G0 dX2_wholeOf_32 ?_
    refine aw_aload_n G0 0 rfl dX2_wholeOf_33 ?_
    refine aw_getR (f := 15) G0 (by rw [k2]; exact fb_X2_48) dX2_wholeOf_34 ?_
    refine aw_iload_n G0 1 rfl dX2_wholeOf_37 ?_
    obtain ⟨q3, e3, h⟩ := h
    refine aw_dr1 e3 ?_
    obtain ⟨k4, h⟩ := h
    obtain ⟨k5, h⟩ := h
    refine aw_iald G0 (Or.inl k4) k5 dX2_wholeOf_38 ?_
    refine aw_iadd G0 dX2_wholeOf_39 ?_
    refine aw_imul G0 dX2_wholeOf_40 ?_
    refine aw_iload G0 3 rfl dX2_wholeOf_41 ?_
    refine aw_iadd G0 dX2_wholeOf_43 ?_
    obtain ⟨q6, e6, h⟩ := h
    refine aw_dr1 e6 ?_
    obtain ⟨k7, h⟩ := h
    obtain ⟨k8, h⟩ := h
    refine aw_iald G0 (Or.inl k7) k8 dX2_wholeOf_44 ?_
    refine aw_i2l G0 dX2_wholeOf_45 ?_
    refine aw_ladd G0 dX2_wholeOf_46 ?_
    refine aw_lstore_n (lv' := [(2, aJ (x2 + ((I q6 (((60 : Int32) * (((3 : Int32) * x1) + (I q3 x1.toNatClampNeg))) + x4).toNatClampNeg).toInt64))), (0, aR (some x0)), (1, aI x1), (4, aI x4)]) G0 (by decide) rfl dX2_wholeOf_47 ?_
    refine aw_iinc (v := x4 + 1) (lv' := [(4, aI (x4 + 1)), (2, aJ (x2 + ((I q6 (((60 : Int32) * (((3 : Int32) * x1) + (I q3 x1.toNatClampNeg))) + x4).toNatClampNeg).toInt64))), (0, aR (some x0)), (1, aI x1)]) G0 3 rfl rfl (by decide) rfl dX2_wholeOf_48 ?_
    refine aw_goto G0 16 dX2_wholeOf_51 (by decide) ?_
    exact (aw_lv [2, 3, 1, 0] rfl (w16 x0 x1 (x2 + ((I q6 (((60 : Int32) * (((3 : Int32) * x1) + (I q3 x1.toNatClampNeg))) + x4).toNatClampNeg).toInt64)) (x4 + 1) C I J R h))
theorem bX2_wholeOf_92 (G : Gb Γ yX2_wholeOf cX2_wholeOf 7 (some .long) [] rmX2_wholeOf bdX2_wholeOf)
    {Q97 : Nat → Int32 → Int64 → Int32 → Int32 → MC → MI → MJ → MR → Prop} (w97 : ∀ (x0 : Nat) (x1 : Int32) (x2 : Int64) (x4 : Int32) (x5 : Int32) (C : MC) (I : MI) (J : MJ) (R : MR), Q97 x0 x1 x2 x4 x5 C I J R → AW Γ 0 0 C I J R 97 [(0, aR (some x0)), (1, aI x1), (2, aJ x2), (4, aI x4), (5, aI x5)] []) {x0 : Nat} {x1 : Int32} {x2 : Int64} {s0 : Int32}
    (h : Q97 x0 x1 x2 s0 (0 : Int32) C I J R) :
    AW Γ 0 0 C I J R 92 [(0, aR (some x0)), (1, aI x1), (2, aJ x2)] [aI s0] := by
  have G0 := G.1
  refine aw_istore (lv' := [(4, aI s0), (0, aR (some x0)), (1, aI x1), (2, aJ x2)]) G0 (by decide) rfl dX2_wholeOf_92 ?_
  refine aw_iconst (v := (0 : Int32)) G0 dX2_wholeOf_94 (by decide) ?_
  refine aw_istore (lv' := [(5, aI (0 : Int32)), (4, aI s0), (0, aR (some x0)), (1, aI x1), (2, aJ x2)]) G0 (by decide) rfl dX2_wholeOf_95 ?_
  exact (aw_lv [2, 3, 4, 1, 0] rfl (w97 x0 x1 x2 s0 (0 : Int32) C I J R h))
theorem bX2_wholeOf_97 (G : Gb Γ yX2_wholeOf cX2_wholeOf 7 (some .long) [] rmX2_wholeOf bdX2_wholeOf) {F_X2_product : SPF} (S_X2_product : SpX2_product (gL Γ) F_X2_product)
    {Q107 : Nat → Int32 → Int64 → Int32 → Int32 → Int32 → MC → MI → MJ → MR → Prop} (w107 : ∀ (x0 : Nat) (x1 : Int32) (x2 : Int64) (x4 : Int32) (x5 : Int32) (x6 : Int32) (C : MC) (I : MI) (J : MJ) (R : MR), Q107 x0 x1 x2 x4 x5 x6 C I J R → AW Γ 0 0 C I J R 107 [(0, aR (some x0)), (1, aI x1), (2, aJ x2), (4, aI x4), (5, aI x5), (6, aI x6)] []) {x0 : Nat} {x1 : Int32} {x2 : Int64} {x4 : Int32} {x5 : Int32}
    (h : ((x4 ≤ x5 →
      (C x0).1 = 3 ∧
      ∃ q3 : Nat, R x0 7 = some q3 ∧
      (C q3).1 = 20 ∧
      vp_in x1 (C q3).2 ∧
      ((¬ (I q3 x1.toNatClampNeg) = (3 : Int32) →
      gK Γ (.inl (some (aJ x2))) C I J R) ∧
      ((I q3 x1.toNatClampNeg) = (3 : Int32) →
      ∃ q7 : Nat, R x0 10 = some q7 ∧
      (C q7).1 = 20 ∧
      vp_in x1 (C q7).2 ∧
      F_X2_product [aR (some x0), aJ x2, aJ ((I q7 x1.toNatClampNeg).toInt64)] C I J R (fun o C10 I11 J12 R13 =>
      ∃ r14 : Int64, o = .inl (some (aJ r14)) ∧
      gK Γ (.inl (some (aJ r14))) C10 I11 J12 R13)))) ∧
      (¬ x4 ≤ x5 →
      Q107 x0 x1 x2 x4 x5 (0 : Int32) C I J R))) :
    AW Γ 0 0 C I J R 97 [(0, aR (some x0)), (1, aI x1), (2, aJ x2), (4, aI x4), (5, aI x5)] [] := by
  have G0 := G.1
  refine aw_iload G0 4 rfl dX2_wholeOf_97 ?_
  refine aw_iload G0 3 rfl dX2_wholeOf_99 ?_
  refine aw_icmp_ge G0 162 dX2_wholeOf_101 (by decide) (fun c1 => ?_) (fun c1 => ?_)
  · have h := h.1 c1
    refine aw_aload_n G0 0 rfl dX2_wholeOf_162 ?_
    obtain ⟨k2, h⟩ := h
    refine aw_getR (f := 7) G0 (by rw [k2]; exact fb_X2_24) dX2_wholeOf_163 ?_
    refine aw_iload_n G0 1 rfl dX2_wholeOf_166 ?_
    obtain ⟨q3, e3, h⟩ := h
    refine aw_dr1 e3 ?_
    obtain ⟨k4, h⟩ := h
    obtain ⟨k5, h⟩ := h
    refine aw_iald G0 (Or.inl k4) k5 dX2_wholeOf_167 ?_
    refine aw_iconst (v := (3 : Int32)) G0 dX2_wholeOf_168 (by decide) ?_
    refine aw_icmp_ne G0 187 dX2_wholeOf_169 (by decide) (fun c6 => ?_) (fun c6 => ?_)
    · have h := h.1 c6
      refine aw_lload_n G0 2 rfl dX2_wholeOf_187 ?_
      exact aw_lreturn G0 (by rw [G.2.2]; decide) (by rw [G.2.1]; decide) dX2_wholeOf_188 h
    · have h := h.2 c6
      refine aw_aload_n G0 0 rfl dX2_wholeOf_172 ?_
      refine aw_lload_n G0 2 rfl dX2_wholeOf_173 ?_
      refine aw_aload_n G0 0 rfl dX2_wholeOf_174 ?_
      refine aw_getR (f := 10) G0 (by rw [k2]; exact fb_X2_33) dX2_wholeOf_175 ?_
      refine aw_iload_n G0 1 rfl dX2_wholeOf_178 ?_
      obtain ⟨q7, e7, h⟩ := h
      refine aw_dr1 e7 ?_
      obtain ⟨k8, h⟩ := h
      obtain ⟨k9, h⟩ := h
      refine aw_iald G0 (Or.inl k8) k9 dX2_wholeOf_179 ?_
      refine aw_i2l G0 dX2_wholeOf_180 ?_
      refine aw_callV (k1 := 0) (n1 := 0) (k2 := 0) (n2 := 0) (st := []) G0 S_X2_product gi_X2_192 (Or.inl (by rw [k2]; decide)) (by rw [k2]; rfl) md_X2_product (Nat.le_of_ble_eq_true rfl) (by decide) (by rw [G.2.1]; decide) (by rw [G.2.1]; decide) [aJ x2, aJ ((I q7 x1.toNatClampNeg).toInt64)] rfl rfl dX2_wholeOf_181 h (fun o C10 I11 J12 R13 h => ?_)
      obtain ⟨r14, rfl, h⟩ := h
      show AW Γ 0 0 C10 I11 J12 R13 (181 + 3) [(0, aR (some x0)), (1, aI x1), (2, aJ x2), (4, aI x4), (5, aI x5)] [aJ r14]
      refine aw_goto G0 188 dX2_wholeOf_184 (by decide) ?_
      exact aw_lreturn G0 (by rw [G.2.2]; decide) (by rw [G.2.1]; decide) dX2_wholeOf_188 h
  · have h := h.2 c1
    refine aw_iconst (v := (0 : Int32)) G0 dX2_wholeOf_104 (by decide) ?_
    refine aw_istore (lv' := [(6, aI (0 : Int32)), (0, aR (some x0)), (1, aI x1), (2, aJ x2), (4, aI x4), (5, aI x5)]) G0 (by decide) rfl dX2_wholeOf_105 ?_
    exact (aw_lv [1, 2, 3, 4, 5, 0] rfl (w107 x0 x1 x2 x4 x5 (0 : Int32) C I J R h))
theorem bX2_wholeOf_107 (G : Gb Γ yX2_wholeOf cX2_wholeOf 7 (some .long) [] rmX2_wholeOf bdX2_wholeOf) {F_X2_product : SPF} (S_X2_product : SpX2_product (gL Γ) F_X2_product)
    {Q97 : Nat → Int32 → Int64 → Int32 → Int32 → MC → MI → MJ → MR → Prop} (w97 : ∀ (x0 : Nat) (x1 : Int32) (x2 : Int64) (x4 : Int32) (x5 : Int32) (C : MC) (I : MI) (J : MJ) (R : MR), Q97 x0 x1 x2 x4 x5 C I J R → AW Γ 0 0 C I J R 97 [(0, aR (some x0)), (1, aI x1), (2, aJ x2), (4, aI x4), (5, aI x5)] [])
    {Q150 : Nat → Int32 → Int64 → Int32 → Int32 → Int32 → MC → MI → MJ → MR → Prop} (w150 : ∀ (x0 : Nat) (x1 : Int32) (x2 : Int64) (x4 : Int32) (x5 : Int32) (x6 : Int32) (C : MC) (I : MI) (J : MJ) (R : MR), Q150 x0 x1 x2 x4 x5 x6 C I J R → AW Γ 0 0 C I J R 150 [(0, aR (some x0)), (1, aI x1), (2, aJ x2), (4, aI x4), (5, aI x5), (6, aI x6)] []) {x0 : Nat} {x1 : Int32} {x2 : Int64} {x4 : Int32} {x5 : Int32} {x6 : Int32}
    (h : (((4 : Int32) ≤ x6 →
      Q97 x0 x1 x2 x4 (x5 + 1) C I J R) ∧
      (¬ (4 : Int32) ≤ x6 →
      (C x0).1 = 3 ∧
      ∃ q3 : Nat, R x0 8 = some q3 ∧
      (C q3).1 = 20 ∧
      vp_in (((4 : Int32) * x1) + x6) (C q3).2 ∧
      (((I q3 (((4 : Int32) * x1) + x6).toNatClampNeg) = (-1 : Int32) →
      Q150 x0 x1 x2 x4 x5 x6 C I J R) ∧
      (¬ (I q3 (((4 : Int32) * x1) + x6).toNatClampNeg) = (-1 : Int32) →
      ∃ q7 : Nat, R x0 24 = some q7 ∧
      (C q7).1 = 21 ∧
      vp_in (I q3 (((4 : Int32) * x1) + x6).toNatClampNeg) (C q7).2 ∧
      F_X2_product [aR (some x0), aJ x2, aJ (J q7 (I q3 (((4 : Int32) * x1) + x6).toNatClampNeg).toNatClampNeg)] C I J R (fun o C10 I11 J12 R13 =>
      ∃ r14 : Int64, o = .inl (some (aJ r14)) ∧
      Q150 x0 x1 r14 x4 x5 x6 C10 I11 J12 R13)))))) :
    AW Γ 0 0 C I J R 107 [(0, aR (some x0)), (1, aI x1), (2, aJ x2), (4, aI x4), (5, aI x5), (6, aI x6)] [] := by
  have G0 := G.1
  refine aw_iload G0 5 rfl dX2_wholeOf_107 ?_
  refine aw_iconst (v := (4 : Int32)) G0 dX2_wholeOf_109 (by decide) ?_
  refine aw_icmp_ge G0 156 dX2_wholeOf_110 (by decide) (fun c1 => ?_) (fun c1 => ?_)
  · have h := h.1 c1
    refine aw_iinc (v := x5 + 1) (lv' := [(5, aI (x5 + 1)), (0, aR (some x0)), (1, aI x1), (2, aJ x2), (4, aI x4), (6, aI x6)]) G0 4 rfl rfl (by decide) rfl dX2_wholeOf_156 ?_
    refine aw_goto G0 97 dX2_wholeOf_159 (by decide) ?_
    exact (aw_lv [1, 2, 3, 4, 0] rfl (w97 x0 x1 x2 x4 (x5 + 1) C I J R h))
  · have h := h.2 c1
    refine aw_aload_n G0 0 rfl dX2_wholeOf_113 ?_
    obtain ⟨k2, h⟩ := h
    refine aw_getR (f := 8) G0 (by rw [k2]; exact fb_X2_27) dX2_wholeOf_114 ?_
    refine aw_iconst (v := (4 : Int32)) G0 dX2_wholeOf_117 (by decide) ?_
    refine aw_iload_n G0 1 rfl dX2_wholeOf_118 ?_
    refine aw_imul G0 dX2_wholeOf_119 ?_
    refine aw_iload G0 5 rfl dX2_wholeOf_120 ?_
    refine aw_iadd G0 dX2_wholeOf_122 ?_
    obtain ⟨q3, e3, h⟩ := h
    refine aw_dr1 e3 ?_
    obtain ⟨k4, h⟩ := h
    obtain ⟨k5, h⟩ := h
    refine aw_iald G0 (Or.inl k4) k5 dX2_wholeOf_123 ?_
    refine aw_iconst (v := (-1 : Int32)) G0 dX2_wholeOf_124 (by decide) ?_
    refine aw_icmp_eq G0 150 dX2_wholeOf_125 (by decide) (fun c6 => ?_) (fun c6 => ?_)
    · have h := h.1 c6
      exact (w150 x0 x1 x2 x4 x5 x6 C I J R h)
    · have h := h.2 c6
      refine aw_aload_n G0 0 rfl dX2_wholeOf_128 ?_
      refine aw_lload_n G0 2 rfl dX2_wholeOf_129 ?_
      refine aw_aload_n G0 0 rfl dX2_wholeOf_130 ?_
      refine aw_getR (f := 24) G0 (by rw [k2]; exact fb_X2_72) dX2_wholeOf_131 ?_
      refine aw_aload_n G0 0 rfl dX2_wholeOf_134 ?_
      refine aw_getR (f := 8) G0 (by rw [k2]; exact fb_X2_27) dX2_wholeOf_135 ?_
      refine aw_iconst (v := (4 : Int32)) G0 dX2_wholeOf_138 (by decide) ?_
      refine aw_iload_n G0 1 rfl dX2_wholeOf_139 ?_
      refine aw_imul G0 dX2_wholeOf_140 ?_
      refine aw_iload G0 5 rfl dX2_wholeOf_141 ?_
      refine aw_iadd G0 dX2_wholeOf_143 ?_
      refine aw_dr1 e3 ?_
      refine aw_iald G0 (Or.inl k4) k5 dX2_wholeOf_144 ?_
      obtain ⟨q7, e7, h⟩ := h
      refine aw_dr1 e7 ?_
      obtain ⟨k8, h⟩ := h
      obtain ⟨k9, h⟩ := h
      refine aw_lald G0 k8 k9 dX2_wholeOf_145 ?_
      refine aw_callV (k1 := 0) (n1 := 0) (k2 := 0) (n2 := 0) (st := []) G0 S_X2_product gi_X2_192 (Or.inl (by rw [k2]; decide)) (by rw [k2]; rfl) md_X2_product (Nat.le_of_ble_eq_true rfl) (by decide) (by rw [G.2.1]; decide) (by rw [G.2.1]; decide) [aJ x2, aJ (J q7 (I q3 (((4 : Int32) * x1) + x6).toNatClampNeg).toNatClampNeg)] rfl rfl dX2_wholeOf_146 h (fun o C10 I11 J12 R13 h => ?_)
      obtain ⟨r14, rfl, h⟩ := h
      show AW Γ 0 0 C10 I11 J12 R13 (146 + 3) [(0, aR (some x0)), (1, aI x1), (2, aJ x2), (4, aI x4), (5, aI x5), (6, aI x6)] [aJ r14]
      refine aw_lstore_n (lv' := [(2, aJ r14), (0, aR (some x0)), (1, aI x1), (4, aI x4), (5, aI x5), (6, aI x6)]) G0 (by decide) rfl dX2_wholeOf_149 ?_
      exact (aw_lv [1, 2, 0, 3, 4, 5] rfl (w150 x0 x1 r14 x4 x5 x6 C10 I11 J12 R13 h))
theorem bX2_wholeOf_150 (G : Gb Γ yX2_wholeOf cX2_wholeOf 7 (some .long) [] rmX2_wholeOf bdX2_wholeOf)
    {Q107 : Nat → Int32 → Int64 → Int32 → Int32 → Int32 → MC → MI → MJ → MR → Prop} (w107 : ∀ (x0 : Nat) (x1 : Int32) (x2 : Int64) (x4 : Int32) (x5 : Int32) (x6 : Int32) (C : MC) (I : MI) (J : MJ) (R : MR), Q107 x0 x1 x2 x4 x5 x6 C I J R → AW Γ 0 0 C I J R 107 [(0, aR (some x0)), (1, aI x1), (2, aJ x2), (4, aI x4), (5, aI x5), (6, aI x6)] []) {x0 : Nat} {x1 : Int32} {x2 : Int64} {x4 : Int32} {x5 : Int32} {x6 : Int32}
    (h : Q107 x0 x1 x2 x4 x5 (x6 + 1) C I J R) :
    AW Γ 0 0 C I J R 150 [(0, aR (some x0)), (1, aI x1), (2, aJ x2), (4, aI x4), (5, aI x5), (6, aI x6)] [] := by
  have G0 := G.1
  refine aw_iinc (v := x6 + 1) (lv' := [(6, aI (x6 + 1)), (0, aR (some x0)), (1, aI x1), (2, aJ x2), (4, aI x4), (5, aI x5)]) G0 5 rfl rfl (by decide) rfl dX2_wholeOf_150 ?_
  refine aw_goto G0 107 dX2_wholeOf_153 (by decide) ?_
  exact (aw_lv [1, 2, 3, 4, 5, 0] rfl (w107 x0 x1 x2 x4 x5 (x6 + 1) C I J R h))
theorem bX2_product_0 (G : Gb Γ yX2_product cX2_product 5 (some .long) [] rmX2_product bdX2_product)
    {Q15 : Nat → Int64 → Int64 → MC → MI → MJ → MR → Prop} (w15 : ∀ (x0 : Nat) (x1 : Int64) (x3 : Int64) (C : MC) (I : MI) (J : MJ) (R : MR), Q15 x0 x1 x3 C I J R → AW Γ 0 0 C I J R 15 [(0, aR (some x0)), (1, aJ x1), (3, aJ x3)] []) {x0 : Nat} {x1 : Int64} {x3 : Int64}
    (h : ¬ x3 = 0 ∧
      ((x1 ≤ ((4611686018427387903 : Int64) / x3) →
      Q15 x0 x1 x3 C I J R) ∧
      (¬ x1 ≤ ((4611686018427387903 : Int64) / x3) →
      (C x0).1 = 3 ∧
      ∀ I4 : MI, I4 = va_up I x0 (va_up (I x0) 30 (1 : Int32)) →
      Q15 x0 x1 x3 C I4 J R))) :
    AW Γ 0 0 C I J R 0 [(0, aR (some x0)), (1, aJ x1), (3, aJ x3)] [] := by
  have G0 := G.1
  refine aw_lload_n G0 1 rfl dX2_product_0 ?_
  refine aw_ldc2 (v := (4611686018427387903 : Int64)) G0 q1129 dX2_product_1 ?_
  refine aw_lload_n G0 2 rfl dX2_product_4 ?_
  obtain ⟨k1, h⟩ := h
  refine aw_ldiv G0 k1 dX2_product_5 ?_
  refine aw_lif_le G0 15 dX2_product_6 dX2_product_7 (by decide) (fun c2 => ?_) (fun c2 => ?_)
  · have h := h.1 c2
    exact (w15 x0 x1 x3 C I J R h)
  · have h := h.2 c2
    refine aw_aload_n G0 0 rfl dX2_product_10 ?_
    refine aw_iconst (v := (1 : Int32)) G0 dX2_product_11 (by decide) ?_
    obtain ⟨k3, h⟩ := h
    refine aw_putZ (f := 30) G0 (by decide) (by rw [k3]; exact fp_X2_165 _) dX2_product_12 ?_
    generalize gI4 : va_up I x0 (va_up (I x0) 30 (1 : Int32)) = I4
    have h := h I4 gI4.symm
    exact (w15 x0 x1 x3 C I4 J R h)
theorem bX2_product_15 (G : Gb Γ yX2_product cX2_product 5 (some .long) [] rmX2_product bdX2_product) {x0 : Nat} {x1 : Int64} {x3 : Int64}
    (h : (C x0).1 = 3 ∧
      (((I x0 30) = 0 →
      gK Γ (.inl (some (aJ (x1 * x3)))) C I J R) ∧
      (¬ (I x0 30) = 0 →
      gK Γ (.inl (some (aJ (1 : Int64)))) C I J R))) :
    AW Γ 0 0 C I J R 15 [(0, aR (some x0)), (1, aJ x1), (3, aJ x3)] [] := by
  have G0 := G.1
  refine aw_aload_n G0 0 rfl dX2_product_15 ?_
  obtain ⟨k1, h⟩ := h
  refine aw_getZ (f := 30) G0 (by rw [k1]; exact fb_X2_165) dX2_product_16 ?_
  refine aw_if_eq G0 26 dX2_product_19 (by decide) (fun c2 => ?_) (fun c2 => ?_)
  · have h := h.1 c2
    refine aw_lload_n G0 1 rfl dX2_product_26 ?_
    refine aw_lload_n G0 2 rfl dX2_product_27 ?_
    refine aw_lmul G0 dX2_product_28 ?_
    exact aw_lreturn G0 (by rw [G.2.2]; decide) (by rw [G.2.1]; decide) dX2_product_29 h
  · have h := h.2 c2
    refine aw_lconst (v := (1 : Int64)) G0 dX2_product_22 (by decide) ?_
    refine aw_goto G0 29 dX2_product_23 (by decide) ?_
    exact aw_lreturn G0 (by rw [G.2.2]; decide) (by rw [G.2.1]; decide) dX2_product_29 h
theorem bX2_make_0 (G : Gb Γ yX2_make cX2_make 8 (none) [] rmX2_make bdX2_make) {F_X2_makeRow : SPF} (S_X2_makeRow : SpX2_makeRow (gL Γ) F_X2_makeRow) {F_X2_makeFan : SPF} (S_X2_makeFan : SpX2_makeFan (gL Γ) F_X2_makeFan) {F_X2_makeRetry : SPF} (S_X2_makeRetry : SpX2_makeRetry (gL Γ) F_X2_makeRetry) {F_X2_makeHedge : SPF} (S_X2_makeHedge : SpX2_makeHedge (gL Γ) F_X2_makeHedge)
    {Q50 : Nat → Int32 → Int32 → MC → MI → MJ → MR → Prop} (w50 : ∀ (x0 : Nat) (x1 : Int32) (x3 : Int32) (C : MC) (I : MI) (J : MJ) (R : MR), Q50 x0 x1 x3 C I J R → AW Γ 0 0 C I J R 50 [(0, aR (some x0)), (1, aI x1), (3, aI x3)] [])
    {Q117 : Nat → Int32 → Int32 → Int32 → MC → MI → MJ → MR → Prop} (w117 : ∀ (x0 : Nat) (x1 : Int32) (x2 : Int32) (x3 : Int32) (C : MC) (I : MI) (J : MJ) (R : MR), Q117 x0 x1 x2 x3 C I J R → AW Γ 0 0 C I J R 117 [(0, aR (some x0)), (1, aI x1), (2, aI x2), (3, aI x3)] []) {x0 : Nat} {x1 : Int32}
    (h : (C x0).1 = 3 ∧
      ∃ q2 : Nat, R x0 8 = some q2 ∧
      (C q2).1 = 20 ∧
      vp_in ((4 : Int32) * x1) (C q2).2 ∧
      ∃ q5 : Nat, R x0 7 = some q5 ∧
      (C q5).1 = 20 ∧
      vp_in x1 (C q5).2 ∧
      (((I q5 x1.toNatClampNeg).toInt = 0 →
      Q50 x0 x1 (0 : Int32) C I J R) ∧
      ((I q5 x1.toNatClampNeg).toInt = 1 →
      F_X2_makeRow [aR (some x0), aI x1, aI (4 : Int32)] C I J R (fun o C9 I10 J11 R12 =>
      o = .inl none ∧
      gK Γ (.inl none) C9 I10 J11 R12)) ∧
      ((I q5 x1.toNatClampNeg).toInt = 2 →
      F_X2_makeFan [aR (some x0), aI x1] C I J R (fun o C14 I15 J16 R17 =>
      o = .inl none ∧
      gK Γ (.inl none) C14 I15 J16 R17)) ∧
      ((I q5 x1.toNatClampNeg).toInt = 3 →
      F_X2_makeRow [aR (some x0), aI x1, aI (2 : Int32)] C I J R (fun o C19 I20 J21 R22 =>
      o = .inl none ∧
      Q117 x0 x1 (I q2 ((4 : Int32) * x1).toNatClampNeg) (0 : Int32) C19 I20 J21 R22)) ∧
      ((I q5 x1.toNatClampNeg).toInt = 4 →
      F_X2_makeRetry [aR (some x0), aI x1] C I J R (fun o C24 I25 J26 R27 =>
      o = .inl none ∧
      gK Γ (.inl none) C24 I25 J26 R27)) ∧
      (((I q5 x1.toNatClampNeg).toInt < 0 ∨ 4 < (I q5 x1.toNatClampNeg).toInt) →
      F_X2_makeHedge [aR (some x0), aI x1] C I J R (fun o C29 I30 J31 R32 =>
      o = .inl none ∧
      gK Γ (.inl none) C29 I30 J31 R32)))) :
    AW Γ 0 0 C I J R 0 [(0, aR (some x0)), (1, aI x1)] [] := by
  have G0 := G.1
  refine aw_aload_n G0 0 rfl dX2_make_0 ?_
  obtain ⟨k1, h⟩ := h
  refine aw_getR (f := 8) G0 (by rw [k1]; exact fb_X2_27) dX2_make_1 ?_
  refine aw_iconst (v := (4 : Int32)) G0 dX2_make_4 (by decide) ?_
  refine aw_iload_n G0 1 rfl dX2_make_5 ?_
  refine aw_imul G0 dX2_make_6 ?_
  obtain ⟨q2, e2, h⟩ := h
  refine aw_dr1 e2 ?_
  obtain ⟨k3, h⟩ := h
  obtain ⟨k4, h⟩ := h
  refine aw_iald G0 (Or.inl k3) k4 dX2_make_7 ?_
  refine aw_istore_n (lv' := [(2, aI (I q2 ((4 : Int32) * x1).toNatClampNeg)), (0, aR (some x0)), (1, aI x1)]) G0 (by decide) rfl dX2_make_8 ?_
  refine aw_aload_n G0 1 rfl dX2_make_9 ?_
  refine aw_getR (f := 7) G0 (by rw [k1]; exact fb_X2_24) dX2_make_10 ?_
  refine aw_iload_n G0 2 rfl dX2_make_13 ?_
  obtain ⟨q5, e5, h⟩ := h
  refine aw_dr1 e5 ?_
  obtain ⟨k6, h⟩ := h
  obtain ⟨k7, h⟩ := h
  refine aw_iald G0 (Or.inl k6) k7 dX2_make_14 ?_
  have h8 := h
  refine aw_tsw G0 dX2_make_15 (by decide) (fun j off tgt ho ht hx => ?_) (fun j off ho => ?_) (fun tgt ht hx => ?_) (by decide)
  · match j, ho with
    | 0, ho =>
      have ho2 : off = (33 : Int) := by simpa using ho.symm
      subst ho2
      have et : tgt = 48 := by omega
      subst et
      have h := h8.1 (by simpa using hx)
      refine aw_iconst (v := (0 : Int32)) G0 dX2_make_48 (by decide) ?_
      refine aw_istore_n (lv' := [(3, aI (0 : Int32)), (2, aI (I q2 ((4 : Int32) * x1).toNatClampNeg)), (0, aR (some x0)), (1, aI x1)]) G0 (by decide) rfl dX2_make_49 ?_
      exact (aw_lv [2, 3, 0] rfl (w50 x0 x1 (0 : Int32) C I J R h))
    | 1, ho =>
      have ho2 : off = (77 : Int) := by simpa using ho.symm
      subst ho2
      have et : tgt = 92 := by omega
      subst et
      have h := h8.2.1 (by simpa using hx)
      refine aw_aload_n G0 1 rfl dX2_make_92 ?_
      refine aw_iload_n G0 2 rfl dX2_make_93 ?_
      refine aw_iconst (v := (4 : Int32)) G0 dX2_make_94 (by decide) ?_
      refine aw_callV (k1 := 0) (n1 := 0) (k2 := 0) (n2 := 0) (st := []) G0 S_X2_makeRow gi_X2_195 (Or.inl (by rw [k1]; decide)) (by rw [k1]; rfl) md_X2_makeRow (Nat.le_of_ble_eq_true rfl) (by decide) (by rw [G.2.1]; decide) (by rw [G.2.1]; decide) [aI x1, aI (4 : Int32)] rfl rfl dX2_make_95 h (fun o C9 I10 J11 R12 h => ?_)
      obtain ⟨rfl, h⟩ := h
      show AW Γ 0 0 C9 I10 J11 R12 (95 + 3) [(2, aI (I q2 ((4 : Int32) * x1).toNatClampNeg)), (0, aR (some x0)), (1, aI x1)] []
      refine aw_goto G0 300 dX2_make_98 (by decide) ?_
      exact aw_return G0 (by rw [G.2.2]; decide) (by rw [G.2.1]; decide) dX2_make_300 h
    | 2, ho =>
      have ho2 : off = (86 : Int) := by simpa using ho.symm
      subst ho2
      have et : tgt = 101 := by omega
      subst et
      have h := h8.2.2.1 (by simpa using hx)
      refine aw_aload_n G0 1 rfl dX2_make_101 ?_
      refine aw_iload_n G0 2 rfl dX2_make_102 ?_
      refine aw_callV (k1 := 0) (n1 := 0) (k2 := 0) (n2 := 0) (st := []) G0 S_X2_makeFan gi_X2_199 (Or.inl (by rw [k1]; decide)) (by rw [k1]; rfl) md_X2_makeFan (Nat.le_of_ble_eq_true rfl) (by decide) (by rw [G.2.1]; decide) (by rw [G.2.1]; decide) [aI x1] rfl rfl dX2_make_103 h (fun o C14 I15 J16 R17 h => ?_)
      obtain ⟨rfl, h⟩ := h
      show AW Γ 0 0 C14 I15 J16 R17 (103 + 3) [(2, aI (I q2 ((4 : Int32) * x1).toNatClampNeg)), (0, aR (some x0)), (1, aI x1)] []
      refine aw_goto G0 300 dX2_make_106 (by decide) ?_
      exact aw_return G0 (by rw [G.2.2]; decide) (by rw [G.2.1]; decide) dX2_make_300 h
    | 3, ho =>
      have ho2 : off = (94 : Int) := by simpa using ho.symm
      subst ho2
      have et : tgt = 109 := by omega
      subst et
      have h := h8.2.2.2.1 (by simpa using hx)
      refine aw_aload_n G0 1 rfl dX2_make_109 ?_
      refine aw_iload_n G0 2 rfl dX2_make_110 ?_
      refine aw_iconst (v := (2 : Int32)) G0 dX2_make_111 (by decide) ?_
      refine aw_callV (k1 := 0) (n1 := 0) (k2 := 0) (n2 := 0) (st := []) G0 S_X2_makeRow gi_X2_195 (Or.inl (by rw [k1]; decide)) (by rw [k1]; rfl) md_X2_makeRow (Nat.le_of_ble_eq_true rfl) (by decide) (by rw [G.2.1]; decide) (by rw [G.2.1]; decide) [aI x1, aI (2 : Int32)] rfl rfl dX2_make_112 h (fun o C19 I20 J21 R22 h => ?_)
      obtain ⟨rfl, h⟩ := h
      show AW Γ 0 0 C19 I20 J21 R22 (112 + 3) [(2, aI (I q2 ((4 : Int32) * x1).toNatClampNeg)), (0, aR (some x0)), (1, aI x1)] []
      refine aw_iconst (v := (0 : Int32)) G0 dX2_make_115 (by decide) ?_
      refine aw_istore_n (lv' := [(3, aI (0 : Int32)), (2, aI (I q2 ((4 : Int32) * x1).toNatClampNeg)), (0, aR (some x0)), (1, aI x1)]) G0 (by decide) rfl dX2_make_116 ?_
      exact (aw_lv [2, 3, 1, 0] rfl (w117 x0 x1 (I q2 ((4 : Int32) * x1).toNatClampNeg) (0 : Int32) C19 I20 J21 R22 h))
    | 4, ho =>
      have ho2 : off = (272 : Int) := by simpa using ho.symm
      subst ho2
      have et : tgt = 287 := by omega
      subst et
      have h := h8.2.2.2.2.1 (by simpa using hx)
      refine aw_aload_n G0 1 rfl dX2_make_287 ?_
      refine aw_iload_n G0 2 rfl dX2_make_288 ?_
      refine aw_callV (k1 := 0) (n1 := 0) (k2 := 0) (n2 := 0) (st := []) G0 S_X2_makeRetry gi_X2_202 (Or.inl (by rw [k1]; decide)) (by rw [k1]; rfl) md_X2_makeRetry (Nat.le_of_ble_eq_true rfl) (by decide) (by rw [G.2.1]; decide) (by rw [G.2.1]; decide) [aI x1] rfl rfl dX2_make_289 h (fun o C24 I25 J26 R27 h => ?_)
      obtain ⟨rfl, h⟩ := h
      show AW Γ 0 0 C24 I25 J26 R27 (289 + 3) [(2, aI (I q2 ((4 : Int32) * x1).toNatClampNeg)), (0, aR (some x0)), (1, aI x1)] []
      refine aw_goto G0 300 dX2_make_292 (by decide) ?_
      exact aw_return G0 (by rw [G.2.2]; decide) (by rw [G.2.1]; decide) dX2_make_300 h
    | j + 5, ho => simp at ho
  · match j, ho with
    | 0, ho => cases ho; decide
    | 1, ho => cases ho; decide
    | 2, ho => cases ho; decide
    | 3, ho => cases ho; decide
    | 4, ho => cases ho; decide
    | j + 5, ho => simp at ho
  · have et : tgt = 295 := by omega
    subst et
    have h := h8.2.2.2.2.2 hx
    refine aw_aload_n G0 1 rfl dX2_make_295 ?_
    refine aw_iload_n G0 2 rfl dX2_make_296 ?_
    refine aw_callV (k1 := 0) (n1 := 0) (k2 := 0) (n2 := 0) (st := []) G0 S_X2_makeHedge gi_X2_205 (Or.inl (by rw [k1]; decide)) (by rw [k1]; rfl) md_X2_makeHedge (Nat.le_of_ble_eq_true rfl) (by decide) (by rw [G.2.1]; decide) (by rw [G.2.1]; decide) [aI x1] rfl rfl dX2_make_297 h (fun o C29 I30 J31 R32 h => ?_)
    obtain ⟨rfl, h⟩ := h
    show AW Γ 0 0 C29 I30 J31 R32 (297 + 3) [(2, aI (I q2 ((4 : Int32) * x1).toNatClampNeg)), (0, aR (some x0)), (1, aI x1)] []
    exact aw_return G0 (by rw [G.2.2]; decide) (by rw [G.2.1]; decide) dX2_make_300 h
theorem bX2_make_50 (G : Gb Γ yX2_make cX2_make 8 (none) [] rmX2_make bdX2_make)
    {Q50 : Nat → Int32 → Int32 → MC → MI → MJ → MR → Prop} (w50 : ∀ (x0 : Nat) (x1 : Int32) (x3 : Int32) (C : MC) (I : MI) (J : MJ) (R : MR), Q50 x0 x1 x3 C I J R → AW Γ 0 0 C I J R 50 [(0, aR (some x0)), (1, aI x1), (3, aI x3)] []) {x0 : Nat} {x1 : Int32} {x3 : Int32}
    (h : (((60 : Int32) ≤ x3 →
      gK Γ (.inl none) C I J R) ∧
      (¬ (60 : Int32) ≤ x3 →
      (C x0).1 = 3 ∧
      ∃ q3 : Nat, R x0 15 = some q3 ∧
      (C q3).1 = 20 ∧
      vp_in x1 (C q3).2 ∧
      ∃ q6 : Nat, R x0 14 = some q6 ∧
      (C q6).1 = 20 ∧
      vp_in (((60 : Int32) * (((3 : Int32) * x1) + (I q3 x1.toNatClampNeg))) + x3) (C q6).2 ∧
      ∃ q9 : Nat, R x0 26 = some q9 ∧
      (C q9).1 = 21 ∧
      vp_in x3 (C q9).2 ∧
      ∀ J12 : MJ, J12 = va_up J q9 (va_up (J q9) x3.toNatClampNeg ((I q6 (((60 : Int32) * (((3 : Int32) * x1) + (I q3 x1.toNatClampNeg))) + x3).toNatClampNeg).toInt64)) →
      Q50 x0 x1 (x3 + 1) C I J12 R))) :
    AW Γ 0 0 C I J R 50 [(0, aR (some x0)), (1, aI x1), (3, aI x3)] [] := by
  have G0 := G.1
  refine aw_iload_n G0 2 rfl dX2_make_50 ?_
  refine aw_bipush (v := (60 : Int32)) G0 dX2_make_51 (by decide) ?_
  refine aw_icmp_ge G0 89 dX2_make_53 (by decide) (fun c1 => ?_) (fun c1 => ?_)
  · have h := h.1 c1
    refine aw_goto G0 300 dX2_make_89 (by decide) ?_
    exact aw_return G0 (by rw [G.2.2]; decide) (by rw [G.2.1]; decide) dX2_make_300 h
  · have h := h.2 c1
    refine aw_aload_n G0 0 rfl dX2_make_56 ?_
    obtain ⟨k2, h⟩ := h
    refine aw_getR (f := 26) G0 (by rw [k2]; exact fb_X2_79) dX2_make_57 ?_
    refine aw_iload_n G0 2 rfl dX2_make_60 ?_
    refine aw_aload_n G0 0 rfl dX2_make_61 ?_
    refine aw_getR (f := 14) G0 (by rw [k2]; exact fb_X2_45) dX2_make_62 ?_
    refine aw_bipush (v := (60 : Int32)) G0 dX2_make_65 (by decide) ?_
    refine aw_iconst (v := (3 : Int32)) G0 dX2_make_67 (by decide) ?_
    refine aw_iload_n G0 1 rfl dX2_make_68 ?_
    refine aw_imul G0 dX2_make_69 ?_
    refine aw_aload_n G0 0 rfl dX2_make_70 ?_
    refine aw_getR (f := 15) G0 (by rw [k2]; exact fb_X2_48) dX2_make_71 ?_
    refine aw_iload_n G0 1 rfl dX2_make_74 ?_
    obtain ⟨q3, e3, h⟩ := h
    refine aw_dr1 e3 ?_
    obtain ⟨k4, h⟩ := h
    obtain ⟨k5, h⟩ := h
    refine aw_iald G0 (Or.inl k4) k5 dX2_make_75 ?_
    refine aw_iadd G0 dX2_make_76 ?_
    refine aw_imul G0 dX2_make_77 ?_
    refine aw_iload_n G0 2 rfl dX2_make_78 ?_
    refine aw_iadd G0 dX2_make_79 ?_
    obtain ⟨q6, e6, h⟩ := h
    refine aw_dr1 e6 ?_
    obtain ⟨k7, h⟩ := h
    obtain ⟨k8, h⟩ := h
    refine aw_iald G0 (Or.inl k7) k8 dX2_make_80 ?_
    refine aw_i2l G0 dX2_make_81 ?_
    obtain ⟨q9, e9, h⟩ := h
    refine aw_dr2 e9 ?_
    obtain ⟨k10, h⟩ := h
    obtain ⟨k11, h⟩ := h
    refine aw_last G0 k10 k11 dX2_make_82 ?_
    generalize gJ12 : va_up J q9 (va_up (J q9) x3.toNatClampNeg ((I q6 (((60 : Int32) * (((3 : Int32) * x1) + (I q3 x1.toNatClampNeg))) + x3).toNatClampNeg).toInt64)) = J12
    have h := h J12 gJ12.symm
    refine aw_iinc (v := x3 + 1) (lv' := [(3, aI (x3 + 1)), (0, aR (some x0)), (1, aI x1)]) G0 2 rfl rfl (by decide) rfl dX2_make_83 ?_
    refine aw_goto G0 50 dX2_make_86 (by decide) ?_
    exact (aw_lv [1, 2, 0] rfl (w50 x0 x1 (x3 + 1) C I J12 R h))
theorem bX2_make_117 (G : Gb Γ yX2_make cX2_make 8 (none) [] rmX2_make bdX2_make) {F_X2_at : SPF} (S_X2_at : SpX2_at (gL Γ) F_X2_at)
    {Q162 : Nat → Int32 → Int32 → Int32 → Int64 → MC → MI → MJ → MR → Prop} (w162 : ∀ (x0 : Nat) (x1 : Int32) (x2 : Int32) (x3 : Int32) (s0 : Int64) (C : MC) (I : MI) (J : MJ) (R : MR), Q162 x0 x1 x2 x3 s0 C I J R → AW Γ 0 0 C I J R 162 [(0, aR (some x0)), (1, aI x1), (2, aI x2), (3, aI x3)] [aJ s0]) {x0 : Nat} {x1 : Int32} {x2 : Int32} {x3 : Int32}
    (h : (C x0).1 = 3 ∧
      ∃ q2 : Nat, R x0 26 = some q2 ∧
      (20 ≤ (C q2).1 ∧ (C q2).1 ≤ 30) ∧
      (((nI (C q2).2) ≤ x3 →
      gK Γ (.inl none) C I J R) ∧
      (¬ (nI (C q2).2) ≤ x3 →
      (((121 : Int32) ≤ x3 →
      Q162 x0 x1 x2 x3 (0 : Int64) C I J R) ∧
      (¬ (121 : Int32) ≤ x3 →
      F_X2_at [aI x2, aI x3] C I J R (fun o C6 I7 J8 R9 =>
      ∃ r10 : Int32, o = .inl (some (aI r10)) ∧
      ∃ q11 : Nat, R x0 22 = some q11 ∧
      (C6 q11).1 = 21 ∧
      vp_in r10 (C6 q11).2 ∧
      (C6 x0).1 = 3 ∧
      ∃ q15 : Nat, R9 x0 8 = some q15 ∧
      (C6 q15).1 = 20 ∧
      vp_in (((4 : Int32) * x1) + (1 : Int32)) (C6 q15).2 ∧
      ∃ q18 : Nat, R9 x0 24 = some q18 ∧
      (C6 q18).1 = 21 ∧
      vp_in (I7 q15 (((4 : Int32) * x1) + (1 : Int32)).toNatClampNeg) (C6 q18).2 ∧
      Q162 x0 x1 x2 x3 ((J8 q11 r10.toNatClampNeg) * (J8 q18 (I7 q15 (((4 : Int32) * x1) + (1 : Int32)).toNatClampNeg).toNatClampNeg)) C6 I7 J8 R9)))))) :
    AW Γ 0 0 C I J R 117 [(0, aR (some x0)), (1, aI x1), (2, aI x2), (3, aI x3)] [] := by
  have G0 := G.1
  refine aw_iload_n G0 3 rfl dX2_make_117 ?_
  refine aw_aload_n G0 0 rfl dX2_make_118 ?_
  obtain ⟨k1, h⟩ := h
  refine aw_getR (f := 26) G0 (by rw [k1]; exact fb_X2_79) dX2_make_119 ?_
  obtain ⟨q2, e2, h⟩ := h
  refine aw_dr0 e2 ?_
  obtain ⟨k3, h⟩ := h
  refine aw_alen (v := nI (C q2).2) G0 k3 rfl dX2_make_122 ?_
  refine aw_icmp_ge G0 284 dX2_make_123 (by decide) (fun c4 => ?_) (fun c4 => ?_)
  · have h := h.1 c4
    refine aw_goto G0 300 dX2_make_284 (by decide) ?_
    exact aw_return G0 (by rw [G.2.2]; decide) (by rw [G.2.1]; decide) dX2_make_300 h
  · have h := h.2 c4
    refine aw_iload_n G0 3 rfl dX2_make_126 ?_
    refine aw_bipush (v := (121 : Int32)) G0 dX2_make_127 (by decide) ?_
    refine aw_icmp_ge G0 161 dX2_make_129 (by decide) (fun c5 => ?_) (fun c5 => ?_)
    · have h := h.1 c5
      refine aw_lconst (v := (0 : Int64)) G0 dX2_make_161 (by decide) ?_
      exact (w162 x0 x1 x2 x3 (0 : Int64) C I J R h)
    · have h := h.2 c5
      refine aw_aload_n G0 0 rfl dX2_make_132 ?_
      refine aw_getR (f := 22) G0 (by rw [k1]; exact fb_X2_66) dX2_make_133 ?_
      refine aw_iload_n G0 2 rfl dX2_make_136 ?_
      refine aw_iload_n G0 3 rfl dX2_make_137 ?_
      refine aw_callS (k1 := 0) (n1 := 0) (k2 := 0) (n2 := 0) (st := [aR (R x0 22)]) G0 S_X2_at gi_X2_173 md_X2_at (Nat.le_of_ble_eq_true rfl) (by decide) (by rw [G.2.1]; decide) (by rw [G.2.1]; decide) [aI x2, aI x3] rfl rfl dX2_make_138 h (fun o C6 I7 J8 R9 h => ?_)
      obtain ⟨r10, rfl, h⟩ := h
      show AW Γ 0 0 C6 I7 J8 R9 (138 + 3) [(0, aR (some x0)), (1, aI x1), (2, aI x2), (3, aI x3)] [aI r10, aR (R x0 22)]
      obtain ⟨q11, e11, h⟩ := h
      refine aw_dr1 e11 ?_
      obtain ⟨k12, h⟩ := h
      obtain ⟨k13, h⟩ := h
      refine aw_lald G0 k12 k13 dX2_make_141 ?_
      refine aw_aload_n G0 0 rfl dX2_make_142 ?_
      obtain ⟨k14, h⟩ := h
      refine aw_getR (f := 24) G0 (by rw [k14]; exact fb_X2_72) dX2_make_143 ?_
      refine aw_aload_n G0 0 rfl dX2_make_146 ?_
      refine aw_getR (f := 8) G0 (by rw [k14]; exact fb_X2_27) dX2_make_147 ?_
      refine aw_iconst (v := (4 : Int32)) G0 dX2_make_150 (by decide) ?_
      refine aw_iload_n G0 1 rfl dX2_make_151 ?_
      refine aw_imul G0 dX2_make_152 ?_
      refine aw_iconst (v := (1 : Int32)) G0 dX2_make_153 (by decide) ?_
      refine aw_iadd G0 dX2_make_154 ?_
      obtain ⟨q15, e15, h⟩ := h
      refine aw_dr1 e15 ?_
      obtain ⟨k16, h⟩ := h
      obtain ⟨k17, h⟩ := h
      refine aw_iald G0 (Or.inl k16) k17 dX2_make_155 ?_
      obtain ⟨q18, e18, h⟩ := h
      refine aw_dr1 e18 ?_
      obtain ⟨k19, h⟩ := h
      obtain ⟨k20, h⟩ := h
      refine aw_lald G0 k19 k20 dX2_make_156 ?_
      refine aw_lmul G0 dX2_make_157 ?_
      refine aw_goto G0 162 dX2_make_158 (by decide) ?_
      exact (w162 x0 x1 x2 x3 ((J8 q11 r10.toNatClampNeg) * (J8 q18 (I7 q15 (((4 : Int32) * x1) + (1 : Int32)).toNatClampNeg).toNatClampNeg)) C6 I7 J8 R9 h)
theorem bX2_make_162 (G : Gb Γ yX2_make cX2_make 8 (none) [] rmX2_make bdX2_make) {F_X2_at : SPF} (S_X2_at : SpX2_at (gL Γ) F_X2_at)
    {Q200 : Nat → Int32 → Int32 → Int32 → Int64 → Int64 → MC → MI → MJ → MR → Prop} (w200 : ∀ (x0 : Nat) (x1 : Int32) (x2 : Int32) (x3 : Int32) (x4 : Int64) (s0 : Int64) (C : MC) (I : MI) (J : MJ) (R : MR), Q200 x0 x1 x2 x3 x4 s0 C I J R → AW Γ 0 0 C I J R 200 [(0, aR (some x0)), (1, aI x1), (2, aI x2), (3, aI x3), (4, aJ x4)] [aJ s0]) {x0 : Nat} {x1 : Int32} {x2 : Int32} {x3 : Int32} {s0 : Int64}
    (h : (((121 : Int32) ≤ x3 →
      Q200 x0 x1 x2 x3 s0 (0 : Int64) C I J R) ∧
      (¬ (121 : Int32) ≤ x3 →
      (C x0).1 = 3 ∧
      F_X2_at [aI x2, aI x3] C I J R (fun o C3 I4 J5 R6 =>
      ∃ r7 : Int32, o = .inl (some (aI r7)) ∧
      ∃ q8 : Nat, R x0 23 = some q8 ∧
      (C3 q8).1 = 21 ∧
      vp_in r7 (C3 q8).2 ∧
      (C3 x0).1 = 3 ∧
      ∃ q12 : Nat, R6 x0 8 = some q12 ∧
      (C3 q12).1 = 20 ∧
      vp_in (((4 : Int32) * x1) + (1 : Int32)) (C3 q12).2 ∧
      ∃ q15 : Nat, R6 x0 24 = some q15 ∧
      (C3 q15).1 = 21 ∧
      vp_in (I4 q12 (((4 : Int32) * x1) + (1 : Int32)).toNatClampNeg) (C3 q15).2 ∧
      Q200 x0 x1 x2 x3 s0 ((J5 q8 r7.toNatClampNeg) * (J5 q15 (I4 q12 (((4 : Int32) * x1) + (1 : Int32)).toNatClampNeg).toNatClampNeg)) C3 I4 J5 R6)))) :
    AW Γ 0 0 C I J R 162 [(0, aR (some x0)), (1, aI x1), (2, aI x2), (3, aI x3)] [aJ s0] := by
  have G0 := G.1
  refine aw_lstore (lv' := [(4, aJ s0), (0, aR (some x0)), (1, aI x1), (2, aI x2), (3, aI x3)]) G0 (by decide) rfl dX2_make_162 ?_
  refine aw_iload_n G0 4 rfl dX2_make_164 ?_
  refine aw_bipush (v := (121 : Int32)) G0 dX2_make_165 (by decide) ?_
  refine aw_icmp_ge G0 199 dX2_make_167 (by decide) (fun c1 => ?_) (fun c1 => ?_)
  · have h := h.1 c1
    refine aw_lconst (v := (0 : Int64)) G0 dX2_make_199 (by decide) ?_
    exact (aw_lv [1, 2, 3, 4, 0] rfl (w200 x0 x1 x2 x3 s0 (0 : Int64) C I J R h))
  · have h := h.2 c1
    refine aw_aload_n G0 1 rfl dX2_make_170 ?_
    obtain ⟨k2, h⟩ := h
    refine aw_getR (f := 23) G0 (by rw [k2]; exact fb_X2_69) dX2_make_171 ?_
    refine aw_iload_n G0 3 rfl dX2_make_174 ?_
    refine aw_iload_n G0 4 rfl dX2_make_175 ?_
    refine aw_callS (k1 := 0) (n1 := 0) (k2 := 0) (n2 := 0) (st := [aR (R x0 23)]) G0 S_X2_at gi_X2_173 md_X2_at (Nat.le_of_ble_eq_true rfl) (by decide) (by rw [G.2.1]; decide) (by rw [G.2.1]; decide) [aI x2, aI x3] rfl rfl dX2_make_176 h (fun o C3 I4 J5 R6 h => ?_)
    obtain ⟨r7, rfl, h⟩ := h
    show AW Γ 0 0 C3 I4 J5 R6 (176 + 3) [(4, aJ s0), (0, aR (some x0)), (1, aI x1), (2, aI x2), (3, aI x3)] [aI r7, aR (R x0 23)]
    obtain ⟨q8, e8, h⟩ := h
    refine aw_dr1 e8 ?_
    obtain ⟨k9, h⟩ := h
    obtain ⟨k10, h⟩ := h
    refine aw_lald G0 k9 k10 dX2_make_179 ?_
    refine aw_aload_n G0 1 rfl dX2_make_180 ?_
    obtain ⟨k11, h⟩ := h
    refine aw_getR (f := 24) G0 (by rw [k11]; exact fb_X2_72) dX2_make_181 ?_
    refine aw_aload_n G0 1 rfl dX2_make_184 ?_
    refine aw_getR (f := 8) G0 (by rw [k11]; exact fb_X2_27) dX2_make_185 ?_
    refine aw_iconst (v := (4 : Int32)) G0 dX2_make_188 (by decide) ?_
    refine aw_iload_n G0 2 rfl dX2_make_189 ?_
    refine aw_imul G0 dX2_make_190 ?_
    refine aw_iconst (v := (1 : Int32)) G0 dX2_make_191 (by decide) ?_
    refine aw_iadd G0 dX2_make_192 ?_
    obtain ⟨q12, e12, h⟩ := h
    refine aw_dr1 e12 ?_
    obtain ⟨k13, h⟩ := h
    obtain ⟨k14, h⟩ := h
    refine aw_iald G0 (Or.inl k13) k14 dX2_make_193 ?_
    obtain ⟨q15, e15, h⟩ := h
    refine aw_dr1 e15 ?_
    obtain ⟨k16, h⟩ := h
    obtain ⟨k17, h⟩ := h
    refine aw_lald G0 k16 k17 dX2_make_194 ?_
    refine aw_lmul G0 dX2_make_195 ?_
    refine aw_goto G0 200 dX2_make_196 (by decide) ?_
    exact (aw_lv [1, 2, 3, 4, 0] rfl (w200 x0 x1 x2 x3 s0 ((J5 q8 r7.toNatClampNeg) * (J5 q15 (I4 q12 (((4 : Int32) * x1) + (1 : Int32)).toNatClampNeg).toNatClampNeg)) C3 I4 J5 R6 h))
theorem bX2_make_200 (G : Gb Γ yX2_make cX2_make 8 (none) [] rmX2_make bdX2_make)
    {Q117 : Nat → Int32 → Int32 → Int32 → MC → MI → MJ → MR → Prop} (w117 : ∀ (x0 : Nat) (x1 : Int32) (x2 : Int32) (x3 : Int32) (C : MC) (I : MI) (J : MJ) (R : MR), Q117 x0 x1 x2 x3 C I J R → AW Γ 0 0 C I J R 117 [(0, aR (some x0)), (1, aI x1), (2, aI x2), (3, aI x3)] []) {x0 : Nat} {x1 : Int32} {x2 : Int32} {x3 : Int32} {x4 : Int64} {s0 : Int64}
    (h : (C x0).1 = 3 ∧
      ∃ q2 : Nat, R x0 9 = some q2 ∧
      (C q2).1 = 20 ∧
      vp_in x1 (C q2).2 ∧
      ∃ q5 : Nat, R x0 10 = some q5 ∧
      (C q5).1 = 20 ∧
      vp_in x1 (C q5).2 ∧
      ∃ q8 : Nat, R x0 26 = some q8 ∧
      (C q8).1 = 21 ∧
      vp_in x3 (C q8).2 ∧
      ∀ J11 : MJ, J11 = va_up J q8 (va_up (J q8) x3.toNatClampNeg ((((I q2 x1.toNatClampNeg).toInt64) * x4) + ((((I q5 x1.toNatClampNeg) - (I q2 x1.toNatClampNeg)).toInt64) * (J q8 x3.toNatClampNeg)))) →
      ∃ q12 : Nat, R x0 27 = some q12 ∧
      (C q12).1 = 21 ∧
      vp_in x3 (C q12).2 ∧
      ∀ J15 : MJ, J15 = va_up J11 q12 (va_up (J11 q12) x3.toNatClampNeg ((((I q2 x1.toNatClampNeg).toInt64) * s0) + ((((I q5 x1.toNatClampNeg) - (I q2 x1.toNatClampNeg)).toInt64) * (J11 q12 x3.toNatClampNeg)))) →
      Q117 x0 x1 x2 (x3 + 1) C I J15 R) :
    AW Γ 0 0 C I J R 200 [(0, aR (some x0)), (1, aI x1), (2, aI x2), (3, aI x3), (4, aJ x4)] [aJ s0] := by
  have G0 := G.1
  refine aw_lstore (lv' := [(6, aJ s0), (0, aR (some x0)), (1, aI x1), (2, aI x2), (3, aI x3), (4, aJ x4)]) G0 (by decide) rfl dX2_make_200 ?_
  refine aw_aload_n G0 1 rfl dX2_make_202 ?_
  obtain ⟨k1, h⟩ := h
  refine aw_getR (f := 26) G0 (by rw [k1]; exact fb_X2_79) dX2_make_203 ?_
  refine aw_iload_n G0 4 rfl dX2_make_206 ?_
  refine aw_aload_n G0 1 rfl dX2_make_207 ?_
  refine aw_getR (f := 9) G0 (by rw [k1]; exact fb_X2_30) dX2_make_208 ?_
  refine aw_iload_n G0 2 rfl dX2_make_211 ?_
  obtain ⟨q2, e2, h⟩ := h
  refine aw_dr1 e2 ?_
  obtain ⟨k3, h⟩ := h
  obtain ⟨k4, h⟩ := h
  refine aw_iald G0 (Or.inl k3) k4 dX2_make_212 ?_
  refine aw_i2l G0 dX2_make_213 ?_
  refine aw_lload G0 5 rfl dX2_make_214 ?_
  refine aw_lmul G0 dX2_make_216 ?_
  refine aw_aload_n G0 1 rfl dX2_make_217 ?_
  refine aw_getR (f := 10) G0 (by rw [k1]; exact fb_X2_33) dX2_make_218 ?_
  refine aw_iload_n G0 2 rfl dX2_make_221 ?_
  obtain ⟨q5, e5, h⟩ := h
  refine aw_dr1 e5 ?_
  obtain ⟨k6, h⟩ := h
  obtain ⟨k7, h⟩ := h
  refine aw_iald G0 (Or.inl k6) k7 dX2_make_222 ?_
  refine aw_aload_n G0 1 rfl dX2_make_223 ?_
  refine aw_getR (f := 9) G0 (by rw [k1]; exact fb_X2_30) dX2_make_224 ?_
  refine aw_iload_n G0 2 rfl dX2_make_227 ?_
  refine aw_dr1 e2 ?_
  refine aw_iald G0 (Or.inl k3) k4 dX2_make_228 ?_
  refine aw_isub G0 dX2_make_229 ?_
  refine aw_i2l G0 dX2_make_230 ?_
  refine aw_aload_n G0 1 rfl dX2_make_231 ?_
  refine aw_getR (f := 26) G0 (by rw [k1]; exact fb_X2_79) dX2_make_232 ?_
  refine aw_iload_n G0 4 rfl dX2_make_235 ?_
  obtain ⟨q8, e8, h⟩ := h
  refine aw_dr1 e8 ?_
  obtain ⟨k9, h⟩ := h
  obtain ⟨k10, h⟩ := h
  refine aw_lald G0 k9 k10 dX2_make_236 ?_
  refine aw_lmul G0 dX2_make_237 ?_
  refine aw_ladd G0 dX2_make_238 ?_
  refine aw_dr2 e8 ?_
  refine aw_last G0 k9 k10 dX2_make_239 ?_
  generalize gJ11 : va_up J q8 (va_up (J q8) x3.toNatClampNeg ((((I q2 x1.toNatClampNeg).toInt64) * x4) + ((((I q5 x1.toNatClampNeg) - (I q2 x1.toNatClampNeg)).toInt64) * (J q8 x3.toNatClampNeg)))) = J11
  have h := h J11 gJ11.symm
  refine aw_aload_n G0 1 rfl dX2_make_240 ?_
  refine aw_getR (f := 27) G0 (by rw [k1]; exact fb_X2_82) dX2_make_241 ?_
  refine aw_iload_n G0 4 rfl dX2_make_244 ?_
  refine aw_aload_n G0 1 rfl dX2_make_245 ?_
  refine aw_getR (f := 9) G0 (by rw [k1]; exact fb_X2_30) dX2_make_246 ?_
  refine aw_iload_n G0 2 rfl dX2_make_249 ?_
  refine aw_dr1 e2 ?_
  refine aw_iald G0 (Or.inl k3) k4 dX2_make_250 ?_
  refine aw_i2l G0 dX2_make_251 ?_
  refine aw_lload G0 0 rfl dX2_make_252 ?_
  refine aw_lmul G0 dX2_make_254 ?_
  refine aw_aload_n G0 1 rfl dX2_make_255 ?_
  refine aw_getR (f := 10) G0 (by rw [k1]; exact fb_X2_33) dX2_make_256 ?_
  refine aw_iload_n G0 2 rfl dX2_make_259 ?_
  refine aw_dr1 e5 ?_
  refine aw_iald G0 (Or.inl k6) k7 dX2_make_260 ?_
  refine aw_aload_n G0 1 rfl dX2_make_261 ?_
  refine aw_getR (f := 9) G0 (by rw [k1]; exact fb_X2_30) dX2_make_262 ?_
  refine aw_iload_n G0 2 rfl dX2_make_265 ?_
  refine aw_dr1 e2 ?_
  refine aw_iald G0 (Or.inl k3) k4 dX2_make_266 ?_
  refine aw_isub G0 dX2_make_267 ?_
  refine aw_i2l G0 dX2_make_268 ?_
  refine aw_aload_n G0 1 rfl dX2_make_269 ?_
  refine aw_getR (f := 27) G0 (by rw [k1]; exact fb_X2_82) dX2_make_270 ?_
  refine aw_iload_n G0 4 rfl dX2_make_273 ?_
  obtain ⟨q12, e12, h⟩ := h
  refine aw_dr1 e12 ?_
  obtain ⟨k13, h⟩ := h
  obtain ⟨k14, h⟩ := h
  refine aw_lald G0 k13 k14 dX2_make_274 ?_
  refine aw_lmul G0 dX2_make_275 ?_
  refine aw_ladd G0 dX2_make_276 ?_
  refine aw_dr2 e12 ?_
  refine aw_last G0 k13 k14 dX2_make_277 ?_
  generalize gJ15 : va_up J11 q12 (va_up (J11 q12) x3.toNatClampNeg ((((I q2 x1.toNatClampNeg).toInt64) * s0) + ((((I q5 x1.toNatClampNeg) - (I q2 x1.toNatClampNeg)).toInt64) * (J11 q12 x3.toNatClampNeg)))) = J15
  have h := h J15 gJ15.symm
  refine aw_iinc (v := x3 + 1) (lv' := [(3, aI (x3 + 1)), (6, aJ s0), (0, aR (some x0)), (1, aI x1), (2, aI x2), (4, aJ x4)]) G0 4 rfl rfl (by decide) rfl dX2_make_278 ?_
  refine aw_goto G0 117 dX2_make_281 (by decide) ?_
  exact (aw_lv [2, 3, 4, 0] rfl (w117 x0 x1 x2 (x3 + 1) C I J15 R h))
theorem bX2_makeRow_0 (G : Gb Γ yX2_makeRow cX2_makeRow 7 (none) [] rmX2_makeRow bdX2_makeRow) {F_X2_clear : SPF} (S_X2_clear : SpX2_clear (gL Γ) F_X2_clear)
    {Q17 : Nat → Int32 → Int32 → Int32 → MC → MI → MJ → MR → Prop} (w17 : ∀ (x0 : Nat) (x1 : Int32) (x2 : Int32) (x3 : Int32) (C : MC) (I : MI) (J : MJ) (R : MR), Q17 x0 x1 x2 x3 C I J R → AW Γ 0 0 C I J R 17 [(0, aR (some x0)), (1, aI x1), (2, aI x2), (3, aI x3)] []) {x0 : Nat} {x1 : Int32} {x2 : Int32}
    (h : (C x0).1 = 3 ∧
      F_X2_clear [aR (some x0), aR (R x0 28)] C I J R (fun o C2 I3 J4 R5 =>
      o = .inl none ∧
      (C2 x0).1 = 3 ∧
      ∃ q8 : Nat, R5 x0 28 = some q8 ∧
      (C2 q8).1 = 21 ∧
      vp_in (0 : Int32) (C2 q8).2 ∧
      ∀ J11 : MJ, J11 = va_up J4 q8 (va_up (J4 q8) (0 : Int32).toNatClampNeg (1 : Int64)) →
      Q17 x0 x1 x2 (0 : Int32) C2 I3 J11 R5)) :
    AW Γ 0 0 C I J R 0 [(0, aR (some x0)), (1, aI x1), (2, aI x2)] [] := by
  have G0 := G.1
  refine aw_aload_n G0 0 rfl dX2_makeRow_0 ?_
  refine aw_aload_n G0 0 rfl dX2_makeRow_1 ?_
  obtain ⟨k1, h⟩ := h
  refine aw_getR (f := 28) G0 (by rw [k1]; exact fb_X2_85) dX2_makeRow_2 ?_
  refine aw_callV (k1 := 0) (n1 := 0) (k2 := 0) (n2 := 0) (st := []) G0 S_X2_clear gi_X2_176 (Or.inl (by rw [k1]; decide)) (by rw [k1]; rfl) md_X2_clear (Nat.le_of_ble_eq_true rfl) (by decide) (by rw [G.2.1]; decide) (by rw [G.2.1]; decide) [aR (R x0 28)] rfl rfl dX2_makeRow_5 h (fun o C2 I3 J4 R5 h => ?_)
  obtain ⟨rfl, h⟩ := h
  show AW Γ 0 0 C2 I3 J4 R5 (5 + 3) [(0, aR (some x0)), (1, aI x1), (2, aI x2)] []
  refine aw_aload_n G0 0 rfl dX2_makeRow_8 ?_
  obtain ⟨k7, h⟩ := h
  refine aw_getR (f := 28) G0 (by rw [k7]; exact fb_X2_85) dX2_makeRow_9 ?_
  refine aw_iconst (v := (0 : Int32)) G0 dX2_makeRow_12 (by decide) ?_
  refine aw_lconst (v := (1 : Int64)) G0 dX2_makeRow_13 (by decide) ?_
  obtain ⟨q8, e8, h⟩ := h
  refine aw_dr2 e8 ?_
  obtain ⟨k9, h⟩ := h
  obtain ⟨k10, h⟩ := h
  refine aw_last G0 k9 k10 dX2_makeRow_14 ?_
  generalize gJ11 : va_up J4 q8 (va_up (J4 q8) (0 : Int32).toNatClampNeg (1 : Int64)) = J11
  have h := h J11 gJ11.symm
  refine aw_iconst (v := (0 : Int32)) G0 dX2_makeRow_15 (by decide) ?_
  refine aw_istore_n (lv' := [(3, aI (0 : Int32)), (0, aR (some x0)), (1, aI x1), (2, aI x2)]) G0 (by decide) rfl dX2_makeRow_16 ?_
  exact (aw_lv [1, 2, 3, 0] rfl (w17 x0 x1 x2 (0 : Int32) C2 I3 J11 R5 h))
theorem bX2_makeRow_17 (G : Gb Γ yX2_makeRow cX2_makeRow 7 (none) [] rmX2_makeRow bdX2_makeRow) {F_X2_clear : SPF} (S_X2_clear : SpX2_clear (gL Γ) F_X2_clear)
    {Q59 : Nat → Int32 → Int32 → Int32 → Int32 → Int32 → MC → MI → MJ → MR → Prop} (w59 : ∀ (x0 : Nat) (x1 : Int32) (x2 : Int32) (x3 : Int32) (x4 : Int32) (x5 : Int32) (C : MC) (I : MI) (J : MJ) (R : MR), Q59 x0 x1 x2 x3 x4 x5 C I J R → AW Γ 0 0 C I J R 59 [(0, aR (some x0)), (1, aI x1), (2, aI x2), (3, aI x3), (4, aI x4), (5, aI x5)] [])
    {Q256 : Nat → MC → MI → MJ → MR → Prop} (w256 : ∀ (x0 : Nat) (C : MC) (I : MI) (J : MJ) (R : MR), Q256 x0 C I J R → AW Γ 0 0 C I J R 256 [(0, aR (some x0))] []) {x0 : Nat} {x1 : Int32} {x2 : Int32} {x3 : Int32}
    (h : ((x2 ≤ x3 →
      Q256 x0 C I J R) ∧
      (¬ x2 ≤ x3 →
      (C x0).1 = 3 ∧
      ∃ q3 : Nat, R x0 8 = some q3 ∧
      (C q3).1 = 20 ∧
      vp_in (((4 : Int32) * x1) + x3) (C q3).2 ∧
      (((I q3 (((4 : Int32) * x1) + x3).toNatClampNeg) = (-1 : Int32) →
      Q256 x0 C I J R) ∧
      (¬ (I q3 (((4 : Int32) * x1) + x3).toNatClampNeg) = (-1 : Int32) →
      F_X2_clear [aR (some x0), aR (R x0 29)] C I J R (fun o C7 I8 J9 R10 =>
      o = .inl none ∧
      Q59 x0 x1 x2 x3 (I q3 (((4 : Int32) * x1) + x3).toNatClampNeg) (0 : Int32) C7 I8 J9 R10)))))) :
    AW Γ 0 0 C I J R 17 [(0, aR (some x0)), (1, aI x1), (2, aI x2), (3, aI x3)] [] := by
  have G0 := G.1
  refine aw_iload_n G0 3 rfl dX2_makeRow_17 ?_
  refine aw_iload_n G0 2 rfl dX2_makeRow_18 ?_
  refine aw_icmp_ge G0 256 dX2_makeRow_19 (by decide) (fun c1 => ?_) (fun c1 => ?_)
  · have h := h.1 c1
    exact (aw_lv [0] rfl (w256 x0 C I J R h))
  · have h := h.2 c1
    refine aw_aload_n G0 0 rfl dX2_makeRow_22 ?_
    obtain ⟨k2, h⟩ := h
    refine aw_getR (f := 8) G0 (by rw [k2]; exact fb_X2_27) dX2_makeRow_23 ?_
    refine aw_iconst (v := (4 : Int32)) G0 dX2_makeRow_26 (by decide) ?_
    refine aw_iload_n G0 1 rfl dX2_makeRow_27 ?_
    refine aw_imul G0 dX2_makeRow_28 ?_
    refine aw_iload_n G0 3 rfl dX2_makeRow_29 ?_
    refine aw_iadd G0 dX2_makeRow_30 ?_
    obtain ⟨q3, e3, h⟩ := h
    refine aw_dr1 e3 ?_
    obtain ⟨k4, h⟩ := h
    obtain ⟨k5, h⟩ := h
    refine aw_iald G0 (Or.inl k4) k5 dX2_makeRow_31 ?_
    refine aw_iconst (v := (-1 : Int32)) G0 dX2_makeRow_32 (by decide) ?_
    refine aw_icmp_eq G0 256 dX2_makeRow_33 (by decide) (fun c6 => ?_) (fun c6 => ?_)
    · have h := h.1 c6
      exact (aw_lv [0] rfl (w256 x0 C I J R h))
    · have h := h.2 c6
      refine aw_aload_n G0 0 rfl dX2_makeRow_36 ?_
      refine aw_getR (f := 8) G0 (by rw [k2]; exact fb_X2_27) dX2_makeRow_37 ?_
      refine aw_iconst (v := (4 : Int32)) G0 dX2_makeRow_40 (by decide) ?_
      refine aw_iload_n G0 1 rfl dX2_makeRow_41 ?_
      refine aw_imul G0 dX2_makeRow_42 ?_
      refine aw_iload_n G0 3 rfl dX2_makeRow_43 ?_
      refine aw_iadd G0 dX2_makeRow_44 ?_
      refine aw_dr1 e3 ?_
      refine aw_iald G0 (Or.inl k4) k5 dX2_makeRow_45 ?_
      refine aw_istore (lv' := [(4, aI (I q3 (((4 : Int32) * x1) + x3).toNatClampNeg)), (0, aR (some x0)), (1, aI x1), (2, aI x2), (3, aI x3)]) G0 (by decide) rfl dX2_makeRow_46 ?_
      refine aw_aload_n G0 1 rfl dX2_makeRow_48 ?_
      refine aw_aload_n G0 1 rfl dX2_makeRow_49 ?_
      refine aw_getR (f := 29) G0 (by rw [k2]; exact fb_X2_88) dX2_makeRow_50 ?_
      refine aw_callV (k1 := 0) (n1 := 0) (k2 := 0) (n2 := 0) (st := []) G0 S_X2_clear gi_X2_176 (Or.inl (by rw [k2]; decide)) (by rw [k2]; rfl) md_X2_clear (Nat.le_of_ble_eq_true rfl) (by decide) (by rw [G.2.1]; decide) (by rw [G.2.1]; decide) [aR (R x0 29)] rfl rfl dX2_makeRow_53 h (fun o C7 I8 J9 R10 h => ?_)
      obtain ⟨rfl, h⟩ := h
      show AW Γ 0 0 C7 I8 J9 R10 (53 + 3) [(4, aI (I q3 (((4 : Int32) * x1) + x3).toNatClampNeg)), (0, aR (some x0)), (1, aI x1), (2, aI x2), (3, aI x3)] []
      refine aw_iconst (v := (0 : Int32)) G0 dX2_makeRow_56 (by decide) ?_
      refine aw_istore (lv' := [(5, aI (0 : Int32)), (4, aI (I q3 (((4 : Int32) * x1) + x3).toNatClampNeg)), (0, aR (some x0)), (1, aI x1), (2, aI x2), (3, aI x3)]) G0 (by decide) rfl dX2_makeRow_57 ?_
      exact (aw_lv [2, 3, 4, 5, 1, 0] rfl (w59 x0 x1 x2 x3 (I q3 (((4 : Int32) * x1) + x3).toNatClampNeg) (0 : Int32) C7 I8 J9 R10 h))
theorem bX2_makeRow_59 (G : Gb Γ yX2_makeRow cX2_makeRow 7 (none) [] rmX2_makeRow bdX2_makeRow)
    {Q59 : Nat → Int32 → Int32 → Int32 → Int32 → Int32 → MC → MI → MJ → MR → Prop} (w59 : ∀ (x0 : Nat) (x1 : Int32) (x2 : Int32) (x3 : Int32) (x4 : Int32) (x5 : Int32) (C : MC) (I : MI) (J : MJ) (R : MR), Q59 x0 x1 x2 x3 x4 x5 C I J R → AW Γ 0 0 C I J R 59 [(0, aR (some x0)), (1, aI x1), (2, aI x2), (3, aI x3), (4, aI x4), (5, aI x5)] [])
    {Q95 : Nat → Int32 → Int32 → Int32 → Int32 → Int32 → MC → MI → MJ → MR → Prop} (w95 : ∀ (x0 : Nat) (x1 : Int32) (x2 : Int32) (x3 : Int32) (x4 : Int32) (x5 : Int32) (C : MC) (I : MI) (J : MJ) (R : MR), Q95 x0 x1 x2 x3 x4 x5 C I J R → AW Γ 0 0 C I J R 95 [(0, aR (some x0)), (1, aI x1), (2, aI x2), (3, aI x3), (4, aI x4), (5, aI x5)] []) {x0 : Nat} {x1 : Int32} {x2 : Int32} {x3 : Int32} {x4 : Int32} {x5 : Int32}
    (h : (C x0).1 = 3 ∧
      ∃ q2 : Nat, R x0 27 = some q2 ∧
      (20 ≤ (C q2).1 ∧ (C q2).1 ≤ 30) ∧
      (((nI (C q2).2) ≤ x5 →
      Q95 x0 x1 x2 x3 x4 (0 : Int32) C I J R) ∧
      (¬ (nI (C q2).2) ≤ x5 →
      (C q2).1 = 21 ∧
      vp_in x5 (C q2).2 ∧
      ∃ q7 : Nat, R x0 24 = some q7 ∧
      (C q7).1 = 21 ∧
      vp_in x4 (C q7).2 ∧
      ∀ J10 : MJ, J10 = va_up J q2 (va_up (J q2) x5.toNatClampNeg ((J q2 x5.toNatClampNeg) * (J q7 x4.toNatClampNeg))) →
      Q59 x0 x1 x2 x3 x4 (x5 + 1) C I J10 R))) :
    AW Γ 0 0 C I J R 59 [(0, aR (some x0)), (1, aI x1), (2, aI x2), (3, aI x3), (4, aI x4), (5, aI x5)] [] := by
  have G0 := G.1
  refine aw_iload G0 5 rfl dX2_makeRow_59 ?_
  refine aw_aload_n G0 0 rfl dX2_makeRow_61 ?_
  obtain ⟨k1, h⟩ := h
  refine aw_getR (f := 27) G0 (by rw [k1]; exact fb_X2_82) dX2_makeRow_62 ?_
  obtain ⟨q2, e2, h⟩ := h
  refine aw_dr0 e2 ?_
  obtain ⟨k3, h⟩ := h
  refine aw_alen (v := nI (C q2).2) G0 k3 rfl dX2_makeRow_65 ?_
  refine aw_icmp_ge G0 92 dX2_makeRow_66 (by decide) (fun c4 => ?_) (fun c4 => ?_)
  · have h := h.1 c4
    refine aw_iconst (v := (0 : Int32)) G0 dX2_makeRow_92 (by decide) ?_
    refine aw_istore (lv' := [(5, aI (0 : Int32)), (0, aR (some x0)), (1, aI x1), (2, aI x2), (3, aI x3), (4, aI x4)]) G0 (by decide) rfl dX2_makeRow_93 ?_
    exact (aw_lv [1, 2, 3, 4, 5, 0] rfl (w95 x0 x1 x2 x3 x4 (0 : Int32) C I J R h))
  · have h := h.2 c4
    refine aw_aload_n G0 0 rfl dX2_makeRow_69 ?_
    refine aw_getR (f := 27) G0 (by rw [k1]; exact fb_X2_82) dX2_makeRow_70 ?_
    refine aw_iload G0 5 rfl dX2_makeRow_73 ?_
    refine aw_dup2IR G0 dX2_makeRow_75 ?_
    refine aw_dr1 e2 ?_
    obtain ⟨k5, h⟩ := h
    obtain ⟨k6, h⟩ := h
    refine aw_lald G0 k5 k6 dX2_makeRow_76 ?_
    refine aw_aload_n G0 0 rfl dX2_makeRow_77 ?_
    refine aw_getR (f := 24) G0 (by rw [k1]; exact fb_X2_72) dX2_makeRow_78 ?_
    refine aw_iload G0 4 rfl dX2_makeRow_81 ?_
    obtain ⟨q7, e7, h⟩ := h
    refine aw_dr1 e7 ?_
    obtain ⟨k8, h⟩ := h
    obtain ⟨k9, h⟩ := h
    refine aw_lald G0 k8 k9 dX2_makeRow_83 ?_
    refine aw_lmul G0 dX2_makeRow_84 ?_
    refine aw_dr2 e2 ?_
    refine aw_last G0 k5 k6 dX2_makeRow_85 ?_
    generalize gJ10 : va_up J q2 (va_up (J q2) x5.toNatClampNeg ((J q2 x5.toNatClampNeg) * (J q7 x4.toNatClampNeg))) = J10
    have h := h J10 gJ10.symm
    refine aw_iinc (v := x5 + 1) (lv' := [(5, aI (x5 + 1)), (0, aR (some x0)), (1, aI x1), (2, aI x2), (3, aI x3), (4, aI x4)]) G0 5 rfl rfl (by decide) rfl dX2_makeRow_86 ?_
    refine aw_goto G0 59 dX2_makeRow_89 (by decide) ?_
    exact (aw_lv [1, 2, 3, 4, 5, 0] rfl (w59 x0 x1 x2 x3 x4 (x5 + 1) C I J10 R h))
theorem bX2_makeRow_95 (G : Gb Γ yX2_makeRow cX2_makeRow 7 (none) [] rmX2_makeRow bdX2_makeRow)
    {Q121 : Nat → Int32 → Int32 → Int32 → Int32 → Int32 → Int32 → MC → MI → MJ → MR → Prop} (w121 : ∀ (x0 : Nat) (x1 : Int32) (x2 : Int32) (x3 : Int32) (x4 : Int32) (x5 : Int32) (x6 : Int32) (C : MC) (I : MI) (J : MJ) (R : MR), Q121 x0 x1 x2 x3 x4 x5 x6 C I J R → AW Γ 0 0 C I J R 121 [(0, aR (some x0)), (1, aI x1), (2, aI x2), (3, aI x3), (4, aI x4), (5, aI x5), (6, aI x6)] [])
    {Q211 : Nat → Int32 → Int32 → Int32 → Int32 → Int32 → MC → MI → MJ → MR → Prop} (w211 : ∀ (x0 : Nat) (x1 : Int32) (x2 : Int32) (x3 : Int32) (x4 : Int32) (x5 : Int32) (C : MC) (I : MI) (J : MJ) (R : MR), Q211 x0 x1 x2 x3 x4 x5 C I J R → AW Γ 0 0 C I J R 211 [(0, aR (some x0)), (1, aI x1), (2, aI x2), (3, aI x3), (4, aI x4), (5, aI x5)] [])
    {Q220 : Nat → Int32 → Int32 → Int32 → Int32 → MC → MI → MJ → MR → Prop} (w220 : ∀ (x0 : Nat) (x1 : Int32) (x2 : Int32) (x3 : Int32) (x5 : Int32) (C : MC) (I : MI) (J : MJ) (R : MR), Q220 x0 x1 x2 x3 x5 C I J R → AW Γ 0 0 C I J R 220 [(0, aR (some x0)), (1, aI x1), (2, aI x2), (3, aI x3), (5, aI x5)] []) {x0 : Nat} {x1 : Int32} {x2 : Int32} {x3 : Int32} {x4 : Int32} {x5 : Int32}
    (h : (((481 : Int32) ≤ x5 →
      Q220 x0 x1 x2 x3 (0 : Int32) C I J R) ∧
      (¬ (481 : Int32) ≤ x5 →
      (C x0).1 = 3 ∧
      ∃ q3 : Nat, R x0 28 = some q3 ∧
      (C q3).1 = 21 ∧
      vp_in x5 (C q3).2 ∧
      ((¬ (J q3 x5.toNatClampNeg) = (0 : Int64) →
      Q121 x0 x1 x2 x3 x4 x5 (0 : Int32) C I J R) ∧
      ((J q3 x5.toNatClampNeg) = (0 : Int64) →
      Q211 x0 x1 x2 x3 x4 x5 C I J R))))) :
    AW Γ 0 0 C I J R 95 [(0, aR (some x0)), (1, aI x1), (2, aI x2), (3, aI x3), (4, aI x4), (5, aI x5)] [] := by
  have G0 := G.1
  refine aw_iload G0 5 rfl dX2_makeRow_95 ?_
  refine aw_sipush (v := (481 : Int32)) G0 dX2_makeRow_97 (by decide) ?_
  refine aw_icmp_ge G0 217 dX2_makeRow_100 (by decide) (fun c1 => ?_) (fun c1 => ?_)
  · have h := h.1 c1
    refine aw_iconst (v := (0 : Int32)) G0 dX2_makeRow_217 (by decide) ?_
    refine aw_istore (lv' := [(5, aI (0 : Int32)), (0, aR (some x0)), (1, aI x1), (2, aI x2), (3, aI x3), (4, aI x4)]) G0 (by decide) rfl dX2_makeRow_218 ?_
    exact (aw_lv [1, 2, 3, 4, 0] rfl (w220 x0 x1 x2 x3 (0 : Int32) C I J R h))
  · have h := h.2 c1
    refine aw_aload_n G0 0 rfl dX2_makeRow_103 ?_
    obtain ⟨k2, h⟩ := h
    refine aw_getR (f := 28) G0 (by rw [k2]; exact fb_X2_85) dX2_makeRow_104 ?_
    refine aw_iload G0 5 rfl dX2_makeRow_107 ?_
    obtain ⟨q3, e3, h⟩ := h
    refine aw_dr1 e3 ?_
    obtain ⟨k4, h⟩ := h
    obtain ⟨k5, h⟩ := h
    refine aw_lald G0 k4 k5 dX2_makeRow_109 ?_
    refine aw_lconst (v := (0 : Int64)) G0 dX2_makeRow_110 (by decide) ?_
    refine aw_lif_ne G0 118 dX2_makeRow_111 dX2_makeRow_112 (by decide) (fun c6 => ?_) (fun c6 => ?_)
    · have h := h.1 c6
      refine aw_iconst (v := (0 : Int32)) G0 dX2_makeRow_118 (by decide) ?_
      refine aw_istore (lv' := [(6, aI (0 : Int32)), (0, aR (some x0)), (1, aI x1), (2, aI x2), (3, aI x3), (4, aI x4), (5, aI x5)]) G0 (by decide) rfl dX2_makeRow_119 ?_
      exact (aw_lv [1, 2, 3, 4, 5, 6, 0] rfl (w121 x0 x1 x2 x3 x4 x5 (0 : Int32) C I J R h))
    · have h := h.2 c6
      refine aw_goto G0 211 dX2_makeRow_115 (by decide) ?_
      exact (w211 x0 x1 x2 x3 x4 x5 C I J R h)
theorem bX2_makeRow_121 (G : Gb Γ yX2_makeRow cX2_makeRow 7 (none) [] rmX2_makeRow bdX2_makeRow) {F_X2_at : SPF} (S_X2_at : SpX2_at (gL Γ) F_X2_at)
    {Q121 : Nat → Int32 → Int32 → Int32 → Int32 → Int32 → Int32 → MC → MI → MJ → MR → Prop} (w121 : ∀ (x0 : Nat) (x1 : Int32) (x2 : Int32) (x3 : Int32) (x4 : Int32) (x5 : Int32) (x6 : Int32) (C : MC) (I : MI) (J : MJ) (R : MR), Q121 x0 x1 x2 x3 x4 x5 x6 C I J R → AW Γ 0 0 C I J R 121 [(0, aR (some x0)), (1, aI x1), (2, aI x2), (3, aI x3), (4, aI x4), (5, aI x5), (6, aI x6)] [])
    {Q211 : Nat → Int32 → Int32 → Int32 → Int32 → Int32 → MC → MI → MJ → MR → Prop} (w211 : ∀ (x0 : Nat) (x1 : Int32) (x2 : Int32) (x3 : Int32) (x4 : Int32) (x5 : Int32) (C : MC) (I : MI) (J : MJ) (R : MR), Q211 x0 x1 x2 x3 x4 x5 C I J R → AW Γ 0 0 C I J R 211 [(0, aR (some x0)), (1, aI x1), (2, aI x2), (3, aI x3), (4, aI x4), (5, aI x5)] []) {x0 : Nat} {x1 : Int32} {x2 : Int32} {x3 : Int32} {x4 : Int32} {x5 : Int32} {x6 : Int32}
    (h : (((121 : Int32) ≤ x6 →
      Q211 x0 x1 x2 x3 x4 x5 C I J R) ∧
      (¬ (121 : Int32) ≤ x6 →
      (((600 : Int32) ≤ (x5 + x6) →
      Q211 x0 x1 x2 x3 x4 x5 C I J R) ∧
      (¬ (600 : Int32) ≤ (x5 + x6) →
      (C x0).1 = 3 ∧
      ∃ q4 : Nat, R x0 29 = some q4 ∧
      (C q4).1 = 21 ∧
      vp_in (x5 + x6) (C q4).2 ∧
      ∃ q7 : Nat, R x0 28 = some q7 ∧
      (C q7).1 = 21 ∧
      vp_in x5 (C q7).2 ∧
      F_X2_at [aI x4, aI x6] C I J R (fun o C10 I11 J12 R13 =>
      ∃ r14 : Int32, o = .inl (some (aI r14)) ∧
      ∃ q15 : Nat, R x0 22 = some q15 ∧
      (C10 q15).1 = 21 ∧
      vp_in r14 (C10 q15).2 ∧
      (C10 q4).1 = 21 ∧
      vp_in (x5 + x6) (C10 q4).2 ∧
      ∀ J20 : MJ, J20 = va_up J12 q4 (va_up (J12 q4) (x5 + x6).toNatClampNeg ((J q4 (x5 + x6).toNatClampNeg) + ((J q7 x5.toNatClampNeg) * (J12 q15 r14.toNatClampNeg)))) →
      (C10 x0).1 = 3 ∧
      ∃ q22 : Nat, R13 x0 27 = some q22 ∧
      (C10 q22).1 = 21 ∧
      vp_in (x5 + x6) (C10 q22).2 ∧
      ∃ q25 : Nat, R13 x0 28 = some q25 ∧
      (C10 q25).1 = 21 ∧
      vp_in x5 (C10 q25).2 ∧
      F_X2_at [aI x4, aI x6] C10 I11 J20 R13 (fun o C28 I29 J30 R31 =>
      ∃ r32 : Int32, o = .inl (some (aI r32)) ∧
      ∃ q33 : Nat, R13 x0 23 = some q33 ∧
      (C28 q33).1 = 21 ∧
      vp_in r32 (C28 q33).2 ∧
      (C28 q22).1 = 21 ∧
      vp_in (x5 + x6) (C28 q22).2 ∧
      ∀ J38 : MJ, J38 = va_up J30 q22 (va_up (J30 q22) (x5 + x6).toNatClampNeg ((J20 q22 (x5 + x6).toNatClampNeg) + ((J20 q25 x5.toNatClampNeg) * (J30 q33 r32.toNatClampNeg)))) →
      Q121 x0 x1 x2 x3 x4 x5 (x6 + 1) C28 I29 J38 R31))))))) :
    AW Γ 0 0 C I J R 121 [(0, aR (some x0)), (1, aI x1), (2, aI x2), (3, aI x3), (4, aI x4), (5, aI x5), (6, aI x6)] [] := by
  have G0 := G.1
  refine aw_iload G0 6 rfl dX2_makeRow_121 ?_
  refine aw_bipush (v := (121 : Int32)) G0 dX2_makeRow_123 (by decide) ?_
  refine aw_icmp_ge G0 211 dX2_makeRow_125 (by decide) (fun c1 => ?_) (fun c1 => ?_)
  · have h := h.1 c1
    exact (aw_lv [0, 1, 2, 3, 4, 5] rfl (w211 x0 x1 x2 x3 x4 x5 C I J R h))
  · have h := h.2 c1
    refine aw_iload G0 5 rfl dX2_makeRow_128 ?_
    refine aw_iload G0 6 rfl dX2_makeRow_130 ?_
    refine aw_iadd G0 dX2_makeRow_132 ?_
    refine aw_sipush (v := (600 : Int32)) G0 dX2_makeRow_133 (by decide) ?_
    refine aw_icmp_ge G0 211 dX2_makeRow_136 (by decide) (fun c2 => ?_) (fun c2 => ?_)
    · have h := h.1 c2
      exact (aw_lv [0, 1, 2, 3, 4, 5] rfl (w211 x0 x1 x2 x3 x4 x5 C I J R h))
    · have h := h.2 c2
      refine aw_aload_n G0 0 rfl dX2_makeRow_139 ?_
      obtain ⟨k3, h⟩ := h
      refine aw_getR (f := 29) G0 (by rw [k3]; exact fb_X2_88) dX2_makeRow_140 ?_
      refine aw_iload G0 5 rfl dX2_makeRow_143 ?_
      refine aw_iload G0 6 rfl dX2_makeRow_145 ?_
      refine aw_iadd G0 dX2_makeRow_147 ?_
      refine aw_dup2IR G0 dX2_makeRow_148 ?_
      obtain ⟨q4, e4, h⟩ := h
      refine aw_dr1 e4 ?_
      obtain ⟨k5, h⟩ := h
      obtain ⟨k6, h⟩ := h
      refine aw_lald G0 k5 k6 dX2_makeRow_149 ?_
      refine aw_aload_n G0 0 rfl dX2_makeRow_150 ?_
      refine aw_getR (f := 28) G0 (by rw [k3]; exact fb_X2_85) dX2_makeRow_151 ?_
      refine aw_iload G0 5 rfl dX2_makeRow_154 ?_
      obtain ⟨q7, e7, h⟩ := h
      refine aw_dr1 e7 ?_
      obtain ⟨k8, h⟩ := h
      obtain ⟨k9, h⟩ := h
      refine aw_lald G0 k8 k9 dX2_makeRow_156 ?_
      refine aw_aload_n G0 0 rfl dX2_makeRow_157 ?_
      refine aw_getR (f := 22) G0 (by rw [k3]; exact fb_X2_66) dX2_makeRow_158 ?_
      refine aw_iload G0 4 rfl dX2_makeRow_161 ?_
      refine aw_iload G0 6 rfl dX2_makeRow_163 ?_
      refine aw_callS (k1 := 0) (n1 := 0) (k2 := 0) (n2 := 0) (st := [aR (R x0 22), aJ (J q7 x5.toNatClampNeg), aJ (J q4 (x5 + x6).toNatClampNeg), aI (x5 + x6), aR (R x0 29)]) G0 S_X2_at gi_X2_173 md_X2_at (Nat.le_of_ble_eq_true rfl) (by decide) (by rw [G.2.1]; decide) (by rw [G.2.1]; decide) [aI x4, aI x6] rfl rfl dX2_makeRow_165 h (fun o C10 I11 J12 R13 h => ?_)
      obtain ⟨r14, rfl, h⟩ := h
      show AW Γ 0 0 C10 I11 J12 R13 (165 + 3) [(0, aR (some x0)), (1, aI x1), (2, aI x2), (3, aI x3), (4, aI x4), (5, aI x5), (6, aI x6)] [aI r14, aR (R x0 22), aJ (J q7 x5.toNatClampNeg), aJ (J q4 (x5 + x6).toNatClampNeg), aI (x5 + x6), aR (R x0 29)]
      obtain ⟨q15, e15, h⟩ := h
      refine aw_dr1 e15 ?_
      obtain ⟨k16, h⟩ := h
      obtain ⟨k17, h⟩ := h
      refine aw_lald G0 k16 k17 dX2_makeRow_168 ?_
      refine aw_lmul G0 dX2_makeRow_169 ?_
      refine aw_ladd G0 dX2_makeRow_170 ?_
      refine aw_dr2 e4 ?_
      obtain ⟨k18, h⟩ := h
      obtain ⟨k19, h⟩ := h
      refine aw_last G0 k18 k19 dX2_makeRow_171 ?_
      generalize gJ20 : va_up J12 q4 (va_up (J12 q4) (x5 + x6).toNatClampNeg ((J q4 (x5 + x6).toNatClampNeg) + ((J q7 x5.toNatClampNeg) * (J12 q15 r14.toNatClampNeg)))) = J20
      have h := h J20 gJ20.symm
      refine aw_aload_n G0 0 rfl dX2_makeRow_172 ?_
      obtain ⟨k21, h⟩ := h
      refine aw_getR (f := 27) G0 (by rw [k21]; exact fb_X2_82) dX2_makeRow_173 ?_
      refine aw_iload G0 5 rfl dX2_makeRow_176 ?_
      refine aw_iload G0 6 rfl dX2_makeRow_178 ?_
      refine aw_iadd G0 dX2_makeRow_180 ?_
      refine aw_dup2IR G0 dX2_makeRow_181 ?_
      obtain ⟨q22, e22, h⟩ := h
      refine aw_dr1 e22 ?_
      obtain ⟨k23, h⟩ := h
      obtain ⟨k24, h⟩ := h
      refine aw_lald G0 k23 k24 dX2_makeRow_182 ?_
      refine aw_aload_n G0 0 rfl dX2_makeRow_183 ?_
      refine aw_getR (f := 28) G0 (by rw [k21]; exact fb_X2_85) dX2_makeRow_184 ?_
      refine aw_iload G0 5 rfl dX2_makeRow_187 ?_
      obtain ⟨q25, e25, h⟩ := h
      refine aw_dr1 e25 ?_
      obtain ⟨k26, h⟩ := h
      obtain ⟨k27, h⟩ := h
      refine aw_lald G0 k26 k27 dX2_makeRow_189 ?_
      refine aw_aload_n G0 0 rfl dX2_makeRow_190 ?_
      refine aw_getR (f := 23) G0 (by rw [k21]; exact fb_X2_69) dX2_makeRow_191 ?_
      refine aw_iload G0 4 rfl dX2_makeRow_194 ?_
      refine aw_iload G0 6 rfl dX2_makeRow_196 ?_
      refine aw_callS (k1 := 0) (n1 := 0) (k2 := 0) (n2 := 0) (st := [aR (R13 x0 23), aJ (J20 q25 x5.toNatClampNeg), aJ (J20 q22 (x5 + x6).toNatClampNeg), aI (x5 + x6), aR (R13 x0 27)]) G0 S_X2_at gi_X2_173 md_X2_at (Nat.le_of_ble_eq_true rfl) (by decide) (by rw [G.2.1]; decide) (by rw [G.2.1]; decide) [aI x4, aI x6] rfl rfl dX2_makeRow_198 h (fun o C28 I29 J30 R31 h => ?_)
      obtain ⟨r32, rfl, h⟩ := h
      show AW Γ 0 0 C28 I29 J30 R31 (198 + 3) [(0, aR (some x0)), (1, aI x1), (2, aI x2), (3, aI x3), (4, aI x4), (5, aI x5), (6, aI x6)] [aI r32, aR (R13 x0 23), aJ (J20 q25 x5.toNatClampNeg), aJ (J20 q22 (x5 + x6).toNatClampNeg), aI (x5 + x6), aR (R13 x0 27)]
      obtain ⟨q33, e33, h⟩ := h
      refine aw_dr1 e33 ?_
      obtain ⟨k34, h⟩ := h
      obtain ⟨k35, h⟩ := h
      refine aw_lald G0 k34 k35 dX2_makeRow_201 ?_
      refine aw_lmul G0 dX2_makeRow_202 ?_
      refine aw_ladd G0 dX2_makeRow_203 ?_
      refine aw_dr2 e22 ?_
      obtain ⟨k36, h⟩ := h
      obtain ⟨k37, h⟩ := h
      refine aw_last G0 k36 k37 dX2_makeRow_204 ?_
      generalize gJ38 : va_up J30 q22 (va_up (J30 q22) (x5 + x6).toNatClampNeg ((J20 q22 (x5 + x6).toNatClampNeg) + ((J20 q25 x5.toNatClampNeg) * (J30 q33 r32.toNatClampNeg)))) = J38
      have h := h J38 gJ38.symm
      refine aw_iinc (v := x6 + 1) (lv' := [(6, aI (x6 + 1)), (0, aR (some x0)), (1, aI x1), (2, aI x2), (3, aI x3), (4, aI x4), (5, aI x5)]) G0 6 rfl rfl (by decide) rfl dX2_makeRow_205 ?_
      refine aw_goto G0 121 dX2_makeRow_208 (by decide) ?_
      exact (aw_lv [1, 2, 3, 4, 5, 6, 0] rfl (w121 x0 x1 x2 x3 x4 x5 (x6 + 1) C28 I29 J38 R31 h))
theorem bX2_makeRow_211 (G : Gb Γ yX2_makeRow cX2_makeRow 7 (none) [] rmX2_makeRow bdX2_makeRow)
    {Q95 : Nat → Int32 → Int32 → Int32 → Int32 → Int32 → MC → MI → MJ → MR → Prop} (w95 : ∀ (x0 : Nat) (x1 : Int32) (x2 : Int32) (x3 : Int32) (x4 : Int32) (x5 : Int32) (C : MC) (I : MI) (J : MJ) (R : MR), Q95 x0 x1 x2 x3 x4 x5 C I J R → AW Γ 0 0 C I J R 95 [(0, aR (some x0)), (1, aI x1), (2, aI x2), (3, aI x3), (4, aI x4), (5, aI x5)] []) {x0 : Nat} {x1 : Int32} {x2 : Int32} {x3 : Int32} {x4 : Int32} {x5 : Int32}
    (h : Q95 x0 x1 x2 x3 x4 (x5 + 1) C I J R) :
    AW Γ 0 0 C I J R 211 [(0, aR (some x0)), (1, aI x1), (2, aI x2), (3, aI x3), (4, aI x4), (5, aI x5)] [] := by
  have G0 := G.1
  refine aw_iinc (v := x5 + 1) (lv' := [(5, aI (x5 + 1)), (0, aR (some x0)), (1, aI x1), (2, aI x2), (3, aI x3), (4, aI x4)]) G0 5 rfl rfl (by decide) rfl dX2_makeRow_211 ?_
  refine aw_goto G0 95 dX2_makeRow_214 (by decide) ?_
  exact (aw_lv [1, 2, 3, 4, 5, 0] rfl (w95 x0 x1 x2 x3 x4 (x5 + 1) C I J R h))
theorem bX2_makeRow_220 (G : Gb Γ yX2_makeRow cX2_makeRow 7 (none) [] rmX2_makeRow bdX2_makeRow)
    {Q17 : Nat → Int32 → Int32 → Int32 → MC → MI → MJ → MR → Prop} (w17 : ∀ (x0 : Nat) (x1 : Int32) (x2 : Int32) (x3 : Int32) (C : MC) (I : MI) (J : MJ) (R : MR), Q17 x0 x1 x2 x3 C I J R → AW Γ 0 0 C I J R 17 [(0, aR (some x0)), (1, aI x1), (2, aI x2), (3, aI x3)] [])
    {Q220 : Nat → Int32 → Int32 → Int32 → Int32 → MC → MI → MJ → MR → Prop} (w220 : ∀ (x0 : Nat) (x1 : Int32) (x2 : Int32) (x3 : Int32) (x5 : Int32) (C : MC) (I : MI) (J : MJ) (R : MR), Q220 x0 x1 x2 x3 x5 C I J R → AW Γ 0 0 C I J R 220 [(0, aR (some x0)), (1, aI x1), (2, aI x2), (3, aI x3), (5, aI x5)] []) {x0 : Nat} {x1 : Int32} {x2 : Int32} {x3 : Int32} {x5 : Int32}
    (h : (C x0).1 = 3 ∧
      ∃ q2 : Nat, R x0 28 = some q2 ∧
      (20 ≤ (C q2).1 ∧ (C q2).1 ≤ 30) ∧
      (((nI (C q2).2) ≤ x5 →
      Q17 x0 x1 x2 (x3 + 1) C I J R) ∧
      (¬ (nI (C q2).2) ≤ x5 →
      ∃ q5 : Nat, R x0 29 = some q5 ∧
      (C q5).1 = 21 ∧
      vp_in x5 (C q5).2 ∧
      (C q2).1 = 21 ∧
      vp_in x5 (C q2).2 ∧
      ∀ J10 : MJ, J10 = va_up J q2 (va_up (J q2) x5.toNatClampNeg (J q5 x5.toNatClampNeg)) →
      Q220 x0 x1 x2 x3 (x5 + 1) C I J10 R))) :
    AW Γ 0 0 C I J R 220 [(0, aR (some x0)), (1, aI x1), (2, aI x2), (3, aI x3), (5, aI x5)] [] := by
  have G0 := G.1
  refine aw_iload G0 4 rfl dX2_makeRow_220 ?_
  refine aw_aload_n G0 0 rfl dX2_makeRow_222 ?_
  obtain ⟨k1, h⟩ := h
  refine aw_getR (f := 28) G0 (by rw [k1]; exact fb_X2_85) dX2_makeRow_223 ?_
  obtain ⟨q2, e2, h⟩ := h
  refine aw_dr0 e2 ?_
  obtain ⟨k3, h⟩ := h
  refine aw_alen (v := nI (C q2).2) G0 k3 rfl dX2_makeRow_226 ?_
  refine aw_icmp_ge G0 250 dX2_makeRow_227 (by decide) (fun c4 => ?_) (fun c4 => ?_)
  · have h := h.1 c4
    refine aw_iinc (v := x3 + 1) (lv' := [(3, aI (x3 + 1)), (0, aR (some x0)), (1, aI x1), (2, aI x2), (5, aI x5)]) G0 3 rfl rfl (by decide) rfl dX2_makeRow_250 ?_
    refine aw_goto G0 17 dX2_makeRow_253 (by decide) ?_
    exact (aw_lv [1, 2, 3, 0] rfl (w17 x0 x1 x2 (x3 + 1) C I J R h))
  · have h := h.2 c4
    refine aw_aload_n G0 0 rfl dX2_makeRow_230 ?_
    refine aw_getR (f := 28) G0 (by rw [k1]; exact fb_X2_85) dX2_makeRow_231 ?_
    refine aw_iload G0 4 rfl dX2_makeRow_234 ?_
    refine aw_aload_n G0 0 rfl dX2_makeRow_236 ?_
    refine aw_getR (f := 29) G0 (by rw [k1]; exact fb_X2_88) dX2_makeRow_237 ?_
    refine aw_iload G0 4 rfl dX2_makeRow_240 ?_
    obtain ⟨q5, e5, h⟩ := h
    refine aw_dr1 e5 ?_
    obtain ⟨k6, h⟩ := h
    obtain ⟨k7, h⟩ := h
    refine aw_lald G0 k6 k7 dX2_makeRow_242 ?_
    refine aw_dr2 e2 ?_
    obtain ⟨k8, h⟩ := h
    obtain ⟨k9, h⟩ := h
    refine aw_last G0 k8 k9 dX2_makeRow_243 ?_
    generalize gJ10 : va_up J q2 (va_up (J q2) x5.toNatClampNeg (J q5 x5.toNatClampNeg)) = J10
    have h := h J10 gJ10.symm
    refine aw_iinc (v := x5 + 1) (lv' := [(5, aI (x5 + 1)), (0, aR (some x0)), (1, aI x1), (2, aI x2), (3, aI x3)]) G0 4 rfl rfl (by decide) rfl dX2_makeRow_244 ?_
    refine aw_goto G0 220 dX2_makeRow_247 (by decide) ?_
    exact (aw_lv [1, 2, 3, 4, 0] rfl (w220 x0 x1 x2 x3 (x5 + 1) C I J10 R h))
theorem bX2_makeRow_256 (G : Gb Γ yX2_makeRow cX2_makeRow 7 (none) [] rmX2_makeRow bdX2_makeRow)
    {Q258 : Nat → Int32 → MC → MI → MJ → MR → Prop} (w258 : ∀ (x0 : Nat) (x3 : Int32) (C : MC) (I : MI) (J : MJ) (R : MR), Q258 x0 x3 C I J R → AW Γ 0 0 C I J R 258 [(0, aR (some x0)), (3, aI x3)] []) {x0 : Nat}
    (h : Q258 x0 (0 : Int32) C I J R) :
    AW Γ 0 0 C I J R 256 [(0, aR (some x0))] [] := by
  have G0 := G.1
  refine aw_iconst (v := (0 : Int32)) G0 dX2_makeRow_256 (by decide) ?_
  refine aw_istore_n (lv' := [(3, aI (0 : Int32)), (0, aR (some x0))]) G0 (by decide) rfl dX2_makeRow_257 ?_
  exact (aw_lv [1, 0] rfl (w258 x0 (0 : Int32) C I J R h))
theorem bX2_makeRow_258 (G : Gb Γ yX2_makeRow cX2_makeRow 7 (none) [] rmX2_makeRow bdX2_makeRow)
    {Q258 : Nat → Int32 → MC → MI → MJ → MR → Prop} (w258 : ∀ (x0 : Nat) (x3 : Int32) (C : MC) (I : MI) (J : MJ) (R : MR), Q258 x0 x3 C I J R → AW Γ 0 0 C I J R 258 [(0, aR (some x0)), (3, aI x3)] []) {x0 : Nat} {x3 : Int32}
    (h : (C x0).1 = 3 ∧
      ∃ q2 : Nat, R x0 26 = some q2 ∧
      (20 ≤ (C q2).1 ∧ (C q2).1 ≤ 30) ∧
      (((nI (C q2).2) ≤ x3 →
      gK Γ (.inl none) C I J R) ∧
      (¬ (nI (C q2).2) ≤ x3 →
      ∃ q5 : Nat, R x0 28 = some q5 ∧
      (C q5).1 = 21 ∧
      vp_in x3 (C q5).2 ∧
      (C q2).1 = 21 ∧
      vp_in x3 (C q2).2 ∧
      ∀ J10 : MJ, J10 = va_up J q2 (va_up (J q2) x3.toNatClampNeg (J q5 x3.toNatClampNeg)) →
      Q258 x0 (x3 + 1) C I J10 R))) :
    AW Γ 0 0 C I J R 258 [(0, aR (some x0)), (3, aI x3)] [] := by
  have G0 := G.1
  refine aw_iload_n G0 1 rfl dX2_makeRow_258 ?_
  refine aw_aload_n G0 0 rfl dX2_makeRow_259 ?_
  obtain ⟨k1, h⟩ := h
  refine aw_getR (f := 26) G0 (by rw [k1]; exact fb_X2_79) dX2_makeRow_260 ?_
  obtain ⟨q2, e2, h⟩ := h
  refine aw_dr0 e2 ?_
  obtain ⟨k3, h⟩ := h
  refine aw_alen (v := nI (C q2).2) G0 k3 rfl dX2_makeRow_263 ?_
  refine aw_icmp_ge G0 285 dX2_makeRow_264 (by decide) (fun c4 => ?_) (fun c4 => ?_)
  · have h := h.1 c4
    exact aw_return G0 (by rw [G.2.2]; decide) (by rw [G.2.1]; decide) dX2_makeRow_285 h
  · have h := h.2 c4
    refine aw_aload_n G0 0 rfl dX2_makeRow_267 ?_
    refine aw_getR (f := 26) G0 (by rw [k1]; exact fb_X2_79) dX2_makeRow_268 ?_
    refine aw_iload_n G0 1 rfl dX2_makeRow_271 ?_
    refine aw_aload_n G0 0 rfl dX2_makeRow_272 ?_
    refine aw_getR (f := 28) G0 (by rw [k1]; exact fb_X2_85) dX2_makeRow_273 ?_
    refine aw_iload_n G0 1 rfl dX2_makeRow_276 ?_
    obtain ⟨q5, e5, h⟩ := h
    refine aw_dr1 e5 ?_
    obtain ⟨k6, h⟩ := h
    obtain ⟨k7, h⟩ := h
    refine aw_lald G0 k6 k7 dX2_makeRow_277 ?_
    refine aw_dr2 e2 ?_
    obtain ⟨k8, h⟩ := h
    obtain ⟨k9, h⟩ := h
    refine aw_last G0 k8 k9 dX2_makeRow_278 ?_
    generalize gJ10 : va_up J q2 (va_up (J q2) x3.toNatClampNeg (J q5 x3.toNatClampNeg)) = J10
    have h := h J10 gJ10.symm
    refine aw_iinc (v := x3 + 1) (lv' := [(3, aI (x3 + 1)), (0, aR (some x0))]) G0 1 rfl rfl (by decide) rfl dX2_makeRow_279 ?_
    refine aw_goto G0 258 dX2_makeRow_282 (by decide) ?_
    exact (aw_lv [1, 0] rfl (w258 x0 (x3 + 1) C I J10 R h))
theorem bX2_at_0 (G : Gb Γ yX2_at cX2_at 2 (some .int) [] rmX2_at bdX2_at) {x0 : Int32} {x1 : Int32}
    (h : gK Γ (.inl (some (aI (((121 : Int32) * x0) + x1)))) C I J R) :
    AW Γ 0 0 C I J R 0 [(0, aI x0), (1, aI x1)] [] := by
  have G0 := G.1
  refine aw_bipush (v := (121 : Int32)) G0 dX2_at_0 (by decide) ?_
  refine aw_iload_n G0 0 rfl dX2_at_2 ?_
  refine aw_imul G0 dX2_at_3 ?_
  refine aw_iload_n G0 1 rfl dX2_at_4 ?_
  refine aw_iadd G0 dX2_at_5 ?_
  exact aw_ireturn G0 (Or.inl rfl) (by rw [G.2.2]; decide) (by rw [G.2.1]; decide) dX2_at_6 h
theorem bX2_makeFan_0 (G : Gb Γ yX2_makeFan cX2_makeFan 10 (none) [] rmX2_makeFan bdX2_makeFan)
    {Q8 : Nat → Int32 → Int64 → Int64 → Int32 → MC → MI → MJ → MR → Prop} (w8 : ∀ (x0 : Nat) (x1 : Int32) (x2 : Int64) (x4 : Int64) (x6 : Int32) (C : MC) (I : MI) (J : MJ) (R : MR), Q8 x0 x1 x2 x4 x6 C I J R → AW Γ 0 0 C I J R 8 [(0, aR (some x0)), (1, aI x1), (2, aJ x2), (4, aJ x4), (6, aI x6)] []) {x0 : Nat} {x1 : Int32}
    (h : Q8 x0 x1 (0 : Int64) (0 : Int64) (0 : Int32) C I J R) :
    AW Γ 0 0 C I J R 0 [(0, aR (some x0)), (1, aI x1)] [] := by
  have G0 := G.1
  refine aw_lconst (v := (0 : Int64)) G0 dX2_makeFan_0 (by decide) ?_
  refine aw_lstore_n (lv' := [(2, aJ (0 : Int64)), (0, aR (some x0)), (1, aI x1)]) G0 (by decide) rfl dX2_makeFan_1 ?_
  refine aw_lconst (v := (0 : Int64)) G0 dX2_makeFan_2 (by decide) ?_
  refine aw_lstore (lv' := [(4, aJ (0 : Int64)), (2, aJ (0 : Int64)), (0, aR (some x0)), (1, aI x1)]) G0 (by decide) rfl dX2_makeFan_3 ?_
  refine aw_iconst (v := (0 : Int32)) G0 dX2_makeFan_5 (by decide) ?_
  refine aw_istore (lv' := [(6, aI (0 : Int32)), (4, aJ (0 : Int64)), (2, aJ (0 : Int64)), (0, aR (some x0)), (1, aI x1)]) G0 (by decide) rfl dX2_makeFan_6 ?_
  exact (aw_lv [3, 4, 2, 1, 0] rfl (w8 x0 x1 (0 : Int64) (0 : Int64) (0 : Int32) C I J R h))
theorem bX2_makeFan_8 (G : Gb Γ yX2_makeFan cX2_makeFan 10 (none) [] rmX2_makeFan bdX2_makeFan) {F_X2_count : SPF} (S_X2_count : SpX2_count (gL Γ) F_X2_count)
    {Q34 : Nat → Int32 → Int64 → Int64 → Int32 → Int64 → Int32 → MC → MI → MJ → MR → Prop} (w34 : ∀ (x0 : Nat) (x1 : Int32) (x2 : Int64) (x4 : Int64) (x6 : Int32) (x7 : Int64) (x9 : Int32) (C : MC) (I : MI) (J : MJ) (R : MR), Q34 x0 x1 x2 x4 x6 x7 x9 C I J R → AW Γ 0 0 C I J R 34 [(0, aR (some x0)), (1, aI x1), (2, aJ x2), (4, aJ x4), (6, aI x6), (7, aJ x7), (9, aI x9)] []) {x0 : Nat} {x1 : Int32} {x2 : Int64} {x4 : Int64} {x6 : Int32}
    (h : (((121 : Int32) ≤ x6 →
      gK Γ (.inl none) C I J R) ∧
      (¬ (121 : Int32) ≤ x6 →
      (C x0).1 = 3 ∧
      F_X2_count [aR (some x0), aI x1, aI x6, aI (0 : Int32)] C I J R (fun o C3 I4 J5 R6 =>
      o = .inl none ∧
      (C3 x0).1 = 3 ∧
      ∃ q9 : Nat, R6 x0 9 = some q9 ∧
      (C3 q9).1 = 20 ∧
      vp_in x1 (C3 q9).2 ∧
      Q34 x0 x1 x2 x4 x6 (0 : Int64) (I4 q9 x1.toNatClampNeg) C3 I4 J5 R6)))) :
    AW Γ 0 0 C I J R 8 [(0, aR (some x0)), (1, aI x1), (2, aJ x2), (4, aJ x4), (6, aI x6)] [] := by
  have G0 := G.1
  refine aw_iload G0 4 rfl dX2_makeFan_8 ?_
  refine aw_bipush (v := (121 : Int32)) G0 dX2_makeFan_10 (by decide) ?_
  refine aw_icmp_ge G0 137 dX2_makeFan_12 (by decide) (fun c1 => ?_) (fun c1 => ?_)
  · have h := h.1 c1
    exact aw_return G0 (by rw [G.2.2]; decide) (by rw [G.2.1]; decide) dX2_makeFan_137 h
  · have h := h.2 c1
    refine aw_aload_n G0 0 rfl dX2_makeFan_15 ?_
    refine aw_iload_n G0 1 rfl dX2_makeFan_16 ?_
    refine aw_iload G0 4 rfl dX2_makeFan_17 ?_
    refine aw_iconst (v := (0 : Int32)) G0 dX2_makeFan_19 (by decide) ?_
    obtain ⟨k2, h⟩ := h
    refine aw_callV (k1 := 0) (n1 := 0) (k2 := 0) (n2 := 0) (st := []) G0 S_X2_count gi_X2_208 (Or.inl (by rw [k2]; decide)) (by rw [k2]; rfl) md_X2_count (Nat.le_of_ble_eq_true rfl) (by decide) (by rw [G.2.1]; decide) (by rw [G.2.1]; decide) [aI x1, aI x6, aI (0 : Int32)] rfl rfl dX2_makeFan_20 h (fun o C3 I4 J5 R6 h => ?_)
    obtain ⟨rfl, h⟩ := h
    show AW Γ 0 0 C3 I4 J5 R6 (20 + 3) [(0, aR (some x0)), (1, aI x1), (2, aJ x2), (4, aJ x4), (6, aI x6)] []
    refine aw_lconst (v := (0 : Int64)) G0 dX2_makeFan_23 (by decide) ?_
    refine aw_lstore (lv' := [(7, aJ (0 : Int64)), (0, aR (some x0)), (1, aI x1), (2, aJ x2), (4, aJ x4), (6, aI x6)]) G0 (by decide) rfl dX2_makeFan_24 ?_
    refine aw_aload_n G0 1 rfl dX2_makeFan_26 ?_
    obtain ⟨k8, h⟩ := h
    refine aw_getR (f := 9) G0 (by rw [k8]; exact fb_X2_30) dX2_makeFan_27 ?_
    refine aw_iload_n G0 2 rfl dX2_makeFan_30 ?_
    obtain ⟨q9, e9, h⟩ := h
    refine aw_dr1 e9 ?_
    obtain ⟨k10, h⟩ := h
    obtain ⟨k11, h⟩ := h
    refine aw_iald G0 (Or.inl k10) k11 dX2_makeFan_31 ?_
    refine aw_istore (lv' := [(9, aI (I4 q9 x1.toNatClampNeg)), (7, aJ (0 : Int64)), (0, aR (some x0)), (1, aI x1), (2, aJ x2), (4, aJ x4), (6, aI x6)]) G0 (by decide) rfl dX2_makeFan_32 ?_
    exact (aw_lv [2, 3, 4, 5, 6, 1, 0] rfl (w34 x0 x1 x2 x4 x6 (0 : Int64) (I4 q9 x1.toNatClampNeg) C3 I4 J5 R6 h))
theorem bX2_makeFan_34 (G : Gb Γ yX2_makeFan cX2_makeFan 10 (none) [] rmX2_makeFan bdX2_makeFan) {F_X2_count : SPF} (S_X2_count : SpX2_count (gL Γ) F_X2_count)
    {Q34 : Nat → Int32 → Int64 → Int64 → Int32 → Int64 → Int32 → MC → MI → MJ → MR → Prop} (w34 : ∀ (x0 : Nat) (x1 : Int32) (x2 : Int64) (x4 : Int64) (x6 : Int32) (x7 : Int64) (x9 : Int32) (C : MC) (I : MI) (J : MJ) (R : MR), Q34 x0 x1 x2 x4 x6 x7 x9 C I J R → AW Γ 0 0 C I J R 34 [(0, aR (some x0)), (1, aI x1), (2, aJ x2), (4, aJ x4), (6, aI x6), (7, aJ x7), (9, aI x9)] [])
    {Q86 : Nat → Int32 → Int64 → Int64 → Int32 → Int64 → Int32 → MC → MI → MJ → MR → Prop} (w86 : ∀ (x0 : Nat) (x1 : Int32) (x2 : Int64) (x4 : Int64) (x6 : Int32) (x7 : Int64) (x9 : Int32) (C : MC) (I : MI) (J : MJ) (R : MR), Q86 x0 x1 x2 x4 x6 x7 x9 C I J R → AW Γ 0 0 C I J R 86 [(0, aR (some x0)), (1, aI x1), (2, aJ x2), (4, aJ x4), (6, aI x6), (7, aJ x7), (9, aI x9)] []) {x0 : Nat} {x1 : Int32} {x2 : Int64} {x4 : Int64} {x6 : Int32} {x7 : Int64} {x9 : Int32}
    (h : (((5 : Int32) ≤ x9 →
      (C x0).1 = 3 ∧
      ∃ q3 : Nat, R x0 26 = some q3 ∧
      (C q3).1 = 21 ∧
      vp_in x6 (C q3).2 ∧
      ∀ J6 : MJ, J6 = va_up J q3 (va_up (J q3) x6.toNatClampNeg (x7 - x2)) →
      F_X2_count [aR (some x0), aI x1, aI x6, aI (1 : Int32)] C I J6 R (fun o C7 I8 J9 R10 =>
      o = .inl none ∧
      Q86 x0 x1 x7 x4 x6 (0 : Int64) (0 : Int32) C7 I8 J9 R10)) ∧
      (¬ (5 : Int32) ≤ x9 →
      (C x0).1 = 3 ∧
      ∃ q13 : Nat, R x0 31 = some q13 ∧
      (C q13).1 = 21 ∧
      vp_in x9 (C q13).2 ∧
      Q34 x0 x1 x2 x4 x6 (x7 + (J q13 x9.toNatClampNeg)) (x9 + 1) C I J R))) :
    AW Γ 0 0 C I J R 34 [(0, aR (some x0)), (1, aI x1), (2, aJ x2), (4, aJ x4), (6, aI x6), (7, aJ x7), (9, aI x9)] [] := by
  have G0 := G.1
  refine aw_iload G0 6 rfl dX2_makeFan_34 ?_
  refine aw_iconst (v := (5 : Int32)) G0 dX2_makeFan_36 (by decide) ?_
  refine aw_icmp_ge G0 58 dX2_makeFan_37 (by decide) (fun c1 => ?_) (fun c1 => ?_)
  · have h := h.1 c1
    refine aw_aload_n G0 0 rfl dX2_makeFan_58 ?_
    obtain ⟨k2, h⟩ := h
    refine aw_getR (f := 26) G0 (by rw [k2]; exact fb_X2_79) dX2_makeFan_59 ?_
    refine aw_iload G0 4 rfl dX2_makeFan_62 ?_
    refine aw_lload G0 5 rfl dX2_makeFan_64 ?_
    refine aw_lload_n G0 2 rfl dX2_makeFan_66 ?_
    refine aw_lsub G0 dX2_makeFan_67 ?_
    obtain ⟨q3, e3, h⟩ := h
    refine aw_dr2 e3 ?_
    obtain ⟨k4, h⟩ := h
    obtain ⟨k5, h⟩ := h
    refine aw_last G0 k4 k5 dX2_makeFan_68 ?_
    generalize gJ6 : va_up J q3 (va_up (J q3) x6.toNatClampNeg (x7 - x2)) = J6
    have h := h J6 gJ6.symm
    refine aw_lload G0 5 rfl dX2_makeFan_69 ?_
    refine aw_lstore_n (lv' := [(2, aJ x7), (0, aR (some x0)), (1, aI x1), (4, aJ x4), (6, aI x6), (7, aJ x7), (9, aI x9)]) G0 (by decide) rfl dX2_makeFan_71 ?_
    refine aw_aload_n G0 1 rfl dX2_makeFan_72 ?_
    refine aw_iload_n G0 2 rfl dX2_makeFan_73 ?_
    refine aw_iload G0 4 rfl dX2_makeFan_74 ?_
    refine aw_iconst (v := (1 : Int32)) G0 dX2_makeFan_76 (by decide) ?_
    refine aw_callV (k1 := 0) (n1 := 0) (k2 := 0) (n2 := 0) (st := []) G0 S_X2_count gi_X2_208 (Or.inl (by rw [k2]; decide)) (by rw [k2]; rfl) md_X2_count (Nat.le_of_ble_eq_true rfl) (by decide) (by rw [G.2.1]; decide) (by rw [G.2.1]; decide) [aI x1, aI x6, aI (1 : Int32)] rfl rfl dX2_makeFan_77 h (fun o C7 I8 J9 R10 h => ?_)
    obtain ⟨rfl, h⟩ := h
    show AW Γ 0 0 C7 I8 J9 R10 (77 + 3) [(2, aJ x7), (0, aR (some x0)), (1, aI x1), (4, aJ x4), (6, aI x6), (7, aJ x7), (9, aI x9)] []
    refine aw_lconst (v := (0 : Int64)) G0 dX2_makeFan_80 (by decide) ?_
    refine aw_lstore (lv' := [(7, aJ (0 : Int64)), (2, aJ x7), (0, aR (some x0)), (1, aI x1), (4, aJ x4), (6, aI x6), (9, aI x9)]) G0 (by decide) rfl dX2_makeFan_81 ?_
    refine aw_iconst (v := (0 : Int32)) G0 dX2_makeFan_83 (by decide) ?_
    refine aw_istore (lv' := [(9, aI (0 : Int32)), (7, aJ (0 : Int64)), (2, aJ x7), (0, aR (some x0)), (1, aI x1), (4, aJ x4), (6, aI x6)]) G0 (by decide) rfl dX2_makeFan_84 ?_
    exact (aw_lv [3, 4, 2, 5, 6, 1, 0] rfl (w86 x0 x1 x7 x4 x6 (0 : Int64) (0 : Int32) C7 I8 J9 R10 h))
  · have h := h.2 c1
    refine aw_lload G0 5 rfl dX2_makeFan_40 ?_
    refine aw_aload_n G0 0 rfl dX2_makeFan_42 ?_
    obtain ⟨k12, h⟩ := h
    refine aw_getR (f := 31) G0 (by rw [k12]; exact fb_X2_91) dX2_makeFan_43 ?_
    refine aw_iload G0 6 rfl dX2_makeFan_46 ?_
    obtain ⟨q13, e13, h⟩ := h
    refine aw_dr1 e13 ?_
    obtain ⟨k14, h⟩ := h
    obtain ⟨k15, h⟩ := h
    refine aw_lald G0 k14 k15 dX2_makeFan_48 ?_
    refine aw_ladd G0 dX2_makeFan_49 ?_
    refine aw_lstore (lv' := [(7, aJ (x7 + (J q13 x9.toNatClampNeg))), (0, aR (some x0)), (1, aI x1), (2, aJ x2), (4, aJ x4), (6, aI x6), (9, aI x9)]) G0 (by decide) rfl dX2_makeFan_50 ?_
    refine aw_iinc (v := x9 + 1) (lv' := [(9, aI (x9 + 1)), (7, aJ (x7 + (J q13 x9.toNatClampNeg))), (0, aR (some x0)), (1, aI x1), (2, aJ x2), (4, aJ x4), (6, aI x6)]) G0 6 rfl rfl (by decide) rfl dX2_makeFan_52 ?_
    refine aw_goto G0 34 dX2_makeFan_55 (by decide) ?_
    exact (aw_lv [2, 3, 4, 5, 6, 1, 0] rfl (w34 x0 x1 x2 x4 x6 (x7 + (J q13 x9.toNatClampNeg)) (x9 + 1) C I J R h))
theorem bX2_makeFan_86 (G : Gb Γ yX2_makeFan cX2_makeFan 10 (none) [] rmX2_makeFan bdX2_makeFan)
    {Q8 : Nat → Int32 → Int64 → Int64 → Int32 → MC → MI → MJ → MR → Prop} (w8 : ∀ (x0 : Nat) (x1 : Int32) (x2 : Int64) (x4 : Int64) (x6 : Int32) (C : MC) (I : MI) (J : MJ) (R : MR), Q8 x0 x1 x2 x4 x6 C I J R → AW Γ 0 0 C I J R 8 [(0, aR (some x0)), (1, aI x1), (2, aJ x2), (4, aJ x4), (6, aI x6)] [])
    {Q86 : Nat → Int32 → Int64 → Int64 → Int32 → Int64 → Int32 → MC → MI → MJ → MR → Prop} (w86 : ∀ (x0 : Nat) (x1 : Int32) (x2 : Int64) (x4 : Int64) (x6 : Int32) (x7 : Int64) (x9 : Int32) (C : MC) (I : MI) (J : MJ) (R : MR), Q86 x0 x1 x2 x4 x6 x7 x9 C I J R → AW Γ 0 0 C I J R 86 [(0, aR (some x0)), (1, aI x1), (2, aJ x2), (4, aJ x4), (6, aI x6), (7, aJ x7), (9, aI x9)] []) {x0 : Nat} {x1 : Int32} {x2 : Int64} {x4 : Int64} {x6 : Int32} {x7 : Int64} {x9 : Int32}
    (h : (C x0).1 = 3 ∧
      ∃ q2 : Nat, R x0 9 = some q2 ∧
      (C q2).1 = 20 ∧
      vp_in x1 (C q2).2 ∧
      (((I q2 x1.toNatClampNeg) ≤ x9 →
      ∃ q6 : Nat, R x0 27 = some q6 ∧
      (C q6).1 = 21 ∧
      vp_in x6 (C q6).2 ∧
      ∀ J9 : MJ, J9 = va_up J q6 (va_up (J q6) x6.toNatClampNeg (x7 - x4)) →
      Q8 x0 x1 x2 x7 (x6 + 1) C I J9 R) ∧
      (¬ (I q2 x1.toNatClampNeg) ≤ x9 →
      ∃ q10 : Nat, R x0 31 = some q10 ∧
      (C q10).1 = 21 ∧
      vp_in x9 (C q10).2 ∧
      Q86 x0 x1 x2 x4 x6 (x7 + (J q10 x9.toNatClampNeg)) (x9 + 1) C I J R))) :
    AW Γ 0 0 C I J R 86 [(0, aR (some x0)), (1, aI x1), (2, aJ x2), (4, aJ x4), (6, aI x6), (7, aJ x7), (9, aI x9)] [] := by
  have G0 := G.1
  refine aw_iload G0 6 rfl dX2_makeFan_86 ?_
  refine aw_aload_n G0 0 rfl dX2_makeFan_88 ?_
  obtain ⟨k1, h⟩ := h
  refine aw_getR (f := 9) G0 (by rw [k1]; exact fb_X2_30) dX2_makeFan_89 ?_
  refine aw_iload_n G0 1 rfl dX2_makeFan_92 ?_
  obtain ⟨q2, e2, h⟩ := h
  refine aw_dr1 e2 ?_
  obtain ⟨k3, h⟩ := h
  obtain ⟨k4, h⟩ := h
  refine aw_iald G0 (Or.inl k3) k4 dX2_makeFan_93 ?_
  refine aw_icmp_ge G0 115 dX2_makeFan_94 (by decide) (fun c5 => ?_) (fun c5 => ?_)
  · have h := h.1 c5
    refine aw_aload_n G0 0 rfl dX2_makeFan_115 ?_
    refine aw_getR (f := 27) G0 (by rw [k1]; exact fb_X2_82) dX2_makeFan_116 ?_
    refine aw_iload G0 4 rfl dX2_makeFan_119 ?_
    refine aw_lload G0 5 rfl dX2_makeFan_121 ?_
    refine aw_lload G0 3 rfl dX2_makeFan_123 ?_
    refine aw_lsub G0 dX2_makeFan_125 ?_
    obtain ⟨q6, e6, h⟩ := h
    refine aw_dr2 e6 ?_
    obtain ⟨k7, h⟩ := h
    obtain ⟨k8, h⟩ := h
    refine aw_last G0 k7 k8 dX2_makeFan_126 ?_
    generalize gJ9 : va_up J q6 (va_up (J q6) x6.toNatClampNeg (x7 - x4)) = J9
    have h := h J9 gJ9.symm
    refine aw_lload G0 5 rfl dX2_makeFan_127 ?_
    refine aw_lstore (lv' := [(4, aJ x7), (0, aR (some x0)), (1, aI x1), (2, aJ x2), (6, aI x6), (7, aJ x7), (9, aI x9)]) G0 (by decide) rfl dX2_makeFan_129 ?_
    refine aw_iinc (v := x6 + 1) (lv' := [(6, aI (x6 + 1)), (4, aJ x7), (0, aR (some x0)), (1, aI x1), (2, aJ x2), (7, aJ x7), (9, aI x9)]) G0 4 rfl rfl (by decide) rfl dX2_makeFan_131 ?_
    refine aw_goto G0 8 dX2_makeFan_134 (by decide) ?_
    exact (aw_lv [2, 3, 4, 1, 0] rfl (w8 x0 x1 x2 x7 (x6 + 1) C I J9 R h))
  · have h := h.2 c5
    refine aw_lload G0 5 rfl dX2_makeFan_97 ?_
    refine aw_aload_n G0 0 rfl dX2_makeFan_99 ?_
    refine aw_getR (f := 31) G0 (by rw [k1]; exact fb_X2_91) dX2_makeFan_100 ?_
    refine aw_iload G0 6 rfl dX2_makeFan_103 ?_
    obtain ⟨q10, e10, h⟩ := h
    refine aw_dr1 e10 ?_
    obtain ⟨k11, h⟩ := h
    obtain ⟨k12, h⟩ := h
    refine aw_lald G0 k11 k12 dX2_makeFan_105 ?_
    refine aw_ladd G0 dX2_makeFan_106 ?_
    refine aw_lstore (lv' := [(7, aJ (x7 + (J q10 x9.toNatClampNeg))), (0, aR (some x0)), (1, aI x1), (2, aJ x2), (4, aJ x4), (6, aI x6), (9, aI x9)]) G0 (by decide) rfl dX2_makeFan_107 ?_
    refine aw_iinc (v := x9 + 1) (lv' := [(9, aI (x9 + 1)), (7, aJ (x7 + (J q10 x9.toNatClampNeg))), (0, aR (some x0)), (1, aI x1), (2, aJ x2), (4, aJ x4), (6, aI x6)]) G0 6 rfl rfl (by decide) rfl dX2_makeFan_109 ?_
    refine aw_goto G0 86 dX2_makeFan_112 (by decide) ?_
    exact (aw_lv [2, 3, 4, 5, 6, 1, 0] rfl (w86 x0 x1 x2 x4 x6 (x7 + (J q10 x9.toNatClampNeg)) (x9 + 1) C I J R h))
theorem bX2_count_0 (G : Gb Γ yX2_count cX2_count 11 (none) [] rmX2_count bdX2_count)
    {Q3 : Nat → Int32 → Int32 → Int32 → Int32 → MC → MI → MJ → MR → Prop} (w3 : ∀ (x0 : Nat) (x1 : Int32) (x2 : Int32) (x3 : Int32) (x4 : Int32) (C : MC) (I : MI) (J : MJ) (R : MR), Q3 x0 x1 x2 x3 x4 C I J R → AW Γ 0 0 C I J R 3 [(0, aR (some x0)), (1, aI x1), (2, aI x2), (3, aI x3), (4, aI x4)] []) {x0 : Nat} {x1 : Int32} {x2 : Int32} {x3 : Int32}
    (h : Q3 x0 x1 x2 x3 (0 : Int32) C I J R) :
    AW Γ 0 0 C I J R 0 [(0, aR (some x0)), (1, aI x1), (2, aI x2), (3, aI x3)] [] := by
  have G0 := G.1
  refine aw_iconst (v := (0 : Int32)) G0 dX2_count_0 (by decide) ?_
  refine aw_istore (lv' := [(4, aI (0 : Int32)), (0, aR (some x0)), (1, aI x1), (2, aI x2), (3, aI x3)]) G0 (by decide) rfl dX2_count_1 ?_
  exact (aw_lv [1, 2, 3, 4, 0] rfl (w3 x0 x1 x2 x3 (0 : Int32) C I J R h))
theorem bX2_count_3 (G : Gb Γ yX2_count cX2_count 11 (none) [] rmX2_count bdX2_count)
    {Q25 : Nat → Int32 → Int32 → Int32 → Int32 → Option Nat → Int32 → Int64 → MC → MI → MJ → MR → Prop} (w25 : ∀ (x0 : Nat) (x1 : Int32) (x2 : Int32) (x3 : Int32) (x4 : Int32) (s0 : Option Nat) (s1 : Int32) (s2 : Int64) (C : MC) (I : MI) (J : MJ) (R : MR), Q25 x0 x1 x2 x3 x4 s0 s1 s2 C I J R → AW Γ 0 0 C I J R 25 [(0, aR (some x0)), (1, aI x1), (2, aI x2), (3, aI x3), (4, aI x4)] [aJ s2, aI s1, aR s0])
    {Q35 : Nat → Int32 → Int32 → Int32 → Int32 → MC → MI → MJ → MR → Prop} (w35 : ∀ (x0 : Nat) (x1 : Int32) (x2 : Int32) (x3 : Int32) (x4 : Int32) (C : MC) (I : MI) (J : MJ) (R : MR), Q35 x0 x1 x2 x3 x4 C I J R → AW Γ 0 0 C I J R 35 [(0, aR (some x0)), (1, aI x1), (2, aI x2), (3, aI x3), (4, aI x4)] []) {x0 : Nat} {x1 : Int32} {x2 : Int32} {x3 : Int32} {x4 : Int32}
    (h : (((5 : Int32) ≤ x4 →
      Q35 x0 x1 x2 x3 (0 : Int32) C I J R) ∧
      (¬ (5 : Int32) ≤ x4 →
      (C x0).1 = 3 ∧
      ((¬ x4 = 0 →
      Q25 x0 x1 x2 x3 x4 (R x0 31) x4 (0 : Int64) C I J R) ∧
      (x4 = 0 →
      Q25 x0 x1 x2 x3 x4 (R x0 31) x4 (1 : Int64) C I J R))))) :
    AW Γ 0 0 C I J R 3 [(0, aR (some x0)), (1, aI x1), (2, aI x2), (3, aI x3), (4, aI x4)] [] := by
  have G0 := G.1
  refine aw_iload G0 4 rfl dX2_count_3 ?_
  refine aw_iconst (v := (5 : Int32)) G0 dX2_count_5 (by decide) ?_
  refine aw_icmp_ge G0 32 dX2_count_6 (by decide) (fun c1 => ?_) (fun c1 => ?_)
  · have h := h.1 c1
    refine aw_iconst (v := (0 : Int32)) G0 dX2_count_32 (by decide) ?_
    refine aw_istore (lv' := [(4, aI (0 : Int32)), (0, aR (some x0)), (1, aI x1), (2, aI x2), (3, aI x3)]) G0 (by decide) rfl dX2_count_33 ?_
    exact (aw_lv [1, 2, 3, 4, 0] rfl (w35 x0 x1 x2 x3 (0 : Int32) C I J R h))
  · have h := h.2 c1
    refine aw_aload_n G0 0 rfl dX2_count_9 ?_
    obtain ⟨k2, h⟩ := h
    refine aw_getR (f := 31) G0 (by rw [k2]; exact fb_X2_91) dX2_count_10 ?_
    refine aw_iload G0 4 rfl dX2_count_13 ?_
    refine aw_iload G0 4 rfl dX2_count_15 ?_
    refine aw_if_ne G0 24 dX2_count_17 (by decide) (fun c3 => ?_) (fun c3 => ?_)
    · have h := h.1 c3
      refine aw_lconst (v := (0 : Int64)) G0 dX2_count_24 (by decide) ?_
      exact (w25 x0 x1 x2 x3 x4 (R x0 31) x4 (0 : Int64) C I J R h)
    · have h := h.2 c3
      refine aw_lconst (v := (1 : Int64)) G0 dX2_count_20 (by decide) ?_
      refine aw_goto G0 25 dX2_count_21 (by decide) ?_
      exact (w25 x0 x1 x2 x3 x4 (R x0 31) x4 (1 : Int64) C I J R h)
theorem bX2_count_25 (G : Gb Γ yX2_count cX2_count 11 (none) [] rmX2_count bdX2_count)
    {Q3 : Nat → Int32 → Int32 → Int32 → Int32 → MC → MI → MJ → MR → Prop} (w3 : ∀ (x0 : Nat) (x1 : Int32) (x2 : Int32) (x3 : Int32) (x4 : Int32) (C : MC) (I : MI) (J : MJ) (R : MR), Q3 x0 x1 x2 x3 x4 C I J R → AW Γ 0 0 C I J R 3 [(0, aR (some x0)), (1, aI x1), (2, aI x2), (3, aI x3), (4, aI x4)] []) {x0 : Nat} {x1 : Int32} {x2 : Int32} {x3 : Int32} {x4 : Int32} {s0 : Option Nat} {s1 : Int32} {s2 : Int64}
    (h : ∃ q1 : Nat, s0 = some q1 ∧
      (C q1).1 = 21 ∧
      vp_in s1 (C q1).2 ∧
      ∀ J4 : MJ, J4 = va_up J q1 (va_up (J q1) s1.toNatClampNeg s2) →
      Q3 x0 x1 x2 x3 (x4 + 1) C I J4 R) :
    AW Γ 0 0 C I J R 25 [(0, aR (some x0)), (1, aI x1), (2, aI x2), (3, aI x3), (4, aI x4)] [aJ s2, aI s1, aR s0] := by
  have G0 := G.1
  obtain ⟨q1, e1, h⟩ := h
  refine aw_dr2 e1 ?_
  obtain ⟨k2, h⟩ := h
  obtain ⟨k3, h⟩ := h
  refine aw_last G0 k2 k3 dX2_count_25 ?_
  generalize gJ4 : va_up J q1 (va_up (J q1) s1.toNatClampNeg s2) = J4
  have h := h J4 gJ4.symm
  refine aw_iinc (v := x4 + 1) (lv' := [(4, aI (x4 + 1)), (0, aR (some x0)), (1, aI x1), (2, aI x2), (3, aI x3)]) G0 4 rfl rfl (by decide) rfl dX2_count_26 ?_
  refine aw_goto G0 3 dX2_count_29 (by decide) ?_
  exact (aw_lv [1, 2, 3, 4, 0] rfl (w3 x0 x1 x2 x3 (x4 + 1) C I J4 R h))
theorem bX2_count_35 (G : Gb Γ yX2_count cX2_count 11 (none) [] rmX2_count bdX2_count)
    {Q87 : Nat → Int32 → Int32 → Int32 → Int32 → Int32 → Int64 → Int64 → MC → MI → MJ → MR → Prop} (w87 : ∀ (x0 : Nat) (x1 : Int32) (x2 : Int32) (x3 : Int32) (x4 : Int32) (x5 : Int32) (x6 : Int64) (s0 : Int64) (C : MC) (I : MI) (J : MJ) (R : MR), Q87 x0 x1 x2 x3 x4 x5 x6 s0 C I J R → AW Γ 0 0 C I J R 87 [(0, aR (some x0)), (1, aI x1), (2, aI x2), (3, aI x3), (4, aI x4), (5, aI x5), (6, aJ x6)] [aJ s0]) {x0 : Nat} {x1 : Int32} {x2 : Int32} {x3 : Int32} {x4 : Int32}
    (h : (((4 : Int32) ≤ x4 →
      gK Γ (.inl none) C I J R) ∧
      (¬ (4 : Int32) ≤ x4 →
      (C x0).1 = 3 ∧
      ∃ q3 : Nat, R x0 8 = some q3 ∧
      (C q3).1 = 20 ∧
      vp_in (((4 : Int32) * x1) + x4) (C q3).2 ∧
      (((I q3 (((4 : Int32) * x1) + x4).toNatClampNeg) = (-1 : Int32) →
      gK Γ (.inl none) C I J R) ∧
      (¬ (I q3 (((4 : Int32) * x1) + x4).toNatClampNeg) = (-1 : Int32) →
      ((x3 = 0 →
      ∃ q8 : Nat, R x0 24 = some q8 ∧
      (C q8).1 = 21 ∧
      vp_in (I q3 (((4 : Int32) * x1) + x4).toNatClampNeg) (C q8).2 ∧
      Q87 x0 x1 x2 x3 x4 (I q3 (((4 : Int32) * x1) + x4).toNatClampNeg) (0 : Int64) (J q8 (I q3 (((4 : Int32) * x1) + x4).toNatClampNeg).toNatClampNeg) C I J R) ∧
      (¬ x3 = 0 →
      Q87 x0 x1 x2 x3 x4 (I q3 (((4 : Int32) * x1) + x4).toNatClampNeg) (0 : Int64) (0 : Int64) C I J R))))))) :
    AW Γ 0 0 C I J R 35 [(0, aR (some x0)), (1, aI x1), (2, aI x2), (3, aI x3), (4, aI x4)] [] := by
  have G0 := G.1
  refine aw_iload G0 4 rfl dX2_count_35 ?_
  refine aw_iconst (v := (4 : Int32)) G0 dX2_count_37 (by decide) ?_
  refine aw_icmp_ge G0 217 dX2_count_38 (by decide) (fun c1 => ?_) (fun c1 => ?_)
  · have h := h.1 c1
    exact aw_return G0 (by rw [G.2.2]; decide) (by rw [G.2.1]; decide) dX2_count_217 h
  · have h := h.2 c1
    refine aw_aload_n G0 0 rfl dX2_count_41 ?_
    obtain ⟨k2, h⟩ := h
    refine aw_getR (f := 8) G0 (by rw [k2]; exact fb_X2_27) dX2_count_42 ?_
    refine aw_iconst (v := (4 : Int32)) G0 dX2_count_45 (by decide) ?_
    refine aw_iload_n G0 1 rfl dX2_count_46 ?_
    refine aw_imul G0 dX2_count_47 ?_
    refine aw_iload G0 4 rfl dX2_count_48 ?_
    refine aw_iadd G0 dX2_count_50 ?_
    obtain ⟨q3, e3, h⟩ := h
    refine aw_dr1 e3 ?_
    obtain ⟨k4, h⟩ := h
    obtain ⟨k5, h⟩ := h
    refine aw_iald G0 (Or.inl k4) k5 dX2_count_51 ?_
    refine aw_iconst (v := (-1 : Int32)) G0 dX2_count_52 (by decide) ?_
    refine aw_icmp_eq G0 217 dX2_count_53 (by decide) (fun c6 => ?_) (fun c6 => ?_)
    · have h := h.1 c6
      exact aw_return G0 (by rw [G.2.2]; decide) (by rw [G.2.1]; decide) dX2_count_217 h
    · have h := h.2 c6
      refine aw_aload_n G0 0 rfl dX2_count_56 ?_
      refine aw_getR (f := 8) G0 (by rw [k2]; exact fb_X2_27) dX2_count_57 ?_
      refine aw_iconst (v := (4 : Int32)) G0 dX2_count_60 (by decide) ?_
      refine aw_iload_n G0 1 rfl dX2_count_61 ?_
      refine aw_imul G0 dX2_count_62 ?_
      refine aw_iload G0 4 rfl dX2_count_63 ?_
      refine aw_iadd G0 dX2_count_65 ?_
      refine aw_dr1 e3 ?_
      refine aw_iald G0 (Or.inl k4) k5 dX2_count_66 ?_
      refine aw_istore (lv' := [(5, aI (I q3 (((4 : Int32) * x1) + x4).toNatClampNeg)), (0, aR (some x0)), (1, aI x1), (2, aI x2), (3, aI x3), (4, aI x4)]) G0 (by decide) rfl dX2_count_67 ?_
      refine aw_lconst (v := (0 : Int64)) G0 dX2_count_69 (by decide) ?_
      refine aw_lstore (lv' := [(6, aJ (0 : Int64)), (5, aI (I q3 (((4 : Int32) * x1) + x4).toNatClampNeg)), (0, aR (some x0)), (1, aI x1), (2, aI x2), (3, aI x3), (4, aI x4)]) G0 (by decide) rfl dX2_count_70 ?_
      refine aw_iload_n G0 5 rfl dX2_count_72 ?_
      refine aw_if_eq G0 80 dX2_count_73 (by decide) (fun c7 => ?_) (fun c7 => ?_)
      · have h := h.1 c7
        refine aw_aload_n G0 2 rfl dX2_count_80 ?_
        refine aw_getR (f := 24) G0 (by rw [k2]; exact fb_X2_72) dX2_count_81 ?_
        refine aw_iload G0 1 rfl dX2_count_84 ?_
        obtain ⟨q8, e8, h⟩ := h
        refine aw_dr1 e8 ?_
        obtain ⟨k9, h⟩ := h
        obtain ⟨k10, h⟩ := h
        refine aw_lald G0 k9 k10 dX2_count_86 ?_
        exact (aw_lv [2, 3, 4, 5, 6, 1, 0] rfl (w87 x0 x1 x2 x3 x4 (I q3 (((4 : Int32) * x1) + x4).toNatClampNeg) (0 : Int64) (J q8 (I q3 (((4 : Int32) * x1) + x4).toNatClampNeg).toNatClampNeg) C I J R h))
      · have h := h.2 c7
        refine aw_lconst (v := (0 : Int64)) G0 dX2_count_76 (by decide) ?_
        refine aw_goto G0 87 dX2_count_77 (by decide) ?_
        exact (aw_lv [2, 3, 4, 5, 6, 1, 0] rfl (w87 x0 x1 x2 x3 x4 (I q3 (((4 : Int32) * x1) + x4).toNatClampNeg) (0 : Int64) (0 : Int64) C I J R h))
theorem bX2_count_87 (G : Gb Γ yX2_count cX2_count 11 (none) [] rmX2_count bdX2_count)
    {Q92 : Nat → Int32 → Int32 → Int32 → Int32 → Int32 → Int64 → Int64 → Int32 → MC → MI → MJ → MR → Prop} (w92 : ∀ (x0 : Nat) (x1 : Int32) (x2 : Int32) (x3 : Int32) (x4 : Int32) (x5 : Int32) (x6 : Int64) (x8 : Int64) (x10 : Int32) (C : MC) (I : MI) (J : MJ) (R : MR), Q92 x0 x1 x2 x3 x4 x5 x6 x8 x10 C I J R → AW Γ 0 0 C I J R 92 [(0, aR (some x0)), (1, aI x1), (2, aI x2), (3, aI x3), (4, aI x4), (5, aI x5), (6, aJ x6), (8, aJ x8), (10, aI x10)] []) {x0 : Nat} {x1 : Int32} {x2 : Int32} {x3 : Int32} {x4 : Int32} {x5 : Int32} {x6 : Int64} {s0 : Int64}
    (h : Q92 x0 x1 x2 x3 x4 x5 x6 s0 (0 : Int32) C I J R) :
    AW Γ 0 0 C I J R 87 [(0, aR (some x0)), (1, aI x1), (2, aI x2), (3, aI x3), (4, aI x4), (5, aI x5), (6, aJ x6)] [aJ s0] := by
  have G0 := G.1
  refine aw_lstore (lv' := [(8, aJ s0), (0, aR (some x0)), (1, aI x1), (2, aI x2), (3, aI x3), (4, aI x4), (5, aI x5), (6, aJ x6)]) G0 (by decide) rfl dX2_count_87 ?_
  refine aw_iconst (v := (0 : Int32)) G0 dX2_count_89 (by decide) ?_
  refine aw_istore (lv' := [(10, aI (0 : Int32)), (8, aJ s0), (0, aR (some x0)), (1, aI x1), (2, aI x2), (3, aI x3), (4, aI x4), (5, aI x5), (6, aJ x6)]) G0 (by decide) rfl dX2_count_90 ?_
  exact (aw_lv [2, 3, 4, 5, 6, 7, 8, 1, 0] rfl (w92 x0 x1 x2 x3 x4 x5 x6 s0 (0 : Int32) C I J R h))
theorem bX2_count_92 (G : Gb Γ yX2_count cX2_count 11 (none) [] rmX2_count bdX2_count) {F_X2_at : SPF} (S_X2_at : SpX2_at (gL Γ) F_X2_at)
    {Q149 : Nat → Int32 → Int32 → Int32 → Int32 → Int32 → Int64 → Int32 → Int64 → Int64 → MC → MI → MJ → MR → Prop} (w149 : ∀ (x0 : Nat) (x1 : Int32) (x2 : Int32) (x3 : Int32) (x4 : Int32) (x5 : Int32) (x6 : Int64) (x10 : Int32) (s0 : Int64) (s1 : Int64) (C : MC) (I : MI) (J : MJ) (R : MR), Q149 x0 x1 x2 x3 x4 x5 x6 x10 s0 s1 C I J R → AW Γ 0 0 C I J R 149 [(0, aR (some x0)), (1, aI x1), (2, aI x2), (3, aI x3), (4, aI x4), (5, aI x5), (6, aJ x6), (10, aI x10)] [aJ s1, aJ s0])
    {Q161 : Nat → Int32 → Int32 → Int32 → Int32 → Int64 → Int64 → Int32 → MC → MI → MJ → MR → Prop} (w161 : ∀ (x0 : Nat) (x1 : Int32) (x2 : Int32) (x3 : Int32) (x4 : Int32) (x6 : Int64) (x8 : Int64) (x10 : Int32) (C : MC) (I : MI) (J : MJ) (R : MR), Q161 x0 x1 x2 x3 x4 x6 x8 x10 C I J R → AW Γ 0 0 C I J R 161 [(0, aR (some x0)), (1, aI x1), (2, aI x2), (3, aI x3), (4, aI x4), (6, aJ x6), (8, aJ x8), (10, aI x10)] []) {x0 : Nat} {x1 : Int32} {x2 : Int32} {x3 : Int32} {x4 : Int32} {x5 : Int32} {x6 : Int64} {x8 : Int64} {x10 : Int32}
    (h : ((x2 < x10 →
      Q161 x0 x1 x2 x3 x4 x6 x8 (4 : Int32) C I J R) ∧
      (¬ x2 < x10 →
      (C x0).1 = 3 ∧
      F_X2_at [aI x5, aI x10] C I J R (fun o C3 I4 J5 R6 =>
      ∃ r7 : Int32, o = .inl (some (aI r7)) ∧
      ∃ q8 : Nat, R x0 22 = some q8 ∧
      (C3 q8).1 = 21 ∧
      vp_in r7 (C3 q8).2 ∧
      ((x3 = 0 →
      (C3 x0).1 = 3 ∧
      F_X2_at [aI x5, aI x10] C3 I4 J5 R6 (fun o C13 I14 J15 R16 =>
      ∃ r17 : Int32, o = .inl (some (aI r17)) ∧
      ∃ q18 : Nat, R6 x0 22 = some q18 ∧
      (C13 q18).1 = 21 ∧
      vp_in r17 (C13 q18).2 ∧
      Q149 x0 x1 x2 x3 x4 x5 (x6 + (J5 q8 r7.toNatClampNeg)) x10 x8 (-(J15 q18 r17.toNatClampNeg)) C13 I14 J15 R16)) ∧
      (¬ x3 = 0 →
      (C3 x0).1 = 3 ∧
      F_X2_at [aI x5, aI x10] C3 I4 J5 R6 (fun o C22 I23 J24 R25 =>
      ∃ r26 : Int32, o = .inl (some (aI r26)) ∧
      ∃ q27 : Nat, R6 x0 23 = some q27 ∧
      (C22 q27).1 = 21 ∧
      vp_in r26 (C22 q27).2 ∧
      Q149 x0 x1 x2 x3 x4 x5 (x6 + (J5 q8 r7.toNatClampNeg)) x10 x8 (J24 q27 r26.toNatClampNeg) C22 I23 J24 R25))))))) :
    AW Γ 0 0 C I J R 92 [(0, aR (some x0)), (1, aI x1), (2, aI x2), (3, aI x3), (4, aI x4), (5, aI x5), (6, aJ x6), (8, aJ x8), (10, aI x10)] [] := by
  have G0 := G.1
  refine aw_iload G0 8 rfl dX2_count_92 ?_
  refine aw_iload_n G0 2 rfl dX2_count_94 ?_
  refine aw_icmp_gt G0 158 dX2_count_95 (by decide) (fun c1 => ?_) (fun c1 => ?_)
  · have h := h.1 c1
    refine aw_iconst (v := (4 : Int32)) G0 dX2_count_158 (by decide) ?_
    refine aw_istore (lv' := [(10, aI (4 : Int32)), (0, aR (some x0)), (1, aI x1), (2, aI x2), (3, aI x3), (4, aI x4), (5, aI x5), (6, aJ x6), (8, aJ x8)]) G0 (by decide) rfl dX2_count_159 ?_
    exact (aw_lv [1, 2, 3, 4, 5, 7, 8, 0] rfl (w161 x0 x1 x2 x3 x4 x6 x8 (4 : Int32) C I J R h))
  · have h := h.2 c1
    refine aw_lload G0 6 rfl dX2_count_98 ?_
    refine aw_aload_n G0 0 rfl dX2_count_100 ?_
    obtain ⟨k2, h⟩ := h
    refine aw_getR (f := 22) G0 (by rw [k2]; exact fb_X2_66) dX2_count_101 ?_
    refine aw_iload G0 5 rfl dX2_count_104 ?_
    refine aw_iload G0 8 rfl dX2_count_106 ?_
    refine aw_callS (k1 := 0) (n1 := 0) (k2 := 0) (n2 := 0) (st := [aR (R x0 22), aJ x6]) G0 S_X2_at gi_X2_173 md_X2_at (Nat.le_of_ble_eq_true rfl) (by decide) (by rw [G.2.1]; decide) (by rw [G.2.1]; decide) [aI x5, aI x10] rfl rfl dX2_count_108 h (fun o C3 I4 J5 R6 h => ?_)
    obtain ⟨r7, rfl, h⟩ := h
    show AW Γ 0 0 C3 I4 J5 R6 (108 + 3) [(0, aR (some x0)), (1, aI x1), (2, aI x2), (3, aI x3), (4, aI x4), (5, aI x5), (6, aJ x6), (8, aJ x8), (10, aI x10)] [aI r7, aR (R x0 22), aJ x6]
    obtain ⟨q8, e8, h⟩ := h
    refine aw_dr1 e8 ?_
    obtain ⟨k9, h⟩ := h
    obtain ⟨k10, h⟩ := h
    refine aw_lald G0 k9 k10 dX2_count_111 ?_
    refine aw_ladd G0 dX2_count_112 ?_
    refine aw_lstore (lv' := [(6, aJ (x6 + (J5 q8 r7.toNatClampNeg))), (0, aR (some x0)), (1, aI x1), (2, aI x2), (3, aI x3), (4, aI x4), (5, aI x5), (8, aJ x8), (10, aI x10)]) G0 (by decide) rfl dX2_count_113 ?_
    refine aw_lload G0 7 rfl dX2_count_115 ?_
    refine aw_iload_n G0 4 rfl dX2_count_117 ?_
    refine aw_if_eq G0 136 dX2_count_118 (by decide) (fun c11 => ?_) (fun c11 => ?_)
    · have h := h.1 c11
      refine aw_aload_n G0 1 rfl dX2_count_136 ?_
      obtain ⟨k12, h⟩ := h
      refine aw_getR (f := 22) G0 (by rw [k12]; exact fb_X2_66) dX2_count_137 ?_
      refine aw_iload G0 6 rfl dX2_count_140 ?_
      refine aw_iload G0 8 rfl dX2_count_142 ?_
      refine aw_callS (k1 := 0) (n1 := 0) (k2 := 0) (n2 := 0) (st := [aR (R6 x0 22), aJ x8]) G0 S_X2_at gi_X2_173 md_X2_at (Nat.le_of_ble_eq_true rfl) (by decide) (by rw [G.2.1]; decide) (by rw [G.2.1]; decide) [aI x5, aI x10] rfl rfl dX2_count_144 h (fun o C13 I14 J15 R16 h => ?_)
      obtain ⟨r17, rfl, h⟩ := h
      show AW Γ 0 0 C13 I14 J15 R16 (144 + 3) [(6, aJ (x6 + (J5 q8 r7.toNatClampNeg))), (0, aR (some x0)), (1, aI x1), (2, aI x2), (3, aI x3), (4, aI x4), (5, aI x5), (8, aJ x8), (10, aI x10)] [aI r17, aR (R6 x0 22), aJ x8]
      obtain ⟨q18, e18, h⟩ := h
      refine aw_dr1 e18 ?_
      obtain ⟨k19, h⟩ := h
      obtain ⟨k20, h⟩ := h
      refine aw_lald G0 k19 k20 dX2_count_147 ?_
      refine aw_lneg G0 dX2_count_148 ?_
      exact (aw_lv [1, 2, 3, 4, 5, 6, 0, 8] rfl (w149 x0 x1 x2 x3 x4 x5 (x6 + (J5 q8 r7.toNatClampNeg)) x10 x8 (-(J15 q18 r17.toNatClampNeg)) C13 I14 J15 R16 h))
    · have h := h.2 c11
      refine aw_aload_n G0 1 rfl dX2_count_121 ?_
      obtain ⟨k21, h⟩ := h
      refine aw_getR (f := 23) G0 (by rw [k21]; exact fb_X2_69) dX2_count_122 ?_
      refine aw_iload G0 6 rfl dX2_count_125 ?_
      refine aw_iload G0 8 rfl dX2_count_127 ?_
      refine aw_callS (k1 := 0) (n1 := 0) (k2 := 0) (n2 := 0) (st := [aR (R6 x0 23), aJ x8]) G0 S_X2_at gi_X2_173 md_X2_at (Nat.le_of_ble_eq_true rfl) (by decide) (by rw [G.2.1]; decide) (by rw [G.2.1]; decide) [aI x5, aI x10] rfl rfl dX2_count_129 h (fun o C22 I23 J24 R25 h => ?_)
      obtain ⟨r26, rfl, h⟩ := h
      show AW Γ 0 0 C22 I23 J24 R25 (129 + 3) [(6, aJ (x6 + (J5 q8 r7.toNatClampNeg))), (0, aR (some x0)), (1, aI x1), (2, aI x2), (3, aI x3), (4, aI x4), (5, aI x5), (8, aJ x8), (10, aI x10)] [aI r26, aR (R6 x0 23), aJ x8]
      obtain ⟨q27, e27, h⟩ := h
      refine aw_dr1 e27 ?_
      obtain ⟨k28, h⟩ := h
      obtain ⟨k29, h⟩ := h
      refine aw_lald G0 k28 k29 dX2_count_132 ?_
      refine aw_goto G0 149 dX2_count_133 (by decide) ?_
      exact (aw_lv [1, 2, 3, 4, 5, 6, 0, 8] rfl (w149 x0 x1 x2 x3 x4 x5 (x6 + (J5 q8 r7.toNatClampNeg)) x10 x8 (J24 q27 r26.toNatClampNeg) C22 I23 J24 R25 h))
theorem bX2_count_149 (G : Gb Γ yX2_count cX2_count 11 (none) [] rmX2_count bdX2_count)
    {Q92 : Nat → Int32 → Int32 → Int32 → Int32 → Int32 → Int64 → Int64 → Int32 → MC → MI → MJ → MR → Prop} (w92 : ∀ (x0 : Nat) (x1 : Int32) (x2 : Int32) (x3 : Int32) (x4 : Int32) (x5 : Int32) (x6 : Int64) (x8 : Int64) (x10 : Int32) (C : MC) (I : MI) (J : MJ) (R : MR), Q92 x0 x1 x2 x3 x4 x5 x6 x8 x10 C I J R → AW Γ 0 0 C I J R 92 [(0, aR (some x0)), (1, aI x1), (2, aI x2), (3, aI x3), (4, aI x4), (5, aI x5), (6, aJ x6), (8, aJ x8), (10, aI x10)] []) {x0 : Nat} {x1 : Int32} {x2 : Int32} {x3 : Int32} {x4 : Int32} {x5 : Int32} {x6 : Int64} {x10 : Int32} {s0 : Int64} {s1 : Int64}
    (h : Q92 x0 x1 x2 x3 x4 x5 x6 (s0 + s1) (x10 + 1) C I J R) :
    AW Γ 0 0 C I J R 149 [(0, aR (some x0)), (1, aI x1), (2, aI x2), (3, aI x3), (4, aI x4), (5, aI x5), (6, aJ x6), (10, aI x10)] [aJ s1, aJ s0] := by
  have G0 := G.1
  refine aw_ladd G0 dX2_count_149 ?_
  refine aw_lstore (lv' := [(8, aJ (s0 + s1)), (0, aR (some x0)), (1, aI x1), (2, aI x2), (3, aI x3), (4, aI x4), (5, aI x5), (6, aJ x6), (10, aI x10)]) G0 (by decide) rfl dX2_count_150 ?_
  refine aw_iinc (v := x10 + 1) (lv' := [(10, aI (x10 + 1)), (8, aJ (s0 + s1)), (0, aR (some x0)), (1, aI x1), (2, aI x2), (3, aI x3), (4, aI x4), (5, aI x5), (6, aJ x6)]) G0 8 rfl rfl (by decide) rfl dX2_count_152 ?_
  refine aw_goto G0 92 dX2_count_155 (by decide) ?_
  exact (aw_lv [2, 3, 4, 5, 6, 7, 8, 1, 0] rfl (w92 x0 x1 x2 x3 x4 x5 x6 (s0 + s1) (x10 + 1) C I J R h))
theorem bX2_count_161 (G : Gb Γ yX2_count cX2_count 11 (none) [] rmX2_count bdX2_count)
    {Q35 : Nat → Int32 → Int32 → Int32 → Int32 → MC → MI → MJ → MR → Prop} (w35 : ∀ (x0 : Nat) (x1 : Int32) (x2 : Int32) (x3 : Int32) (x4 : Int32) (C : MC) (I : MI) (J : MJ) (R : MR), Q35 x0 x1 x2 x3 x4 C I J R → AW Γ 0 0 C I J R 35 [(0, aR (some x0)), (1, aI x1), (2, aI x2), (3, aI x3), (4, aI x4)] [])
    {Q203 : Nat → Int32 → Int32 → Int32 → Int32 → Int64 → Int64 → Int32 → Option Nat → Int32 → Int64 → Int64 → MC → MI → MJ → MR → Prop} (w203 : ∀ (x0 : Nat) (x1 : Int32) (x2 : Int32) (x3 : Int32) (x4 : Int32) (x6 : Int64) (x8 : Int64) (x10 : Int32) (s0 : Option Nat) (s1 : Int32) (s2 : Int64) (s3 : Int64) (C : MC) (I : MI) (J : MJ) (R : MR), Q203 x0 x1 x2 x3 x4 x6 x8 x10 s0 s1 s2 s3 C I J R → AW Γ 0 0 C I J R 203 [(0, aR (some x0)), (1, aI x1), (2, aI x2), (3, aI x3), (4, aI x4), (6, aJ x6), (8, aJ x8), (10, aI x10)] [aJ s3, aJ s2, aI s1, aR s0]) {x0 : Nat} {x1 : Int32} {x2 : Int32} {x3 : Int32} {x4 : Int32} {x6 : Int64} {x8 : Int64} {x10 : Int32}
    (h : ((x10 < 0 →
      Q35 x0 x1 x2 x3 (x4 + 1) C I J R) ∧
      (¬ x10 < 0 →
      (C x0).1 = 3 ∧
      ∃ q3 : Nat, R x0 31 = some q3 ∧
      (C q3).1 = 21 ∧
      vp_in x10 (C q3).2 ∧
      ((x10 ≤ 0 →
      Q203 x0 x1 x2 x3 x4 x6 x8 x10 (R x0 31) x10 ((J q3 x10.toNatClampNeg) * x8) (0 : Int64) C I J R) ∧
      (¬ x10 ≤ 0 →
      vp_in (x10 - (1 : Int32)) (C q3).2 ∧
      Q203 x0 x1 x2 x3 x4 x6 x8 x10 (R x0 31) x10 ((J q3 x10.toNatClampNeg) * x8) ((J q3 (x10 - (1 : Int32)).toNatClampNeg) * x6) C I J R))))) :
    AW Γ 0 0 C I J R 161 [(0, aR (some x0)), (1, aI x1), (2, aI x2), (3, aI x3), (4, aI x4), (6, aJ x6), (8, aJ x8), (10, aI x10)] [] := by
  have G0 := G.1
  refine aw_iload G0 7 rfl dX2_count_161 ?_
  refine aw_if_lt G0 211 dX2_count_163 (by decide) (fun c1 => ?_) (fun c1 => ?_)
  · have h := h.1 c1
    refine aw_iinc (v := x4 + 1) (lv' := [(4, aI (x4 + 1)), (0, aR (some x0)), (1, aI x1), (2, aI x2), (3, aI x3), (6, aJ x6), (8, aJ x8), (10, aI x10)]) G0 4 rfl rfl (by decide) rfl dX2_count_211 ?_
    refine aw_goto G0 35 dX2_count_214 (by decide) ?_
    exact (aw_lv [1, 2, 3, 4, 0] rfl (w35 x0 x1 x2 x3 (x4 + 1) C I J R h))
  · have h := h.2 c1
    refine aw_aload_n G0 0 rfl dX2_count_166 ?_
    obtain ⟨k2, h⟩ := h
    refine aw_getR (f := 31) G0 (by rw [k2]; exact fb_X2_91) dX2_count_167 ?_
    refine aw_iload G0 7 rfl dX2_count_170 ?_
    refine aw_aload_n G0 0 rfl dX2_count_172 ?_
    refine aw_getR (f := 31) G0 (by rw [k2]; exact fb_X2_91) dX2_count_173 ?_
    refine aw_iload G0 7 rfl dX2_count_176 ?_
    obtain ⟨q3, e3, h⟩ := h
    refine aw_dr1 e3 ?_
    obtain ⟨k4, h⟩ := h
    obtain ⟨k5, h⟩ := h
    refine aw_lald G0 k4 k5 dX2_count_178 ?_
    refine aw_lload G0 6 rfl dX2_count_179 ?_
    refine aw_lmul G0 dX2_count_181 ?_
    refine aw_iload G0 7 rfl dX2_count_182 ?_
    refine aw_if_le G0 202 dX2_count_184 (by decide) (fun c6 => ?_) (fun c6 => ?_)
    · have h := h.1 c6
      refine aw_lconst (v := (0 : Int64)) G0 dX2_count_202 (by decide) ?_
      exact (w203 x0 x1 x2 x3 x4 x6 x8 x10 (R x0 31) x10 ((J q3 x10.toNatClampNeg) * x8) (0 : Int64) C I J R h)
    · have h := h.2 c6
      refine aw_aload_n G0 0 rfl dX2_count_187 ?_
      refine aw_getR (f := 31) G0 (by rw [k2]; exact fb_X2_91) dX2_count_188 ?_
      refine aw_iload G0 7 rfl dX2_count_191 ?_
      refine aw_iconst (v := (1 : Int32)) G0 dX2_count_193 (by decide) ?_
      refine aw_isub G0 dX2_count_194 ?_
      refine aw_dr1 e3 ?_
      obtain ⟨k7, h⟩ := h
      refine aw_lald G0 k4 k7 dX2_count_195 ?_
      refine aw_lload G0 5 rfl dX2_count_196 ?_
      refine aw_lmul G0 dX2_count_198 ?_
      refine aw_goto G0 203 dX2_count_199 (by decide) ?_
      exact (w203 x0 x1 x2 x3 x4 x6 x8 x10 (R x0 31) x10 ((J q3 x10.toNatClampNeg) * x8) ((J q3 (x10 - (1 : Int32)).toNatClampNeg) * x6) C I J R h)
theorem bX2_count_203 (G : Gb Γ yX2_count cX2_count 11 (none) [] rmX2_count bdX2_count)
    {Q161 : Nat → Int32 → Int32 → Int32 → Int32 → Int64 → Int64 → Int32 → MC → MI → MJ → MR → Prop} (w161 : ∀ (x0 : Nat) (x1 : Int32) (x2 : Int32) (x3 : Int32) (x4 : Int32) (x6 : Int64) (x8 : Int64) (x10 : Int32) (C : MC) (I : MI) (J : MJ) (R : MR), Q161 x0 x1 x2 x3 x4 x6 x8 x10 C I J R → AW Γ 0 0 C I J R 161 [(0, aR (some x0)), (1, aI x1), (2, aI x2), (3, aI x3), (4, aI x4), (6, aJ x6), (8, aJ x8), (10, aI x10)] []) {x0 : Nat} {x1 : Int32} {x2 : Int32} {x3 : Int32} {x4 : Int32} {x6 : Int64} {x8 : Int64} {x10 : Int32} {s0 : Option Nat} {s1 : Int32} {s2 : Int64} {s3 : Int64}
    (h : ∃ q1 : Nat, s0 = some q1 ∧
      (C q1).1 = 21 ∧
      vp_in s1 (C q1).2 ∧
      ∀ J4 : MJ, J4 = va_up J q1 (va_up (J q1) s1.toNatClampNeg (s2 + s3)) →
      Q161 x0 x1 x2 x3 x4 x6 x8 (x10 + (-1)) C I J4 R) :
    AW Γ 0 0 C I J R 203 [(0, aR (some x0)), (1, aI x1), (2, aI x2), (3, aI x3), (4, aI x4), (6, aJ x6), (8, aJ x8), (10, aI x10)] [aJ s3, aJ s2, aI s1, aR s0] := by
  have G0 := G.1
  refine aw_ladd G0 dX2_count_203 ?_
  obtain ⟨q1, e1, h⟩ := h
  refine aw_dr2 e1 ?_
  obtain ⟨k2, h⟩ := h
  obtain ⟨k3, h⟩ := h
  refine aw_last G0 k2 k3 dX2_count_204 ?_
  generalize gJ4 : va_up J q1 (va_up (J q1) s1.toNatClampNeg (s2 + s3)) = J4
  have h := h J4 gJ4.symm
  refine aw_iinc (v := x10 + (-1)) (lv' := [(10, aI (x10 + (-1))), (0, aR (some x0)), (1, aI x1), (2, aI x2), (3, aI x3), (4, aI x4), (6, aJ x6), (8, aJ x8)]) G0 7 rfl (congrArg (fun w9 => x10 + w9) (show Int32.ofInt (-1) = (-1) by decide)) (by decide) rfl dX2_count_205 ?_
  refine aw_goto G0 161 dX2_count_208 (by decide) ?_
  exact (aw_lv [1, 2, 3, 4, 5, 6, 7, 0] rfl (w161 x0 x1 x2 x3 x4 x6 x8 (x10 + (-1)) C I J4 R h))
theorem bX2_makeRetry_0 (G : Gb Γ yX2_makeRetry cX2_makeRetry 8 (none) [] rmX2_makeRetry bdX2_makeRetry) {F_X2_clear : SPF} (S_X2_clear : SpX2_clear (gL Γ) F_X2_clear)
    {Q44 : Nat → Int32 → Int32 → Int32 → Int32 → MC → MI → MJ → MR → Prop} (w44 : ∀ (x0 : Nat) (x2 : Int32) (x3 : Int32) (x4 : Int32) (x5 : Int32) (C : MC) (I : MI) (J : MJ) (R : MR), Q44 x0 x2 x3 x4 x5 C I J R → AW Γ 0 0 C I J R 44 [(0, aR (some x0)), (2, aI x2), (3, aI x3), (4, aI x4), (5, aI x5)] []) {x0 : Nat} {x1 : Int32}
    (h : (C x0).1 = 3 ∧
      ∃ q2 : Nat, R x0 8 = some q2 ∧
      (C q2).1 = 20 ∧
      vp_in ((4 : Int32) * x1) (C q2).2 ∧
      ∃ q5 : Nat, R x0 9 = some q5 ∧
      (C q5).1 = 20 ∧
      vp_in x1 (C q5).2 ∧
      ∃ q8 : Nat, R x0 10 = some q8 ∧
      (C q8).1 = 20 ∧
      vp_in x1 (C q8).2 ∧
      F_X2_clear [aR (some x0), aR (R x0 28)] C I J R (fun o C11 I12 J13 R14 =>
      o = .inl none ∧
      (C11 x0).1 = 3 ∧
      ∃ q17 : Nat, R14 x0 28 = some q17 ∧
      (C11 q17).1 = 21 ∧
      vp_in (0 : Int32) (C11 q17).2 ∧
      ∀ J20 : MJ, J20 = va_up J13 q17 (va_up (J13 q17) (0 : Int32).toNatClampNeg (1 : Int64)) →
      Q44 x0 (I q2 ((4 : Int32) * x1).toNatClampNeg) (I q5 x1.toNatClampNeg) ((I q8 x1.toNatClampNeg) + (1 : Int32)) (0 : Int32) C11 I12 J20 R14)) :
    AW Γ 0 0 C I J R 0 [(0, aR (some x0)), (1, aI x1)] [] := by
  have G0 := G.1
  refine aw_aload_n G0 0 rfl dX2_makeRetry_0 ?_
  obtain ⟨k1, h⟩ := h
  refine aw_getR (f := 8) G0 (by rw [k1]; exact fb_X2_27) dX2_makeRetry_1 ?_
  refine aw_iconst (v := (4 : Int32)) G0 dX2_makeRetry_4 (by decide) ?_
  refine aw_iload_n G0 1 rfl dX2_makeRetry_5 ?_
  refine aw_imul G0 dX2_makeRetry_6 ?_
  obtain ⟨q2, e2, h⟩ := h
  refine aw_dr1 e2 ?_
  obtain ⟨k3, h⟩ := h
  obtain ⟨k4, h⟩ := h
  refine aw_iald G0 (Or.inl k3) k4 dX2_makeRetry_7 ?_
  refine aw_istore_n (lv' := [(2, aI (I q2 ((4 : Int32) * x1).toNatClampNeg)), (0, aR (some x0)), (1, aI x1)]) G0 (by decide) rfl dX2_makeRetry_8 ?_
  refine aw_aload_n G0 1 rfl dX2_makeRetry_9 ?_
  refine aw_getR (f := 9) G0 (by rw [k1]; exact fb_X2_30) dX2_makeRetry_10 ?_
  refine aw_iload_n G0 2 rfl dX2_makeRetry_13 ?_
  obtain ⟨q5, e5, h⟩ := h
  refine aw_dr1 e5 ?_
  obtain ⟨k6, h⟩ := h
  obtain ⟨k7, h⟩ := h
  refine aw_iald G0 (Or.inl k6) k7 dX2_makeRetry_14 ?_
  refine aw_istore_n (lv' := [(3, aI (I q5 x1.toNatClampNeg)), (2, aI (I q2 ((4 : Int32) * x1).toNatClampNeg)), (0, aR (some x0)), (1, aI x1)]) G0 (by decide) rfl dX2_makeRetry_15 ?_
  refine aw_aload_n G0 2 rfl dX2_makeRetry_16 ?_
  refine aw_getR (f := 10) G0 (by rw [k1]; exact fb_X2_33) dX2_makeRetry_17 ?_
  refine aw_iload_n G0 3 rfl dX2_makeRetry_20 ?_
  obtain ⟨q8, e8, h⟩ := h
  refine aw_dr1 e8 ?_
  obtain ⟨k9, h⟩ := h
  obtain ⟨k10, h⟩ := h
  refine aw_iald G0 (Or.inl k9) k10 dX2_makeRetry_21 ?_
  refine aw_iconst (v := (1 : Int32)) G0 dX2_makeRetry_22 (by decide) ?_
  refine aw_iadd G0 dX2_makeRetry_23 ?_
  refine aw_istore (lv' := [(4, aI ((I q8 x1.toNatClampNeg) + (1 : Int32))), (3, aI (I q5 x1.toNatClampNeg)), (2, aI (I q2 ((4 : Int32) * x1).toNatClampNeg)), (0, aR (some x0)), (1, aI x1)]) G0 (by decide) rfl dX2_makeRetry_24 ?_
  refine aw_aload_n G0 3 rfl dX2_makeRetry_26 ?_
  refine aw_aload_n G0 3 rfl dX2_makeRetry_27 ?_
  refine aw_getR (f := 28) G0 (by rw [k1]; exact fb_X2_85) dX2_makeRetry_28 ?_
  refine aw_callV (k1 := 0) (n1 := 0) (k2 := 0) (n2 := 0) (st := []) G0 S_X2_clear gi_X2_176 (Or.inl (by rw [k1]; decide)) (by rw [k1]; rfl) md_X2_clear (Nat.le_of_ble_eq_true rfl) (by decide) (by rw [G.2.1]; decide) (by rw [G.2.1]; decide) [aR (R x0 28)] rfl rfl dX2_makeRetry_31 h (fun o C11 I12 J13 R14 h => ?_)
  obtain ⟨rfl, h⟩ := h
  show AW Γ 0 0 C11 I12 J13 R14 (31 + 3) [(4, aI ((I q8 x1.toNatClampNeg) + (1 : Int32))), (3, aI (I q5 x1.toNatClampNeg)), (2, aI (I q2 ((4 : Int32) * x1).toNatClampNeg)), (0, aR (some x0)), (1, aI x1)] []
  refine aw_aload_n G0 3 rfl dX2_makeRetry_34 ?_
  obtain ⟨k16, h⟩ := h
  refine aw_getR (f := 28) G0 (by rw [k16]; exact fb_X2_85) dX2_makeRetry_35 ?_
  refine aw_iconst (v := (0 : Int32)) G0 dX2_makeRetry_38 (by decide) ?_
  refine aw_lconst (v := (1 : Int64)) G0 dX2_makeRetry_39 (by decide) ?_
  obtain ⟨q17, e17, h⟩ := h
  refine aw_dr2 e17 ?_
  obtain ⟨k18, h⟩ := h
  obtain ⟨k19, h⟩ := h
  refine aw_last G0 k18 k19 dX2_makeRetry_40 ?_
  generalize gJ20 : va_up J13 q17 (va_up (J13 q17) (0 : Int32).toNatClampNeg (1 : Int64)) = J20
  have h := h J20 gJ20.symm
  refine aw_iconst (v := (0 : Int32)) G0 dX2_makeRetry_41 (by decide) ?_
  refine aw_istore (lv' := [(5, aI (0 : Int32)), (4, aI ((I q8 x1.toNatClampNeg) + (1 : Int32))), (3, aI (I q5 x1.toNatClampNeg)), (2, aI (I q2 ((4 : Int32) * x1).toNatClampNeg)), (0, aR (some x0)), (1, aI x1)]) G0 (by decide) rfl dX2_makeRetry_42 ?_
  exact (aw_lv [4, 3, 2, 1, 0] rfl (w44 x0 (I q2 ((4 : Int32) * x1).toNatClampNeg) (I q5 x1.toNatClampNeg) ((I q8 x1.toNatClampNeg) + (1 : Int32)) (0 : Int32) C11 I12 J20 R14 h))
theorem bX2_makeRetry_44 (G : Gb Γ yX2_makeRetry cX2_makeRetry 8 (none) [] rmX2_makeRetry bdX2_makeRetry) {F_X2_clear : SPF} (S_X2_clear : SpX2_clear (gL Γ) F_X2_clear)
    {Q62 : Nat → Int32 → Int32 → Int32 → Int32 → Int32 → MC → MI → MJ → MR → Prop} (w62 : ∀ (x0 : Nat) (x2 : Int32) (x3 : Int32) (x4 : Int32) (x5 : Int32) (x6 : Int32) (C : MC) (I : MI) (J : MJ) (R : MR), Q62 x0 x2 x3 x4 x5 x6 C I J R → AW Γ 0 0 C I J R 62 [(0, aR (some x0)), (2, aI x2), (3, aI x3), (4, aI x4), (5, aI x5), (6, aI x6)] [])
    {Q293 : Nat → Int32 → MC → MI → MJ → MR → Prop} (w293 : ∀ (x0 : Nat) (x5 : Int32) (C : MC) (I : MI) (J : MJ) (R : MR), Q293 x0 x5 C I J R → AW Γ 0 0 C I J R 293 [(0, aR (some x0)), (5, aI x5)] []) {x0 : Nat} {x2 : Int32} {x3 : Int32} {x4 : Int32} {x5 : Int32}
    (h : ((x4 ≤ x5 →
      Q293 x0 (0 : Int32) C I J R) ∧
      (¬ x4 ≤ x5 →
      (C x0).1 = 3 ∧
      F_X2_clear [aR (some x0), aR (R x0 29)] C I J R (fun o C3 I4 J5 R6 =>
      o = .inl none ∧
      Q62 x0 x2 x3 x4 x5 (0 : Int32) C3 I4 J5 R6)))) :
    AW Γ 0 0 C I J R 44 [(0, aR (some x0)), (2, aI x2), (3, aI x3), (4, aI x4), (5, aI x5)] [] := by
  have G0 := G.1
  refine aw_iload G0 4 rfl dX2_makeRetry_44 ?_
  refine aw_iload G0 3 rfl dX2_makeRetry_46 ?_
  refine aw_icmp_ge G0 290 dX2_makeRetry_48 (by decide) (fun c1 => ?_) (fun c1 => ?_)
  · have h := h.1 c1
    refine aw_iconst (v := (0 : Int32)) G0 dX2_makeRetry_290 (by decide) ?_
    refine aw_istore (lv' := [(5, aI (0 : Int32)), (0, aR (some x0)), (2, aI x2), (3, aI x3), (4, aI x4)]) G0 (by decide) rfl dX2_makeRetry_291 ?_
    exact (aw_lv [1, 0] rfl (w293 x0 (0 : Int32) C I J R h))
  · have h := h.2 c1
    refine aw_aload_n G0 0 rfl dX2_makeRetry_51 ?_
    refine aw_aload_n G0 0 rfl dX2_makeRetry_52 ?_
    obtain ⟨k2, h⟩ := h
    refine aw_getR (f := 29) G0 (by rw [k2]; exact fb_X2_88) dX2_makeRetry_53 ?_
    refine aw_callV (k1 := 0) (n1 := 0) (k2 := 0) (n2 := 0) (st := []) G0 S_X2_clear gi_X2_176 (Or.inl (by rw [k2]; decide)) (by rw [k2]; rfl) md_X2_clear (Nat.le_of_ble_eq_true rfl) (by decide) (by rw [G.2.1]; decide) (by rw [G.2.1]; decide) [aR (R x0 29)] rfl rfl dX2_makeRetry_56 h (fun o C3 I4 J5 R6 h => ?_)
    obtain ⟨rfl, h⟩ := h
    show AW Γ 0 0 C3 I4 J5 R6 (56 + 3) [(0, aR (some x0)), (2, aI x2), (3, aI x3), (4, aI x4), (5, aI x5)] []
    refine aw_iconst (v := (0 : Int32)) G0 dX2_makeRetry_59 (by decide) ?_
    refine aw_istore (lv' := [(6, aI (0 : Int32)), (0, aR (some x0)), (2, aI x2), (3, aI x3), (4, aI x4), (5, aI x5)]) G0 (by decide) rfl dX2_makeRetry_60 ?_
    exact (aw_lv [1, 2, 3, 4, 5, 0] rfl (w62 x0 x2 x3 x4 x5 (0 : Int32) C3 I4 J5 R6 h))
theorem bX2_makeRetry_62 (G : Gb Γ yX2_makeRetry cX2_makeRetry 8 (none) [] rmX2_makeRetry bdX2_makeRetry)
    {Q62 : Nat → Int32 → Int32 → Int32 → Int32 → Int32 → MC → MI → MJ → MR → Prop} (w62 : ∀ (x0 : Nat) (x2 : Int32) (x3 : Int32) (x4 : Int32) (x5 : Int32) (x6 : Int32) (C : MC) (I : MI) (J : MJ) (R : MR), Q62 x0 x2 x3 x4 x5 x6 C I J R → AW Γ 0 0 C I J R 62 [(0, aR (some x0)), (2, aI x2), (3, aI x3), (4, aI x4), (5, aI x5), (6, aI x6)] [])
    {Q97 : Nat → Int32 → Int32 → Int32 → Int32 → Int32 → MC → MI → MJ → MR → Prop} (w97 : ∀ (x0 : Nat) (x2 : Int32) (x3 : Int32) (x4 : Int32) (x5 : Int32) (x6 : Int32) (C : MC) (I : MI) (J : MJ) (R : MR), Q97 x0 x2 x3 x4 x5 x6 C I J R → AW Γ 0 0 C I J R 97 [(0, aR (some x0)), (2, aI x2), (3, aI x3), (4, aI x4), (5, aI x5), (6, aI x6)] []) {x0 : Nat} {x2 : Int32} {x3 : Int32} {x4 : Int32} {x5 : Int32} {x6 : Int32}
    (h : (C x0).1 = 3 ∧
      ∃ q2 : Nat, R x0 26 = some q2 ∧
      (20 ≤ (C q2).1 ∧ (C q2).1 ≤ 30) ∧
      (((nI (C q2).2) ≤ x6 →
      Q97 x0 x2 x3 x4 x5 (0 : Int32) C I J R) ∧
      (¬ (nI (C q2).2) ≤ x6 →
      (C q2).1 = 21 ∧
      vp_in x6 (C q2).2 ∧
      ∃ q7 : Nat, R x0 24 = some q7 ∧
      (C q7).1 = 21 ∧
      vp_in x2 (C q7).2 ∧
      ∀ J10 : MJ, J10 = va_up J q2 (va_up (J q2) x6.toNatClampNeg ((J q2 x6.toNatClampNeg) * (J q7 x2.toNatClampNeg))) →
      Q62 x0 x2 x3 x4 x5 (x6 + 1) C I J10 R))) :
    AW Γ 0 0 C I J R 62 [(0, aR (some x0)), (2, aI x2), (3, aI x3), (4, aI x4), (5, aI x5), (6, aI x6)] [] := by
  have G0 := G.1
  refine aw_iload G0 5 rfl dX2_makeRetry_62 ?_
  refine aw_aload_n G0 0 rfl dX2_makeRetry_64 ?_
  obtain ⟨k1, h⟩ := h
  refine aw_getR (f := 26) G0 (by rw [k1]; exact fb_X2_79) dX2_makeRetry_65 ?_
  obtain ⟨q2, e2, h⟩ := h
  refine aw_dr0 e2 ?_
  obtain ⟨k3, h⟩ := h
  refine aw_alen (v := nI (C q2).2) G0 k3 rfl dX2_makeRetry_68 ?_
  refine aw_icmp_ge G0 94 dX2_makeRetry_69 (by decide) (fun c4 => ?_) (fun c4 => ?_)
  · have h := h.1 c4
    refine aw_iconst (v := (0 : Int32)) G0 dX2_makeRetry_94 (by decide) ?_
    refine aw_istore (lv' := [(6, aI (0 : Int32)), (0, aR (some x0)), (2, aI x2), (3, aI x3), (4, aI x4), (5, aI x5)]) G0 (by decide) rfl dX2_makeRetry_95 ?_
    exact (aw_lv [1, 2, 3, 4, 5, 0] rfl (w97 x0 x2 x3 x4 x5 (0 : Int32) C I J R h))
  · have h := h.2 c4
    refine aw_aload_n G0 0 rfl dX2_makeRetry_72 ?_
    refine aw_getR (f := 26) G0 (by rw [k1]; exact fb_X2_79) dX2_makeRetry_73 ?_
    refine aw_iload G0 5 rfl dX2_makeRetry_76 ?_
    refine aw_dup2IR G0 dX2_makeRetry_78 ?_
    refine aw_dr1 e2 ?_
    obtain ⟨k5, h⟩ := h
    obtain ⟨k6, h⟩ := h
    refine aw_lald G0 k5 k6 dX2_makeRetry_79 ?_
    refine aw_aload_n G0 0 rfl dX2_makeRetry_80 ?_
    refine aw_getR (f := 24) G0 (by rw [k1]; exact fb_X2_72) dX2_makeRetry_81 ?_
    refine aw_iload_n G0 1 rfl dX2_makeRetry_84 ?_
    obtain ⟨q7, e7, h⟩ := h
    refine aw_dr1 e7 ?_
    obtain ⟨k8, h⟩ := h
    obtain ⟨k9, h⟩ := h
    refine aw_lald G0 k8 k9 dX2_makeRetry_85 ?_
    refine aw_lmul G0 dX2_makeRetry_86 ?_
    refine aw_dr2 e2 ?_
    refine aw_last G0 k5 k6 dX2_makeRetry_87 ?_
    generalize gJ10 : va_up J q2 (va_up (J q2) x6.toNatClampNeg ((J q2 x6.toNatClampNeg) * (J q7 x2.toNatClampNeg))) = J10
    have h := h J10 gJ10.symm
    refine aw_iinc (v := x6 + 1) (lv' := [(6, aI (x6 + 1)), (0, aR (some x0)), (2, aI x2), (3, aI x3), (4, aI x4), (5, aI x5)]) G0 5 rfl rfl (by decide) rfl dX2_makeRetry_88 ?_
    refine aw_goto G0 62 dX2_makeRetry_91 (by decide) ?_
    exact (aw_lv [1, 2, 3, 4, 5, 0] rfl (w62 x0 x2 x3 x4 x5 (x6 + 1) C I J10 R h))
theorem bX2_makeRetry_97 (G : Gb Γ yX2_makeRetry cX2_makeRetry 8 (none) [] rmX2_makeRetry bdX2_makeRetry)
    {Q124 : Nat → Int32 → Int32 → Int32 → Int32 → Int32 → Int32 → MC → MI → MJ → MR → Prop} (w124 : ∀ (x0 : Nat) (x2 : Int32) (x3 : Int32) (x4 : Int32) (x5 : Int32) (x6 : Int32) (x7 : Int32) (C : MC) (I : MI) (J : MJ) (R : MR), Q124 x0 x2 x3 x4 x5 x6 x7 C I J R → AW Γ 0 0 C I J R 124 [(0, aR (some x0)), (2, aI x2), (3, aI x3), (4, aI x4), (5, aI x5), (6, aI x6), (7, aI x7)] [])
    {Q245 : Nat → Int32 → Int32 → Int32 → Int32 → Int32 → MC → MI → MJ → MR → Prop} (w245 : ∀ (x0 : Nat) (x2 : Int32) (x3 : Int32) (x4 : Int32) (x5 : Int32) (x6 : Int32) (C : MC) (I : MI) (J : MJ) (R : MR), Q245 x0 x2 x3 x4 x5 x6 C I J R → AW Γ 0 0 C I J R 245 [(0, aR (some x0)), (2, aI x2), (3, aI x3), (4, aI x4), (5, aI x5), (6, aI x6)] [])
    {Q254 : Nat → Int32 → Int32 → Int32 → Int32 → Int32 → MC → MI → MJ → MR → Prop} (w254 : ∀ (x0 : Nat) (x2 : Int32) (x3 : Int32) (x4 : Int32) (x5 : Int32) (x6 : Int32) (C : MC) (I : MI) (J : MJ) (R : MR), Q254 x0 x2 x3 x4 x5 x6 C I J R → AW Γ 0 0 C I J R 254 [(0, aR (some x0)), (2, aI x2), (3, aI x3), (4, aI x4), (5, aI x5), (6, aI x6)] []) {x0 : Nat} {x2 : Int32} {x3 : Int32} {x4 : Int32} {x5 : Int32} {x6 : Int32}
    (h : (((x3 * x5) < x6 →
      Q254 x0 x2 x3 x4 x5 (0 : Int32) C I J R) ∧
      (¬ (x3 * x5) < x6 →
      (C x0).1 = 3 ∧
      ∃ q3 : Nat, R x0 28 = some q3 ∧
      (C q3).1 = 21 ∧
      vp_in x6 (C q3).2 ∧
      ((¬ (J q3 x6.toNatClampNeg) = (0 : Int64) →
      Q124 x0 x2 x3 x4 x5 x6 (0 : Int32) C I J R) ∧
      ((J q3 x6.toNatClampNeg) = (0 : Int64) →
      Q245 x0 x2 x3 x4 x5 x6 C I J R))))) :
    AW Γ 0 0 C I J R 97 [(0, aR (some x0)), (2, aI x2), (3, aI x3), (4, aI x4), (5, aI x5), (6, aI x6)] [] := by
  have G0 := G.1
  refine aw_iload G0 5 rfl dX2_makeRetry_97 ?_
  refine aw_iload_n G0 2 rfl dX2_makeRetry_99 ?_
  refine aw_iload G0 4 rfl dX2_makeRetry_100 ?_
  refine aw_imul G0 dX2_makeRetry_102 ?_
  refine aw_icmp_gt G0 251 dX2_makeRetry_103 (by decide) (fun c1 => ?_) (fun c1 => ?_)
  · have h := h.1 c1
    refine aw_iconst (v := (0 : Int32)) G0 dX2_makeRetry_251 (by decide) ?_
    refine aw_istore (lv' := [(6, aI (0 : Int32)), (0, aR (some x0)), (2, aI x2), (3, aI x3), (4, aI x4), (5, aI x5)]) G0 (by decide) rfl dX2_makeRetry_252 ?_
    exact (aw_lv [1, 2, 3, 4, 5, 0] rfl (w254 x0 x2 x3 x4 x5 (0 : Int32) C I J R h))
  · have h := h.2 c1
    refine aw_aload_n G0 0 rfl dX2_makeRetry_106 ?_
    obtain ⟨k2, h⟩ := h
    refine aw_getR (f := 28) G0 (by rw [k2]; exact fb_X2_85) dX2_makeRetry_107 ?_
    refine aw_iload G0 5 rfl dX2_makeRetry_110 ?_
    obtain ⟨q3, e3, h⟩ := h
    refine aw_dr1 e3 ?_
    obtain ⟨k4, h⟩ := h
    obtain ⟨k5, h⟩ := h
    refine aw_lald G0 k4 k5 dX2_makeRetry_112 ?_
    refine aw_lconst (v := (0 : Int64)) G0 dX2_makeRetry_113 (by decide) ?_
    refine aw_lif_ne G0 121 dX2_makeRetry_114 dX2_makeRetry_115 (by decide) (fun c6 => ?_) (fun c6 => ?_)
    · have h := h.1 c6
      refine aw_iconst (v := (0 : Int32)) G0 dX2_makeRetry_121 (by decide) ?_
      refine aw_istore (lv' := [(7, aI (0 : Int32)), (0, aR (some x0)), (2, aI x2), (3, aI x3), (4, aI x4), (5, aI x5), (6, aI x6)]) G0 (by decide) rfl dX2_makeRetry_122 ?_
      exact (aw_lv [1, 2, 3, 4, 5, 6, 0] rfl (w124 x0 x2 x3 x4 x5 x6 (0 : Int32) C I J R h))
    · have h := h.2 c6
      refine aw_goto G0 245 dX2_makeRetry_118 (by decide) ?_
      exact (w245 x0 x2 x3 x4 x5 x6 C I J R h)
theorem bX2_makeRetry_124 (G : Gb Γ yX2_makeRetry cX2_makeRetry 8 (none) [] rmX2_makeRetry bdX2_makeRetry) {F_X2_at : SPF} (S_X2_at : SpX2_at (gL Γ) F_X2_at)
    {Q203 : Nat → Int32 → Int32 → Int32 → Int32 → Int32 → Int32 → MC → MI → MJ → MR → Prop} (w203 : ∀ (x0 : Nat) (x2 : Int32) (x3 : Int32) (x4 : Int32) (x5 : Int32) (x6 : Int32) (x7 : Int32) (C : MC) (I : MI) (J : MJ) (R : MR), Q203 x0 x2 x3 x4 x5 x6 x7 C I J R → AW Γ 0 0 C I J R 203 [(0, aR (some x0)), (2, aI x2), (3, aI x3), (4, aI x4), (5, aI x5), (6, aI x6), (7, aI x7)] [])
    {Q245 : Nat → Int32 → Int32 → Int32 → Int32 → Int32 → MC → MI → MJ → MR → Prop} (w245 : ∀ (x0 : Nat) (x2 : Int32) (x3 : Int32) (x4 : Int32) (x5 : Int32) (x6 : Int32) (C : MC) (I : MI) (J : MJ) (R : MR), Q245 x0 x2 x3 x4 x5 x6 C I J R → AW Γ 0 0 C I J R 245 [(0, aR (some x0)), (2, aI x2), (3, aI x3), (4, aI x4), (5, aI x5), (6, aI x6)] []) {x0 : Nat} {x2 : Int32} {x3 : Int32} {x4 : Int32} {x5 : Int32} {x6 : Int32} {x7 : Int32}
    (h : (((121 : Int32) ≤ x7 →
      Q245 x0 x2 x3 x4 x5 x6 C I J R) ∧
      (¬ (121 : Int32) ≤ x7 →
      ((x3 < x7 →
      (C x0).1 = 3 ∧
      ∃ q4 : Nat, R x0 29 = some q4 ∧
      (C q4).1 = 21 ∧
      vp_in (x6 + x3) (C q4).2 ∧
      ∃ q7 : Nat, R x0 28 = some q7 ∧
      (C q7).1 = 21 ∧
      vp_in x6 (C q7).2 ∧
      F_X2_at [aI x2, aI x7] C I J R (fun o C10 I11 J12 R13 =>
      ∃ r14 : Int32, o = .inl (some (aI r14)) ∧
      ∃ q15 : Nat, R x0 22 = some q15 ∧
      (C10 q15).1 = 21 ∧
      vp_in r14 (C10 q15).2 ∧
      (C10 q4).1 = 21 ∧
      vp_in (x6 + x3) (C10 q4).2 ∧
      ∀ J20 : MJ, J20 = va_up J12 q4 (va_up (J12 q4) (x6 + x3).toNatClampNeg ((J q4 (x6 + x3).toNatClampNeg) + ((J q7 x6.toNatClampNeg) * (J12 q15 r14.toNatClampNeg)))) →
      Q203 x0 x2 x3 x4 x5 x6 x7 C10 I11 J20 R13)) ∧
      (¬ x3 < x7 →
      (C x0).1 = 3 ∧
      ∃ q22 : Nat, R x0 26 = some q22 ∧
      (C q22).1 = 21 ∧
      vp_in (x6 + x7) (C q22).2 ∧
      ∃ q25 : Nat, R x0 28 = some q25 ∧
      (C q25).1 = 21 ∧
      vp_in x6 (C q25).2 ∧
      F_X2_at [aI x2, aI x7] C I J R (fun o C28 I29 J30 R31 =>
      ∃ r32 : Int32, o = .inl (some (aI r32)) ∧
      ∃ q33 : Nat, R x0 22 = some q33 ∧
      (C28 q33).1 = 21 ∧
      vp_in r32 (C28 q33).2 ∧
      (C28 q22).1 = 21 ∧
      vp_in (x6 + x7) (C28 q22).2 ∧
      ∀ J38 : MJ, J38 = va_up J30 q22 (va_up (J30 q22) (x6 + x7).toNatClampNeg ((J q22 (x6 + x7).toNatClampNeg) + ((J q25 x6.toNatClampNeg) * (J30 q33 r32.toNatClampNeg)))) →
      Q203 x0 x2 x3 x4 x5 x6 x7 C28 I29 J38 R31)))))) :
    AW Γ 0 0 C I J R 124 [(0, aR (some x0)), (2, aI x2), (3, aI x3), (4, aI x4), (5, aI x5), (6, aI x6), (7, aI x7)] [] := by
  have G0 := G.1
  refine aw_iload G0 6 rfl dX2_makeRetry_124 ?_
  refine aw_bipush (v := (121 : Int32)) G0 dX2_makeRetry_126 (by decide) ?_
  refine aw_icmp_ge G0 245 dX2_makeRetry_128 (by decide) (fun c1 => ?_) (fun c1 => ?_)
  · have h := h.1 c1
    exact (aw_lv [0, 1, 2, 3, 4, 5] rfl (w245 x0 x2 x3 x4 x5 x6 C I J R h))
  · have h := h.2 c1
    refine aw_iload G0 6 rfl dX2_makeRetry_131 ?_
    refine aw_iload_n G0 2 rfl dX2_makeRetry_133 ?_
    refine aw_icmp_gt G0 172 dX2_makeRetry_134 (by decide) (fun c2 => ?_) (fun c2 => ?_)
    · have h := h.1 c2
      refine aw_aload_n G0 0 rfl dX2_makeRetry_172 ?_
      obtain ⟨k3, h⟩ := h
      refine aw_getR (f := 29) G0 (by rw [k3]; exact fb_X2_88) dX2_makeRetry_173 ?_
      refine aw_iload G0 5 rfl dX2_makeRetry_176 ?_
      refine aw_iload_n G0 2 rfl dX2_makeRetry_178 ?_
      refine aw_iadd G0 dX2_makeRetry_179 ?_
      refine aw_dup2IR G0 dX2_makeRetry_180 ?_
      obtain ⟨q4, e4, h⟩ := h
      refine aw_dr1 e4 ?_
      obtain ⟨k5, h⟩ := h
      obtain ⟨k6, h⟩ := h
      refine aw_lald G0 k5 k6 dX2_makeRetry_181 ?_
      refine aw_aload_n G0 0 rfl dX2_makeRetry_182 ?_
      refine aw_getR (f := 28) G0 (by rw [k3]; exact fb_X2_85) dX2_makeRetry_183 ?_
      refine aw_iload G0 5 rfl dX2_makeRetry_186 ?_
      obtain ⟨q7, e7, h⟩ := h
      refine aw_dr1 e7 ?_
      obtain ⟨k8, h⟩ := h
      obtain ⟨k9, h⟩ := h
      refine aw_lald G0 k8 k9 dX2_makeRetry_188 ?_
      refine aw_aload_n G0 0 rfl dX2_makeRetry_189 ?_
      refine aw_getR (f := 22) G0 (by rw [k3]; exact fb_X2_66) dX2_makeRetry_190 ?_
      refine aw_iload_n G0 1 rfl dX2_makeRetry_193 ?_
      refine aw_iload G0 6 rfl dX2_makeRetry_194 ?_
      refine aw_callS (k1 := 0) (n1 := 0) (k2 := 0) (n2 := 0) (st := [aR (R x0 22), aJ (J q7 x6.toNatClampNeg), aJ (J q4 (x6 + x3).toNatClampNeg), aI (x6 + x3), aR (R x0 29)]) G0 S_X2_at gi_X2_173 md_X2_at (Nat.le_of_ble_eq_true rfl) (by decide) (by rw [G.2.1]; decide) (by rw [G.2.1]; decide) [aI x2, aI x7] rfl rfl dX2_makeRetry_196 h (fun o C10 I11 J12 R13 h => ?_)
      obtain ⟨r14, rfl, h⟩ := h
      show AW Γ 0 0 C10 I11 J12 R13 (196 + 3) [(0, aR (some x0)), (2, aI x2), (3, aI x3), (4, aI x4), (5, aI x5), (6, aI x6), (7, aI x7)] [aI r14, aR (R x0 22), aJ (J q7 x6.toNatClampNeg), aJ (J q4 (x6 + x3).toNatClampNeg), aI (x6 + x3), aR (R x0 29)]
      obtain ⟨q15, e15, h⟩ := h
      refine aw_dr1 e15 ?_
      obtain ⟨k16, h⟩ := h
      obtain ⟨k17, h⟩ := h
      refine aw_lald G0 k16 k17 dX2_makeRetry_199 ?_
      refine aw_lmul G0 dX2_makeRetry_200 ?_
      refine aw_ladd G0 dX2_makeRetry_201 ?_
      refine aw_dr2 e4 ?_
      obtain ⟨k18, h⟩ := h
      obtain ⟨k19, h⟩ := h
      refine aw_last G0 k18 k19 dX2_makeRetry_202 ?_
      generalize gJ20 : va_up J12 q4 (va_up (J12 q4) (x6 + x3).toNatClampNeg ((J q4 (x6 + x3).toNatClampNeg) + ((J q7 x6.toNatClampNeg) * (J12 q15 r14.toNatClampNeg)))) = J20
      have h := h J20 gJ20.symm
      exact (w203 x0 x2 x3 x4 x5 x6 x7 C10 I11 J20 R13 h)
    · have h := h.2 c2
      refine aw_aload_n G0 0 rfl dX2_makeRetry_137 ?_
      obtain ⟨k21, h⟩ := h
      refine aw_getR (f := 26) G0 (by rw [k21]; exact fb_X2_79) dX2_makeRetry_138 ?_
      refine aw_iload G0 5 rfl dX2_makeRetry_141 ?_
      refine aw_iload G0 6 rfl dX2_makeRetry_143 ?_
      refine aw_iadd G0 dX2_makeRetry_145 ?_
      refine aw_dup2IR G0 dX2_makeRetry_146 ?_
      obtain ⟨q22, e22, h⟩ := h
      refine aw_dr1 e22 ?_
      obtain ⟨k23, h⟩ := h
      obtain ⟨k24, h⟩ := h
      refine aw_lald G0 k23 k24 dX2_makeRetry_147 ?_
      refine aw_aload_n G0 0 rfl dX2_makeRetry_148 ?_
      refine aw_getR (f := 28) G0 (by rw [k21]; exact fb_X2_85) dX2_makeRetry_149 ?_
      refine aw_iload G0 5 rfl dX2_makeRetry_152 ?_
      obtain ⟨q25, e25, h⟩ := h
      refine aw_dr1 e25 ?_
      obtain ⟨k26, h⟩ := h
      obtain ⟨k27, h⟩ := h
      refine aw_lald G0 k26 k27 dX2_makeRetry_154 ?_
      refine aw_aload_n G0 0 rfl dX2_makeRetry_155 ?_
      refine aw_getR (f := 22) G0 (by rw [k21]; exact fb_X2_66) dX2_makeRetry_156 ?_
      refine aw_iload_n G0 1 rfl dX2_makeRetry_159 ?_
      refine aw_iload G0 6 rfl dX2_makeRetry_160 ?_
      refine aw_callS (k1 := 0) (n1 := 0) (k2 := 0) (n2 := 0) (st := [aR (R x0 22), aJ (J q25 x6.toNatClampNeg), aJ (J q22 (x6 + x7).toNatClampNeg), aI (x6 + x7), aR (R x0 26)]) G0 S_X2_at gi_X2_173 md_X2_at (Nat.le_of_ble_eq_true rfl) (by decide) (by rw [G.2.1]; decide) (by rw [G.2.1]; decide) [aI x2, aI x7] rfl rfl dX2_makeRetry_162 h (fun o C28 I29 J30 R31 h => ?_)
      obtain ⟨r32, rfl, h⟩ := h
      show AW Γ 0 0 C28 I29 J30 R31 (162 + 3) [(0, aR (some x0)), (2, aI x2), (3, aI x3), (4, aI x4), (5, aI x5), (6, aI x6), (7, aI x7)] [aI r32, aR (R x0 22), aJ (J q25 x6.toNatClampNeg), aJ (J q22 (x6 + x7).toNatClampNeg), aI (x6 + x7), aR (R x0 26)]
      obtain ⟨q33, e33, h⟩ := h
      refine aw_dr1 e33 ?_
      obtain ⟨k34, h⟩ := h
      obtain ⟨k35, h⟩ := h
      refine aw_lald G0 k34 k35 dX2_makeRetry_165 ?_
      refine aw_lmul G0 dX2_makeRetry_166 ?_
      refine aw_ladd G0 dX2_makeRetry_167 ?_
      refine aw_dr2 e22 ?_
      obtain ⟨k36, h⟩ := h
      obtain ⟨k37, h⟩ := h
      refine aw_last G0 k36 k37 dX2_makeRetry_168 ?_
      generalize gJ38 : va_up J30 q22 (va_up (J30 q22) (x6 + x7).toNatClampNeg ((J q22 (x6 + x7).toNatClampNeg) + ((J q25 x6.toNatClampNeg) * (J30 q33 r32.toNatClampNeg)))) = J38
      have h := h J38 gJ38.symm
      refine aw_goto G0 203 dX2_makeRetry_169 (by decide) ?_
      exact (w203 x0 x2 x3 x4 x5 x6 x7 C28 I29 J38 R31 h)
theorem bX2_makeRetry_203 (G : Gb Γ yX2_makeRetry cX2_makeRetry 8 (none) [] rmX2_makeRetry bdX2_makeRetry) {F_X2_at : SPF} (S_X2_at : SpX2_at (gL Γ) F_X2_at)
    {Q124 : Nat → Int32 → Int32 → Int32 → Int32 → Int32 → Int32 → MC → MI → MJ → MR → Prop} (w124 : ∀ (x0 : Nat) (x2 : Int32) (x3 : Int32) (x4 : Int32) (x5 : Int32) (x6 : Int32) (x7 : Int32) (C : MC) (I : MI) (J : MJ) (R : MR), Q124 x0 x2 x3 x4 x5 x6 x7 C I J R → AW Γ 0 0 C I J R 124 [(0, aR (some x0)), (2, aI x2), (3, aI x3), (4, aI x4), (5, aI x5), (6, aI x6), (7, aI x7)] []) {x0 : Nat} {x2 : Int32} {x3 : Int32} {x4 : Int32} {x5 : Int32} {x6 : Int32} {x7 : Int32}
    (h : (C x0).1 = 3 ∧
      ∃ q2 : Nat, R x0 29 = some q2 ∧
      (C q2).1 = 21 ∧
      vp_in (x6 + (if x3 < x7 then x3 else x7)) (C q2).2 ∧
      ∃ q5 : Nat, R x0 28 = some q5 ∧
      (C q5).1 = 21 ∧
      vp_in x6 (C q5).2 ∧
      F_X2_at [aI x2, aI x7] C I J R (fun o C8 I9 J10 R11 =>
      ∃ r12 : Int32, o = .inl (some (aI r12)) ∧
      ∃ q13 : Nat, R x0 23 = some q13 ∧
      (C8 q13).1 = 21 ∧
      vp_in r12 (C8 q13).2 ∧
      (C8 q2).1 = 21 ∧
      vp_in (x6 + (if x3 < x7 then x3 else x7)) (C8 q2).2 ∧
      ∀ J18 : MJ, J18 = va_up J10 q2 (va_up (J10 q2) (x6 + (if x3 < x7 then x3 else x7)).toNatClampNeg ((J q2 (x6 + (if x3 < x7 then x3 else x7)).toNatClampNeg) + ((J q5 x6.toNatClampNeg) * (J10 q13 r12.toNatClampNeg)))) →
      Q124 x0 x2 x3 x4 x5 x6 (x7 + 1) C8 I9 J18 R11)) :
    AW Γ 0 0 C I J R 203 [(0, aR (some x0)), (2, aI x2), (3, aI x3), (4, aI x4), (5, aI x5), (6, aI x6), (7, aI x7)] [] := by
  have G0 := G.1
  refine aw_aload_n G0 0 rfl dX2_makeRetry_203 ?_
  obtain ⟨k1, h⟩ := h
  refine aw_getR (f := 29) G0 (by rw [k1]; exact fb_X2_88) dX2_makeRetry_204 ?_
  refine aw_iload G0 5 rfl dX2_makeRetry_207 ?_
  refine aw_iload G0 6 rfl dX2_makeRetry_209 ?_
  refine aw_iload_n G0 2 rfl dX2_makeRetry_211 ?_
  refine aw_mmin G0 q1153 (by rw [G.2.1]; decide) (by rw [G.2.1]; exact Nat.le_of_ble_eq_true rfl) (by rw [G.2.1]; decide) dX2_makeRetry_212 ?_
  refine aw_iadd G0 dX2_makeRetry_215 ?_
  refine aw_dup2IR G0 dX2_makeRetry_216 ?_
  obtain ⟨q2, e2, h⟩ := h
  refine aw_dr1 e2 ?_
  obtain ⟨k3, h⟩ := h
  obtain ⟨k4, h⟩ := h
  refine aw_lald G0 k3 k4 dX2_makeRetry_217 ?_
  refine aw_aload_n G0 0 rfl dX2_makeRetry_218 ?_
  refine aw_getR (f := 28) G0 (by rw [k1]; exact fb_X2_85) dX2_makeRetry_219 ?_
  refine aw_iload G0 5 rfl dX2_makeRetry_222 ?_
  obtain ⟨q5, e5, h⟩ := h
  refine aw_dr1 e5 ?_
  obtain ⟨k6, h⟩ := h
  obtain ⟨k7, h⟩ := h
  refine aw_lald G0 k6 k7 dX2_makeRetry_224 ?_
  refine aw_aload_n G0 0 rfl dX2_makeRetry_225 ?_
  refine aw_getR (f := 23) G0 (by rw [k1]; exact fb_X2_69) dX2_makeRetry_226 ?_
  refine aw_iload_n G0 1 rfl dX2_makeRetry_229 ?_
  refine aw_iload G0 6 rfl dX2_makeRetry_230 ?_
  refine aw_callS (k1 := 0) (n1 := 0) (k2 := 0) (n2 := 0) (st := [aR (R x0 23), aJ (J q5 x6.toNatClampNeg), aJ (J q2 (x6 + (if x3 < x7 then x3 else x7)).toNatClampNeg), aI (x6 + (if x3 < x7 then x3 else x7)), aR (R x0 29)]) G0 S_X2_at gi_X2_173 md_X2_at (Nat.le_of_ble_eq_true rfl) (by decide) (by rw [G.2.1]; decide) (by rw [G.2.1]; decide) [aI x2, aI x7] rfl rfl dX2_makeRetry_232 h (fun o C8 I9 J10 R11 h => ?_)
  obtain ⟨r12, rfl, h⟩ := h
  show AW Γ 0 0 C8 I9 J10 R11 (232 + 3) [(0, aR (some x0)), (2, aI x2), (3, aI x3), (4, aI x4), (5, aI x5), (6, aI x6), (7, aI x7)] [aI r12, aR (R x0 23), aJ (J q5 x6.toNatClampNeg), aJ (J q2 (x6 + (if x3 < x7 then x3 else x7)).toNatClampNeg), aI (x6 + (if x3 < x7 then x3 else x7)), aR (R x0 29)]
  obtain ⟨q13, e13, h⟩ := h
  refine aw_dr1 e13 ?_
  obtain ⟨k14, h⟩ := h
  obtain ⟨k15, h⟩ := h
  refine aw_lald G0 k14 k15 dX2_makeRetry_235 ?_
  refine aw_lmul G0 dX2_makeRetry_236 ?_
  refine aw_ladd G0 dX2_makeRetry_237 ?_
  refine aw_dr2 e2 ?_
  obtain ⟨k16, h⟩ := h
  obtain ⟨k17, h⟩ := h
  refine aw_last G0 k16 k17 dX2_makeRetry_238 ?_
  generalize gJ18 : va_up J10 q2 (va_up (J10 q2) (x6 + (if x3 < x7 then x3 else x7)).toNatClampNeg ((J q2 (x6 + (if x3 < x7 then x3 else x7)).toNatClampNeg) + ((J q5 x6.toNatClampNeg) * (J10 q13 r12.toNatClampNeg)))) = J18
  have h := h J18 gJ18.symm
  refine aw_iinc (v := x7 + 1) (lv' := [(7, aI (x7 + 1)), (0, aR (some x0)), (2, aI x2), (3, aI x3), (4, aI x4), (5, aI x5), (6, aI x6)]) G0 6 rfl rfl (by decide) rfl dX2_makeRetry_239 ?_
  refine aw_goto G0 124 dX2_makeRetry_242 (by decide) ?_
  exact (aw_lv [1, 2, 3, 4, 5, 6, 0] rfl (w124 x0 x2 x3 x4 x5 x6 (x7 + 1) C8 I9 J18 R11 h))
theorem bX2_makeRetry_245 (G : Gb Γ yX2_makeRetry cX2_makeRetry 8 (none) [] rmX2_makeRetry bdX2_makeRetry)
    {Q97 : Nat → Int32 → Int32 → Int32 → Int32 → Int32 → MC → MI → MJ → MR → Prop} (w97 : ∀ (x0 : Nat) (x2 : Int32) (x3 : Int32) (x4 : Int32) (x5 : Int32) (x6 : Int32) (C : MC) (I : MI) (J : MJ) (R : MR), Q97 x0 x2 x3 x4 x5 x6 C I J R → AW Γ 0 0 C I J R 97 [(0, aR (some x0)), (2, aI x2), (3, aI x3), (4, aI x4), (5, aI x5), (6, aI x6)] []) {x0 : Nat} {x2 : Int32} {x3 : Int32} {x4 : Int32} {x5 : Int32} {x6 : Int32}
    (h : Q97 x0 x2 x3 x4 x5 (x6 + 1) C I J R) :
    AW Γ 0 0 C I J R 245 [(0, aR (some x0)), (2, aI x2), (3, aI x3), (4, aI x4), (5, aI x5), (6, aI x6)] [] := by
  have G0 := G.1
  refine aw_iinc (v := x6 + 1) (lv' := [(6, aI (x6 + 1)), (0, aR (some x0)), (2, aI x2), (3, aI x3), (4, aI x4), (5, aI x5)]) G0 5 rfl rfl (by decide) rfl dX2_makeRetry_245 ?_
  refine aw_goto G0 97 dX2_makeRetry_248 (by decide) ?_
  exact (aw_lv [1, 2, 3, 4, 5, 0] rfl (w97 x0 x2 x3 x4 x5 (x6 + 1) C I J R h))
theorem bX2_makeRetry_254 (G : Gb Γ yX2_makeRetry cX2_makeRetry 8 (none) [] rmX2_makeRetry bdX2_makeRetry)
    {Q44 : Nat → Int32 → Int32 → Int32 → Int32 → MC → MI → MJ → MR → Prop} (w44 : ∀ (x0 : Nat) (x2 : Int32) (x3 : Int32) (x4 : Int32) (x5 : Int32) (C : MC) (I : MI) (J : MJ) (R : MR), Q44 x0 x2 x3 x4 x5 C I J R → AW Γ 0 0 C I J R 44 [(0, aR (some x0)), (2, aI x2), (3, aI x3), (4, aI x4), (5, aI x5)] [])
    {Q254 : Nat → Int32 → Int32 → Int32 → Int32 → Int32 → MC → MI → MJ → MR → Prop} (w254 : ∀ (x0 : Nat) (x2 : Int32) (x3 : Int32) (x4 : Int32) (x5 : Int32) (x6 : Int32) (C : MC) (I : MI) (J : MJ) (R : MR), Q254 x0 x2 x3 x4 x5 x6 C I J R → AW Γ 0 0 C I J R 254 [(0, aR (some x0)), (2, aI x2), (3, aI x3), (4, aI x4), (5, aI x5), (6, aI x6)] []) {x0 : Nat} {x2 : Int32} {x3 : Int32} {x4 : Int32} {x5 : Int32} {x6 : Int32}
    (h : (C x0).1 = 3 ∧
      ∃ q2 : Nat, R x0 28 = some q2 ∧
      (20 ≤ (C q2).1 ∧ (C q2).1 ≤ 30) ∧
      (((nI (C q2).2) ≤ x6 →
      Q44 x0 x2 x3 x4 (x5 + 1) C I J R) ∧
      (¬ (nI (C q2).2) ≤ x6 →
      ∃ q5 : Nat, R x0 29 = some q5 ∧
      (C q5).1 = 21 ∧
      vp_in x6 (C q5).2 ∧
      (C q2).1 = 21 ∧
      vp_in x6 (C q2).2 ∧
      ∀ J10 : MJ, J10 = va_up J q2 (va_up (J q2) x6.toNatClampNeg (J q5 x6.toNatClampNeg)) →
      Q254 x0 x2 x3 x4 x5 (x6 + 1) C I J10 R))) :
    AW Γ 0 0 C I J R 254 [(0, aR (some x0)), (2, aI x2), (3, aI x3), (4, aI x4), (5, aI x5), (6, aI x6)] [] := by
  have G0 := G.1
  refine aw_iload G0 5 rfl dX2_makeRetry_254 ?_
  refine aw_aload_n G0 0 rfl dX2_makeRetry_256 ?_
  obtain ⟨k1, h⟩ := h
  refine aw_getR (f := 28) G0 (by rw [k1]; exact fb_X2_85) dX2_makeRetry_257 ?_
  obtain ⟨q2, e2, h⟩ := h
  refine aw_dr0 e2 ?_
  obtain ⟨k3, h⟩ := h
  refine aw_alen (v := nI (C q2).2) G0 k3 rfl dX2_makeRetry_260 ?_
  refine aw_icmp_ge G0 284 dX2_makeRetry_261 (by decide) (fun c4 => ?_) (fun c4 => ?_)
  · have h := h.1 c4
    refine aw_iinc (v := x5 + 1) (lv' := [(5, aI (x5 + 1)), (0, aR (some x0)), (2, aI x2), (3, aI x3), (4, aI x4), (6, aI x6)]) G0 4 rfl rfl (by decide) rfl dX2_makeRetry_284 ?_
    refine aw_goto G0 44 dX2_makeRetry_287 (by decide) ?_
    exact (aw_lv [1, 2, 3, 4, 0] rfl (w44 x0 x2 x3 x4 (x5 + 1) C I J R h))
  · have h := h.2 c4
    refine aw_aload_n G0 0 rfl dX2_makeRetry_264 ?_
    refine aw_getR (f := 28) G0 (by rw [k1]; exact fb_X2_85) dX2_makeRetry_265 ?_
    refine aw_iload G0 5 rfl dX2_makeRetry_268 ?_
    refine aw_aload_n G0 0 rfl dX2_makeRetry_270 ?_
    refine aw_getR (f := 29) G0 (by rw [k1]; exact fb_X2_88) dX2_makeRetry_271 ?_
    refine aw_iload G0 5 rfl dX2_makeRetry_274 ?_
    obtain ⟨q5, e5, h⟩ := h
    refine aw_dr1 e5 ?_
    obtain ⟨k6, h⟩ := h
    obtain ⟨k7, h⟩ := h
    refine aw_lald G0 k6 k7 dX2_makeRetry_276 ?_
    refine aw_dr2 e2 ?_
    obtain ⟨k8, h⟩ := h
    obtain ⟨k9, h⟩ := h
    refine aw_last G0 k8 k9 dX2_makeRetry_277 ?_
    generalize gJ10 : va_up J q2 (va_up (J q2) x6.toNatClampNeg (J q5 x6.toNatClampNeg)) = J10
    have h := h J10 gJ10.symm
    refine aw_iinc (v := x6 + 1) (lv' := [(6, aI (x6 + 1)), (0, aR (some x0)), (2, aI x2), (3, aI x3), (4, aI x4), (5, aI x5)]) G0 5 rfl rfl (by decide) rfl dX2_makeRetry_278 ?_
    refine aw_goto G0 254 dX2_makeRetry_281 (by decide) ?_
    exact (aw_lv [1, 2, 3, 4, 5, 0] rfl (w254 x0 x2 x3 x4 x5 (x6 + 1) C I J10 R h))
theorem bX2_makeRetry_293 (G : Gb Γ yX2_makeRetry cX2_makeRetry 8 (none) [] rmX2_makeRetry bdX2_makeRetry)
    {Q293 : Nat → Int32 → MC → MI → MJ → MR → Prop} (w293 : ∀ (x0 : Nat) (x5 : Int32) (C : MC) (I : MI) (J : MJ) (R : MR), Q293 x0 x5 C I J R → AW Γ 0 0 C I J R 293 [(0, aR (some x0)), (5, aI x5)] []) {x0 : Nat} {x5 : Int32}
    (h : (C x0).1 = 3 ∧
      ∃ q2 : Nat, R x0 27 = some q2 ∧
      (20 ≤ (C q2).1 ∧ (C q2).1 ≤ 30) ∧
      (((nI (C q2).2) ≤ x5 →
      gK Γ (.inl none) C I J R) ∧
      (¬ (nI (C q2).2) ≤ x5 →
      ∃ q5 : Nat, R x0 28 = some q5 ∧
      (C q5).1 = 21 ∧
      vp_in x5 (C q5).2 ∧
      (C q2).1 = 21 ∧
      vp_in x5 (C q2).2 ∧
      ∀ J10 : MJ, J10 = va_up J q2 (va_up (J q2) x5.toNatClampNeg (J q5 x5.toNatClampNeg)) →
      Q293 x0 (x5 + 1) C I J10 R))) :
    AW Γ 0 0 C I J R 293 [(0, aR (some x0)), (5, aI x5)] [] := by
  have G0 := G.1
  refine aw_iload G0 1 rfl dX2_makeRetry_293 ?_
  refine aw_aload_n G0 0 rfl dX2_makeRetry_295 ?_
  obtain ⟨k1, h⟩ := h
  refine aw_getR (f := 27) G0 (by rw [k1]; exact fb_X2_82) dX2_makeRetry_296 ?_
  obtain ⟨q2, e2, h⟩ := h
  refine aw_dr0 e2 ?_
  obtain ⟨k3, h⟩ := h
  refine aw_alen (v := nI (C q2).2) G0 k3 rfl dX2_makeRetry_299 ?_
  refine aw_icmp_ge G0 323 dX2_makeRetry_300 (by decide) (fun c4 => ?_) (fun c4 => ?_)
  · have h := h.1 c4
    exact aw_return G0 (by rw [G.2.2]; decide) (by rw [G.2.1]; decide) dX2_makeRetry_323 h
  · have h := h.2 c4
    refine aw_aload_n G0 0 rfl dX2_makeRetry_303 ?_
    refine aw_getR (f := 27) G0 (by rw [k1]; exact fb_X2_82) dX2_makeRetry_304 ?_
    refine aw_iload G0 1 rfl dX2_makeRetry_307 ?_
    refine aw_aload_n G0 0 rfl dX2_makeRetry_309 ?_
    refine aw_getR (f := 28) G0 (by rw [k1]; exact fb_X2_85) dX2_makeRetry_310 ?_
    refine aw_iload G0 1 rfl dX2_makeRetry_313 ?_
    obtain ⟨q5, e5, h⟩ := h
    refine aw_dr1 e5 ?_
    obtain ⟨k6, h⟩ := h
    obtain ⟨k7, h⟩ := h
    refine aw_lald G0 k6 k7 dX2_makeRetry_315 ?_
    refine aw_dr2 e2 ?_
    obtain ⟨k8, h⟩ := h
    obtain ⟨k9, h⟩ := h
    refine aw_last G0 k8 k9 dX2_makeRetry_316 ?_
    generalize gJ10 : va_up J q2 (va_up (J q2) x5.toNatClampNeg (J q5 x5.toNatClampNeg)) = J10
    have h := h J10 gJ10.symm
    refine aw_iinc (v := x5 + 1) (lv' := [(5, aI (x5 + 1)), (0, aR (some x0))]) G0 1 rfl rfl (by decide) rfl dX2_makeRetry_317 ?_
    refine aw_goto G0 293 dX2_makeRetry_320 (by decide) ?_
    exact (aw_lv [1, 0] rfl (w293 x0 (x5 + 1) C I J10 R h))
theorem bX2_makeHedge_0 (G : Gb Γ yX2_makeHedge cX2_makeHedge 6 (none) [] rmX2_makeHedge bdX2_makeHedge)
    {Q19 : Nat → Int32 → Int32 → Int32 → MC → MI → MJ → MR → Prop} (w19 : ∀ (x0 : Nat) (x2 : Int32) (x3 : Int32) (x4 : Int32) (C : MC) (I : MI) (J : MJ) (R : MR), Q19 x0 x2 x3 x4 C I J R → AW Γ 0 0 C I J R 19 [(0, aR (some x0)), (2, aI x2), (3, aI x3), (4, aI x4)] []) {x0 : Nat} {x1 : Int32}
    (h : (C x0).1 = 3 ∧
      ∃ q2 : Nat, R x0 8 = some q2 ∧
      (C q2).1 = 20 ∧
      vp_in ((4 : Int32) * x1) (C q2).2 ∧
      ∃ q5 : Nat, R x0 9 = some q5 ∧
      (C q5).1 = 20 ∧
      vp_in x1 (C q5).2 ∧
      Q19 x0 (I q2 ((4 : Int32) * x1).toNatClampNeg) (I q5 x1.toNatClampNeg) (0 : Int32) C I J R) :
    AW Γ 0 0 C I J R 0 [(0, aR (some x0)), (1, aI x1)] [] := by
  have G0 := G.1
  refine aw_aload_n G0 0 rfl dX2_makeHedge_0 ?_
  obtain ⟨k1, h⟩ := h
  refine aw_getR (f := 8) G0 (by rw [k1]; exact fb_X2_27) dX2_makeHedge_1 ?_
  refine aw_iconst (v := (4 : Int32)) G0 dX2_makeHedge_4 (by decide) ?_
  refine aw_iload_n G0 1 rfl dX2_makeHedge_5 ?_
  refine aw_imul G0 dX2_makeHedge_6 ?_
  obtain ⟨q2, e2, h⟩ := h
  refine aw_dr1 e2 ?_
  obtain ⟨k3, h⟩ := h
  obtain ⟨k4, h⟩ := h
  refine aw_iald G0 (Or.inl k3) k4 dX2_makeHedge_7 ?_
  refine aw_istore_n (lv' := [(2, aI (I q2 ((4 : Int32) * x1).toNatClampNeg)), (0, aR (some x0)), (1, aI x1)]) G0 (by decide) rfl dX2_makeHedge_8 ?_
  refine aw_aload_n G0 1 rfl dX2_makeHedge_9 ?_
  refine aw_getR (f := 9) G0 (by rw [k1]; exact fb_X2_30) dX2_makeHedge_10 ?_
  refine aw_iload_n G0 2 rfl dX2_makeHedge_13 ?_
  obtain ⟨q5, e5, h⟩ := h
  refine aw_dr1 e5 ?_
  obtain ⟨k6, h⟩ := h
  obtain ⟨k7, h⟩ := h
  refine aw_iald G0 (Or.inl k6) k7 dX2_makeHedge_14 ?_
  refine aw_istore_n (lv' := [(3, aI (I q5 x1.toNatClampNeg)), (2, aI (I q2 ((4 : Int32) * x1).toNatClampNeg)), (0, aR (some x0)), (1, aI x1)]) G0 (by decide) rfl dX2_makeHedge_15 ?_
  refine aw_iconst (v := (0 : Int32)) G0 dX2_makeHedge_16 (by decide) ?_
  refine aw_istore (lv' := [(4, aI (0 : Int32)), (3, aI (I q5 x1.toNatClampNeg)), (2, aI (I q2 ((4 : Int32) * x1).toNatClampNeg)), (0, aR (some x0)), (1, aI x1)]) G0 (by decide) rfl dX2_makeHedge_17 ?_
  exact (aw_lv [3, 2, 1, 0] rfl (w19 x0 (I q2 ((4 : Int32) * x1).toNatClampNeg) (I q5 x1.toNatClampNeg) (0 : Int32) C I J R h))
theorem bX2_makeHedge_19 (G : Gb Γ yX2_makeHedge cX2_makeHedge 6 (none) [] rmX2_makeHedge bdX2_makeHedge) {F_X2_at : SPF} (S_X2_at : SpX2_at (gL Γ) F_X2_at)
    {Q94 : Nat → Int32 → Int32 → Int32 → Int32 → MC → MI → MJ → MR → Prop} (w94 : ∀ (x0 : Nat) (x2 : Int32) (x3 : Int32) (x4 : Int32) (x5 : Int32) (C : MC) (I : MI) (J : MJ) (R : MR), Q94 x0 x2 x3 x4 x5 C I J R → AW Γ 0 0 C I J R 94 [(0, aR (some x0)), (2, aI x2), (3, aI x3), (4, aI x4), (5, aI x5)] [])
    {Q255 : Nat → Int32 → Int32 → Int32 → MC → MI → MJ → MR → Prop} (w255 : ∀ (x0 : Nat) (x2 : Int32) (x3 : Int32) (x4 : Int32) (C : MC) (I : MI) (J : MJ) (R : MR), Q255 x0 x2 x3 x4 C I J R → AW Γ 0 0 C I J R 255 [(0, aR (some x0)), (2, aI x2), (3, aI x3), (4, aI x4)] []) {x0 : Nat} {x2 : Int32} {x3 : Int32} {x4 : Int32}
    (h : (((121 : Int32) ≤ x4 →
      gK Γ (.inl none) C I J R) ∧
      (¬ (121 : Int32) ≤ x4 →
      ((x3 < x4 →
      Q94 x0 x2 x3 x4 (0 : Int32) C I J R) ∧
      (¬ x3 < x4 →
      (C x0).1 = 3 ∧
      ∃ q4 : Nat, R x0 26 = some q4 ∧
      (C q4).1 = 21 ∧
      vp_in x4 (C q4).2 ∧
      F_X2_at [aI x2, aI x4] C I J R (fun o C7 I8 J9 R10 =>
      ∃ r11 : Int32, o = .inl (some (aI r11)) ∧
      ∃ q12 : Nat, R x0 22 = some q12 ∧
      (C7 q12).1 = 21 ∧
      vp_in r11 (C7 q12).2 ∧
      (C7 x0).1 = 3 ∧
      ∃ q16 : Nat, R10 x0 24 = some q16 ∧
      (C7 q16).1 = 21 ∧
      vp_in x2 (C7 q16).2 ∧
      (C7 q4).1 = 21 ∧
      vp_in x4 (C7 q4).2 ∧
      ∀ J21 : MJ, J21 = va_up J9 q4 (va_up (J9 q4) x4.toNatClampNeg ((J q4 x4.toNatClampNeg) + ((J9 q12 r11.toNatClampNeg) * (J9 q16 x2.toNatClampNeg)))) →
      ∃ q22 : Nat, R10 x0 27 = some q22 ∧
      (C7 q22).1 = 21 ∧
      vp_in x4 (C7 q22).2 ∧
      F_X2_at [aI x2, aI x4] C7 I8 J21 R10 (fun o C25 I26 J27 R28 =>
      ∃ r29 : Int32, o = .inl (some (aI r29)) ∧
      ∃ q30 : Nat, R10 x0 23 = some q30 ∧
      (C25 q30).1 = 21 ∧
      vp_in r29 (C25 q30).2 ∧
      (C25 x0).1 = 3 ∧
      ∃ q34 : Nat, R28 x0 24 = some q34 ∧
      (C25 q34).1 = 21 ∧
      vp_in x2 (C25 q34).2 ∧
      (C25 q22).1 = 21 ∧
      vp_in x4 (C25 q22).2 ∧
      ∀ J39 : MJ, J39 = va_up J27 q22 (va_up (J27 q22) x4.toNatClampNeg ((J21 q22 x4.toNatClampNeg) + ((J27 q30 r29.toNatClampNeg) * (J27 q34 x2.toNatClampNeg)))) →
      Q255 x0 x2 x3 x4 C25 I26 J39 R28))))))) :
    AW Γ 0 0 C I J R 19 [(0, aR (some x0)), (2, aI x2), (3, aI x3), (4, aI x4)] [] := by
  have G0 := G.1
  refine aw_iload G0 3 rfl dX2_makeHedge_19 ?_
  refine aw_bipush (v := (121 : Int32)) G0 dX2_makeHedge_21 (by decide) ?_
  refine aw_icmp_ge G0 261 dX2_makeHedge_23 (by decide) (fun c1 => ?_) (fun c1 => ?_)
  · have h := h.1 c1
    exact aw_return G0 (by rw [G.2.2]; decide) (by rw [G.2.1]; decide) dX2_makeHedge_261 h
  · have h := h.2 c1
    refine aw_iload G0 3 rfl dX2_makeHedge_26 ?_
    refine aw_iload_n G0 2 rfl dX2_makeHedge_28 ?_
    refine aw_icmp_gt G0 91 dX2_makeHedge_29 (by decide) (fun c2 => ?_) (fun c2 => ?_)
    · have h := h.1 c2
      refine aw_iconst (v := (0 : Int32)) G0 dX2_makeHedge_91 (by decide) ?_
      refine aw_istore (lv' := [(5, aI (0 : Int32)), (0, aR (some x0)), (2, aI x2), (3, aI x3), (4, aI x4)]) G0 (by decide) rfl dX2_makeHedge_92 ?_
      exact (aw_lv [1, 2, 3, 4, 0] rfl (w94 x0 x2 x3 x4 (0 : Int32) C I J R h))
    · have h := h.2 c2
      refine aw_aload_n G0 0 rfl dX2_makeHedge_32 ?_
      obtain ⟨k3, h⟩ := h
      refine aw_getR (f := 26) G0 (by rw [k3]; exact fb_X2_79) dX2_makeHedge_33 ?_
      refine aw_iload G0 3 rfl dX2_makeHedge_36 ?_
      refine aw_dup2IR G0 dX2_makeHedge_38 ?_
      obtain ⟨q4, e4, h⟩ := h
      refine aw_dr1 e4 ?_
      obtain ⟨k5, h⟩ := h
      obtain ⟨k6, h⟩ := h
      refine aw_lald G0 k5 k6 dX2_makeHedge_39 ?_
      refine aw_aload_n G0 0 rfl dX2_makeHedge_40 ?_
      refine aw_getR (f := 22) G0 (by rw [k3]; exact fb_X2_66) dX2_makeHedge_41 ?_
      refine aw_iload_n G0 1 rfl dX2_makeHedge_44 ?_
      refine aw_iload G0 3 rfl dX2_makeHedge_45 ?_
      refine aw_callS (k1 := 0) (n1 := 0) (k2 := 0) (n2 := 0) (st := [aR (R x0 22), aJ (J q4 x4.toNatClampNeg), aI x4, aR (R x0 26)]) G0 S_X2_at gi_X2_173 md_X2_at (Nat.le_of_ble_eq_true rfl) (by decide) (by rw [G.2.1]; decide) (by rw [G.2.1]; decide) [aI x2, aI x4] rfl rfl dX2_makeHedge_47 h (fun o C7 I8 J9 R10 h => ?_)
      obtain ⟨r11, rfl, h⟩ := h
      show AW Γ 0 0 C7 I8 J9 R10 (47 + 3) [(0, aR (some x0)), (2, aI x2), (3, aI x3), (4, aI x4)] [aI r11, aR (R x0 22), aJ (J q4 x4.toNatClampNeg), aI x4, aR (R x0 26)]
      obtain ⟨q12, e12, h⟩ := h
      refine aw_dr1 e12 ?_
      obtain ⟨k13, h⟩ := h
      obtain ⟨k14, h⟩ := h
      refine aw_lald G0 k13 k14 dX2_makeHedge_50 ?_
      refine aw_aload_n G0 0 rfl dX2_makeHedge_51 ?_
      obtain ⟨k15, h⟩ := h
      refine aw_getR (f := 24) G0 (by rw [k15]; exact fb_X2_72) dX2_makeHedge_52 ?_
      refine aw_iload_n G0 1 rfl dX2_makeHedge_55 ?_
      obtain ⟨q16, e16, h⟩ := h
      refine aw_dr1 e16 ?_
      obtain ⟨k17, h⟩ := h
      obtain ⟨k18, h⟩ := h
      refine aw_lald G0 k17 k18 dX2_makeHedge_56 ?_
      refine aw_lmul G0 dX2_makeHedge_57 ?_
      refine aw_ladd G0 dX2_makeHedge_58 ?_
      refine aw_dr2 e4 ?_
      obtain ⟨k19, h⟩ := h
      obtain ⟨k20, h⟩ := h
      refine aw_last G0 k19 k20 dX2_makeHedge_59 ?_
      generalize gJ21 : va_up J9 q4 (va_up (J9 q4) x4.toNatClampNeg ((J q4 x4.toNatClampNeg) + ((J9 q12 r11.toNatClampNeg) * (J9 q16 x2.toNatClampNeg)))) = J21
      have h := h J21 gJ21.symm
      refine aw_aload_n G0 0 rfl dX2_makeHedge_60 ?_
      refine aw_getR (f := 27) G0 (by rw [k15]; exact fb_X2_82) dX2_makeHedge_61 ?_
      refine aw_iload G0 3 rfl dX2_makeHedge_64 ?_
      refine aw_dup2IR G0 dX2_makeHedge_66 ?_
      obtain ⟨q22, e22, h⟩ := h
      refine aw_dr1 e22 ?_
      obtain ⟨k23, h⟩ := h
      obtain ⟨k24, h⟩ := h
      refine aw_lald G0 k23 k24 dX2_makeHedge_67 ?_
      refine aw_aload_n G0 0 rfl dX2_makeHedge_68 ?_
      refine aw_getR (f := 23) G0 (by rw [k15]; exact fb_X2_69) dX2_makeHedge_69 ?_
      refine aw_iload_n G0 1 rfl dX2_makeHedge_72 ?_
      refine aw_iload G0 3 rfl dX2_makeHedge_73 ?_
      refine aw_callS (k1 := 0) (n1 := 0) (k2 := 0) (n2 := 0) (st := [aR (R10 x0 23), aJ (J21 q22 x4.toNatClampNeg), aI x4, aR (R10 x0 27)]) G0 S_X2_at gi_X2_173 md_X2_at (Nat.le_of_ble_eq_true rfl) (by decide) (by rw [G.2.1]; decide) (by rw [G.2.1]; decide) [aI x2, aI x4] rfl rfl dX2_makeHedge_75 h (fun o C25 I26 J27 R28 h => ?_)
      obtain ⟨r29, rfl, h⟩ := h
      show AW Γ 0 0 C25 I26 J27 R28 (75 + 3) [(0, aR (some x0)), (2, aI x2), (3, aI x3), (4, aI x4)] [aI r29, aR (R10 x0 23), aJ (J21 q22 x4.toNatClampNeg), aI x4, aR (R10 x0 27)]
      obtain ⟨q30, e30, h⟩ := h
      refine aw_dr1 e30 ?_
      obtain ⟨k31, h⟩ := h
      obtain ⟨k32, h⟩ := h
      refine aw_lald G0 k31 k32 dX2_makeHedge_78 ?_
      refine aw_aload_n G0 0 rfl dX2_makeHedge_79 ?_
      obtain ⟨k33, h⟩ := h
      refine aw_getR (f := 24) G0 (by rw [k33]; exact fb_X2_72) dX2_makeHedge_80 ?_
      refine aw_iload_n G0 1 rfl dX2_makeHedge_83 ?_
      obtain ⟨q34, e34, h⟩ := h
      refine aw_dr1 e34 ?_
      obtain ⟨k35, h⟩ := h
      obtain ⟨k36, h⟩ := h
      refine aw_lald G0 k35 k36 dX2_makeHedge_84 ?_
      refine aw_lmul G0 dX2_makeHedge_85 ?_
      refine aw_ladd G0 dX2_makeHedge_86 ?_
      refine aw_dr2 e22 ?_
      obtain ⟨k37, h⟩ := h
      obtain ⟨k38, h⟩ := h
      refine aw_last G0 k37 k38 dX2_makeHedge_87 ?_
      generalize gJ39 : va_up J27 q22 (va_up (J27 q22) x4.toNatClampNeg ((J21 q22 x4.toNatClampNeg) + ((J27 q30 r29.toNatClampNeg) * (J27 q34 x2.toNatClampNeg)))) = J39
      have h := h J39 gJ39.symm
      refine aw_goto G0 255 dX2_makeHedge_88 (by decide) ?_
      exact (w255 x0 x2 x3 x4 C25 I26 J39 R28 h)
theorem bX2_makeHedge_94 (G : Gb Γ yX2_makeHedge cX2_makeHedge 6 (none) [] rmX2_makeHedge bdX2_makeHedge) {F_X2_at : SPF} (S_X2_at : SpX2_at (gL Γ) F_X2_at)
    {Q94 : Nat → Int32 → Int32 → Int32 → Int32 → MC → MI → MJ → MR → Prop} (w94 : ∀ (x0 : Nat) (x2 : Int32) (x3 : Int32) (x4 : Int32) (x5 : Int32) (C : MC) (I : MI) (J : MJ) (R : MR), Q94 x0 x2 x3 x4 x5 C I J R → AW Γ 0 0 C I J R 94 [(0, aR (some x0)), (2, aI x2), (3, aI x3), (4, aI x4), (5, aI x5)] [])
    {Q255 : Nat → Int32 → Int32 → Int32 → MC → MI → MJ → MR → Prop} (w255 : ∀ (x0 : Nat) (x2 : Int32) (x3 : Int32) (x4 : Int32) (C : MC) (I : MI) (J : MJ) (R : MR), Q255 x0 x2 x3 x4 C I J R → AW Γ 0 0 C I J R 255 [(0, aR (some x0)), (2, aI x2), (3, aI x3), (4, aI x4)] []) {x0 : Nat} {x2 : Int32} {x3 : Int32} {x4 : Int32} {x5 : Int32}
    (h : (((121 : Int32) ≤ x5 →
      Q255 x0 x2 x3 x4 C I J R) ∧
      (¬ (121 : Int32) ≤ x5 →
      (C x0).1 = 3 ∧
      ∃ q3 : Nat, R x0 26 = some q3 ∧
      (C q3).1 = 21 ∧
      vp_in (if (x3 + x5) < x4 then (x3 + x5) else x4) (C q3).2 ∧
      F_X2_at [aI x2, aI x4] C I J R (fun o C6 I7 J8 R9 =>
      ∃ r10 : Int32, o = .inl (some (aI r10)) ∧
      ∃ q11 : Nat, R x0 22 = some q11 ∧
      (C6 q11).1 = 21 ∧
      vp_in r10 (C6 q11).2 ∧
      (C6 x0).1 = 3 ∧
      F_X2_at [aI x2, aI x5] C6 I7 J8 R9 (fun o C15 I16 J17 R18 =>
      ∃ r19 : Int32, o = .inl (some (aI r19)) ∧
      ∃ q20 : Nat, R9 x0 22 = some q20 ∧
      (C15 q20).1 = 21 ∧
      vp_in r19 (C15 q20).2 ∧
      (C15 q3).1 = 21 ∧
      vp_in (if (x3 + x5) < x4 then (x3 + x5) else x4) (C15 q3).2 ∧
      ∀ J25 : MJ, J25 = va_up J17 q3 (va_up (J17 q3) (if (x3 + x5) < x4 then (x3 + x5) else x4).toNatClampNeg ((J q3 (if (x3 + x5) < x4 then (x3 + x5) else x4).toNatClampNeg) + ((J8 q11 r10.toNatClampNeg) * (J17 q20 r19.toNatClampNeg)))) →
      (C15 x0).1 = 3 ∧
      ∃ q27 : Nat, R18 x0 26 = some q27 ∧
      (C15 q27).1 = 21 ∧
      vp_in x4 (C15 q27).2 ∧
      F_X2_at [aI x2, aI x4] C15 I16 J25 R18 (fun o C30 I31 J32 R33 =>
      ∃ r34 : Int32, o = .inl (some (aI r34)) ∧
      ∃ q35 : Nat, R18 x0 22 = some q35 ∧
      (C30 q35).1 = 21 ∧
      vp_in r34 (C30 q35).2 ∧
      (C30 x0).1 = 3 ∧
      F_X2_at [aI x2, aI x5] C30 I31 J32 R33 (fun o C39 I40 J41 R42 =>
      ∃ r43 : Int32, o = .inl (some (aI r43)) ∧
      ∃ q44 : Nat, R33 x0 23 = some q44 ∧
      (C39 q44).1 = 21 ∧
      vp_in r43 (C39 q44).2 ∧
      (C39 q27).1 = 21 ∧
      vp_in x4 (C39 q27).2 ∧
      ∀ J49 : MJ, J49 = va_up J41 q27 (va_up (J41 q27) x4.toNatClampNeg ((J25 q27 x4.toNatClampNeg) + ((J32 q35 r34.toNatClampNeg) * (J41 q44 r43.toNatClampNeg)))) →
      (C39 x0).1 = 3 ∧
      ∃ q51 : Nat, R42 x0 26 = some q51 ∧
      (C39 q51).1 = 21 ∧
      vp_in (x3 + x5) (C39 q51).2 ∧
      F_X2_at [aI x2, aI x4] C39 I40 J49 R42 (fun o C54 I55 J56 R57 =>
      ∃ r58 : Int32, o = .inl (some (aI r58)) ∧
      ∃ q59 : Nat, R42 x0 23 = some q59 ∧
      (C54 q59).1 = 21 ∧
      vp_in r58 (C54 q59).2 ∧
      (C54 x0).1 = 3 ∧
      F_X2_at [aI x2, aI x5] C54 I55 J56 R57 (fun o C63 I64 J65 R66 =>
      ∃ r67 : Int32, o = .inl (some (aI r67)) ∧
      ∃ q68 : Nat, R57 x0 22 = some q68 ∧
      (C63 q68).1 = 21 ∧
      vp_in r67 (C63 q68).2 ∧
      (C63 q51).1 = 21 ∧
      vp_in (x3 + x5) (C63 q51).2 ∧
      ∀ J73 : MJ, J73 = va_up J65 q51 (va_up (J65 q51) (x3 + x5).toNatClampNeg ((J49 q51 (x3 + x5).toNatClampNeg) + ((J56 q59 r58.toNatClampNeg) * (J65 q68 r67.toNatClampNeg)))) →
      (C63 x0).1 = 3 ∧
      ∃ q75 : Nat, R66 x0 27 = some q75 ∧
      (C63 q75).1 = 21 ∧
      vp_in (if x4 < (x3 + x5) then (x3 + x5) else x4) (C63 q75).2 ∧
      F_X2_at [aI x2, aI x4] C63 I64 J73 R66 (fun o C78 I79 J80 R81 =>
      ∃ r82 : Int32, o = .inl (some (aI r82)) ∧
      ∃ q83 : Nat, R66 x0 23 = some q83 ∧
      (C78 q83).1 = 21 ∧
      vp_in r82 (C78 q83).2 ∧
      (C78 x0).1 = 3 ∧
      F_X2_at [aI x2, aI x5] C78 I79 J80 R81 (fun o C87 I88 J89 R90 =>
      ∃ r91 : Int32, o = .inl (some (aI r91)) ∧
      ∃ q92 : Nat, R81 x0 23 = some q92 ∧
      (C87 q92).1 = 21 ∧
      vp_in r91 (C87 q92).2 ∧
      (C87 q75).1 = 21 ∧
      vp_in (if x4 < (x3 + x5) then (x3 + x5) else x4) (C87 q75).2 ∧
      ∀ J97 : MJ, J97 = va_up J89 q75 (va_up (J89 q75) (if x4 < (x3 + x5) then (x3 + x5) else x4).toNatClampNeg ((J73 q75 (if x4 < (x3 + x5) then (x3 + x5) else x4).toNatClampNeg) + ((J80 q83 r82.toNatClampNeg) * (J89 q92 r91.toNatClampNeg)))) →
      Q94 x0 x2 x3 x4 (x5 + 1) C87 I88 J97 R90))))))))))) :
    AW Γ 0 0 C I J R 94 [(0, aR (some x0)), (2, aI x2), (3, aI x3), (4, aI x4), (5, aI x5)] [] := by
  have G0 := G.1
  refine aw_iload G0 4 rfl dX2_makeHedge_94 ?_
  refine aw_bipush (v := (121 : Int32)) G0 dX2_makeHedge_96 (by decide) ?_
  refine aw_icmp_ge G0 255 dX2_makeHedge_98 (by decide) (fun c1 => ?_) (fun c1 => ?_)
  · have h := h.1 c1
    exact (aw_lv [0, 1, 2, 3] rfl (w255 x0 x2 x3 x4 C I J R h))
  · have h := h.2 c1
    refine aw_aload_n G0 0 rfl dX2_makeHedge_101 ?_
    obtain ⟨k2, h⟩ := h
    refine aw_getR (f := 26) G0 (by rw [k2]; exact fb_X2_79) dX2_makeHedge_102 ?_
    refine aw_iload G0 3 rfl dX2_makeHedge_105 ?_
    refine aw_iload_n G0 2 rfl dX2_makeHedge_107 ?_
    refine aw_iload G0 4 rfl dX2_makeHedge_108 ?_
    refine aw_iadd G0 dX2_makeHedge_110 ?_
    refine aw_mmin G0 q1153 (by rw [G.2.1]; decide) (by rw [G.2.1]; exact Nat.le_of_ble_eq_true rfl) (by rw [G.2.1]; decide) dX2_makeHedge_111 ?_
    refine aw_dup2IR G0 dX2_makeHedge_114 ?_
    obtain ⟨q3, e3, h⟩ := h
    refine aw_dr1 e3 ?_
    obtain ⟨k4, h⟩ := h
    obtain ⟨k5, h⟩ := h
    refine aw_lald G0 k4 k5 dX2_makeHedge_115 ?_
    refine aw_aload_n G0 0 rfl dX2_makeHedge_116 ?_
    refine aw_getR (f := 22) G0 (by rw [k2]; exact fb_X2_66) dX2_makeHedge_117 ?_
    refine aw_iload_n G0 1 rfl dX2_makeHedge_120 ?_
    refine aw_iload G0 3 rfl dX2_makeHedge_121 ?_
    refine aw_callS (k1 := 0) (n1 := 0) (k2 := 0) (n2 := 0) (st := [aR (R x0 22), aJ (J q3 (if (x3 + x5) < x4 then (x3 + x5) else x4).toNatClampNeg), aI (if (x3 + x5) < x4 then (x3 + x5) else x4), aR (R x0 26)]) G0 S_X2_at gi_X2_173 md_X2_at (Nat.le_of_ble_eq_true rfl) (by decide) (by rw [G.2.1]; decide) (by rw [G.2.1]; decide) [aI x2, aI x4] rfl rfl dX2_makeHedge_123 h (fun o C6 I7 J8 R9 h => ?_)
    obtain ⟨r10, rfl, h⟩ := h
    show AW Γ 0 0 C6 I7 J8 R9 (123 + 3) [(0, aR (some x0)), (2, aI x2), (3, aI x3), (4, aI x4), (5, aI x5)] [aI r10, aR (R x0 22), aJ (J q3 (if (x3 + x5) < x4 then (x3 + x5) else x4).toNatClampNeg), aI (if (x3 + x5) < x4 then (x3 + x5) else x4), aR (R x0 26)]
    obtain ⟨q11, e11, h⟩ := h
    refine aw_dr1 e11 ?_
    obtain ⟨k12, h⟩ := h
    obtain ⟨k13, h⟩ := h
    refine aw_lald G0 k12 k13 dX2_makeHedge_126 ?_
    refine aw_aload_n G0 0 rfl dX2_makeHedge_127 ?_
    obtain ⟨k14, h⟩ := h
    refine aw_getR (f := 22) G0 (by rw [k14]; exact fb_X2_66) dX2_makeHedge_128 ?_
    refine aw_iload_n G0 1 rfl dX2_makeHedge_131 ?_
    refine aw_iload G0 4 rfl dX2_makeHedge_132 ?_
    refine aw_callS (k1 := 0) (n1 := 0) (k2 := 0) (n2 := 0) (st := [aR (R9 x0 22), aJ (J8 q11 r10.toNatClampNeg), aJ (J q3 (if (x3 + x5) < x4 then (x3 + x5) else x4).toNatClampNeg), aI (if (x3 + x5) < x4 then (x3 + x5) else x4), aR (R x0 26)]) G0 S_X2_at gi_X2_173 md_X2_at (Nat.le_of_ble_eq_true rfl) (by decide) (by rw [G.2.1]; decide) (by rw [G.2.1]; decide) [aI x2, aI x5] rfl rfl dX2_makeHedge_134 h (fun o C15 I16 J17 R18 h => ?_)
    obtain ⟨r19, rfl, h⟩ := h
    show AW Γ 0 0 C15 I16 J17 R18 (134 + 3) [(0, aR (some x0)), (2, aI x2), (3, aI x3), (4, aI x4), (5, aI x5)] [aI r19, aR (R9 x0 22), aJ (J8 q11 r10.toNatClampNeg), aJ (J q3 (if (x3 + x5) < x4 then (x3 + x5) else x4).toNatClampNeg), aI (if (x3 + x5) < x4 then (x3 + x5) else x4), aR (R x0 26)]
    obtain ⟨q20, e20, h⟩ := h
    refine aw_dr1 e20 ?_
    obtain ⟨k21, h⟩ := h
    obtain ⟨k22, h⟩ := h
    refine aw_lald G0 k21 k22 dX2_makeHedge_137 ?_
    refine aw_lmul G0 dX2_makeHedge_138 ?_
    refine aw_ladd G0 dX2_makeHedge_139 ?_
    refine aw_dr2 e3 ?_
    obtain ⟨k23, h⟩ := h
    obtain ⟨k24, h⟩ := h
    refine aw_last G0 k23 k24 dX2_makeHedge_140 ?_
    generalize gJ25 : va_up J17 q3 (va_up (J17 q3) (if (x3 + x5) < x4 then (x3 + x5) else x4).toNatClampNeg ((J q3 (if (x3 + x5) < x4 then (x3 + x5) else x4).toNatClampNeg) + ((J8 q11 r10.toNatClampNeg) * (J17 q20 r19.toNatClampNeg)))) = J25
    have h := h J25 gJ25.symm
    refine aw_aload_n G0 0 rfl dX2_makeHedge_141 ?_
    obtain ⟨k26, h⟩ := h
    refine aw_getR (f := 26) G0 (by rw [k26]; exact fb_X2_79) dX2_makeHedge_142 ?_
    refine aw_iload G0 3 rfl dX2_makeHedge_145 ?_
    refine aw_dup2IR G0 dX2_makeHedge_147 ?_
    obtain ⟨q27, e27, h⟩ := h
    refine aw_dr1 e27 ?_
    obtain ⟨k28, h⟩ := h
    obtain ⟨k29, h⟩ := h
    refine aw_lald G0 k28 k29 dX2_makeHedge_148 ?_
    refine aw_aload_n G0 0 rfl dX2_makeHedge_149 ?_
    refine aw_getR (f := 22) G0 (by rw [k26]; exact fb_X2_66) dX2_makeHedge_150 ?_
    refine aw_iload_n G0 1 rfl dX2_makeHedge_153 ?_
    refine aw_iload G0 3 rfl dX2_makeHedge_154 ?_
    refine aw_callS (k1 := 0) (n1 := 0) (k2 := 0) (n2 := 0) (st := [aR (R18 x0 22), aJ (J25 q27 x4.toNatClampNeg), aI x4, aR (R18 x0 26)]) G0 S_X2_at gi_X2_173 md_X2_at (Nat.le_of_ble_eq_true rfl) (by decide) (by rw [G.2.1]; decide) (by rw [G.2.1]; decide) [aI x2, aI x4] rfl rfl dX2_makeHedge_156 h (fun o C30 I31 J32 R33 h => ?_)
    obtain ⟨r34, rfl, h⟩ := h
    show AW Γ 0 0 C30 I31 J32 R33 (156 + 3) [(0, aR (some x0)), (2, aI x2), (3, aI x3), (4, aI x4), (5, aI x5)] [aI r34, aR (R18 x0 22), aJ (J25 q27 x4.toNatClampNeg), aI x4, aR (R18 x0 26)]
    obtain ⟨q35, e35, h⟩ := h
    refine aw_dr1 e35 ?_
    obtain ⟨k36, h⟩ := h
    obtain ⟨k37, h⟩ := h
    refine aw_lald G0 k36 k37 dX2_makeHedge_159 ?_
    refine aw_aload_n G0 0 rfl dX2_makeHedge_160 ?_
    obtain ⟨k38, h⟩ := h
    refine aw_getR (f := 23) G0 (by rw [k38]; exact fb_X2_69) dX2_makeHedge_161 ?_
    refine aw_iload_n G0 1 rfl dX2_makeHedge_164 ?_
    refine aw_iload G0 4 rfl dX2_makeHedge_165 ?_
    refine aw_callS (k1 := 0) (n1 := 0) (k2 := 0) (n2 := 0) (st := [aR (R33 x0 23), aJ (J32 q35 r34.toNatClampNeg), aJ (J25 q27 x4.toNatClampNeg), aI x4, aR (R18 x0 26)]) G0 S_X2_at gi_X2_173 md_X2_at (Nat.le_of_ble_eq_true rfl) (by decide) (by rw [G.2.1]; decide) (by rw [G.2.1]; decide) [aI x2, aI x5] rfl rfl dX2_makeHedge_167 h (fun o C39 I40 J41 R42 h => ?_)
    obtain ⟨r43, rfl, h⟩ := h
    show AW Γ 0 0 C39 I40 J41 R42 (167 + 3) [(0, aR (some x0)), (2, aI x2), (3, aI x3), (4, aI x4), (5, aI x5)] [aI r43, aR (R33 x0 23), aJ (J32 q35 r34.toNatClampNeg), aJ (J25 q27 x4.toNatClampNeg), aI x4, aR (R18 x0 26)]
    obtain ⟨q44, e44, h⟩ := h
    refine aw_dr1 e44 ?_
    obtain ⟨k45, h⟩ := h
    obtain ⟨k46, h⟩ := h
    refine aw_lald G0 k45 k46 dX2_makeHedge_170 ?_
    refine aw_lmul G0 dX2_makeHedge_171 ?_
    refine aw_ladd G0 dX2_makeHedge_172 ?_
    refine aw_dr2 e27 ?_
    obtain ⟨k47, h⟩ := h
    obtain ⟨k48, h⟩ := h
    refine aw_last G0 k47 k48 dX2_makeHedge_173 ?_
    generalize gJ49 : va_up J41 q27 (va_up (J41 q27) x4.toNatClampNeg ((J25 q27 x4.toNatClampNeg) + ((J32 q35 r34.toNatClampNeg) * (J41 q44 r43.toNatClampNeg)))) = J49
    have h := h J49 gJ49.symm
    refine aw_aload_n G0 0 rfl dX2_makeHedge_174 ?_
    obtain ⟨k50, h⟩ := h
    refine aw_getR (f := 26) G0 (by rw [k50]; exact fb_X2_79) dX2_makeHedge_175 ?_
    refine aw_iload_n G0 2 rfl dX2_makeHedge_178 ?_
    refine aw_iload G0 4 rfl dX2_makeHedge_179 ?_
    refine aw_iadd G0 dX2_makeHedge_181 ?_
    refine aw_dup2IR G0 dX2_makeHedge_182 ?_
    obtain ⟨q51, e51, h⟩ := h
    refine aw_dr1 e51 ?_
    obtain ⟨k52, h⟩ := h
    obtain ⟨k53, h⟩ := h
    refine aw_lald G0 k52 k53 dX2_makeHedge_183 ?_
    refine aw_aload_n G0 0 rfl dX2_makeHedge_184 ?_
    refine aw_getR (f := 23) G0 (by rw [k50]; exact fb_X2_69) dX2_makeHedge_185 ?_
    refine aw_iload_n G0 1 rfl dX2_makeHedge_188 ?_
    refine aw_iload G0 3 rfl dX2_makeHedge_189 ?_
    refine aw_callS (k1 := 0) (n1 := 0) (k2 := 0) (n2 := 0) (st := [aR (R42 x0 23), aJ (J49 q51 (x3 + x5).toNatClampNeg), aI (x3 + x5), aR (R42 x0 26)]) G0 S_X2_at gi_X2_173 md_X2_at (Nat.le_of_ble_eq_true rfl) (by decide) (by rw [G.2.1]; decide) (by rw [G.2.1]; decide) [aI x2, aI x4] rfl rfl dX2_makeHedge_191 h (fun o C54 I55 J56 R57 h => ?_)
    obtain ⟨r58, rfl, h⟩ := h
    show AW Γ 0 0 C54 I55 J56 R57 (191 + 3) [(0, aR (some x0)), (2, aI x2), (3, aI x3), (4, aI x4), (5, aI x5)] [aI r58, aR (R42 x0 23), aJ (J49 q51 (x3 + x5).toNatClampNeg), aI (x3 + x5), aR (R42 x0 26)]
    obtain ⟨q59, e59, h⟩ := h
    refine aw_dr1 e59 ?_
    obtain ⟨k60, h⟩ := h
    obtain ⟨k61, h⟩ := h
    refine aw_lald G0 k60 k61 dX2_makeHedge_194 ?_
    refine aw_aload_n G0 0 rfl dX2_makeHedge_195 ?_
    obtain ⟨k62, h⟩ := h
    refine aw_getR (f := 22) G0 (by rw [k62]; exact fb_X2_66) dX2_makeHedge_196 ?_
    refine aw_iload_n G0 1 rfl dX2_makeHedge_199 ?_
    refine aw_iload G0 4 rfl dX2_makeHedge_200 ?_
    refine aw_callS (k1 := 0) (n1 := 0) (k2 := 0) (n2 := 0) (st := [aR (R57 x0 22), aJ (J56 q59 r58.toNatClampNeg), aJ (J49 q51 (x3 + x5).toNatClampNeg), aI (x3 + x5), aR (R42 x0 26)]) G0 S_X2_at gi_X2_173 md_X2_at (Nat.le_of_ble_eq_true rfl) (by decide) (by rw [G.2.1]; decide) (by rw [G.2.1]; decide) [aI x2, aI x5] rfl rfl dX2_makeHedge_202 h (fun o C63 I64 J65 R66 h => ?_)
    obtain ⟨r67, rfl, h⟩ := h
    show AW Γ 0 0 C63 I64 J65 R66 (202 + 3) [(0, aR (some x0)), (2, aI x2), (3, aI x3), (4, aI x4), (5, aI x5)] [aI r67, aR (R57 x0 22), aJ (J56 q59 r58.toNatClampNeg), aJ (J49 q51 (x3 + x5).toNatClampNeg), aI (x3 + x5), aR (R42 x0 26)]
    obtain ⟨q68, e68, h⟩ := h
    refine aw_dr1 e68 ?_
    obtain ⟨k69, h⟩ := h
    obtain ⟨k70, h⟩ := h
    refine aw_lald G0 k69 k70 dX2_makeHedge_205 ?_
    refine aw_lmul G0 dX2_makeHedge_206 ?_
    refine aw_ladd G0 dX2_makeHedge_207 ?_
    refine aw_dr2 e51 ?_
    obtain ⟨k71, h⟩ := h
    obtain ⟨k72, h⟩ := h
    refine aw_last G0 k71 k72 dX2_makeHedge_208 ?_
    generalize gJ73 : va_up J65 q51 (va_up (J65 q51) (x3 + x5).toNatClampNeg ((J49 q51 (x3 + x5).toNatClampNeg) + ((J56 q59 r58.toNatClampNeg) * (J65 q68 r67.toNatClampNeg)))) = J73
    have h := h J73 gJ73.symm
    refine aw_aload_n G0 0 rfl dX2_makeHedge_209 ?_
    obtain ⟨k74, h⟩ := h
    refine aw_getR (f := 27) G0 (by rw [k74]; exact fb_X2_82) dX2_makeHedge_210 ?_
    refine aw_iload G0 3 rfl dX2_makeHedge_213 ?_
    refine aw_iload_n G0 2 rfl dX2_makeHedge_215 ?_
    refine aw_iload G0 4 rfl dX2_makeHedge_216 ?_
    refine aw_iadd G0 dX2_makeHedge_218 ?_
    refine aw_mmax G0 q1158 (by rw [G.2.1]; decide) (by rw [G.2.1]; exact Nat.le_of_ble_eq_true rfl) (by rw [G.2.1]; decide) dX2_makeHedge_219 ?_
    refine aw_dup2IR G0 dX2_makeHedge_222 ?_
    obtain ⟨q75, e75, h⟩ := h
    refine aw_dr1 e75 ?_
    obtain ⟨k76, h⟩ := h
    obtain ⟨k77, h⟩ := h
    refine aw_lald G0 k76 k77 dX2_makeHedge_223 ?_
    refine aw_aload_n G0 0 rfl dX2_makeHedge_224 ?_
    refine aw_getR (f := 23) G0 (by rw [k74]; exact fb_X2_69) dX2_makeHedge_225 ?_
    refine aw_iload_n G0 1 rfl dX2_makeHedge_228 ?_
    refine aw_iload G0 3 rfl dX2_makeHedge_229 ?_
    refine aw_callS (k1 := 0) (n1 := 0) (k2 := 0) (n2 := 0) (st := [aR (R66 x0 23), aJ (J73 q75 (if x4 < (x3 + x5) then (x3 + x5) else x4).toNatClampNeg), aI (if x4 < (x3 + x5) then (x3 + x5) else x4), aR (R66 x0 27)]) G0 S_X2_at gi_X2_173 md_X2_at (Nat.le_of_ble_eq_true rfl) (by decide) (by rw [G.2.1]; decide) (by rw [G.2.1]; decide) [aI x2, aI x4] rfl rfl dX2_makeHedge_231 h (fun o C78 I79 J80 R81 h => ?_)
    obtain ⟨r82, rfl, h⟩ := h
    show AW Γ 0 0 C78 I79 J80 R81 (231 + 3) [(0, aR (some x0)), (2, aI x2), (3, aI x3), (4, aI x4), (5, aI x5)] [aI r82, aR (R66 x0 23), aJ (J73 q75 (if x4 < (x3 + x5) then (x3 + x5) else x4).toNatClampNeg), aI (if x4 < (x3 + x5) then (x3 + x5) else x4), aR (R66 x0 27)]
    obtain ⟨q83, e83, h⟩ := h
    refine aw_dr1 e83 ?_
    obtain ⟨k84, h⟩ := h
    obtain ⟨k85, h⟩ := h
    refine aw_lald G0 k84 k85 dX2_makeHedge_234 ?_
    refine aw_aload_n G0 0 rfl dX2_makeHedge_235 ?_
    obtain ⟨k86, h⟩ := h
    refine aw_getR (f := 23) G0 (by rw [k86]; exact fb_X2_69) dX2_makeHedge_236 ?_
    refine aw_iload_n G0 1 rfl dX2_makeHedge_239 ?_
    refine aw_iload G0 4 rfl dX2_makeHedge_240 ?_
    refine aw_callS (k1 := 0) (n1 := 0) (k2 := 0) (n2 := 0) (st := [aR (R81 x0 23), aJ (J80 q83 r82.toNatClampNeg), aJ (J73 q75 (if x4 < (x3 + x5) then (x3 + x5) else x4).toNatClampNeg), aI (if x4 < (x3 + x5) then (x3 + x5) else x4), aR (R66 x0 27)]) G0 S_X2_at gi_X2_173 md_X2_at (Nat.le_of_ble_eq_true rfl) (by decide) (by rw [G.2.1]; decide) (by rw [G.2.1]; decide) [aI x2, aI x5] rfl rfl dX2_makeHedge_242 h (fun o C87 I88 J89 R90 h => ?_)
    obtain ⟨r91, rfl, h⟩ := h
    show AW Γ 0 0 C87 I88 J89 R90 (242 + 3) [(0, aR (some x0)), (2, aI x2), (3, aI x3), (4, aI x4), (5, aI x5)] [aI r91, aR (R81 x0 23), aJ (J80 q83 r82.toNatClampNeg), aJ (J73 q75 (if x4 < (x3 + x5) then (x3 + x5) else x4).toNatClampNeg), aI (if x4 < (x3 + x5) then (x3 + x5) else x4), aR (R66 x0 27)]
    obtain ⟨q92, e92, h⟩ := h
    refine aw_dr1 e92 ?_
    obtain ⟨k93, h⟩ := h
    obtain ⟨k94, h⟩ := h
    refine aw_lald G0 k93 k94 dX2_makeHedge_245 ?_
    refine aw_lmul G0 dX2_makeHedge_246 ?_
    refine aw_ladd G0 dX2_makeHedge_247 ?_
    refine aw_dr2 e75 ?_
    obtain ⟨k95, h⟩ := h
    obtain ⟨k96, h⟩ := h
    refine aw_last G0 k95 k96 dX2_makeHedge_248 ?_
    generalize gJ97 : va_up J89 q75 (va_up (J89 q75) (if x4 < (x3 + x5) then (x3 + x5) else x4).toNatClampNeg ((J73 q75 (if x4 < (x3 + x5) then (x3 + x5) else x4).toNatClampNeg) + ((J80 q83 r82.toNatClampNeg) * (J89 q92 r91.toNatClampNeg)))) = J97
    have h := h J97 gJ97.symm
    refine aw_iinc (v := x5 + 1) (lv' := [(5, aI (x5 + 1)), (0, aR (some x0)), (2, aI x2), (3, aI x3), (4, aI x4)]) G0 4 rfl rfl (by decide) rfl dX2_makeHedge_249 ?_
    refine aw_goto G0 94 dX2_makeHedge_252 (by decide) ?_
    exact (aw_lv [1, 2, 3, 4, 0] rfl (w94 x0 x2 x3 x4 (x5 + 1) C87 I88 J97 R90 h))
theorem bX2_makeHedge_255 (G : Gb Γ yX2_makeHedge cX2_makeHedge 6 (none) [] rmX2_makeHedge bdX2_makeHedge)
    {Q19 : Nat → Int32 → Int32 → Int32 → MC → MI → MJ → MR → Prop} (w19 : ∀ (x0 : Nat) (x2 : Int32) (x3 : Int32) (x4 : Int32) (C : MC) (I : MI) (J : MJ) (R : MR), Q19 x0 x2 x3 x4 C I J R → AW Γ 0 0 C I J R 19 [(0, aR (some x0)), (2, aI x2), (3, aI x3), (4, aI x4)] []) {x0 : Nat} {x2 : Int32} {x3 : Int32} {x4 : Int32}
    (h : Q19 x0 x2 x3 (x4 + 1) C I J R) :
    AW Γ 0 0 C I J R 255 [(0, aR (some x0)), (2, aI x2), (3, aI x3), (4, aI x4)] [] := by
  have G0 := G.1
  refine aw_iinc (v := x4 + 1) (lv' := [(4, aI (x4 + 1)), (0, aR (some x0)), (2, aI x2), (3, aI x3)]) G0 3 rfl rfl (by decide) rfl dX2_makeHedge_255 ?_
  refine aw_goto G0 19 dX2_makeHedge_258 (by decide) ?_
  exact (aw_lv [1, 2, 3, 0] rfl (w19 x0 x2 x3 (x4 + 1) C I J R h))
theorem bX2_settle_0 (G : Gb Γ yX2_settle cX2_settle 8 (none) [] rmX2_settle bdX2_settle)
    {Q9 : Nat → Int32 → Int64 → Int64 → Int32 → Int32 → MC → MI → MJ → MR → Prop} (w9 : ∀ (x0 : Nat) (x1 : Int32) (x2 : Int64) (x4 : Int64) (x6 : Int32) (x7 : Int32) (C : MC) (I : MI) (J : MJ) (R : MR), Q9 x0 x1 x2 x4 x6 x7 C I J R → AW Γ 0 0 C I J R 9 [(0, aR (some x0)), (1, aI x1), (2, aJ x2), (4, aJ x4), (6, aI x6), (7, aI x7)] []) {x0 : Nat} {x1 : Int32} {x2 : Int64}
    (h : Q9 x0 x1 x2 x2 (0 : Int32) (0 : Int32) C I J R) :
    AW Γ 0 0 C I J R 0 [(0, aR (some x0)), (1, aI x1), (2, aJ x2)] [] := by
  have G0 := G.1
  refine aw_lload_n G0 2 rfl dX2_settle_0 ?_
  refine aw_lstore (lv' := [(4, aJ x2), (0, aR (some x0)), (1, aI x1), (2, aJ x2)]) G0 (by decide) rfl dX2_settle_1 ?_
  refine aw_iconst (v := (0 : Int32)) G0 dX2_settle_3 (by decide) ?_
  refine aw_istore (lv' := [(6, aI (0 : Int32)), (4, aJ x2), (0, aR (some x0)), (1, aI x1), (2, aJ x2)]) G0 (by decide) rfl dX2_settle_4 ?_
  refine aw_iconst (v := (0 : Int32)) G0 dX2_settle_6 (by decide) ?_
  refine aw_istore (lv' := [(7, aI (0 : Int32)), (6, aI (0 : Int32)), (4, aJ x2), (0, aR (some x0)), (1, aI x1), (2, aJ x2)]) G0 (by decide) rfl dX2_settle_7 ?_
  exact (aw_lv [3, 4, 5, 2, 1, 0] rfl (w9 x0 x1 x2 x2 (0 : Int32) (0 : Int32) C I J R h))
theorem bX2_settle_9 (G : Gb Γ yX2_settle cX2_settle 8 (none) [] rmX2_settle bdX2_settle) {F_X2_common : SPF} (S_X2_common : SpX2_common (gL Γ) F_X2_common)
    {Q79 : Nat → Int32 → Int64 → Int64 → Int32 → MC → MI → MJ → MR → Prop} (w79 : ∀ (x0 : Nat) (x1 : Int32) (x2 : Int64) (x4 : Int64) (x7 : Int32) (C : MC) (I : MI) (J : MJ) (R : MR), Q79 x0 x1 x2 x4 x7 C I J R → AW Γ 0 0 C I J R 79 [(0, aR (some x0)), (1, aI x1), (2, aJ x2), (4, aJ x4), (7, aI x7)] [])
    {Q83 : Nat → Int32 → Int64 → Int64 → Int32 → MC → MI → MJ → MR → Prop} (w83 : ∀ (x0 : Nat) (x1 : Int32) (x2 : Int64) (x4 : Int64) (x7 : Int32) (C : MC) (I : MI) (J : MJ) (R : MR), Q83 x0 x1 x2 x4 x7 C I J R → AW Γ 0 0 C I J R 83 [(0, aR (some x0)), (1, aI x1), (2, aJ x2), (4, aJ x4), (7, aI x7)] [])
    {Q103 : Nat → Int32 → Int64 → Int64 → Int32 → Int32 → MC → MI → MJ → MR → Prop} (w103 : ∀ (x0 : Nat) (x1 : Int32) (x2 : Int64) (x4 : Int64) (x6 : Int32) (x7 : Int32) (C : MC) (I : MI) (J : MJ) (R : MR), Q103 x0 x1 x2 x4 x6 x7 C I J R → AW Γ 0 0 C I J R 103 [(0, aR (some x0)), (1, aI x1), (2, aJ x2), (4, aJ x4), (6, aI x6), (7, aI x7)] []) {x0 : Nat} {x1 : Int32} {x2 : Int64} {x4 : Int64} {x6 : Int32} {x7 : Int32}
    (h : (C x0).1 = 3 ∧
      ∃ q2 : Nat, R x0 26 = some q2 ∧
      (20 ≤ (C q2).1 ∧ (C q2).1 ≤ 30) ∧
      (((nI (C q2).2) ≤ x7 →
      ∃ q5 : Nat, R x0 25 = some q5 ∧
      (C q5).1 = 24 ∧
      vp_in x1 (C q5).2 ∧
      (x6 = 0 ∨ x6 = 1) ∧
      ∀ I9 : MI, I9 = va_up I q5 (va_up (I q5) x1.toNatClampNeg x6) →
      Q103 x0 x1 x2 x4 x6 (0 : Int32) C I9 J R) ∧
      (¬ (nI (C q2).2) ≤ x7 →
      (C q2).1 = 21 ∧
      vp_in x7 (C q2).2 ∧
      F_X2_common [aJ x4, aJ (J q2 x7.toNatClampNeg)] C I J R (fun o C12 I13 J14 R15 =>
      ∃ r16 : Int64, o = .inl (some (aJ r16)) ∧
      (C12 x0).1 = 3 ∧
      ∃ q18 : Nat, R15 x0 27 = some q18 ∧
      (C12 q18).1 = 21 ∧
      vp_in x7 (C12 q18).2 ∧
      F_X2_common [aJ r16, aJ (J14 q18 x7.toNatClampNeg)] C12 I13 J14 R15 (fun o C21 I22 J23 R24 =>
      ∃ r25 : Int64, o = .inl (some (aJ r25)) ∧
      ((¬ x6 = 0 →
      Q79 x0 x1 x2 r25 x7 C21 I22 J23 R24) ∧
      (x6 = 0 →
      ((x7 < (121 : Int32) →
      Q83 x0 x1 x2 r25 x7 C21 I22 J23 R24) ∧
      (¬ x7 < (121 : Int32) →
      (C21 x0).1 = 3 ∧
      ∃ q29 : Nat, R24 x0 26 = some q29 ∧
      (C21 q29).1 = 21 ∧
      vp_in x7 (C21 q29).2 ∧
      (((0 : Int64) < (J23 q29 x7.toNatClampNeg) →
      Q79 x0 x1 x2 r25 x7 C21 I22 J23 R24) ∧
      (¬ (0 : Int64) < (J23 q29 x7.toNatClampNeg) →
      ∃ q33 : Nat, R24 x0 27 = some q33 ∧
      (C21 q33).1 = 21 ∧
      vp_in x7 (C21 q33).2 ∧
      (((J23 q33 x7.toNatClampNeg) ≤ (0 : Int64) →
      Q83 x0 x1 x2 r25 x7 C21 I22 J23 R24) ∧
      (¬ (J23 q33 x7.toNatClampNeg) ≤ (0 : Int64) →
      Q79 x0 x1 x2 r25 x7 C21 I22 J23 R24))))))))))))) :
    AW Γ 0 0 C I J R 9 [(0, aR (some x0)), (1, aI x1), (2, aJ x2), (4, aJ x4), (6, aI x6), (7, aI x7)] [] := by
  have G0 := G.1
  refine aw_iload G0 5 rfl dX2_settle_9 ?_
  refine aw_aload_n G0 0 rfl dX2_settle_11 ?_
  obtain ⟨k1, h⟩ := h
  refine aw_getR (f := 26) G0 (by rw [k1]; exact fb_X2_79) dX2_settle_12 ?_
  obtain ⟨q2, e2, h⟩ := h
  refine aw_dr0 e2 ?_
  obtain ⟨k3, h⟩ := h
  refine aw_alen (v := nI (C q2).2) G0 k3 rfl dX2_settle_15 ?_
  refine aw_icmp_ge G0 92 dX2_settle_16 (by decide) (fun c4 => ?_) (fun c4 => ?_)
  · have h := h.1 c4
    refine aw_aload_n G0 0 rfl dX2_settle_92 ?_
    refine aw_getR (f := 25) G0 (by rw [k1]; exact fb_X2_75) dX2_settle_93 ?_
    refine aw_iload_n G0 1 rfl dX2_settle_96 ?_
    refine aw_iload G0 4 rfl dX2_settle_97 ?_
    obtain ⟨q5, e5, h⟩ := h
    refine aw_dr2 e5 ?_
    obtain ⟨k6, h⟩ := h
    obtain ⟨k7, h⟩ := h
    obtain ⟨k8, h⟩ := h
    refine aw_zast G0 k6 k7 k8 dX2_settle_99 ?_
    generalize gI9 : va_up I q5 (va_up (I q5) x1.toNatClampNeg x6) = I9
    have h := h I9 gI9.symm
    refine aw_iconst (v := (0 : Int32)) G0 dX2_settle_100 (by decide) ?_
    refine aw_istore (lv' := [(7, aI (0 : Int32)), (0, aR (some x0)), (1, aI x1), (2, aJ x2), (4, aJ x4), (6, aI x6)]) G0 (by decide) rfl dX2_settle_101 ?_
    exact (aw_lv [1, 2, 3, 4, 5, 0] rfl (w103 x0 x1 x2 x4 x6 (0 : Int32) C I9 J R h))
  · have h := h.2 c4
    refine aw_lload G0 3 rfl dX2_settle_19 ?_
    refine aw_aload_n G0 0 rfl dX2_settle_21 ?_
    refine aw_getR (f := 26) G0 (by rw [k1]; exact fb_X2_79) dX2_settle_22 ?_
    refine aw_iload G0 5 rfl dX2_settle_25 ?_
    refine aw_dr1 e2 ?_
    obtain ⟨k10, h⟩ := h
    obtain ⟨k11, h⟩ := h
    refine aw_lald G0 k10 k11 dX2_settle_27 ?_
    refine aw_callS (k1 := 0) (n1 := 0) (k2 := 0) (n2 := 0) (st := []) G0 S_X2_common gi_X2_169 md_X2_common (Nat.le_of_ble_eq_true rfl) (by decide) (by rw [G.2.1]; decide) (by rw [G.2.1]; decide) [aJ x4, aJ (J q2 x7.toNatClampNeg)] rfl rfl dX2_settle_28 h (fun o C12 I13 J14 R15 h => ?_)
    obtain ⟨r16, rfl, h⟩ := h
    show AW Γ 0 0 C12 I13 J14 R15 (28 + 3) [(0, aR (some x0)), (1, aI x1), (2, aJ x2), (4, aJ x4), (6, aI x6), (7, aI x7)] [aJ r16]
    refine aw_aload_n G0 0 rfl dX2_settle_31 ?_
    obtain ⟨k17, h⟩ := h
    refine aw_getR (f := 27) G0 (by rw [k17]; exact fb_X2_82) dX2_settle_32 ?_
    refine aw_iload G0 5 rfl dX2_settle_35 ?_
    obtain ⟨q18, e18, h⟩ := h
    refine aw_dr1 e18 ?_
    obtain ⟨k19, h⟩ := h
    obtain ⟨k20, h⟩ := h
    refine aw_lald G0 k19 k20 dX2_settle_37 ?_
    refine aw_callS (k1 := 0) (n1 := 0) (k2 := 0) (n2 := 0) (st := []) G0 S_X2_common gi_X2_169 md_X2_common (Nat.le_of_ble_eq_true rfl) (by decide) (by rw [G.2.1]; decide) (by rw [G.2.1]; decide) [aJ r16, aJ (J14 q18 x7.toNatClampNeg)] rfl rfl dX2_settle_38 h (fun o C21 I22 J23 R24 h => ?_)
    obtain ⟨r25, rfl, h⟩ := h
    show AW Γ 0 0 C21 I22 J23 R24 (38 + 3) [(0, aR (some x0)), (1, aI x1), (2, aJ x2), (4, aJ x4), (6, aI x6), (7, aI x7)] [aJ r25]
    refine aw_lstore (lv' := [(4, aJ r25), (0, aR (some x0)), (1, aI x1), (2, aJ x2), (6, aI x6), (7, aI x7)]) G0 (by decide) rfl dX2_settle_41 ?_
    refine aw_iload G0 4 rfl dX2_settle_43 ?_
    refine aw_if_ne G0 79 dX2_settle_45 (by decide) (fun c26 => ?_) (fun c26 => ?_)
    · have h := h.1 c26
      exact (aw_lv [1, 2, 3, 0, 5] rfl (w79 x0 x1 x2 r25 x7 C21 I22 J23 R24 h))
    · have h := h.2 c26
      refine aw_iload G0 5 rfl dX2_settle_48 ?_
      refine aw_bipush (v := (121 : Int32)) G0 dX2_settle_50 (by decide) ?_
      refine aw_icmp_lt G0 83 dX2_settle_52 (by decide) (fun c27 => ?_) (fun c27 => ?_)
      · have h := h.1 c27
        exact (aw_lv [1, 2, 3, 0, 5] rfl (w83 x0 x1 x2 r25 x7 C21 I22 J23 R24 h))
      · have h := h.2 c27
        refine aw_aload_n G0 1 rfl dX2_settle_55 ?_
        obtain ⟨k28, h⟩ := h
        refine aw_getR (f := 26) G0 (by rw [k28]; exact fb_X2_79) dX2_settle_56 ?_
        refine aw_iload G0 5 rfl dX2_settle_59 ?_
        obtain ⟨q29, e29, h⟩ := h
        refine aw_dr1 e29 ?_
        obtain ⟨k30, h⟩ := h
        obtain ⟨k31, h⟩ := h
        refine aw_lald G0 k30 k31 dX2_settle_61 ?_
        refine aw_lconst (v := (0 : Int64)) G0 dX2_settle_62 (by decide) ?_
        refine aw_lif_gt G0 79 dX2_settle_63 dX2_settle_64 (by decide) (fun c32 => ?_) (fun c32 => ?_)
        · have h := h.1 c32
          exact (aw_lv [1, 2, 3, 0, 5] rfl (w79 x0 x1 x2 r25 x7 C21 I22 J23 R24 h))
        · have h := h.2 c32
          refine aw_aload_n G0 1 rfl dX2_settle_67 ?_
          refine aw_getR (f := 27) G0 (by rw [k28]; exact fb_X2_82) dX2_settle_68 ?_
          refine aw_iload G0 5 rfl dX2_settle_71 ?_
          obtain ⟨q33, e33, h⟩ := h
          refine aw_dr1 e33 ?_
          obtain ⟨k34, h⟩ := h
          obtain ⟨k35, h⟩ := h
          refine aw_lald G0 k34 k35 dX2_settle_73 ?_
          refine aw_lconst (v := (0 : Int64)) G0 dX2_settle_74 (by decide) ?_
          refine aw_lif_le G0 83 dX2_settle_75 dX2_settle_76 (by decide) (fun c36 => ?_) (fun c36 => ?_)
          · have h := h.1 c36
            exact (aw_lv [1, 2, 3, 0, 5] rfl (w83 x0 x1 x2 r25 x7 C21 I22 J23 R24 h))
          · have h := h.2 c36
            exact (aw_lv [1, 2, 3, 0, 5] rfl (w79 x0 x1 x2 r25 x7 C21 I22 J23 R24 h))
theorem bX2_settle_79 (G : Gb Γ yX2_settle cX2_settle 8 (none) [] rmX2_settle bdX2_settle)
    {Q84 : Nat → Int32 → Int64 → Int64 → Int32 → Int32 → MC → MI → MJ → MR → Prop} (w84 : ∀ (x0 : Nat) (x1 : Int32) (x2 : Int64) (x4 : Int64) (x7 : Int32) (s0 : Int32) (C : MC) (I : MI) (J : MJ) (R : MR), Q84 x0 x1 x2 x4 x7 s0 C I J R → AW Γ 0 0 C I J R 84 [(0, aR (some x0)), (1, aI x1), (2, aJ x2), (4, aJ x4), (7, aI x7)] [aI s0]) {x0 : Nat} {x1 : Int32} {x2 : Int64} {x4 : Int64} {x7 : Int32}
    (h : Q84 x0 x1 x2 x4 x7 (1 : Int32) C I J R) :
    AW Γ 0 0 C I J R 79 [(0, aR (some x0)), (1, aI x1), (2, aJ x2), (4, aJ x4), (7, aI x7)] [] := by
  have G0 := G.1
  refine aw_iconst (v := (1 : Int32)) G0 dX2_settle_79 (by decide) ?_
  refine aw_goto G0 84 dX2_settle_80 (by decide) ?_
  exact (w84 x0 x1 x2 x4 x7 (1 : Int32) C I J R h)
theorem bX2_settle_83 (G : Gb Γ yX2_settle cX2_settle 8 (none) [] rmX2_settle bdX2_settle)
    {Q84 : Nat → Int32 → Int64 → Int64 → Int32 → Int32 → MC → MI → MJ → MR → Prop} (w84 : ∀ (x0 : Nat) (x1 : Int32) (x2 : Int64) (x4 : Int64) (x7 : Int32) (s0 : Int32) (C : MC) (I : MI) (J : MJ) (R : MR), Q84 x0 x1 x2 x4 x7 s0 C I J R → AW Γ 0 0 C I J R 84 [(0, aR (some x0)), (1, aI x1), (2, aJ x2), (4, aJ x4), (7, aI x7)] [aI s0]) {x0 : Nat} {x1 : Int32} {x2 : Int64} {x4 : Int64} {x7 : Int32}
    (h : Q84 x0 x1 x2 x4 x7 (0 : Int32) C I J R) :
    AW Γ 0 0 C I J R 83 [(0, aR (some x0)), (1, aI x1), (2, aJ x2), (4, aJ x4), (7, aI x7)] [] := by
  have G0 := G.1
  refine aw_iconst (v := (0 : Int32)) G0 dX2_settle_83 (by decide) ?_
  exact (w84 x0 x1 x2 x4 x7 (0 : Int32) C I J R h)
theorem bX2_settle_84 (G : Gb Γ yX2_settle cX2_settle 8 (none) [] rmX2_settle bdX2_settle)
    {Q9 : Nat → Int32 → Int64 → Int64 → Int32 → Int32 → MC → MI → MJ → MR → Prop} (w9 : ∀ (x0 : Nat) (x1 : Int32) (x2 : Int64) (x4 : Int64) (x6 : Int32) (x7 : Int32) (C : MC) (I : MI) (J : MJ) (R : MR), Q9 x0 x1 x2 x4 x6 x7 C I J R → AW Γ 0 0 C I J R 9 [(0, aR (some x0)), (1, aI x1), (2, aJ x2), (4, aJ x4), (6, aI x6), (7, aI x7)] []) {x0 : Nat} {x1 : Int32} {x2 : Int64} {x4 : Int64} {x7 : Int32} {s0 : Int32}
    (h : Q9 x0 x1 x2 x4 s0 (x7 + 1) C I J R) :
    AW Γ 0 0 C I J R 84 [(0, aR (some x0)), (1, aI x1), (2, aJ x2), (4, aJ x4), (7, aI x7)] [aI s0] := by
  have G0 := G.1
  refine aw_istore (lv' := [(6, aI s0), (0, aR (some x0)), (1, aI x1), (2, aJ x2), (4, aJ x4), (7, aI x7)]) G0 (by decide) rfl dX2_settle_84 ?_
  refine aw_iinc (v := x7 + 1) (lv' := [(7, aI (x7 + 1)), (6, aI s0), (0, aR (some x0)), (1, aI x1), (2, aJ x2), (4, aJ x4)]) G0 5 rfl rfl (by decide) rfl dX2_settle_86 ?_
  refine aw_goto G0 9 dX2_settle_89 (by decide) ?_
  exact (aw_lv [2, 3, 4, 5, 1, 0] rfl (w9 x0 x1 x2 x4 s0 (x7 + 1) C I J R h))
theorem bX2_settle_103 (G : Gb Γ yX2_settle cX2_settle 8 (none) [] rmX2_settle bdX2_settle) {F_X2_at : SPF} (S_X2_at : SpX2_at (gL Γ) F_X2_at)
    {Q103 : Nat → Int32 → Int64 → Int64 → Int32 → Int32 → MC → MI → MJ → MR → Prop} (w103 : ∀ (x0 : Nat) (x1 : Int32) (x2 : Int64) (x4 : Int64) (x6 : Int32) (x7 : Int32) (C : MC) (I : MI) (J : MJ) (R : MR), Q103 x0 x1 x2 x4 x6 x7 C I J R → AW Γ 0 0 C I J R 103 [(0, aR (some x0)), (1, aI x1), (2, aJ x2), (4, aJ x4), (6, aI x6), (7, aI x7)] [])
    {Q163 : Nat → Int32 → Int64 → Int64 → MC → MI → MJ → MR → Prop} (w163 : ∀ (x0 : Nat) (x1 : Int32) (x2 : Int64) (x4 : Int64) (C : MC) (I : MI) (J : MJ) (R : MR), Q163 x0 x1 x2 x4 C I J R → AW Γ 0 0 C I J R 163 [(0, aR (some x0)), (1, aI x1), (2, aJ x2), (4, aJ x4)] []) {x0 : Nat} {x1 : Int32} {x2 : Int64} {x4 : Int64} {x6 : Int32} {x7 : Int32}
    (h : (((121 : Int32) ≤ x7 →
      Q163 x0 x1 x2 x4 C I J R) ∧
      (¬ (121 : Int32) ≤ x7 →
      ((¬ x6 = 0 →
      Q163 x0 x1 x2 x4 C I J R) ∧
      (x6 = 0 →
      (C x0).1 = 3 ∧
      F_X2_at [aI x1, aI x7] C I J R (fun o C4 I5 J6 R7 =>
      ∃ r8 : Int32, o = .inl (some (aI r8)) ∧
      (C4 x0).1 = 3 ∧
      ∃ q10 : Nat, R7 x0 26 = some q10 ∧
      (C4 q10).1 = 21 ∧
      vp_in x7 (C4 q10).2 ∧
      ¬ x4 = 0 ∧
      ∃ q14 : Nat, R x0 22 = some q14 ∧
      (C4 q14).1 = 21 ∧
      vp_in r8 (C4 q14).2 ∧
      ∀ J17 : MJ, J17 = va_up J6 q14 (va_up (J6 q14) r8.toNatClampNeg ((J6 q10 x7.toNatClampNeg) / x4)) →
      F_X2_at [aI x1, aI x7] C4 I5 J17 R7 (fun o C18 I19 J20 R21 =>
      ∃ r22 : Int32, o = .inl (some (aI r22)) ∧
      (C18 x0).1 = 3 ∧
      ∃ q24 : Nat, R21 x0 27 = some q24 ∧
      (C18 q24).1 = 21 ∧
      vp_in x7 (C18 q24).2 ∧
      ¬ x4 = 0 ∧
      ∃ q28 : Nat, R7 x0 23 = some q28 ∧
      (C18 q28).1 = 21 ∧
      vp_in r22 (C18 q28).2 ∧
      ∀ J31 : MJ, J31 = va_up J20 q28 (va_up (J20 q28) r22.toNatClampNeg ((J20 q24 x7.toNatClampNeg) / x4)) →
      Q103 x0 x1 x2 x4 x6 (x7 + 1) C18 I19 J31 R21))))))) :
    AW Γ 0 0 C I J R 103 [(0, aR (some x0)), (1, aI x1), (2, aJ x2), (4, aJ x4), (6, aI x6), (7, aI x7)] [] := by
  have G0 := G.1
  refine aw_iload G0 5 rfl dX2_settle_103 ?_
  refine aw_bipush (v := (121 : Int32)) G0 dX2_settle_105 (by decide) ?_
  refine aw_icmp_ge G0 163 dX2_settle_107 (by decide) (fun c1 => ?_) (fun c1 => ?_)
  · have h := h.1 c1
    exact (aw_lv [0, 1, 2, 3] rfl (w163 x0 x1 x2 x4 C I J R h))
  · have h := h.2 c1
    refine aw_iload G0 4 rfl dX2_settle_110 ?_
    refine aw_if_ne G0 163 dX2_settle_112 (by decide) (fun c2 => ?_) (fun c2 => ?_)
    · have h := h.1 c2
      exact (aw_lv [0, 1, 2, 3] rfl (w163 x0 x1 x2 x4 C I J R h))
    · have h := h.2 c2
      refine aw_aload_n G0 0 rfl dX2_settle_115 ?_
      obtain ⟨k3, h⟩ := h
      refine aw_getR (f := 22) G0 (by rw [k3]; exact fb_X2_66) dX2_settle_116 ?_
      refine aw_iload_n G0 1 rfl dX2_settle_119 ?_
      refine aw_iload G0 5 rfl dX2_settle_120 ?_
      refine aw_callS (k1 := 0) (n1 := 0) (k2 := 0) (n2 := 0) (st := [aR (R x0 22)]) G0 S_X2_at gi_X2_173 md_X2_at (Nat.le_of_ble_eq_true rfl) (by decide) (by rw [G.2.1]; decide) (by rw [G.2.1]; decide) [aI x1, aI x7] rfl rfl dX2_settle_122 h (fun o C4 I5 J6 R7 h => ?_)
      obtain ⟨r8, rfl, h⟩ := h
      show AW Γ 0 0 C4 I5 J6 R7 (122 + 3) [(0, aR (some x0)), (1, aI x1), (2, aJ x2), (4, aJ x4), (6, aI x6), (7, aI x7)] [aI r8, aR (R x0 22)]
      refine aw_aload_n G0 0 rfl dX2_settle_125 ?_
      obtain ⟨k9, h⟩ := h
      refine aw_getR (f := 26) G0 (by rw [k9]; exact fb_X2_79) dX2_settle_126 ?_
      refine aw_iload G0 5 rfl dX2_settle_129 ?_
      obtain ⟨q10, e10, h⟩ := h
      refine aw_dr1 e10 ?_
      obtain ⟨k11, h⟩ := h
      obtain ⟨k12, h⟩ := h
      refine aw_lald G0 k11 k12 dX2_settle_131 ?_
      refine aw_lload G0 3 rfl dX2_settle_132 ?_
      obtain ⟨k13, h⟩ := h
      refine aw_ldiv G0 k13 dX2_settle_134 ?_
      obtain ⟨q14, e14, h⟩ := h
      refine aw_dr2 e14 ?_
      obtain ⟨k15, h⟩ := h
      obtain ⟨k16, h⟩ := h
      refine aw_last G0 k15 k16 dX2_settle_135 ?_
      generalize gJ17 : va_up J6 q14 (va_up (J6 q14) r8.toNatClampNeg ((J6 q10 x7.toNatClampNeg) / x4)) = J17
      have h := h J17 gJ17.symm
      refine aw_aload_n G0 0 rfl dX2_settle_136 ?_
      refine aw_getR (f := 23) G0 (by rw [k9]; exact fb_X2_69) dX2_settle_137 ?_
      refine aw_iload_n G0 1 rfl dX2_settle_140 ?_
      refine aw_iload G0 5 rfl dX2_settle_141 ?_
      refine aw_callS (k1 := 0) (n1 := 0) (k2 := 0) (n2 := 0) (st := [aR (R7 x0 23)]) G0 S_X2_at gi_X2_173 md_X2_at (Nat.le_of_ble_eq_true rfl) (by decide) (by rw [G.2.1]; decide) (by rw [G.2.1]; decide) [aI x1, aI x7] rfl rfl dX2_settle_143 h (fun o C18 I19 J20 R21 h => ?_)
      obtain ⟨r22, rfl, h⟩ := h
      show AW Γ 0 0 C18 I19 J20 R21 (143 + 3) [(0, aR (some x0)), (1, aI x1), (2, aJ x2), (4, aJ x4), (6, aI x6), (7, aI x7)] [aI r22, aR (R7 x0 23)]
      refine aw_aload_n G0 0 rfl dX2_settle_146 ?_
      obtain ⟨k23, h⟩ := h
      refine aw_getR (f := 27) G0 (by rw [k23]; exact fb_X2_82) dX2_settle_147 ?_
      refine aw_iload G0 5 rfl dX2_settle_150 ?_
      obtain ⟨q24, e24, h⟩ := h
      refine aw_dr1 e24 ?_
      obtain ⟨k25, h⟩ := h
      obtain ⟨k26, h⟩ := h
      refine aw_lald G0 k25 k26 dX2_settle_152 ?_
      refine aw_lload G0 3 rfl dX2_settle_153 ?_
      obtain ⟨k27, h⟩ := h
      refine aw_ldiv G0 k27 dX2_settle_155 ?_
      obtain ⟨q28, e28, h⟩ := h
      refine aw_dr2 e28 ?_
      obtain ⟨k29, h⟩ := h
      obtain ⟨k30, h⟩ := h
      refine aw_last G0 k29 k30 dX2_settle_156 ?_
      generalize gJ31 : va_up J20 q28 (va_up (J20 q28) r22.toNatClampNeg ((J20 q24 x7.toNatClampNeg) / x4)) = J31
      have h := h J31 gJ31.symm
      refine aw_iinc (v := x7 + 1) (lv' := [(7, aI (x7 + 1)), (0, aR (some x0)), (1, aI x1), (2, aJ x2), (4, aJ x4), (6, aI x6)]) G0 5 rfl rfl (by decide) rfl dX2_settle_157 ?_
      refine aw_goto G0 103 dX2_settle_160 (by decide) ?_
      exact (aw_lv [1, 2, 3, 4, 5, 0] rfl (w103 x0 x1 x2 x4 x6 (x7 + 1) C18 I19 J31 R21 h))
theorem bX2_settle_163 (G : Gb Γ yX2_settle cX2_settle 8 (none) [] rmX2_settle bdX2_settle) {x0 : Nat} {x1 : Int32} {x2 : Int64} {x4 : Int64}
    (h : (C x0).1 = 3 ∧
      ¬ x4 = 0 ∧
      ∃ q3 : Nat, R x0 24 = some q3 ∧
      (C q3).1 = 21 ∧
      vp_in x1 (C q3).2 ∧
      ∀ J6 : MJ, J6 = va_up J q3 (va_up (J q3) x1.toNatClampNeg (x2 / x4)) →
      gK Γ (.inl none) C I J6 R) :
    AW Γ 0 0 C I J R 163 [(0, aR (some x0)), (1, aI x1), (2, aJ x2), (4, aJ x4)] [] := by
  have G0 := G.1
  refine aw_aload_n G0 0 rfl dX2_settle_163 ?_
  obtain ⟨k1, h⟩ := h
  refine aw_getR (f := 24) G0 (by rw [k1]; exact fb_X2_72) dX2_settle_164 ?_
  refine aw_iload_n G0 1 rfl dX2_settle_167 ?_
  refine aw_lload_n G0 2 rfl dX2_settle_168 ?_
  refine aw_lload G0 3 rfl dX2_settle_169 ?_
  obtain ⟨k2, h⟩ := h
  refine aw_ldiv G0 k2 dX2_settle_171 ?_
  obtain ⟨q3, e3, h⟩ := h
  refine aw_dr2 e3 ?_
  obtain ⟨k4, h⟩ := h
  obtain ⟨k5, h⟩ := h
  refine aw_last G0 k4 k5 dX2_settle_172 ?_
  generalize gJ6 : va_up J q3 (va_up (J q3) x1.toNatClampNeg (x2 / x4)) = J6
  have h := h J6 gJ6.symm
  exact aw_return G0 (by rw [G.2.2]; decide) (by rw [G.2.1]; decide) dX2_settle_173 h
theorem bX2_common_0 (G : Gb Γ yX2_common cX2_common 10 (some .long) [] rmX2_common bdX2_common)
    {Q6 : Int64 → Int64 → MC → MI → MJ → MR → Prop} (w6 : ∀ (x4 : Int64) (x6 : Int64) (C : MC) (I : MI) (J : MJ) (R : MR), Q6 x4 x6 C I J R → AW Γ 0 0 C I J R 6 [(4, aJ x4), (6, aJ x6)] []) {x0 : Int64} {x2 : Int64}
    (h : Q6 x0 x2 C I J R) :
    AW Γ 0 0 C I J R 0 [(0, aJ x0), (2, aJ x2)] [] := by
  have G0 := G.1
  refine aw_lload_n G0 0 rfl dX2_common_0 ?_
  refine aw_lstore (lv' := [(4, aJ x0), (0, aJ x0), (2, aJ x2)]) G0 (by decide) rfl dX2_common_1 ?_
  refine aw_lload_n G0 2 rfl dX2_common_3 ?_
  refine aw_lstore (lv' := [(6, aJ x2), (4, aJ x0), (0, aJ x0), (2, aJ x2)]) G0 (by decide) rfl dX2_common_4 ?_
  exact (aw_lv [1, 0] rfl (w6 x0 x2 C I J R h))
theorem bX2_common_6 (G : Gb Γ yX2_common cX2_common 10 (some .long) [] rmX2_common bdX2_common)
    {Q6 : Int64 → Int64 → MC → MI → MJ → MR → Prop} (w6 : ∀ (x4 : Int64) (x6 : Int64) (C : MC) (I : MI) (J : MJ) (R : MR), Q6 x4 x6 C I J R → AW Γ 0 0 C I J R 6 [(4, aJ x4), (6, aJ x6)] []) {x4 : Int64} {x6 : Int64}
    (h : ((x6 = (0 : Int64) →
      gK Γ (.inl (some (aJ x4))) C I J R) ∧
      (¬ x6 = (0 : Int64) →
      ¬ x6 = 0 ∧
      Q6 x6 (x4 - x4 / x6 * x6) C I J R))) :
    AW Γ 0 0 C I J R 6 [(4, aJ x4), (6, aJ x6)] [] := by
  have G0 := G.1
  refine aw_lload G0 1 rfl dX2_common_6 ?_
  refine aw_lconst (v := (0 : Int64)) G0 dX2_common_8 (by decide) ?_
  refine aw_lif_eq G0 31 dX2_common_9 dX2_common_10 (by decide) (fun c1 => ?_) (fun c1 => ?_)
  · have h := h.1 c1
    refine aw_lload G0 0 rfl dX2_common_31 ?_
    exact aw_lreturn G0 (by rw [G.2.2]; decide) (by rw [G.2.1]; decide) dX2_common_33 h
  · have h := h.2 c1
    refine aw_lload G0 0 rfl dX2_common_13 ?_
    refine aw_lload G0 1 rfl dX2_common_15 ?_
    obtain ⟨k2, h⟩ := h
    refine aw_lrem G0 k2 dX2_common_17 ?_
    refine aw_lstore (lv' := [(8, aJ (x4 - x4 / x6 * x6)), (4, aJ x4), (6, aJ x6)]) G0 (by decide) rfl dX2_common_18 ?_
    refine aw_lload G0 2 rfl dX2_common_20 ?_
    refine aw_lstore (lv' := [(4, aJ x6), (8, aJ (x4 - x4 / x6 * x6)), (6, aJ x6)]) G0 (by decide) rfl dX2_common_22 ?_
    refine aw_lload G0 1 rfl dX2_common_24 ?_
    refine aw_lstore (lv' := [(6, aJ (x4 - x4 / x6 * x6)), (4, aJ x6), (8, aJ (x4 - x4 / x6 * x6))]) G0 (by decide) rfl dX2_common_26 ?_
    refine aw_goto G0 6 dX2_common_28 (by decide) ?_
    exact (aw_lv [1, 0] rfl (w6 x6 (x4 - x4 / x6 * x6) C I J R h))
theorem bX2_leaves_0 (G : Gb Γ yX2_leaves cX2_leaves 4 (some .int) [] rmX2_leaves bdX2_leaves)
    {Q4 : Nat → Int32 → Int32 → Int32 → MC → MI → MJ → MR → Prop} (w4 : ∀ (x0 : Nat) (x1 : Int32) (x2 : Int32) (x3 : Int32) (C : MC) (I : MI) (J : MJ) (R : MR), Q4 x0 x1 x2 x3 C I J R → AW Γ 0 0 C I J R 4 [(0, aR (some x0)), (1, aI x1), (2, aI x2), (3, aI x3)] []) {x0 : Nat} {x1 : Int32}
    (h : Q4 x0 x1 (0 : Int32) (0 : Int32) C I J R) :
    AW Γ 0 0 C I J R 0 [(0, aR (some x0)), (1, aI x1)] [] := by
  have G0 := G.1
  refine aw_iconst (v := (0 : Int32)) G0 dX2_leaves_0 (by decide) ?_
  refine aw_istore_n (lv' := [(2, aI (0 : Int32)), (0, aR (some x0)), (1, aI x1)]) G0 (by decide) rfl dX2_leaves_1 ?_
  refine aw_iconst (v := (0 : Int32)) G0 dX2_leaves_2 (by decide) ?_
  refine aw_istore_n (lv' := [(3, aI (0 : Int32)), (2, aI (0 : Int32)), (0, aR (some x0)), (1, aI x1)]) G0 (by decide) rfl dX2_leaves_3 ?_
  exact (aw_lv [2, 3, 1, 0] rfl (w4 x0 x1 (0 : Int32) (0 : Int32) C I J R h))
theorem bX2_leaves_4 (G : Gb Γ yX2_leaves cX2_leaves 4 (some .int) [] rmX2_leaves bdX2_leaves) {F_X2_has : SPF} (S_X2_has : SpX2_has (gL Γ) F_X2_has)
    {Q35 : Nat → Int32 → Int32 → Int32 → MC → MI → MJ → MR → Prop} (w35 : ∀ (x0 : Nat) (x1 : Int32) (x3 : Int32) (s0 : Int32) (C : MC) (I : MI) (J : MJ) (R : MR), Q35 x0 x1 x3 s0 C I J R → AW Γ 0 0 C I J R 35 [(0, aR (some x0)), (1, aI x1), (3, aI x3)] [aI s0])
    {Q36 : Nat → Int32 → Int32 → Int32 → Int32 → MC → MI → MJ → MR → Prop} (w36 : ∀ (x0 : Nat) (x1 : Int32) (x3 : Int32) (s0 : Int32) (s1 : Int32) (C : MC) (I : MI) (J : MJ) (R : MR), Q36 x0 x1 x3 s0 s1 C I J R → AW Γ 0 0 C I J R 36 [(0, aR (some x0)), (1, aI x1), (3, aI x3)] [aI s1, aI s0]) {x0 : Nat} {x1 : Int32} {x2 : Int32} {x3 : Int32}
    (h : (C x0).1 = 3 ∧
      (((I x0 6) ≤ x3 →
      gK Γ (.inl (some (aI x2))) C I J R) ∧
      (¬ (I x0 6) ≤ x3 →
      ∃ q3 : Nat, R x0 7 = some q3 ∧
      (C q3).1 = 20 ∧
      vp_in x3 (C q3).2 ∧
      ((¬ (I q3 x3.toNatClampNeg) = 0 →
      Q35 x0 x1 x3 x2 C I J R) ∧
      ((I q3 x3.toNatClampNeg) = 0 →
      F_X2_has [aR (some x0), aI x1, aI x3] C I J R (fun o C7 I8 J9 R10 =>
      ∃ r11 : Int32, o = .inl (some (aI r11)) ∧
      ((r11 = 0 →
      Q35 x0 x1 x3 x2 C7 I8 J9 R10) ∧
      (¬ r11 = 0 →
      Q36 x0 x1 x3 x2 (1 : Int32) C7 I8 J9 R10)))))))) :
    AW Γ 0 0 C I J R 4 [(0, aR (some x0)), (1, aI x1), (2, aI x2), (3, aI x3)] [] := by
  have G0 := G.1
  refine aw_iload_n G0 3 rfl dX2_leaves_4 ?_
  refine aw_aload_n G0 0 rfl dX2_leaves_5 ?_
  obtain ⟨k1, h⟩ := h
  refine aw_getI (f := 6) G0 (by rw [k1]; exact fb_X2_136) dX2_leaves_6 ?_
  refine aw_icmp_ge G0 44 dX2_leaves_9 (by decide) (fun c2 => ?_) (fun c2 => ?_)
  · have h := h.1 c2
    refine aw_iload_n G0 2 rfl dX2_leaves_44 ?_
    exact aw_ireturn G0 (Or.inl rfl) (by rw [G.2.2]; decide) (by rw [G.2.1]; decide) dX2_leaves_45 h
  · have h := h.2 c2
    refine aw_iload_n G0 2 rfl dX2_leaves_12 ?_
    refine aw_aload_n G0 0 rfl dX2_leaves_13 ?_
    refine aw_getR (f := 7) G0 (by rw [k1]; exact fb_X2_24) dX2_leaves_14 ?_
    refine aw_iload_n G0 3 rfl dX2_leaves_17 ?_
    obtain ⟨q3, e3, h⟩ := h
    refine aw_dr1 e3 ?_
    obtain ⟨k4, h⟩ := h
    obtain ⟨k5, h⟩ := h
    refine aw_iald G0 (Or.inl k4) k5 dX2_leaves_18 ?_
    refine aw_if_ne G0 35 dX2_leaves_19 (by decide) (fun c6 => ?_) (fun c6 => ?_)
    · have h := h.1 c6
      exact (aw_lv [0, 1, 3] rfl (w35 x0 x1 x3 x2 C I J R h))
    · have h := h.2 c6
      refine aw_aload_n G0 0 rfl dX2_leaves_22 ?_
      refine aw_iload_n G0 1 rfl dX2_leaves_23 ?_
      refine aw_iload_n G0 3 rfl dX2_leaves_24 ?_
      refine aw_callV (k1 := 0) (n1 := 0) (k2 := 0) (n2 := 0) (st := [aI x2]) G0 S_X2_has gi_X2_226 (Or.inl (by rw [k1]; decide)) (by rw [k1]; rfl) md_X2_has (Nat.le_of_ble_eq_true rfl) (by decide) (by rw [G.2.1]; decide) (by rw [G.2.1]; decide) [aI x1, aI x3] rfl rfl dX2_leaves_25 h (fun o C7 I8 J9 R10 h => ?_)
      obtain ⟨r11, rfl, h⟩ := h
      show AW Γ 0 0 C7 I8 J9 R10 (25 + 3) [(0, aR (some x0)), (1, aI x1), (2, aI x2), (3, aI x3)] [aI r11, aI x2]
      refine aw_if_eq G0 35 dX2_leaves_28 (by decide) (fun c12 => ?_) (fun c12 => ?_)
      · have h := h.1 c12
        exact (aw_lv [0, 1, 3] rfl (w35 x0 x1 x3 x2 C7 I8 J9 R10 h))
      · have h := h.2 c12
        refine aw_iconst (v := (1 : Int32)) G0 dX2_leaves_31 (by decide) ?_
        refine aw_goto G0 36 dX2_leaves_32 (by decide) ?_
        exact (aw_lv [0, 1, 3] rfl (w36 x0 x1 x3 x2 (1 : Int32) C7 I8 J9 R10 h))
theorem bX2_leaves_35 (G : Gb Γ yX2_leaves cX2_leaves 4 (some .int) [] rmX2_leaves bdX2_leaves)
    {Q36 : Nat → Int32 → Int32 → Int32 → Int32 → MC → MI → MJ → MR → Prop} (w36 : ∀ (x0 : Nat) (x1 : Int32) (x3 : Int32) (s0 : Int32) (s1 : Int32) (C : MC) (I : MI) (J : MJ) (R : MR), Q36 x0 x1 x3 s0 s1 C I J R → AW Γ 0 0 C I J R 36 [(0, aR (some x0)), (1, aI x1), (3, aI x3)] [aI s1, aI s0]) {x0 : Nat} {x1 : Int32} {x3 : Int32} {s0 : Int32}
    (h : Q36 x0 x1 x3 s0 (0 : Int32) C I J R) :
    AW Γ 0 0 C I J R 35 [(0, aR (some x0)), (1, aI x1), (3, aI x3)] [aI s0] := by
  have G0 := G.1
  refine aw_iconst (v := (0 : Int32)) G0 dX2_leaves_35 (by decide) ?_
  exact (w36 x0 x1 x3 s0 (0 : Int32) C I J R h)
theorem bX2_leaves_36 (G : Gb Γ yX2_leaves cX2_leaves 4 (some .int) [] rmX2_leaves bdX2_leaves)
    {Q4 : Nat → Int32 → Int32 → Int32 → MC → MI → MJ → MR → Prop} (w4 : ∀ (x0 : Nat) (x1 : Int32) (x2 : Int32) (x3 : Int32) (C : MC) (I : MI) (J : MJ) (R : MR), Q4 x0 x1 x2 x3 C I J R → AW Γ 0 0 C I J R 4 [(0, aR (some x0)), (1, aI x1), (2, aI x2), (3, aI x3)] []) {x0 : Nat} {x1 : Int32} {x3 : Int32} {s0 : Int32} {s1 : Int32}
    (h : Q4 x0 x1 (s0 + s1) (x3 + 1) C I J R) :
    AW Γ 0 0 C I J R 36 [(0, aR (some x0)), (1, aI x1), (3, aI x3)] [aI s1, aI s0] := by
  have G0 := G.1
  refine aw_iadd G0 dX2_leaves_36 ?_
  refine aw_istore_n (lv' := [(2, aI (s0 + s1)), (0, aR (some x0)), (1, aI x1), (3, aI x3)]) G0 (by decide) rfl dX2_leaves_37 ?_
  refine aw_iinc (v := x3 + 1) (lv' := [(3, aI (x3 + 1)), (2, aI (s0 + s1)), (0, aR (some x0)), (1, aI x1)]) G0 3 rfl rfl (by decide) rfl dX2_leaves_38 ?_
  refine aw_goto G0 4 dX2_leaves_41 (by decide) ?_
  exact (aw_lv [2, 3, 1, 0] rfl (w4 x0 x1 (s0 + s1) (x3 + 1) C I J R h))
theorem bX2_has_0 (G : Gb Γ yX2_has cX2_has 4 (some .boolean) [] rmX2_has bdX2_has)
    {Q2 : Nat → Int32 → Int32 → MC → MI → MJ → MR → Prop} (w2 : ∀ (x0 : Nat) (x1 : Int32) (x3 : Int32) (C : MC) (I : MI) (J : MJ) (R : MR), Q2 x0 x1 x3 C I J R → AW Γ 0 0 C I J R 2 [(0, aR (some x0)), (1, aI x1), (3, aI x3)] []) {x0 : Nat} {x1 : Int32} {x2 : Int32}
    (h : Q2 x0 x1 x2 C I J R) :
    AW Γ 0 0 C I J R 0 [(0, aR (some x0)), (1, aI x1), (2, aI x2)] [] := by
  have G0 := G.1
  refine aw_iload_n G0 2 rfl dX2_has_0 ?_
  refine aw_istore_n (lv' := [(3, aI x2), (0, aR (some x0)), (1, aI x1), (2, aI x2)]) G0 (by decide) rfl dX2_has_1 ?_
  exact (aw_lv [1, 2, 0] rfl (w2 x0 x1 x2 C I J R h))
theorem bX2_has_2 (G : Gb Γ yX2_has cX2_has 4 (some .boolean) [] rmX2_has bdX2_has)
    {Q2 : Nat → Int32 → Int32 → MC → MI → MJ → MR → Prop} (w2 : ∀ (x0 : Nat) (x1 : Int32) (x3 : Int32) (C : MC) (I : MI) (J : MJ) (R : MR), Q2 x0 x1 x3 C I J R → AW Γ 0 0 C I J R 2 [(0, aR (some x0)), (1, aI x1), (3, aI x3)] [])
    {Q22 : Int32 → Int32 → MC → MI → MJ → MR → Prop} (w22 : ∀ (x1 : Int32) (x3 : Int32) (C : MC) (I : MI) (J : MJ) (R : MR), Q22 x1 x3 C I J R → AW Γ 0 0 C I J R 22 [(1, aI x1), (3, aI x3)] []) {x0 : Nat} {x1 : Int32} {x3 : Int32}
    (h : ((x3 = (-1 : Int32) →
      Q22 x1 x3 C I J R) ∧
      (¬ x3 = (-1 : Int32) →
      ((x3 = x1 →
      Q22 x1 x3 C I J R) ∧
      (¬ x3 = x1 →
      (C x0).1 = 3 ∧
      ∃ q4 : Nat, R x0 11 = some q4 ∧
      (C q4).1 = 20 ∧
      vp_in x3 (C q4).2 ∧
      Q2 x0 x1 (I q4 x3.toNatClampNeg) C I J R))))) :
    AW Γ 0 0 C I J R 2 [(0, aR (some x0)), (1, aI x1), (3, aI x3)] [] := by
  have G0 := G.1
  refine aw_iload_n G0 2 rfl dX2_has_2 ?_
  refine aw_iconst (v := (-1 : Int32)) G0 dX2_has_3 (by decide) ?_
  refine aw_icmp_eq G0 22 dX2_has_4 (by decide) (fun c1 => ?_) (fun c1 => ?_)
  · have h := h.1 c1
    exact (aw_lv [1, 2] rfl (w22 x1 x3 C I J R h))
  · have h := h.2 c1
    refine aw_iload_n G0 2 rfl dX2_has_7 ?_
    refine aw_iload_n G0 1 rfl dX2_has_8 ?_
    refine aw_icmp_eq G0 22 dX2_has_9 (by decide) (fun c2 => ?_) (fun c2 => ?_)
    · have h := h.1 c2
      exact (aw_lv [1, 2] rfl (w22 x1 x3 C I J R h))
    · have h := h.2 c2
      refine aw_aload_n G0 0 rfl dX2_has_12 ?_
      obtain ⟨k3, h⟩ := h
      refine aw_getR (f := 11) G0 (by rw [k3]; exact fb_X2_36) dX2_has_13 ?_
      refine aw_iload_n G0 2 rfl dX2_has_16 ?_
      obtain ⟨q4, e4, h⟩ := h
      refine aw_dr1 e4 ?_
      obtain ⟨k5, h⟩ := h
      obtain ⟨k6, h⟩ := h
      refine aw_iald G0 (Or.inl k5) k6 dX2_has_17 ?_
      refine aw_istore_n (lv' := [(3, aI (I q4 x3.toNatClampNeg)), (0, aR (some x0)), (1, aI x1)]) G0 (by decide) rfl dX2_has_18 ?_
      refine aw_goto G0 2 dX2_has_19 (by decide) ?_
      exact (aw_lv [1, 2, 0] rfl (w2 x0 x1 (I q4 x3.toNatClampNeg) C I J R h))
theorem bX2_has_22 (G : Gb Γ yX2_has cX2_has 4 (some .boolean) [] rmX2_has bdX2_has) {x1 : Int32} {x3 : Int32}
    (h : ((¬ x3 = x1 →
      gK Γ (.inl (some (aI (0 : Int32)))) C I J R) ∧
      (x3 = x1 →
      gK Γ (.inl (some (aI (1 : Int32)))) C I J R))) :
    AW Γ 0 0 C I J R 22 [(1, aI x1), (3, aI x3)] [] := by
  have G0 := G.1
  refine aw_iload_n G0 1 rfl dX2_has_22 ?_
  refine aw_iload_n G0 0 rfl dX2_has_23 ?_
  refine aw_icmp_ne G0 31 dX2_has_24 (by decide) (fun c1 => ?_) (fun c1 => ?_)
  · have h := h.1 c1
    refine aw_iconst (v := (0 : Int32)) G0 dX2_has_31 (by decide) ?_
    exact aw_ireturn G0 (Or.inr ⟨rfl, by decide⟩) (by rw [G.2.2]; decide) (by rw [G.2.1]; decide) dX2_has_32 h
  · have h := h.2 c1
    refine aw_iconst (v := (1 : Int32)) G0 dX2_has_27 (by decide) ?_
    refine aw_goto G0 32 dX2_has_28 (by decide) ?_
    exact aw_ireturn G0 (Or.inr ⟨rfl, by decide⟩) (by rw [G.2.2]; decide) (by rw [G.2.1]; decide) dX2_has_32 h
end BL
set_option linter.unusedVariables false
def PX2_told_201 (F_X2_refuse : SPF) (F_X2_isThing : SPF) (F_X2_wrongTable : SPF) (F_X2_leaves : SPF) (F_X2_at : SPF) (Q110 : Nat → Int32 → Int32 → Int32 → MC → MI → MJ → MR → Prop) (Q156 : Nat → Int32 → Int32 → Int32 → MC → MI → MJ → MR → Prop) (K : AK) (x0 : Nat) (x1 : Int32) (x4 : Int32) (s0 : Int32) (C : MC) (I : MI) (J : MJ) (R : MR) : Prop :=
      Q156 x0 x1 s0 (x4 + 1) C I J R
def PX2_told_195 (F_X2_refuse : SPF) (F_X2_isThing : SPF) (F_X2_wrongTable : SPF) (F_X2_leaves : SPF) (F_X2_at : SPF) (Q110 : Nat → Int32 → Int32 → Int32 → MC → MI → MJ → MR → Prop) (Q156 : Nat → Int32 → Int32 → Int32 → MC → MI → MJ → MR → Prop) (K : AK) (x0 : Nat) (x1 : Int32) (x4 : Int32) (C : MC) (I : MI) (J : MJ) (R : MR) : Prop :=
      PX2_told_201 F_X2_refuse F_X2_isThing F_X2_wrongTable F_X2_leaves F_X2_at Q110 Q156 K x0 x1 x4 x4 C I J R
def PX2_told_156 (F_X2_refuse : SPF) (F_X2_isThing : SPF) (F_X2_wrongTable : SPF) (F_X2_leaves : SPF) (F_X2_at : SPF) (Q110 : Nat → Int32 → Int32 → Int32 → MC → MI → MJ → MR → Prop) (Q156 : Nat → Int32 → Int32 → Int32 → MC → MI → MJ → MR → Prop) (K : AK) (x0 : Nat) (x1 : Int32) (x3 : Int32) (x4 : Int32) (C : MC) (I : MI) (J : MJ) (R : MR) : Prop :=
      (((121 : Int32) ≤ x4 →
      K (.inl (some (aI x3))) C I J R) ∧
      (¬ (121 : Int32) ≤ x4 →
      (C x0).1 = 3 ∧
      F_X2_at [aI x1, aI x4] C I J R (fun o C3 I4 J5 R6 =>
      ∃ r7 : Int32, o = .inl (some (aI r7)) ∧
      ∃ q8 : Nat, R x0 22 = some q8 ∧
      (C3 q8).1 = 21 ∧
      vp_in r7 (C3 q8).2 ∧
      (((0 : Int64) < (J5 q8 r7.toNatClampNeg) →
      PX2_told_195 F_X2_refuse F_X2_isThing F_X2_wrongTable F_X2_leaves F_X2_at Q110 Q156 K x0 x1 x4 C3 I4 J5 R6) ∧
      (¬ (0 : Int64) < (J5 q8 r7.toNatClampNeg) →
      (C3 x0).1 = 3 ∧
      F_X2_at [aI x1, aI x4] C3 I4 J5 R6 (fun o C13 I14 J15 R16 =>
      ∃ r17 : Int32, o = .inl (some (aI r17)) ∧
      ∃ q18 : Nat, R6 x0 23 = some q18 ∧
      (C13 q18).1 = 21 ∧
      vp_in r17 (C13 q18).2 ∧
      (((J15 q18 r17.toNatClampNeg) ≤ (0 : Int64) →
      PX2_told_201 F_X2_refuse F_X2_isThing F_X2_wrongTable F_X2_leaves F_X2_at Q110 Q156 K x0 x1 x4 x3 C13 I14 J15 R16) ∧
      (¬ (J15 q18 r17.toNatClampNeg) ≤ (0 : Int64) →
      PX2_told_195 F_X2_refuse F_X2_isThing F_X2_wrongTable F_X2_leaves F_X2_at Q110 Q156 K x0 x1 x4 C13 I14 J15 R16))))))))
def PX2_told_137 (F_X2_refuse : SPF) (F_X2_isThing : SPF) (F_X2_wrongTable : SPF) (F_X2_leaves : SPF) (F_X2_at : SPF) (Q110 : Nat → Int32 → Int32 → Int32 → MC → MI → MJ → MR → Prop) (Q156 : Nat → Int32 → Int32 → Int32 → MC → MI → MJ → MR → Prop) (K : AK) (x0 : Nat) (x1 : Int32) (x4 : Int32) (s0 : Int32) (s1 : Int32) (C : MC) (I : MI) (J : MJ) (R : MR) : Prop :=
      Q110 x0 x1 (s0 + s1) (x4 + 1) C I J R
def PX2_told_110 (F_X2_refuse : SPF) (F_X2_isThing : SPF) (F_X2_wrongTable : SPF) (F_X2_leaves : SPF) (F_X2_at : SPF) (Q110 : Nat → Int32 → Int32 → Int32 → MC → MI → MJ → MR → Prop) (Q156 : Nat → Int32 → Int32 → Int32 → MC → MI → MJ → MR → Prop) (K : AK) (x0 : Nat) (x1 : Int32) (x3 : Int32) (x4 : Int32) (C : MC) (I : MI) (J : MJ) (R : MR) : Prop :=
      (((4 : Int32) ≤ x4 →
      K (.inl (some (aI x3))) C I J R) ∧
      (¬ (4 : Int32) ≤ x4 →
      (C x0).1 = 3 ∧
      ∃ q3 : Nat, R x0 8 = some q3 ∧
      (C q3).1 = 20 ∧
      vp_in (((4 : Int32) * x1) + x4) (C q3).2 ∧
      ((¬ (I q3 (((4 : Int32) * x1) + x4).toNatClampNeg) = (-1 : Int32) →
      PX2_told_137 F_X2_refuse F_X2_isThing F_X2_wrongTable F_X2_leaves F_X2_at Q110 Q156 K x0 x1 x4 x3 (1 : Int32) C I J R) ∧
      ((I q3 (((4 : Int32) * x1) + x4).toNatClampNeg) = (-1 : Int32) →
      PX2_told_137 F_X2_refuse F_X2_isThing F_X2_wrongTable F_X2_leaves F_X2_at Q110 Q156 K x0 x1 x4 x3 (0 : Int32) C I J R))))
def PX2_told_44 (F_X2_refuse : SPF) (F_X2_isThing : SPF) (F_X2_wrongTable : SPF) (F_X2_leaves : SPF) (F_X2_at : SPF) (Q110 : Nat → Int32 → Int32 → Int32 → MC → MI → MJ → MR → Prop) (Q156 : Nat → Int32 → Int32 → Int32 → MC → MI → MJ → MR → Prop) (K : AK) (x0 : Nat) (x1 : Int32) (x2 : Int32) (C : MC) (I : MI) (J : MJ) (R : MR) : Prop :=
      (C x0).1 = 3 ∧
      ∀ I2 : MI, I2 = va_up I x0 (va_up (I x0) 0 (0 : Int32)) →
      ((x2.toInt = 0 →
      K (.inl (some (aI (I2 x0 6)))) C I2 J R) ∧
      (x2.toInt = 1 →
      ∃ q4 : Nat, R x0 7 = some q4 ∧
      (C q4).1 = 20 ∧
      vp_in x1 (C q4).2 ∧
      K (.inl (some (aI (I2 q4 x1.toNatClampNeg)))) C I2 J R) ∧
      (x2.toInt = 2 →
      ∃ q7 : Nat, R x0 11 = some q7 ∧
      (C q7).1 = 20 ∧
      vp_in x1 (C q7).2 ∧
      K (.inl (some (aI (I2 q7 x1.toNatClampNeg)))) C I2 J R) ∧
      (x2.toInt = 3 →
      Q110 x0 x1 (0 : Int32) (0 : Int32) C I2 J R) ∧
      (x2.toInt = 4 →
      F_X2_leaves [aR (some x0), aI x1] C I2 J R (fun o C10 I11 J12 R13 =>
      ∃ r14 : Int32, o = .inl (some (aI r14)) ∧
      K (.inl (some (aI r14))) C10 I11 J12 R13)) ∧
      ((x2.toInt < 0 ∨ 4 < x2.toInt) →
      Q156 x0 x1 (0 : Int32) (0 : Int32) C I2 J R))
def PX2_told_0 (F_X2_refuse : SPF) (F_X2_isThing : SPF) (F_X2_wrongTable : SPF) (F_X2_leaves : SPF) (F_X2_at : SPF) (Q110 : Nat → Int32 → Int32 → Int32 → MC → MI → MJ → MR → Prop) (Q156 : Nat → Int32 → Int32 → Int32 → MC → MI → MJ → MR → Prop) (K : AK) (x0 : Nat) (x1 : Int32) (x2 : Int32) (C : MC) (I : MI) (J : MJ) (R : MR) : Prop :=
      ((x2 < 0 →
      (C x0).1 = 3 ∧
      F_X2_refuse [aR (some x0), aI (1 : Int32)] C I J R (fun o C3 I4 J5 R6 =>
      ∃ r7 : Int32, o = .inl (some (aI r7)) ∧
      K (.inl (some (aI r7))) C3 I4 J5 R6)) ∧
      (¬ x2 < 0 →
      (((5 : Int32) < x2 →
      (C x0).1 = 3 ∧
      F_X2_refuse [aR (some x0), aI (1 : Int32)] C I J R (fun o C10 I11 J12 R13 =>
      ∃ r14 : Int32, o = .inl (some (aI r14)) ∧
      K (.inl (some (aI r14))) C10 I11 J12 R13)) ∧
      (¬ (5 : Int32) < x2 →
      (C x0).1 = 3 ∧
      F_X2_isThing [aR (some x0), aI x1] C I J R (fun o C16 I17 J18 R19 =>
      ∃ r20 : Int32, o = .inl (some (aI r20)) ∧
      ((¬ r20 = 0 →
      ((¬ x2 = (5 : Int32) →
      PX2_told_44 F_X2_refuse F_X2_isThing F_X2_wrongTable F_X2_leaves F_X2_at Q110 Q156 K x0 x1 x2 C16 I17 J18 R19) ∧
      (x2 = (5 : Int32) →
      (C16 x0).1 = 3 ∧
      F_X2_wrongTable [aR (some x0), aI x1] C16 I17 J18 R19 (fun o C24 I25 J26 R27 =>
      ∃ r28 : Int32, o = .inl (some (aI r28)) ∧
      ((r28 ≤ 0 →
      PX2_told_44 F_X2_refuse F_X2_isThing F_X2_wrongTable F_X2_leaves F_X2_at Q110 Q156 K x0 x1 x2 C24 I25 J26 R27) ∧
      (¬ r28 ≤ 0 →
      (C24 x0).1 = 3 ∧
      F_X2_refuse [aR (some x0), aI r28] C24 I25 J26 R27 (fun o C31 I32 J33 R34 =>
      ∃ r35 : Int32, o = .inl (some (aI r35)) ∧
      K (.inl (some (aI r35))) C31 I32 J33 R34))))))) ∧
      (r20 = 0 →
      (C16 x0).1 = 3 ∧
      F_X2_refuse [aR (some x0), aI (1 : Int32)] C16 I17 J18 R19 (fun o C37 I38 J39 R40 =>
      ∃ r41 : Int32, o = .inl (some (aI r41)) ∧
      K (.inl (some (aI r41))) C37 I38 J39 R40))))))))
theorem wX2_told {l : Launch}  {F_X2_refuse : SPF} (S_X2_refuse : SpX2_refuse l F_X2_refuse) {F_X2_isThing : SPF} (S_X2_isThing : SpX2_isThing l F_X2_isThing) {F_X2_wrongTable : SPF} (S_X2_wrongTable : SpX2_wrongTable l F_X2_wrongTable) {F_X2_leaves : SPF} (S_X2_leaves : SpX2_leaves l F_X2_leaves) {F_X2_at : SPF} (S_X2_at : SpX2_at l F_X2_at)
    (Q110 : Nat → AK → Nat → Int32 → Int32 → Int32 → MC → MI → MJ → MR → Prop)
    (Q156 : Nat → AK → Nat → Int32 → Int32 → Int32 → MC → MI → MJ → MR → Prop) {F : SPF}
    (h0 : ∀ (As : List AV) (C : MC) (I : MI) (J : MJ) (R : MR) (K : AK), F As C I J R K → ∃ (x0 : Nat) (x1 : Int32) (x2 : Int32), As = [aR (some x0), aI x1, aI x2] ∧ PX2_told_0 F_X2_refuse F_X2_isThing F_X2_wrongTable F_X2_leaves F_X2_at (fun (x0 : Nat) (x1 : Int32) (x3 : Int32) (x4 : Int32) (C : MC) (I : MI) (J : MJ) (R : MR) => ∃ n, Q110 n K x0 x1 x3 x4 C I J R) (fun (x0 : Nat) (x1 : Int32) (x3 : Int32) (x4 : Int32) (C : MC) (I : MI) (J : MJ) (R : MR) => ∃ n, Q156 n K x0 x1 x3 x4 C I J R) K x0 x1 x2 C I J R)
    (h110 : ∀ (n : Nat) (K : AK) (x0 : Nat) (x1 : Int32) (x3 : Int32) (x4 : Int32) (C : MC) (I : MI) (J : MJ) (R : MR), Q110 n K x0 x1 x3 x4 C I J R → PX2_told_110 F_X2_refuse F_X2_isThing F_X2_wrongTable F_X2_leaves F_X2_at (fun (x0 : Nat) (x1 : Int32) (x3 : Int32) (x4 : Int32) (C : MC) (I : MI) (J : MJ) (R : MR) => ∃ m, m < n ∧ Q110 m K x0 x1 x3 x4 C I J R) (fun (x0 : Nat) (x1 : Int32) (x3 : Int32) (x4 : Int32) (C : MC) (I : MI) (J : MJ) (R : MR) => ∃ m, m < n ∧ Q156 m K x0 x1 x3 x4 C I J R) K x0 x1 x3 x4 C I J R)
    (h156 : ∀ (n : Nat) (K : AK) (x0 : Nat) (x1 : Int32) (x3 : Int32) (x4 : Int32) (C : MC) (I : MI) (J : MJ) (R : MR), Q156 n K x0 x1 x3 x4 C I J R → PX2_told_156 F_X2_refuse F_X2_isThing F_X2_wrongTable F_X2_leaves F_X2_at (fun (x0 : Nat) (x1 : Int32) (x3 : Int32) (x4 : Int32) (C : MC) (I : MI) (J : MJ) (R : MR) => ∃ m, m < n ∧ Q110 m K x0 x1 x3 x4 C I J R) (fun (x0 : Nat) (x1 : Int32) (x3 : Int32) (x4 : Int32) (C : MC) (I : MI) (J : MJ) (R : MR) => ∃ m, m < n ∧ Q156 m K x0 x1 x3 x4 C I J R) K x0 x1 x3 x4 C I J R) : SpX2_told l F := by
  refine Spec.of (by rfl) ?_
  intro Γ C I J R As Gd gl gr _ _ gb hF
  subst gl
  have G : Gb Γ yX2_told cX2_told 5 (some .int) [] rmX2_told bdX2_told := ⟨Gd, gr, gb⟩
  have key : ∀ n : Nat, (∀ (x0 : Nat) (x1 : Int32) (x3 : Int32) (x4 : Int32) (C : MC) (I : MI) (J : MJ) (R : MR), Q110 n (gK Γ) x0 x1 x3 x4 C I J R → AW Γ 0 0 C I J R 110 [(0, aR (some x0)), (1, aI x1), (3, aI x3), (4, aI x4)] []) ∧ (∀ (x0 : Nat) (x1 : Int32) (x3 : Int32) (x4 : Int32) (C : MC) (I : MI) (J : MJ) (R : MR), Q156 n (gK Γ) x0 x1 x3 x4 C I J R → AW Γ 0 0 C I J R 156 [(0, aR (some x0)), (1, aI x1), (3, aI x3), (4, aI x4)] []) := by
    intro n
    induction n using Nat.strongRecOn with
    | ind n ih =>
    have w110 : ∀ (x0 : Nat) (x1 : Int32) (x3 : Int32) (x4 : Int32) (C : MC) (I : MI) (J : MJ) (R : MR), (∃ m, m < n ∧ Q110 m (gK Γ) x0 x1 x3 x4 C I J R) → AW Γ 0 0 C I J R 110 [(0, aR (some x0)), (1, aI x1), (3, aI x3), (4, aI x4)] [] := fun x0 x1 x3 x4 C I J R ⟨m, hm, hq⟩ => (ih m hm).1 x0 x1 x3 x4 C I J R hq
    have w156 : ∀ (x0 : Nat) (x1 : Int32) (x3 : Int32) (x4 : Int32) (C : MC) (I : MI) (J : MJ) (R : MR), (∃ m, m < n ∧ Q156 m (gK Γ) x0 x1 x3 x4 C I J R) → AW Γ 0 0 C I J R 156 [(0, aR (some x0)), (1, aI x1), (3, aI x3), (4, aI x4)] [] := fun x0 x1 x3 x4 C I J R ⟨m, hm, hq⟩ => (ih m hm).2 x0 x1 x3 x4 C I J R hq
    have w201 : ∀ (x0 : Nat) (x1 : Int32) (x4 : Int32) (s0 : Int32) (C : MC) (I : MI) (J : MJ) (R : MR), PX2_told_201 F_X2_refuse F_X2_isThing F_X2_wrongTable F_X2_leaves F_X2_at (fun (x0 : Nat) (x1 : Int32) (x3 : Int32) (x4 : Int32) (C : MC) (I : MI) (J : MJ) (R : MR) => ∃ m, m < n ∧ Q110 m (gK Γ) x0 x1 x3 x4 C I J R) (fun (x0 : Nat) (x1 : Int32) (x3 : Int32) (x4 : Int32) (C : MC) (I : MI) (J : MJ) (R : MR) => ∃ m, m < n ∧ Q156 m (gK Γ) x0 x1 x3 x4 C I J R) (gK Γ) x0 x1 x4 s0 C I J R → AW Γ 0 0 C I J R 201 [(0, aR (some x0)), (1, aI x1), (4, aI x4)] [aI s0] := fun x0 x1 x4 s0 C I J R h => bX2_told_201 G w156 h
    have w195 : ∀ (x0 : Nat) (x1 : Int32) (x4 : Int32) (C : MC) (I : MI) (J : MJ) (R : MR), PX2_told_195 F_X2_refuse F_X2_isThing F_X2_wrongTable F_X2_leaves F_X2_at (fun (x0 : Nat) (x1 : Int32) (x3 : Int32) (x4 : Int32) (C : MC) (I : MI) (J : MJ) (R : MR) => ∃ m, m < n ∧ Q110 m (gK Γ) x0 x1 x3 x4 C I J R) (fun (x0 : Nat) (x1 : Int32) (x3 : Int32) (x4 : Int32) (C : MC) (I : MI) (J : MJ) (R : MR) => ∃ m, m < n ∧ Q156 m (gK Γ) x0 x1 x3 x4 C I J R) (gK Γ) x0 x1 x4 C I J R → AW Γ 0 0 C I J R 195 [(0, aR (some x0)), (1, aI x1), (4, aI x4)] [] := fun x0 x1 x4 C I J R h => bX2_told_195 G w201 h
    have w137 : ∀ (x0 : Nat) (x1 : Int32) (x4 : Int32) (s0 : Int32) (s1 : Int32) (C : MC) (I : MI) (J : MJ) (R : MR), PX2_told_137 F_X2_refuse F_X2_isThing F_X2_wrongTable F_X2_leaves F_X2_at (fun (x0 : Nat) (x1 : Int32) (x3 : Int32) (x4 : Int32) (C : MC) (I : MI) (J : MJ) (R : MR) => ∃ m, m < n ∧ Q110 m (gK Γ) x0 x1 x3 x4 C I J R) (fun (x0 : Nat) (x1 : Int32) (x3 : Int32) (x4 : Int32) (C : MC) (I : MI) (J : MJ) (R : MR) => ∃ m, m < n ∧ Q156 m (gK Γ) x0 x1 x3 x4 C I J R) (gK Γ) x0 x1 x4 s0 s1 C I J R → AW Γ 0 0 C I J R 137 [(0, aR (some x0)), (1, aI x1), (4, aI x4)] [aI s1, aI s0] := fun x0 x1 x4 s0 s1 C I J R h => bX2_told_137 G w110 h
    have w44 : ∀ (x0 : Nat) (x1 : Int32) (x2 : Int32) (C : MC) (I : MI) (J : MJ) (R : MR), PX2_told_44 F_X2_refuse F_X2_isThing F_X2_wrongTable F_X2_leaves F_X2_at (fun (x0 : Nat) (x1 : Int32) (x3 : Int32) (x4 : Int32) (C : MC) (I : MI) (J : MJ) (R : MR) => ∃ m, m < n ∧ Q110 m (gK Γ) x0 x1 x3 x4 C I J R) (fun (x0 : Nat) (x1 : Int32) (x3 : Int32) (x4 : Int32) (C : MC) (I : MI) (J : MJ) (R : MR) => ∃ m, m < n ∧ Q156 m (gK Γ) x0 x1 x3 x4 C I J R) (gK Γ) x0 x1 x2 C I J R → AW Γ 0 0 C I J R 44 [(0, aR (some x0)), (1, aI x1), (2, aI x2)] [] := fun x0 x1 x2 C I J R h => bX2_told_44 G S_X2_leaves w110 w156 h
    exact ⟨fun x0 x1 x3 x4 C I J R h => bX2_told_110 G w137 (h110 n (gK Γ) x0 x1 x3 x4 C I J R h), fun x0 x1 x3 x4 C I J R h => bX2_told_156 G S_X2_at w195 w201 (h156 n (gK Γ) x0 x1 x3 x4 C I J R h)⟩
  have w110 : ∀ (x0 : Nat) (x1 : Int32) (x3 : Int32) (x4 : Int32) (C : MC) (I : MI) (J : MJ) (R : MR), (∃ n, Q110 n (gK Γ) x0 x1 x3 x4 C I J R) → AW Γ 0 0 C I J R 110 [(0, aR (some x0)), (1, aI x1), (3, aI x3), (4, aI x4)] [] := fun x0 x1 x3 x4 C I J R ⟨m, hq⟩ => (key m).1 x0 x1 x3 x4 C I J R hq
  have w156 : ∀ (x0 : Nat) (x1 : Int32) (x3 : Int32) (x4 : Int32) (C : MC) (I : MI) (J : MJ) (R : MR), (∃ n, Q156 n (gK Γ) x0 x1 x3 x4 C I J R) → AW Γ 0 0 C I J R 156 [(0, aR (some x0)), (1, aI x1), (3, aI x3), (4, aI x4)] [] := fun x0 x1 x3 x4 C I J R ⟨m, hq⟩ => (key m).2 x0 x1 x3 x4 C I J R hq
  have w201 : ∀ (x0 : Nat) (x1 : Int32) (x4 : Int32) (s0 : Int32) (C : MC) (I : MI) (J : MJ) (R : MR), PX2_told_201 F_X2_refuse F_X2_isThing F_X2_wrongTable F_X2_leaves F_X2_at (fun (x0 : Nat) (x1 : Int32) (x3 : Int32) (x4 : Int32) (C : MC) (I : MI) (J : MJ) (R : MR) => ∃ n, Q110 n (gK Γ) x0 x1 x3 x4 C I J R) (fun (x0 : Nat) (x1 : Int32) (x3 : Int32) (x4 : Int32) (C : MC) (I : MI) (J : MJ) (R : MR) => ∃ n, Q156 n (gK Γ) x0 x1 x3 x4 C I J R) (gK Γ) x0 x1 x4 s0 C I J R → AW Γ 0 0 C I J R 201 [(0, aR (some x0)), (1, aI x1), (4, aI x4)] [aI s0] := fun x0 x1 x4 s0 C I J R h => bX2_told_201 G w156 h
  have w195 : ∀ (x0 : Nat) (x1 : Int32) (x4 : Int32) (C : MC) (I : MI) (J : MJ) (R : MR), PX2_told_195 F_X2_refuse F_X2_isThing F_X2_wrongTable F_X2_leaves F_X2_at (fun (x0 : Nat) (x1 : Int32) (x3 : Int32) (x4 : Int32) (C : MC) (I : MI) (J : MJ) (R : MR) => ∃ n, Q110 n (gK Γ) x0 x1 x3 x4 C I J R) (fun (x0 : Nat) (x1 : Int32) (x3 : Int32) (x4 : Int32) (C : MC) (I : MI) (J : MJ) (R : MR) => ∃ n, Q156 n (gK Γ) x0 x1 x3 x4 C I J R) (gK Γ) x0 x1 x4 C I J R → AW Γ 0 0 C I J R 195 [(0, aR (some x0)), (1, aI x1), (4, aI x4)] [] := fun x0 x1 x4 C I J R h => bX2_told_195 G w201 h
  have w137 : ∀ (x0 : Nat) (x1 : Int32) (x4 : Int32) (s0 : Int32) (s1 : Int32) (C : MC) (I : MI) (J : MJ) (R : MR), PX2_told_137 F_X2_refuse F_X2_isThing F_X2_wrongTable F_X2_leaves F_X2_at (fun (x0 : Nat) (x1 : Int32) (x3 : Int32) (x4 : Int32) (C : MC) (I : MI) (J : MJ) (R : MR) => ∃ n, Q110 n (gK Γ) x0 x1 x3 x4 C I J R) (fun (x0 : Nat) (x1 : Int32) (x3 : Int32) (x4 : Int32) (C : MC) (I : MI) (J : MJ) (R : MR) => ∃ n, Q156 n (gK Γ) x0 x1 x3 x4 C I J R) (gK Γ) x0 x1 x4 s0 s1 C I J R → AW Γ 0 0 C I J R 137 [(0, aR (some x0)), (1, aI x1), (4, aI x4)] [aI s1, aI s0] := fun x0 x1 x4 s0 s1 C I J R h => bX2_told_137 G w110 h
  have w44 : ∀ (x0 : Nat) (x1 : Int32) (x2 : Int32) (C : MC) (I : MI) (J : MJ) (R : MR), PX2_told_44 F_X2_refuse F_X2_isThing F_X2_wrongTable F_X2_leaves F_X2_at (fun (x0 : Nat) (x1 : Int32) (x3 : Int32) (x4 : Int32) (C : MC) (I : MI) (J : MJ) (R : MR) => ∃ n, Q110 n (gK Γ) x0 x1 x3 x4 C I J R) (fun (x0 : Nat) (x1 : Int32) (x3 : Int32) (x4 : Int32) (C : MC) (I : MI) (J : MJ) (R : MR) => ∃ n, Q156 n (gK Γ) x0 x1 x3 x4 C I J R) (gK Γ) x0 x1 x2 C I J R → AW Γ 0 0 C I J R 44 [(0, aR (some x0)), (1, aI x1), (2, aI x2)] [] := fun x0 x1 x2 C I J R h => bX2_told_44 G S_X2_leaves w110 w156 h
  obtain ⟨x0, x1, x2, rfl, h⟩ := h0 As C I J R (gK Γ) hF
  exact ⟨Nat.le_of_ble_eq_true rfl, bX2_told_0 G S_X2_refuse S_X2_isThing S_X2_wrongTable w44 h⟩
def PX2_wrongTable_0 (F_X2_isThing : SPF) (F_X2_usual : SPF) (F_X2_tables : SPF) (K : AK) (x0 : Nat) (x1 : Int32) (C : MC) (I : MI) (J : MJ) (R : MR) : Prop :=
      (C x0).1 = 3 ∧
      F_X2_isThing [aR (some x0), aI x1] C I J R (fun o C2 I3 J4 R5 =>
      ∃ r6 : Int32, o = .inl (some (aI r6)) ∧
      ((¬ r6 = 0 →
      (C2 x0).1 = 3 ∧
      F_X2_usual [aR (some x0)] C2 I3 J4 R5 (fun o C9 I10 J11 R12 =>
      o = .inl none ∧
      (C9 x0).1 = 3 ∧
      F_X2_tables [aR (some x0), aI x1] C9 I10 J11 R12 (fun o C15 I16 J17 R18 =>
      o = .inl none ∧
      (C15 x0).1 = 3 ∧
      ∃ q21 : Nat, R18 x0 25 = some q21 ∧
      (C15 q21).1 = 24 ∧
      vp_in x1 (C15 q21).2 ∧
      (((I16 q21 x1.toNatClampNeg) = 0 →
      K (.inl (some (aI (0 : Int32)))) C15 I16 J17 R18) ∧
      (¬ (I16 q21 x1.toNatClampNeg) = 0 →
      K (.inl (some (aI (9 : Int32)))) C15 I16 J17 R18))))) ∧
      (r6 = 0 →
      K (.inl (some (aI (1 : Int32)))) C2 I3 J4 R5)))
theorem wX2_wrongTable {l : Launch}  {F_X2_isThing : SPF} (S_X2_isThing : SpX2_isThing l F_X2_isThing) {F_X2_usual : SPF} (S_X2_usual : SpX2_usual l F_X2_usual) {F_X2_tables : SPF} (S_X2_tables : SpX2_tables l F_X2_tables) {F : SPF}
    (h0 : ∀ (As : List AV) (C : MC) (I : MI) (J : MJ) (R : MR) (K : AK), F As C I J R K → ∃ (x0 : Nat) (x1 : Int32), As = [aR (some x0), aI x1] ∧ PX2_wrongTable_0 F_X2_isThing F_X2_usual F_X2_tables K x0 x1 C I J R) : SpX2_wrongTable l F := by
  refine Spec.of (by rfl) ?_
  intro Γ C I J R As Gd gl gr _ _ gb hF
  subst gl
  have G : Gb Γ yX2_wrongTable cX2_wrongTable 2 (some .int) [] rmX2_wrongTable bdX2_wrongTable := ⟨Gd, gr, gb⟩
  obtain ⟨x0, x1, rfl, h⟩ := h0 As C I J R (gK Γ) hF
  exact ⟨Nat.le_of_ble_eq_true rfl, bX2_wrongTable_0 G S_X2_isThing S_X2_usual S_X2_tables h⟩
def PX2_usual_2 (Q2 : Nat → Int32 → MC → MI → MJ → MR → Prop) (K : AK) (x0 : Nat) (x1 : Int32) (C : MC) (I : MI) (J : MJ) (R : MR) : Prop :=
      (C x0).1 = 3 ∧
      (((I x0 6) ≤ x1 →
      K (.inl none) C I J R) ∧
      (¬ (I x0 6) ≤ x1 →
      ∃ q3 : Nat, R x0 15 = some q3 ∧
      (C q3).1 = 20 ∧
      vp_in x1 (C q3).2 ∧
      ∀ I6 : MI, I6 = va_up I q3 (va_up (I q3) x1.toNatClampNeg (0 : Int32)) →
      Q2 x0 (x1 + 1) C I6 J R))
def PX2_usual_0 (Q2 : Nat → Int32 → MC → MI → MJ → MR → Prop) (K : AK) (x0 : Nat) (C : MC) (I : MI) (J : MJ) (R : MR) : Prop :=
      Q2 x0 (0 : Int32) C I J R
theorem wX2_usual {l : Launch} 
    (Q2 : Nat → AK → Nat → Int32 → MC → MI → MJ → MR → Prop) {F : SPF}
    (h0 : ∀ (As : List AV) (C : MC) (I : MI) (J : MJ) (R : MR) (K : AK), F As C I J R K → ∃ (x0 : Nat), As = [aR (some x0)] ∧ PX2_usual_0 (fun (x0 : Nat) (x1 : Int32) (C : MC) (I : MI) (J : MJ) (R : MR) => ∃ n, Q2 n K x0 x1 C I J R) K x0 C I J R)
    (h2 : ∀ (n : Nat) (K : AK) (x0 : Nat) (x1 : Int32) (C : MC) (I : MI) (J : MJ) (R : MR), Q2 n K x0 x1 C I J R → PX2_usual_2 (fun (x0 : Nat) (x1 : Int32) (C : MC) (I : MI) (J : MJ) (R : MR) => ∃ m, m < n ∧ Q2 m K x0 x1 C I J R) K x0 x1 C I J R) : SpX2_usual l F := by
  refine Spec.of (by rfl) ?_
  intro Γ C I J R As Gd gl gr _ _ gb hF
  subst gl
  have G : Gb Γ yX2_usual cX2_usual 2 (none) [] rmX2_usual bdX2_usual := ⟨Gd, gr, gb⟩
  have key : ∀ n : Nat, (∀ (x0 : Nat) (x1 : Int32) (C : MC) (I : MI) (J : MJ) (R : MR), Q2 n (gK Γ) x0 x1 C I J R → AW Γ 0 0 C I J R 2 [(0, aR (some x0)), (1, aI x1)] []) := by
    intro n
    induction n using Nat.strongRecOn with
    | ind n ih =>
    have w2 : ∀ (x0 : Nat) (x1 : Int32) (C : MC) (I : MI) (J : MJ) (R : MR), (∃ m, m < n ∧ Q2 m (gK Γ) x0 x1 C I J R) → AW Γ 0 0 C I J R 2 [(0, aR (some x0)), (1, aI x1)] [] := fun x0 x1 C I J R ⟨m, hm, hq⟩ => (ih m hm) x0 x1 C I J R hq
    exact fun x0 x1 C I J R h => bX2_usual_2 G w2 (h2 n (gK Γ) x0 x1 C I J R h)
  have w2 : ∀ (x0 : Nat) (x1 : Int32) (C : MC) (I : MI) (J : MJ) (R : MR), (∃ n, Q2 n (gK Γ) x0 x1 C I J R) → AW Γ 0 0 C I J R 2 [(0, aR (some x0)), (1, aI x1)] [] := fun x0 x1 C I J R ⟨m, hq⟩ => (key m) x0 x1 C I J R hq
  obtain ⟨x0, rfl, h⟩ := h0 As C I J R (gK Γ) hF
  exact ⟨Nat.le_of_ble_eq_true rfl, bX2_usual_0 G w2 h⟩
def PX2_tables_133 (F_X2_clear : SPF) (F_X2_wholeOf : SPF) (F_X2_make : SPF) (F_X2_settle : SPF) (Q2 : Nat → Int32 → Int32 → MC → MI → MJ → MR → Prop) (Q16 : Nat → Int32 → Int32 → Int32 → MC → MI → MJ → MR → Prop) (K : AK) (x0 : Nat) (x1 : Int32) (x2 : Int32) (C : MC) (I : MI) (J : MJ) (R : MR) : Prop :=
      Q2 x0 x1 (x2 + 1) C I J R
def PX2_tables_60 (F_X2_clear : SPF) (F_X2_wholeOf : SPF) (F_X2_make : SPF) (F_X2_settle : SPF) (Q2 : Nat → Int32 → Int32 → MC → MI → MJ → MR → Prop) (Q16 : Nat → Int32 → Int32 → Int32 → MC → MI → MJ → MR → Prop) (K : AK) (x0 : Nat) (x1 : Int32) (x2 : Int32) (x3 : Int32) (C : MC) (I : MI) (J : MJ) (R : MR) : Prop :=
      Q16 x0 x1 x2 (x3 + 1) C I J R
def PX2_tables_16 (F_X2_clear : SPF) (F_X2_wholeOf : SPF) (F_X2_make : SPF) (F_X2_settle : SPF) (Q2 : Nat → Int32 → Int32 → MC → MI → MJ → MR → Prop) (Q16 : Nat → Int32 → Int32 → Int32 → MC → MI → MJ → MR → Prop) (K : AK) (x0 : Nat) (x1 : Int32) (x2 : Int32) (x3 : Int32) (C : MC) (I : MI) (J : MJ) (R : MR) : Prop :=
      (((4 : Int32) ≤ x3 →
      (C x0).1 = 3 ∧
      ∃ q3 : Nat, R x0 25 = some q3 ∧
      (C q3).1 = 24 ∧
      vp_in x2 (C q3).2 ∧
      (((I q3 x2.toNatClampNeg) = 0 →
      F_X2_clear [aR (some x0), aR (R x0 26)] C I J R (fun o C7 I8 J9 R10 =>
      o = .inl none ∧
      (C7 x0).1 = 3 ∧
      F_X2_clear [aR (some x0), aR (R10 x0 27)] C7 I8 J9 R10 (fun o C13 I14 J15 R16 =>
      o = .inl none ∧
      (C13 x0).1 = 3 ∧
      ∀ I19 : MI, I19 = va_up I14 x0 (va_up (I14 x0) 30 (0 : Int32)) →
      F_X2_wholeOf [aR (some x0), aI x2] C13 I19 J15 R16 (fun o C20 I21 J22 R23 =>
      ∃ r24 : Int64, o = .inl (some (aJ r24)) ∧
      (C20 x0).1 = 3 ∧
      (((I21 x0 30) = 0 →
      F_X2_make [aR (some x0), aI x2] C20 I21 J22 R23 (fun o C27 I28 J29 R30 =>
      o = .inl none ∧
      (C27 x0).1 = 3 ∧
      F_X2_settle [aR (some x0), aI x2, aJ r24] C27 I28 J29 R30 (fun o C33 I34 J35 R36 =>
      o = .inl none ∧
      PX2_tables_133 F_X2_clear F_X2_wholeOf F_X2_make F_X2_settle Q2 Q16 K x0 x1 x2 C33 I34 J35 R36))) ∧
      (¬ (I21 x0 30) = 0 →
      ∃ q38 : Nat, R23 x0 25 = some q38 ∧
      (C20 q38).1 = 24 ∧
      vp_in x2 (C20 q38).2 ∧
      ∀ I41 : MI, I41 = va_up I21 q38 (va_up (I21 q38) x2.toNatClampNeg (1 : Int32)) →
      PX2_tables_133 F_X2_clear F_X2_wholeOf F_X2_make F_X2_settle Q2 Q16 K x0 x1 x2 C20 I41 J22 R23)))))) ∧
      (¬ (I q3 x2.toNatClampNeg) = 0 →
      PX2_tables_133 F_X2_clear F_X2_wholeOf F_X2_make F_X2_settle Q2 Q16 K x0 x1 x2 C I J R))) ∧
      (¬ (4 : Int32) ≤ x3 →
      (C x0).1 = 3 ∧
      ∃ q43 : Nat, R x0 8 = some q43 ∧
      (C q43).1 = 20 ∧
      vp_in (((4 : Int32) * x2) + x3) (C q43).2 ∧
      (((I q43 (((4 : Int32) * x2) + x3).toNatClampNeg) = (-1 : Int32) →
      PX2_tables_60 F_X2_clear F_X2_wholeOf F_X2_make F_X2_settle Q2 Q16 K x0 x1 x2 x3 C I J R) ∧
      (¬ (I q43 (((4 : Int32) * x2) + x3).toNatClampNeg) = (-1 : Int32) →
      ∃ q47 : Nat, R x0 25 = some q47 ∧
      (C q47).1 = 24 ∧
      vp_in (I q43 (((4 : Int32) * x2) + x3).toNatClampNeg) (C q47).2 ∧
      (((I q47 (I q43 (((4 : Int32) * x2) + x3).toNatClampNeg).toNatClampNeg) = 0 →
      PX2_tables_60 F_X2_clear F_X2_wholeOf F_X2_make F_X2_settle Q2 Q16 K x0 x1 x2 x3 C I J R) ∧
      (¬ (I q47 (I q43 (((4 : Int32) * x2) + x3).toNatClampNeg).toNatClampNeg) = 0 →
      vp_in x2 (C q47).2 ∧
      ∀ I52 : MI, I52 = va_up I q47 (va_up (I q47) x2.toNatClampNeg (1 : Int32)) →
      PX2_tables_60 F_X2_clear F_X2_wholeOf F_X2_make F_X2_settle Q2 Q16 K x0 x1 x2 x3 C I52 J R))))))
def PX2_tables_2 (F_X2_clear : SPF) (F_X2_wholeOf : SPF) (F_X2_make : SPF) (F_X2_settle : SPF) (Q2 : Nat → Int32 → Int32 → MC → MI → MJ → MR → Prop) (Q16 : Nat → Int32 → Int32 → Int32 → MC → MI → MJ → MR → Prop) (K : AK) (x0 : Nat) (x1 : Int32) (x2 : Int32) (C : MC) (I : MI) (J : MJ) (R : MR) : Prop :=
      ((x1 < x2 →
      K (.inl none) C I J R) ∧
      (¬ x1 < x2 →
      (C x0).1 = 3 ∧
      ∃ q3 : Nat, R x0 25 = some q3 ∧
      (C q3).1 = 24 ∧
      vp_in x2 (C q3).2 ∧
      ∀ I6 : MI, I6 = va_up I q3 (va_up (I q3) x2.toNatClampNeg (0 : Int32)) →
      Q16 x0 x1 x2 (0 : Int32) C I6 J R))
def PX2_tables_0 (F_X2_clear : SPF) (F_X2_wholeOf : SPF) (F_X2_make : SPF) (F_X2_settle : SPF) (Q2 : Nat → Int32 → Int32 → MC → MI → MJ → MR → Prop) (Q16 : Nat → Int32 → Int32 → Int32 → MC → MI → MJ → MR → Prop) (K : AK) (x0 : Nat) (x1 : Int32) (C : MC) (I : MI) (J : MJ) (R : MR) : Prop :=
      Q2 x0 x1 (0 : Int32) C I J R
theorem wX2_tables {l : Launch}  {F_X2_clear : SPF} (S_X2_clear : SpX2_clear l F_X2_clear) {F_X2_wholeOf : SPF} (S_X2_wholeOf : SpX2_wholeOf l F_X2_wholeOf) {F_X2_make : SPF} (S_X2_make : SpX2_make l F_X2_make) {F_X2_settle : SPF} (S_X2_settle : SpX2_settle l F_X2_settle)
    (Q2 : Nat → AK → Nat → Int32 → Int32 → MC → MI → MJ → MR → Prop)
    (Q16 : Nat → AK → Nat → Int32 → Int32 → Int32 → MC → MI → MJ → MR → Prop) {F : SPF}
    (h0 : ∀ (As : List AV) (C : MC) (I : MI) (J : MJ) (R : MR) (K : AK), F As C I J R K → ∃ (x0 : Nat) (x1 : Int32), As = [aR (some x0), aI x1] ∧ PX2_tables_0 F_X2_clear F_X2_wholeOf F_X2_make F_X2_settle (fun (x0 : Nat) (x1 : Int32) (x2 : Int32) (C : MC) (I : MI) (J : MJ) (R : MR) => ∃ n, Q2 n K x0 x1 x2 C I J R) (fun (x0 : Nat) (x1 : Int32) (x2 : Int32) (x3 : Int32) (C : MC) (I : MI) (J : MJ) (R : MR) => ∃ n, Q16 n K x0 x1 x2 x3 C I J R) K x0 x1 C I J R)
    (h2 : ∀ (n : Nat) (K : AK) (x0 : Nat) (x1 : Int32) (x2 : Int32) (C : MC) (I : MI) (J : MJ) (R : MR), Q2 n K x0 x1 x2 C I J R → PX2_tables_2 F_X2_clear F_X2_wholeOf F_X2_make F_X2_settle (fun (x0 : Nat) (x1 : Int32) (x2 : Int32) (C : MC) (I : MI) (J : MJ) (R : MR) => ∃ m, m < n ∧ Q2 m K x0 x1 x2 C I J R) (fun (x0 : Nat) (x1 : Int32) (x2 : Int32) (x3 : Int32) (C : MC) (I : MI) (J : MJ) (R : MR) => ∃ m, m < n ∧ Q16 m K x0 x1 x2 x3 C I J R) K x0 x1 x2 C I J R)
    (h16 : ∀ (n : Nat) (K : AK) (x0 : Nat) (x1 : Int32) (x2 : Int32) (x3 : Int32) (C : MC) (I : MI) (J : MJ) (R : MR), Q16 n K x0 x1 x2 x3 C I J R → PX2_tables_16 F_X2_clear F_X2_wholeOf F_X2_make F_X2_settle (fun (x0 : Nat) (x1 : Int32) (x2 : Int32) (C : MC) (I : MI) (J : MJ) (R : MR) => ∃ m, m < n ∧ Q2 m K x0 x1 x2 C I J R) (fun (x0 : Nat) (x1 : Int32) (x2 : Int32) (x3 : Int32) (C : MC) (I : MI) (J : MJ) (R : MR) => ∃ m, m < n ∧ Q16 m K x0 x1 x2 x3 C I J R) K x0 x1 x2 x3 C I J R) : SpX2_tables l F := by
  refine Spec.of (by rfl) ?_
  intro Γ C I J R As Gd gl gr _ _ gb hF
  subst gl
  have G : Gb Γ yX2_tables cX2_tables 5 (none) [] rmX2_tables bdX2_tables := ⟨Gd, gr, gb⟩
  have key : ∀ n : Nat, (∀ (x0 : Nat) (x1 : Int32) (x2 : Int32) (C : MC) (I : MI) (J : MJ) (R : MR), Q2 n (gK Γ) x0 x1 x2 C I J R → AW Γ 0 0 C I J R 2 [(0, aR (some x0)), (1, aI x1), (2, aI x2)] []) ∧ (∀ (x0 : Nat) (x1 : Int32) (x2 : Int32) (x3 : Int32) (C : MC) (I : MI) (J : MJ) (R : MR), Q16 n (gK Γ) x0 x1 x2 x3 C I J R → AW Γ 0 0 C I J R 16 [(0, aR (some x0)), (1, aI x1), (2, aI x2), (3, aI x3)] []) := by
    intro n
    induction n using Nat.strongRecOn with
    | ind n ih =>
    have w2 : ∀ (x0 : Nat) (x1 : Int32) (x2 : Int32) (C : MC) (I : MI) (J : MJ) (R : MR), (∃ m, m < n ∧ Q2 m (gK Γ) x0 x1 x2 C I J R) → AW Γ 0 0 C I J R 2 [(0, aR (some x0)), (1, aI x1), (2, aI x2)] [] := fun x0 x1 x2 C I J R ⟨m, hm, hq⟩ => (ih m hm).1 x0 x1 x2 C I J R hq
    have w16 : ∀ (x0 : Nat) (x1 : Int32) (x2 : Int32) (x3 : Int32) (C : MC) (I : MI) (J : MJ) (R : MR), (∃ m, m < n ∧ Q16 m (gK Γ) x0 x1 x2 x3 C I J R) → AW Γ 0 0 C I J R 16 [(0, aR (some x0)), (1, aI x1), (2, aI x2), (3, aI x3)] [] := fun x0 x1 x2 x3 C I J R ⟨m, hm, hq⟩ => (ih m hm).2 x0 x1 x2 x3 C I J R hq
    have w133 : ∀ (x0 : Nat) (x1 : Int32) (x2 : Int32) (C : MC) (I : MI) (J : MJ) (R : MR), PX2_tables_133 F_X2_clear F_X2_wholeOf F_X2_make F_X2_settle (fun (x0 : Nat) (x1 : Int32) (x2 : Int32) (C : MC) (I : MI) (J : MJ) (R : MR) => ∃ m, m < n ∧ Q2 m (gK Γ) x0 x1 x2 C I J R) (fun (x0 : Nat) (x1 : Int32) (x2 : Int32) (x3 : Int32) (C : MC) (I : MI) (J : MJ) (R : MR) => ∃ m, m < n ∧ Q16 m (gK Γ) x0 x1 x2 x3 C I J R) (gK Γ) x0 x1 x2 C I J R → AW Γ 0 0 C I J R 133 [(0, aR (some x0)), (1, aI x1), (2, aI x2)] [] := fun x0 x1 x2 C I J R h => bX2_tables_133 G w2 h
    have w60 : ∀ (x0 : Nat) (x1 : Int32) (x2 : Int32) (x3 : Int32) (C : MC) (I : MI) (J : MJ) (R : MR), PX2_tables_60 F_X2_clear F_X2_wholeOf F_X2_make F_X2_settle (fun (x0 : Nat) (x1 : Int32) (x2 : Int32) (C : MC) (I : MI) (J : MJ) (R : MR) => ∃ m, m < n ∧ Q2 m (gK Γ) x0 x1 x2 C I J R) (fun (x0 : Nat) (x1 : Int32) (x2 : Int32) (x3 : Int32) (C : MC) (I : MI) (J : MJ) (R : MR) => ∃ m, m < n ∧ Q16 m (gK Γ) x0 x1 x2 x3 C I J R) (gK Γ) x0 x1 x2 x3 C I J R → AW Γ 0 0 C I J R 60 [(0, aR (some x0)), (1, aI x1), (2, aI x2), (3, aI x3)] [] := fun x0 x1 x2 x3 C I J R h => bX2_tables_60 G w16 h
    exact ⟨fun x0 x1 x2 C I J R h => bX2_tables_2 G w16 (h2 n (gK Γ) x0 x1 x2 C I J R h), fun x0 x1 x2 x3 C I J R h => bX2_tables_16 G S_X2_clear S_X2_wholeOf S_X2_make S_X2_settle w60 w133 (h16 n (gK Γ) x0 x1 x2 x3 C I J R h)⟩
  have w2 : ∀ (x0 : Nat) (x1 : Int32) (x2 : Int32) (C : MC) (I : MI) (J : MJ) (R : MR), (∃ n, Q2 n (gK Γ) x0 x1 x2 C I J R) → AW Γ 0 0 C I J R 2 [(0, aR (some x0)), (1, aI x1), (2, aI x2)] [] := fun x0 x1 x2 C I J R ⟨m, hq⟩ => (key m).1 x0 x1 x2 C I J R hq
  have w16 : ∀ (x0 : Nat) (x1 : Int32) (x2 : Int32) (x3 : Int32) (C : MC) (I : MI) (J : MJ) (R : MR), (∃ n, Q16 n (gK Γ) x0 x1 x2 x3 C I J R) → AW Γ 0 0 C I J R 16 [(0, aR (some x0)), (1, aI x1), (2, aI x2), (3, aI x3)] [] := fun x0 x1 x2 x3 C I J R ⟨m, hq⟩ => (key m).2 x0 x1 x2 x3 C I J R hq
  have w133 : ∀ (x0 : Nat) (x1 : Int32) (x2 : Int32) (C : MC) (I : MI) (J : MJ) (R : MR), PX2_tables_133 F_X2_clear F_X2_wholeOf F_X2_make F_X2_settle (fun (x0 : Nat) (x1 : Int32) (x2 : Int32) (C : MC) (I : MI) (J : MJ) (R : MR) => ∃ n, Q2 n (gK Γ) x0 x1 x2 C I J R) (fun (x0 : Nat) (x1 : Int32) (x2 : Int32) (x3 : Int32) (C : MC) (I : MI) (J : MJ) (R : MR) => ∃ n, Q16 n (gK Γ) x0 x1 x2 x3 C I J R) (gK Γ) x0 x1 x2 C I J R → AW Γ 0 0 C I J R 133 [(0, aR (some x0)), (1, aI x1), (2, aI x2)] [] := fun x0 x1 x2 C I J R h => bX2_tables_133 G w2 h
  have w60 : ∀ (x0 : Nat) (x1 : Int32) (x2 : Int32) (x3 : Int32) (C : MC) (I : MI) (J : MJ) (R : MR), PX2_tables_60 F_X2_clear F_X2_wholeOf F_X2_make F_X2_settle (fun (x0 : Nat) (x1 : Int32) (x2 : Int32) (C : MC) (I : MI) (J : MJ) (R : MR) => ∃ n, Q2 n (gK Γ) x0 x1 x2 C I J R) (fun (x0 : Nat) (x1 : Int32) (x2 : Int32) (x3 : Int32) (C : MC) (I : MI) (J : MJ) (R : MR) => ∃ n, Q16 n (gK Γ) x0 x1 x2 x3 C I J R) (gK Γ) x0 x1 x2 x3 C I J R → AW Γ 0 0 C I J R 60 [(0, aR (some x0)), (1, aI x1), (2, aI x2), (3, aI x3)] [] := fun x0 x1 x2 x3 C I J R h => bX2_tables_60 G w16 h
  obtain ⟨x0, x1, rfl, h⟩ := h0 As C I J R (gK Γ) hF
  exact ⟨Nat.le_of_ble_eq_true rfl, bX2_tables_0 G w2 h⟩
def PX2_clear_2 (Q2 : Nat → Int32 → MC → MI → MJ → MR → Prop) (K : AK) (x1 : Nat) (x2 : Int32) (C : MC) (I : MI) (J : MJ) (R : MR) : Prop :=
      (20 ≤ (C x1).1 ∧ (C x1).1 ≤ 30) ∧
      (((nI (C x1).2) ≤ x2 →
      K (.inl none) C I J R) ∧
      (¬ (nI (C x1).2) ≤ x2 →
      (C x1).1 = 21 ∧
      vp_in x2 (C x1).2 ∧
      ∀ J5 : MJ, J5 = va_up J x1 (va_up (J x1) x2.toNatClampNeg (0 : Int64)) →
      Q2 x1 (x2 + 1) C I J5 R))
def PX2_clear_0 (Q2 : Nat → Int32 → MC → MI → MJ → MR → Prop) (K : AK) (x0 : Nat) (x1 : Nat) (C : MC) (I : MI) (J : MJ) (R : MR) : Prop :=
      Q2 x1 (0 : Int32) C I J R
theorem wX2_clear {l : Launch} 
    (Q2 : Nat → AK → Nat → Int32 → MC → MI → MJ → MR → Prop) {F : SPF}
    (h0 : ∀ (As : List AV) (C : MC) (I : MI) (J : MJ) (R : MR) (K : AK), F As C I J R K → ∃ (x0 : Nat) (x1 : Nat), As = [aR (some x0), aR (some x1)] ∧ PX2_clear_0 (fun (x1 : Nat) (x2 : Int32) (C : MC) (I : MI) (J : MJ) (R : MR) => ∃ n, Q2 n K x1 x2 C I J R) K x0 x1 C I J R)
    (h2 : ∀ (n : Nat) (K : AK) (x1 : Nat) (x2 : Int32) (C : MC) (I : MI) (J : MJ) (R : MR), Q2 n K x1 x2 C I J R → PX2_clear_2 (fun (x1 : Nat) (x2 : Int32) (C : MC) (I : MI) (J : MJ) (R : MR) => ∃ m, m < n ∧ Q2 m K x1 x2 C I J R) K x1 x2 C I J R) : SpX2_clear l F := by
  refine Spec.of (by rfl) ?_
  intro Γ C I J R As Gd gl gr _ _ gb hF
  subst gl
  have G : Gb Γ yX2_clear cX2_clear 3 (none) [] rmX2_clear bdX2_clear := ⟨Gd, gr, gb⟩
  have key : ∀ n : Nat, (∀ (x1 : Nat) (x2 : Int32) (C : MC) (I : MI) (J : MJ) (R : MR), Q2 n (gK Γ) x1 x2 C I J R → AW Γ 0 0 C I J R 2 [(1, aR (some x1)), (2, aI x2)] []) := by
    intro n
    induction n using Nat.strongRecOn with
    | ind n ih =>
    have w2 : ∀ (x1 : Nat) (x2 : Int32) (C : MC) (I : MI) (J : MJ) (R : MR), (∃ m, m < n ∧ Q2 m (gK Γ) x1 x2 C I J R) → AW Γ 0 0 C I J R 2 [(1, aR (some x1)), (2, aI x2)] [] := fun x1 x2 C I J R ⟨m, hm, hq⟩ => (ih m hm) x1 x2 C I J R hq
    exact fun x1 x2 C I J R h => bX2_clear_2 G w2 (h2 n (gK Γ) x1 x2 C I J R h)
  have w2 : ∀ (x1 : Nat) (x2 : Int32) (C : MC) (I : MI) (J : MJ) (R : MR), (∃ n, Q2 n (gK Γ) x1 x2 C I J R) → AW Γ 0 0 C I J R 2 [(1, aR (some x1)), (2, aI x2)] [] := fun x1 x2 C I J R ⟨m, hq⟩ => (key m) x1 x2 C I J R hq
  obtain ⟨x0, x1, rfl, h⟩ := h0 As C I J R (gK Γ) hF
  exact ⟨Nat.le_of_ble_eq_true rfl, bX2_clear_0 G w2 h⟩
def PX2_wholeOf_150 (F_X2_product : SPF) (Q16 : Nat → Int32 → Int64 → Int32 → MC → MI → MJ → MR → Prop) (Q97 : Nat → Int32 → Int64 → Int32 → Int32 → MC → MI → MJ → MR → Prop) (Q107 : Nat → Int32 → Int64 → Int32 → Int32 → Int32 → MC → MI → MJ → MR → Prop) (K : AK) (x0 : Nat) (x1 : Int32) (x2 : Int64) (x4 : Int32) (x5 : Int32) (x6 : Int32) (C : MC) (I : MI) (J : MJ) (R : MR) : Prop :=
      Q107 x0 x1 x2 x4 x5 (x6 + 1) C I J R
def PX2_wholeOf_107 (F_X2_product : SPF) (Q16 : Nat → Int32 → Int64 → Int32 → MC → MI → MJ → MR → Prop) (Q97 : Nat → Int32 → Int64 → Int32 → Int32 → MC → MI → MJ → MR → Prop) (Q107 : Nat → Int32 → Int64 → Int32 → Int32 → Int32 → MC → MI → MJ → MR → Prop) (K : AK) (x0 : Nat) (x1 : Int32) (x2 : Int64) (x4 : Int32) (x5 : Int32) (x6 : Int32) (C : MC) (I : MI) (J : MJ) (R : MR) : Prop :=
      (((4 : Int32) ≤ x6 →
      Q97 x0 x1 x2 x4 (x5 + 1) C I J R) ∧
      (¬ (4 : Int32) ≤ x6 →
      (C x0).1 = 3 ∧
      ∃ q3 : Nat, R x0 8 = some q3 ∧
      (C q3).1 = 20 ∧
      vp_in (((4 : Int32) * x1) + x6) (C q3).2 ∧
      (((I q3 (((4 : Int32) * x1) + x6).toNatClampNeg) = (-1 : Int32) →
      PX2_wholeOf_150 F_X2_product Q16 Q97 Q107 K x0 x1 x2 x4 x5 x6 C I J R) ∧
      (¬ (I q3 (((4 : Int32) * x1) + x6).toNatClampNeg) = (-1 : Int32) →
      ∃ q7 : Nat, R x0 24 = some q7 ∧
      (C q7).1 = 21 ∧
      vp_in (I q3 (((4 : Int32) * x1) + x6).toNatClampNeg) (C q7).2 ∧
      F_X2_product [aR (some x0), aJ x2, aJ (J q7 (I q3 (((4 : Int32) * x1) + x6).toNatClampNeg).toNatClampNeg)] C I J R (fun o C10 I11 J12 R13 =>
      ∃ r14 : Int64, o = .inl (some (aJ r14)) ∧
      PX2_wholeOf_150 F_X2_product Q16 Q97 Q107 K x0 x1 r14 x4 x5 x6 C10 I11 J12 R13)))))
def PX2_wholeOf_97 (F_X2_product : SPF) (Q16 : Nat → Int32 → Int64 → Int32 → MC → MI → MJ → MR → Prop) (Q97 : Nat → Int32 → Int64 → Int32 → Int32 → MC → MI → MJ → MR → Prop) (Q107 : Nat → Int32 → Int64 → Int32 → Int32 → Int32 → MC → MI → MJ → MR → Prop) (K : AK) (x0 : Nat) (x1 : Int32) (x2 : Int64) (x4 : Int32) (x5 : Int32) (C : MC) (I : MI) (J : MJ) (R : MR) : Prop :=
      ((x4 ≤ x5 →
      (C x0).1 = 3 ∧
      ∃ q3 : Nat, R x0 7 = some q3 ∧
      (C q3).1 = 20 ∧
      vp_in x1 (C q3).2 ∧
      ((¬ (I q3 x1.toNatClampNeg) = (3 : Int32) →
      K (.inl (some (aJ x2))) C I J R) ∧
      ((I q3 x1.toNatClampNeg) = (3 : Int32) →
      ∃ q7 : Nat, R x0 10 = some q7 ∧
      (C q7).1 = 20 ∧
      vp_in x1 (C q7).2 ∧
      F_X2_product [aR (some x0), aJ x2, aJ ((I q7 x1.toNatClampNeg).toInt64)] C I J R (fun o C10 I11 J12 R13 =>
      ∃ r14 : Int64, o = .inl (some (aJ r14)) ∧
      K (.inl (some (aJ r14))) C10 I11 J12 R13)))) ∧
      (¬ x4 ≤ x5 →
      Q107 x0 x1 x2 x4 x5 (0 : Int32) C I J R))
def PX2_wholeOf_92 (F_X2_product : SPF) (Q16 : Nat → Int32 → Int64 → Int32 → MC → MI → MJ → MR → Prop) (Q97 : Nat → Int32 → Int64 → Int32 → Int32 → MC → MI → MJ → MR → Prop) (Q107 : Nat → Int32 → Int64 → Int32 → Int32 → Int32 → MC → MI → MJ → MR → Prop) (K : AK) (x0 : Nat) (x1 : Int32) (x2 : Int64) (s0 : Int32) (C : MC) (I : MI) (J : MJ) (R : MR) : Prop :=
      Q97 x0 x1 x2 s0 (0 : Int32) C I J R
def PX2_wholeOf_16 (F_X2_product : SPF) (Q16 : Nat → Int32 → Int64 → Int32 → MC → MI → MJ → MR → Prop) (Q97 : Nat → Int32 → Int64 → Int32 → Int32 → MC → MI → MJ → MR → Prop) (Q107 : Nat → Int32 → Int64 → Int32 → Int32 → Int32 → MC → MI → MJ → MR → Prop) (K : AK) (x0 : Nat) (x1 : Int32) (x2 : Int64) (x4 : Int32) (C : MC) (I : MI) (J : MJ) (R : MR) : Prop :=
      (((60 : Int32) ≤ x4 →
      K (.inl (some (aJ x2))) C I J R) ∧
      (¬ (60 : Int32) ≤ x4 →
      (C x0).1 = 3 ∧
      ∃ q3 : Nat, R x0 15 = some q3 ∧
      (C q3).1 = 20 ∧
      vp_in x1 (C q3).2 ∧
      ∃ q6 : Nat, R x0 14 = some q6 ∧
      (C q6).1 = 20 ∧
      vp_in (((60 : Int32) * (((3 : Int32) * x1) + (I q3 x1.toNatClampNeg))) + x4) (C q6).2 ∧
      Q16 x0 x1 (x2 + ((I q6 (((60 : Int32) * (((3 : Int32) * x1) + (I q3 x1.toNatClampNeg))) + x4).toNatClampNeg).toInt64)) (x4 + 1) C I J R))
def PX2_wholeOf_0 (F_X2_product : SPF) (Q16 : Nat → Int32 → Int64 → Int32 → MC → MI → MJ → MR → Prop) (Q97 : Nat → Int32 → Int64 → Int32 → Int32 → MC → MI → MJ → MR → Prop) (Q107 : Nat → Int32 → Int64 → Int32 → Int32 → Int32 → MC → MI → MJ → MR → Prop) (K : AK) (x0 : Nat) (x1 : Int32) (C : MC) (I : MI) (J : MJ) (R : MR) : Prop :=
      (C x0).1 = 3 ∧
      ∃ q2 : Nat, R x0 7 = some q2 ∧
      (C q2).1 = 20 ∧
      vp_in x1 (C q2).2 ∧
      ((¬ (I q2 x1.toNatClampNeg) = 0 →
      ((¬ (I q2 x1.toNatClampNeg) = (4 : Int32) →
      ((¬ (I q2 x1.toNatClampNeg) = (5 : Int32) →
      PX2_wholeOf_92 F_X2_product Q16 Q97 Q107 K x0 x1 (1 : Int64) (1 : Int32) C I J R) ∧
      ((I q2 x1.toNatClampNeg) = (5 : Int32) →
      PX2_wholeOf_92 F_X2_product Q16 Q97 Q107 K x0 x1 (1 : Int64) (2 : Int32) C I J R))) ∧
      ((I q2 x1.toNatClampNeg) = (4 : Int32) →
      ∃ q8 : Nat, R x0 10 = some q8 ∧
      (C q8).1 = 20 ∧
      vp_in x1 (C q8).2 ∧
      PX2_wholeOf_92 F_X2_product Q16 Q97 Q107 K x0 x1 (1 : Int64) ((I q8 x1.toNatClampNeg) + (1 : Int32)) C I J R))) ∧
      ((I q2 x1.toNatClampNeg) = 0 →
      Q16 x0 x1 (0 : Int64) (0 : Int32) C I J R))
theorem wX2_wholeOf {l : Launch}  {F_X2_product : SPF} (S_X2_product : SpX2_product l F_X2_product)
    (Q16 : Nat → AK → Nat → Int32 → Int64 → Int32 → MC → MI → MJ → MR → Prop)
    (Q97 : Nat → AK → Nat → Int32 → Int64 → Int32 → Int32 → MC → MI → MJ → MR → Prop)
    (Q107 : Nat → AK → Nat → Int32 → Int64 → Int32 → Int32 → Int32 → MC → MI → MJ → MR → Prop) {F : SPF}
    (h0 : ∀ (As : List AV) (C : MC) (I : MI) (J : MJ) (R : MR) (K : AK), F As C I J R K → ∃ (x0 : Nat) (x1 : Int32), As = [aR (some x0), aI x1] ∧ PX2_wholeOf_0 F_X2_product (fun (x0 : Nat) (x1 : Int32) (x2 : Int64) (x4 : Int32) (C : MC) (I : MI) (J : MJ) (R : MR) => ∃ n, Q16 n K x0 x1 x2 x4 C I J R) (fun (x0 : Nat) (x1 : Int32) (x2 : Int64) (x4 : Int32) (x5 : Int32) (C : MC) (I : MI) (J : MJ) (R : MR) => ∃ n, Q97 n K x0 x1 x2 x4 x5 C I J R) (fun (x0 : Nat) (x1 : Int32) (x2 : Int64) (x4 : Int32) (x5 : Int32) (x6 : Int32) (C : MC) (I : MI) (J : MJ) (R : MR) => ∃ n, Q107 n K x0 x1 x2 x4 x5 x6 C I J R) K x0 x1 C I J R)
    (h16 : ∀ (n : Nat) (K : AK) (x0 : Nat) (x1 : Int32) (x2 : Int64) (x4 : Int32) (C : MC) (I : MI) (J : MJ) (R : MR), Q16 n K x0 x1 x2 x4 C I J R → PX2_wholeOf_16 F_X2_product (fun (x0 : Nat) (x1 : Int32) (x2 : Int64) (x4 : Int32) (C : MC) (I : MI) (J : MJ) (R : MR) => ∃ m, m < n ∧ Q16 m K x0 x1 x2 x4 C I J R) (fun (x0 : Nat) (x1 : Int32) (x2 : Int64) (x4 : Int32) (x5 : Int32) (C : MC) (I : MI) (J : MJ) (R : MR) => ∃ m, m < n ∧ Q97 m K x0 x1 x2 x4 x5 C I J R) (fun (x0 : Nat) (x1 : Int32) (x2 : Int64) (x4 : Int32) (x5 : Int32) (x6 : Int32) (C : MC) (I : MI) (J : MJ) (R : MR) => ∃ m, m < n ∧ Q107 m K x0 x1 x2 x4 x5 x6 C I J R) K x0 x1 x2 x4 C I J R)
    (h97 : ∀ (n : Nat) (K : AK) (x0 : Nat) (x1 : Int32) (x2 : Int64) (x4 : Int32) (x5 : Int32) (C : MC) (I : MI) (J : MJ) (R : MR), Q97 n K x0 x1 x2 x4 x5 C I J R → PX2_wholeOf_97 F_X2_product (fun (x0 : Nat) (x1 : Int32) (x2 : Int64) (x4 : Int32) (C : MC) (I : MI) (J : MJ) (R : MR) => ∃ m, m < n ∧ Q16 m K x0 x1 x2 x4 C I J R) (fun (x0 : Nat) (x1 : Int32) (x2 : Int64) (x4 : Int32) (x5 : Int32) (C : MC) (I : MI) (J : MJ) (R : MR) => ∃ m, m < n ∧ Q97 m K x0 x1 x2 x4 x5 C I J R) (fun (x0 : Nat) (x1 : Int32) (x2 : Int64) (x4 : Int32) (x5 : Int32) (x6 : Int32) (C : MC) (I : MI) (J : MJ) (R : MR) => ∃ m, m < n ∧ Q107 m K x0 x1 x2 x4 x5 x6 C I J R) K x0 x1 x2 x4 x5 C I J R)
    (h107 : ∀ (n : Nat) (K : AK) (x0 : Nat) (x1 : Int32) (x2 : Int64) (x4 : Int32) (x5 : Int32) (x6 : Int32) (C : MC) (I : MI) (J : MJ) (R : MR), Q107 n K x0 x1 x2 x4 x5 x6 C I J R → PX2_wholeOf_107 F_X2_product (fun (x0 : Nat) (x1 : Int32) (x2 : Int64) (x4 : Int32) (C : MC) (I : MI) (J : MJ) (R : MR) => ∃ m, m < n ∧ Q16 m K x0 x1 x2 x4 C I J R) (fun (x0 : Nat) (x1 : Int32) (x2 : Int64) (x4 : Int32) (x5 : Int32) (C : MC) (I : MI) (J : MJ) (R : MR) => ∃ m, m < n ∧ Q97 m K x0 x1 x2 x4 x5 C I J R) (fun (x0 : Nat) (x1 : Int32) (x2 : Int64) (x4 : Int32) (x5 : Int32) (x6 : Int32) (C : MC) (I : MI) (J : MJ) (R : MR) => ∃ m, m < n ∧ Q107 m K x0 x1 x2 x4 x5 x6 C I J R) K x0 x1 x2 x4 x5 x6 C I J R) : SpX2_wholeOf l F := by
  refine Spec.of (by rfl) ?_
  intro Γ C I J R As Gd gl gr _ _ gb hF
  subst gl
  have G : Gb Γ yX2_wholeOf cX2_wholeOf 7 (some .long) [] rmX2_wholeOf bdX2_wholeOf := ⟨Gd, gr, gb⟩
  have key : ∀ n : Nat, (∀ (x0 : Nat) (x1 : Int32) (x2 : Int64) (x4 : Int32) (C : MC) (I : MI) (J : MJ) (R : MR), Q16 n (gK Γ) x0 x1 x2 x4 C I J R → AW Γ 0 0 C I J R 16 [(0, aR (some x0)), (1, aI x1), (2, aJ x2), (4, aI x4)] []) ∧ (∀ (x0 : Nat) (x1 : Int32) (x2 : Int64) (x4 : Int32) (x5 : Int32) (C : MC) (I : MI) (J : MJ) (R : MR), Q97 n (gK Γ) x0 x1 x2 x4 x5 C I J R → AW Γ 0 0 C I J R 97 [(0, aR (some x0)), (1, aI x1), (2, aJ x2), (4, aI x4), (5, aI x5)] []) ∧ (∀ (x0 : Nat) (x1 : Int32) (x2 : Int64) (x4 : Int32) (x5 : Int32) (x6 : Int32) (C : MC) (I : MI) (J : MJ) (R : MR), Q107 n (gK Γ) x0 x1 x2 x4 x5 x6 C I J R → AW Γ 0 0 C I J R 107 [(0, aR (some x0)), (1, aI x1), (2, aJ x2), (4, aI x4), (5, aI x5), (6, aI x6)] []) := by
    intro n
    induction n using Nat.strongRecOn with
    | ind n ih =>
    have w16 : ∀ (x0 : Nat) (x1 : Int32) (x2 : Int64) (x4 : Int32) (C : MC) (I : MI) (J : MJ) (R : MR), (∃ m, m < n ∧ Q16 m (gK Γ) x0 x1 x2 x4 C I J R) → AW Γ 0 0 C I J R 16 [(0, aR (some x0)), (1, aI x1), (2, aJ x2), (4, aI x4)] [] := fun x0 x1 x2 x4 C I J R ⟨m, hm, hq⟩ => (ih m hm).1 x0 x1 x2 x4 C I J R hq
    have w97 : ∀ (x0 : Nat) (x1 : Int32) (x2 : Int64) (x4 : Int32) (x5 : Int32) (C : MC) (I : MI) (J : MJ) (R : MR), (∃ m, m < n ∧ Q97 m (gK Γ) x0 x1 x2 x4 x5 C I J R) → AW Γ 0 0 C I J R 97 [(0, aR (some x0)), (1, aI x1), (2, aJ x2), (4, aI x4), (5, aI x5)] [] := fun x0 x1 x2 x4 x5 C I J R ⟨m, hm, hq⟩ => (ih m hm).2.1 x0 x1 x2 x4 x5 C I J R hq
    have w107 : ∀ (x0 : Nat) (x1 : Int32) (x2 : Int64) (x4 : Int32) (x5 : Int32) (x6 : Int32) (C : MC) (I : MI) (J : MJ) (R : MR), (∃ m, m < n ∧ Q107 m (gK Γ) x0 x1 x2 x4 x5 x6 C I J R) → AW Γ 0 0 C I J R 107 [(0, aR (some x0)), (1, aI x1), (2, aJ x2), (4, aI x4), (5, aI x5), (6, aI x6)] [] := fun x0 x1 x2 x4 x5 x6 C I J R ⟨m, hm, hq⟩ => (ih m hm).2.2 x0 x1 x2 x4 x5 x6 C I J R hq
    have w150 : ∀ (x0 : Nat) (x1 : Int32) (x2 : Int64) (x4 : Int32) (x5 : Int32) (x6 : Int32) (C : MC) (I : MI) (J : MJ) (R : MR), PX2_wholeOf_150 F_X2_product (fun (x0 : Nat) (x1 : Int32) (x2 : Int64) (x4 : Int32) (C : MC) (I : MI) (J : MJ) (R : MR) => ∃ m, m < n ∧ Q16 m (gK Γ) x0 x1 x2 x4 C I J R) (fun (x0 : Nat) (x1 : Int32) (x2 : Int64) (x4 : Int32) (x5 : Int32) (C : MC) (I : MI) (J : MJ) (R : MR) => ∃ m, m < n ∧ Q97 m (gK Γ) x0 x1 x2 x4 x5 C I J R) (fun (x0 : Nat) (x1 : Int32) (x2 : Int64) (x4 : Int32) (x5 : Int32) (x6 : Int32) (C : MC) (I : MI) (J : MJ) (R : MR) => ∃ m, m < n ∧ Q107 m (gK Γ) x0 x1 x2 x4 x5 x6 C I J R) (gK Γ) x0 x1 x2 x4 x5 x6 C I J R → AW Γ 0 0 C I J R 150 [(0, aR (some x0)), (1, aI x1), (2, aJ x2), (4, aI x4), (5, aI x5), (6, aI x6)] [] := fun x0 x1 x2 x4 x5 x6 C I J R h => bX2_wholeOf_150 G w107 h
    have w92 : ∀ (x0 : Nat) (x1 : Int32) (x2 : Int64) (s0 : Int32) (C : MC) (I : MI) (J : MJ) (R : MR), PX2_wholeOf_92 F_X2_product (fun (x0 : Nat) (x1 : Int32) (x2 : Int64) (x4 : Int32) (C : MC) (I : MI) (J : MJ) (R : MR) => ∃ m, m < n ∧ Q16 m (gK Γ) x0 x1 x2 x4 C I J R) (fun (x0 : Nat) (x1 : Int32) (x2 : Int64) (x4 : Int32) (x5 : Int32) (C : MC) (I : MI) (J : MJ) (R : MR) => ∃ m, m < n ∧ Q97 m (gK Γ) x0 x1 x2 x4 x5 C I J R) (fun (x0 : Nat) (x1 : Int32) (x2 : Int64) (x4 : Int32) (x5 : Int32) (x6 : Int32) (C : MC) (I : MI) (J : MJ) (R : MR) => ∃ m, m < n ∧ Q107 m (gK Γ) x0 x1 x2 x4 x5 x6 C I J R) (gK Γ) x0 x1 x2 s0 C I J R → AW Γ 0 0 C I J R 92 [(0, aR (some x0)), (1, aI x1), (2, aJ x2)] [aI s0] := fun x0 x1 x2 s0 C I J R h => bX2_wholeOf_92 G w97 h
    exact ⟨fun x0 x1 x2 x4 C I J R h => bX2_wholeOf_16 G w16 (h16 n (gK Γ) x0 x1 x2 x4 C I J R h), fun x0 x1 x2 x4 x5 C I J R h => bX2_wholeOf_97 G S_X2_product w107 (h97 n (gK Γ) x0 x1 x2 x4 x5 C I J R h), fun x0 x1 x2 x4 x5 x6 C I J R h => bX2_wholeOf_107 G S_X2_product w97 w150 (h107 n (gK Γ) x0 x1 x2 x4 x5 x6 C I J R h)⟩
  have w16 : ∀ (x0 : Nat) (x1 : Int32) (x2 : Int64) (x4 : Int32) (C : MC) (I : MI) (J : MJ) (R : MR), (∃ n, Q16 n (gK Γ) x0 x1 x2 x4 C I J R) → AW Γ 0 0 C I J R 16 [(0, aR (some x0)), (1, aI x1), (2, aJ x2), (4, aI x4)] [] := fun x0 x1 x2 x4 C I J R ⟨m, hq⟩ => (key m).1 x0 x1 x2 x4 C I J R hq
  have w97 : ∀ (x0 : Nat) (x1 : Int32) (x2 : Int64) (x4 : Int32) (x5 : Int32) (C : MC) (I : MI) (J : MJ) (R : MR), (∃ n, Q97 n (gK Γ) x0 x1 x2 x4 x5 C I J R) → AW Γ 0 0 C I J R 97 [(0, aR (some x0)), (1, aI x1), (2, aJ x2), (4, aI x4), (5, aI x5)] [] := fun x0 x1 x2 x4 x5 C I J R ⟨m, hq⟩ => (key m).2.1 x0 x1 x2 x4 x5 C I J R hq
  have w107 : ∀ (x0 : Nat) (x1 : Int32) (x2 : Int64) (x4 : Int32) (x5 : Int32) (x6 : Int32) (C : MC) (I : MI) (J : MJ) (R : MR), (∃ n, Q107 n (gK Γ) x0 x1 x2 x4 x5 x6 C I J R) → AW Γ 0 0 C I J R 107 [(0, aR (some x0)), (1, aI x1), (2, aJ x2), (4, aI x4), (5, aI x5), (6, aI x6)] [] := fun x0 x1 x2 x4 x5 x6 C I J R ⟨m, hq⟩ => (key m).2.2 x0 x1 x2 x4 x5 x6 C I J R hq
  have w150 : ∀ (x0 : Nat) (x1 : Int32) (x2 : Int64) (x4 : Int32) (x5 : Int32) (x6 : Int32) (C : MC) (I : MI) (J : MJ) (R : MR), PX2_wholeOf_150 F_X2_product (fun (x0 : Nat) (x1 : Int32) (x2 : Int64) (x4 : Int32) (C : MC) (I : MI) (J : MJ) (R : MR) => ∃ n, Q16 n (gK Γ) x0 x1 x2 x4 C I J R) (fun (x0 : Nat) (x1 : Int32) (x2 : Int64) (x4 : Int32) (x5 : Int32) (C : MC) (I : MI) (J : MJ) (R : MR) => ∃ n, Q97 n (gK Γ) x0 x1 x2 x4 x5 C I J R) (fun (x0 : Nat) (x1 : Int32) (x2 : Int64) (x4 : Int32) (x5 : Int32) (x6 : Int32) (C : MC) (I : MI) (J : MJ) (R : MR) => ∃ n, Q107 n (gK Γ) x0 x1 x2 x4 x5 x6 C I J R) (gK Γ) x0 x1 x2 x4 x5 x6 C I J R → AW Γ 0 0 C I J R 150 [(0, aR (some x0)), (1, aI x1), (2, aJ x2), (4, aI x4), (5, aI x5), (6, aI x6)] [] := fun x0 x1 x2 x4 x5 x6 C I J R h => bX2_wholeOf_150 G w107 h
  have w92 : ∀ (x0 : Nat) (x1 : Int32) (x2 : Int64) (s0 : Int32) (C : MC) (I : MI) (J : MJ) (R : MR), PX2_wholeOf_92 F_X2_product (fun (x0 : Nat) (x1 : Int32) (x2 : Int64) (x4 : Int32) (C : MC) (I : MI) (J : MJ) (R : MR) => ∃ n, Q16 n (gK Γ) x0 x1 x2 x4 C I J R) (fun (x0 : Nat) (x1 : Int32) (x2 : Int64) (x4 : Int32) (x5 : Int32) (C : MC) (I : MI) (J : MJ) (R : MR) => ∃ n, Q97 n (gK Γ) x0 x1 x2 x4 x5 C I J R) (fun (x0 : Nat) (x1 : Int32) (x2 : Int64) (x4 : Int32) (x5 : Int32) (x6 : Int32) (C : MC) (I : MI) (J : MJ) (R : MR) => ∃ n, Q107 n (gK Γ) x0 x1 x2 x4 x5 x6 C I J R) (gK Γ) x0 x1 x2 s0 C I J R → AW Γ 0 0 C I J R 92 [(0, aR (some x0)), (1, aI x1), (2, aJ x2)] [aI s0] := fun x0 x1 x2 s0 C I J R h => bX2_wholeOf_92 G w97 h
  obtain ⟨x0, x1, rfl, h⟩ := h0 As C I J R (gK Γ) hF
  exact ⟨Nat.le_of_ble_eq_true rfl, bX2_wholeOf_0 G w16 w92 h⟩
def PX2_product_15 (K : AK) (x0 : Nat) (x1 : Int64) (x3 : Int64) (C : MC) (I : MI) (J : MJ) (R : MR) : Prop :=
      (C x0).1 = 3 ∧
      (((I x0 30) = 0 →
      K (.inl (some (aJ (x1 * x3)))) C I J R) ∧
      (¬ (I x0 30) = 0 →
      K (.inl (some (aJ (1 : Int64)))) C I J R))
def PX2_product_0 (K : AK) (x0 : Nat) (x1 : Int64) (x3 : Int64) (C : MC) (I : MI) (J : MJ) (R : MR) : Prop :=
      ¬ x3 = 0 ∧
      ((x1 ≤ ((4611686018427387903 : Int64) / x3) →
      PX2_product_15 K x0 x1 x3 C I J R) ∧
      (¬ x1 ≤ ((4611686018427387903 : Int64) / x3) →
      (C x0).1 = 3 ∧
      ∀ I4 : MI, I4 = va_up I x0 (va_up (I x0) 30 (1 : Int32)) →
      PX2_product_15 K x0 x1 x3 C I4 J R))
theorem wX2_product {l : Launch}  {F : SPF}
    (h0 : ∀ (As : List AV) (C : MC) (I : MI) (J : MJ) (R : MR) (K : AK), F As C I J R K → ∃ (x0 : Nat) (x1 : Int64) (x3 : Int64), As = [aR (some x0), aJ x1, aJ x3] ∧ PX2_product_0 K x0 x1 x3 C I J R) : SpX2_product l F := by
  refine Spec.of (by rfl) ?_
  intro Γ C I J R As Gd gl gr _ _ gb hF
  subst gl
  have G : Gb Γ yX2_product cX2_product 5 (some .long) [] rmX2_product bdX2_product := ⟨Gd, gr, gb⟩
  have w15 : ∀ (x0 : Nat) (x1 : Int64) (x3 : Int64) (C : MC) (I : MI) (J : MJ) (R : MR), PX2_product_15 (gK Γ) x0 x1 x3 C I J R → AW Γ 0 0 C I J R 15 [(0, aR (some x0)), (1, aJ x1), (3, aJ x3)] [] := fun x0 x1 x3 C I J R h => bX2_product_15 G h
  obtain ⟨x0, x1, x3, rfl, h⟩ := h0 As C I J R (gK Γ) hF
  exact ⟨Nat.le_of_ble_eq_true rfl, bX2_product_0 G w15 h⟩
def PX2_make_200 (F_X2_makeRow : SPF) (F_X2_makeFan : SPF) (F_X2_makeRetry : SPF) (F_X2_makeHedge : SPF) (F_X2_at : SPF) (Q50 : Nat → Int32 → Int32 → MC → MI → MJ → MR → Prop) (Q117 : Nat → Int32 → Int32 → Int32 → MC → MI → MJ → MR → Prop) (K : AK) (x0 : Nat) (x1 : Int32) (x2 : Int32) (x3 : Int32) (x4 : Int64) (s0 : Int64) (C : MC) (I : MI) (J : MJ) (R : MR) : Prop :=
      (C x0).1 = 3 ∧
      ∃ q2 : Nat, R x0 9 = some q2 ∧
      (C q2).1 = 20 ∧
      vp_in x1 (C q2).2 ∧
      ∃ q5 : Nat, R x0 10 = some q5 ∧
      (C q5).1 = 20 ∧
      vp_in x1 (C q5).2 ∧
      ∃ q8 : Nat, R x0 26 = some q8 ∧
      (C q8).1 = 21 ∧
      vp_in x3 (C q8).2 ∧
      ∀ J11 : MJ, J11 = va_up J q8 (va_up (J q8) x3.toNatClampNeg ((((I q2 x1.toNatClampNeg).toInt64) * x4) + ((((I q5 x1.toNatClampNeg) - (I q2 x1.toNatClampNeg)).toInt64) * (J q8 x3.toNatClampNeg)))) →
      ∃ q12 : Nat, R x0 27 = some q12 ∧
      (C q12).1 = 21 ∧
      vp_in x3 (C q12).2 ∧
      ∀ J15 : MJ, J15 = va_up J11 q12 (va_up (J11 q12) x3.toNatClampNeg ((((I q2 x1.toNatClampNeg).toInt64) * s0) + ((((I q5 x1.toNatClampNeg) - (I q2 x1.toNatClampNeg)).toInt64) * (J11 q12 x3.toNatClampNeg)))) →
      Q117 x0 x1 x2 (x3 + 1) C I J15 R
def PX2_make_162 (F_X2_makeRow : SPF) (F_X2_makeFan : SPF) (F_X2_makeRetry : SPF) (F_X2_makeHedge : SPF) (F_X2_at : SPF) (Q50 : Nat → Int32 → Int32 → MC → MI → MJ → MR → Prop) (Q117 : Nat → Int32 → Int32 → Int32 → MC → MI → MJ → MR → Prop) (K : AK) (x0 : Nat) (x1 : Int32) (x2 : Int32) (x3 : Int32) (s0 : Int64) (C : MC) (I : MI) (J : MJ) (R : MR) : Prop :=
      (((121 : Int32) ≤ x3 →
      PX2_make_200 F_X2_makeRow F_X2_makeFan F_X2_makeRetry F_X2_makeHedge F_X2_at Q50 Q117 K x0 x1 x2 x3 s0 (0 : Int64) C I J R) ∧
      (¬ (121 : Int32) ≤ x3 →
      (C x0).1 = 3 ∧
      F_X2_at [aI x2, aI x3] C I J R (fun o C3 I4 J5 R6 =>
      ∃ r7 : Int32, o = .inl (some (aI r7)) ∧
      ∃ q8 : Nat, R x0 23 = some q8 ∧
      (C3 q8).1 = 21 ∧
      vp_in r7 (C3 q8).2 ∧
      (C3 x0).1 = 3 ∧
      ∃ q12 : Nat, R6 x0 8 = some q12 ∧
      (C3 q12).1 = 20 ∧
      vp_in (((4 : Int32) * x1) + (1 : Int32)) (C3 q12).2 ∧
      ∃ q15 : Nat, R6 x0 24 = some q15 ∧
      (C3 q15).1 = 21 ∧
      vp_in (I4 q12 (((4 : Int32) * x1) + (1 : Int32)).toNatClampNeg) (C3 q15).2 ∧
      PX2_make_200 F_X2_makeRow F_X2_makeFan F_X2_makeRetry F_X2_makeHedge F_X2_at Q50 Q117 K x0 x1 x2 x3 s0 ((J5 q8 r7.toNatClampNeg) * (J5 q15 (I4 q12 (((4 : Int32) * x1) + (1 : Int32)).toNatClampNeg).toNatClampNeg)) C3 I4 J5 R6)))
def PX2_make_117 (F_X2_makeRow : SPF) (F_X2_makeFan : SPF) (F_X2_makeRetry : SPF) (F_X2_makeHedge : SPF) (F_X2_at : SPF) (Q50 : Nat → Int32 → Int32 → MC → MI → MJ → MR → Prop) (Q117 : Nat → Int32 → Int32 → Int32 → MC → MI → MJ → MR → Prop) (K : AK) (x0 : Nat) (x1 : Int32) (x2 : Int32) (x3 : Int32) (C : MC) (I : MI) (J : MJ) (R : MR) : Prop :=
      (C x0).1 = 3 ∧
      ∃ q2 : Nat, R x0 26 = some q2 ∧
      (20 ≤ (C q2).1 ∧ (C q2).1 ≤ 30) ∧
      (((nI (C q2).2) ≤ x3 →
      K (.inl none) C I J R) ∧
      (¬ (nI (C q2).2) ≤ x3 →
      (((121 : Int32) ≤ x3 →
      PX2_make_162 F_X2_makeRow F_X2_makeFan F_X2_makeRetry F_X2_makeHedge F_X2_at Q50 Q117 K x0 x1 x2 x3 (0 : Int64) C I J R) ∧
      (¬ (121 : Int32) ≤ x3 →
      F_X2_at [aI x2, aI x3] C I J R (fun o C6 I7 J8 R9 =>
      ∃ r10 : Int32, o = .inl (some (aI r10)) ∧
      ∃ q11 : Nat, R x0 22 = some q11 ∧
      (C6 q11).1 = 21 ∧
      vp_in r10 (C6 q11).2 ∧
      (C6 x0).1 = 3 ∧
      ∃ q15 : Nat, R9 x0 8 = some q15 ∧
      (C6 q15).1 = 20 ∧
      vp_in (((4 : Int32) * x1) + (1 : Int32)) (C6 q15).2 ∧
      ∃ q18 : Nat, R9 x0 24 = some q18 ∧
      (C6 q18).1 = 21 ∧
      vp_in (I7 q15 (((4 : Int32) * x1) + (1 : Int32)).toNatClampNeg) (C6 q18).2 ∧
      PX2_make_162 F_X2_makeRow F_X2_makeFan F_X2_makeRetry F_X2_makeHedge F_X2_at Q50 Q117 K x0 x1 x2 x3 ((J8 q11 r10.toNatClampNeg) * (J8 q18 (I7 q15 (((4 : Int32) * x1) + (1 : Int32)).toNatClampNeg).toNatClampNeg)) C6 I7 J8 R9)))))
def PX2_make_50 (F_X2_makeRow : SPF) (F_X2_makeFan : SPF) (F_X2_makeRetry : SPF) (F_X2_makeHedge : SPF) (F_X2_at : SPF) (Q50 : Nat → Int32 → Int32 → MC → MI → MJ → MR → Prop) (Q117 : Nat → Int32 → Int32 → Int32 → MC → MI → MJ → MR → Prop) (K : AK) (x0 : Nat) (x1 : Int32) (x3 : Int32) (C : MC) (I : MI) (J : MJ) (R : MR) : Prop :=
      (((60 : Int32) ≤ x3 →
      K (.inl none) C I J R) ∧
      (¬ (60 : Int32) ≤ x3 →
      (C x0).1 = 3 ∧
      ∃ q3 : Nat, R x0 15 = some q3 ∧
      (C q3).1 = 20 ∧
      vp_in x1 (C q3).2 ∧
      ∃ q6 : Nat, R x0 14 = some q6 ∧
      (C q6).1 = 20 ∧
      vp_in (((60 : Int32) * (((3 : Int32) * x1) + (I q3 x1.toNatClampNeg))) + x3) (C q6).2 ∧
      ∃ q9 : Nat, R x0 26 = some q9 ∧
      (C q9).1 = 21 ∧
      vp_in x3 (C q9).2 ∧
      ∀ J12 : MJ, J12 = va_up J q9 (va_up (J q9) x3.toNatClampNeg ((I q6 (((60 : Int32) * (((3 : Int32) * x1) + (I q3 x1.toNatClampNeg))) + x3).toNatClampNeg).toInt64)) →
      Q50 x0 x1 (x3 + 1) C I J12 R))
def PX2_make_0 (F_X2_makeRow : SPF) (F_X2_makeFan : SPF) (F_X2_makeRetry : SPF) (F_X2_makeHedge : SPF) (F_X2_at : SPF) (Q50 : Nat → Int32 → Int32 → MC → MI → MJ → MR → Prop) (Q117 : Nat → Int32 → Int32 → Int32 → MC → MI → MJ → MR → Prop) (K : AK) (x0 : Nat) (x1 : Int32) (C : MC) (I : MI) (J : MJ) (R : MR) : Prop :=
      (C x0).1 = 3 ∧
      ∃ q2 : Nat, R x0 8 = some q2 ∧
      (C q2).1 = 20 ∧
      vp_in ((4 : Int32) * x1) (C q2).2 ∧
      ∃ q5 : Nat, R x0 7 = some q5 ∧
      (C q5).1 = 20 ∧
      vp_in x1 (C q5).2 ∧
      (((I q5 x1.toNatClampNeg).toInt = 0 →
      Q50 x0 x1 (0 : Int32) C I J R) ∧
      ((I q5 x1.toNatClampNeg).toInt = 1 →
      F_X2_makeRow [aR (some x0), aI x1, aI (4 : Int32)] C I J R (fun o C9 I10 J11 R12 =>
      o = .inl none ∧
      K (.inl none) C9 I10 J11 R12)) ∧
      ((I q5 x1.toNatClampNeg).toInt = 2 →
      F_X2_makeFan [aR (some x0), aI x1] C I J R (fun o C14 I15 J16 R17 =>
      o = .inl none ∧
      K (.inl none) C14 I15 J16 R17)) ∧
      ((I q5 x1.toNatClampNeg).toInt = 3 →
      F_X2_makeRow [aR (some x0), aI x1, aI (2 : Int32)] C I J R (fun o C19 I20 J21 R22 =>
      o = .inl none ∧
      Q117 x0 x1 (I q2 ((4 : Int32) * x1).toNatClampNeg) (0 : Int32) C19 I20 J21 R22)) ∧
      ((I q5 x1.toNatClampNeg).toInt = 4 →
      F_X2_makeRetry [aR (some x0), aI x1] C I J R (fun o C24 I25 J26 R27 =>
      o = .inl none ∧
      K (.inl none) C24 I25 J26 R27)) ∧
      (((I q5 x1.toNatClampNeg).toInt < 0 ∨ 4 < (I q5 x1.toNatClampNeg).toInt) →
      F_X2_makeHedge [aR (some x0), aI x1] C I J R (fun o C29 I30 J31 R32 =>
      o = .inl none ∧
      K (.inl none) C29 I30 J31 R32)))
theorem wX2_make {l : Launch}  {F_X2_makeRow : SPF} (S_X2_makeRow : SpX2_makeRow l F_X2_makeRow) {F_X2_makeFan : SPF} (S_X2_makeFan : SpX2_makeFan l F_X2_makeFan) {F_X2_makeRetry : SPF} (S_X2_makeRetry : SpX2_makeRetry l F_X2_makeRetry) {F_X2_makeHedge : SPF} (S_X2_makeHedge : SpX2_makeHedge l F_X2_makeHedge) {F_X2_at : SPF} (S_X2_at : SpX2_at l F_X2_at)
    (Q50 : Nat → AK → Nat → Int32 → Int32 → MC → MI → MJ → MR → Prop)
    (Q117 : Nat → AK → Nat → Int32 → Int32 → Int32 → MC → MI → MJ → MR → Prop) {F : SPF}
    (h0 : ∀ (As : List AV) (C : MC) (I : MI) (J : MJ) (R : MR) (K : AK), F As C I J R K → ∃ (x0 : Nat) (x1 : Int32), As = [aR (some x0), aI x1] ∧ PX2_make_0 F_X2_makeRow F_X2_makeFan F_X2_makeRetry F_X2_makeHedge F_X2_at (fun (x0 : Nat) (x1 : Int32) (x3 : Int32) (C : MC) (I : MI) (J : MJ) (R : MR) => ∃ n, Q50 n K x0 x1 x3 C I J R) (fun (x0 : Nat) (x1 : Int32) (x2 : Int32) (x3 : Int32) (C : MC) (I : MI) (J : MJ) (R : MR) => ∃ n, Q117 n K x0 x1 x2 x3 C I J R) K x0 x1 C I J R)
    (h50 : ∀ (n : Nat) (K : AK) (x0 : Nat) (x1 : Int32) (x3 : Int32) (C : MC) (I : MI) (J : MJ) (R : MR), Q50 n K x0 x1 x3 C I J R → PX2_make_50 F_X2_makeRow F_X2_makeFan F_X2_makeRetry F_X2_makeHedge F_X2_at (fun (x0 : Nat) (x1 : Int32) (x3 : Int32) (C : MC) (I : MI) (J : MJ) (R : MR) => ∃ m, m < n ∧ Q50 m K x0 x1 x3 C I J R) (fun (x0 : Nat) (x1 : Int32) (x2 : Int32) (x3 : Int32) (C : MC) (I : MI) (J : MJ) (R : MR) => ∃ m, m < n ∧ Q117 m K x0 x1 x2 x3 C I J R) K x0 x1 x3 C I J R)
    (h117 : ∀ (n : Nat) (K : AK) (x0 : Nat) (x1 : Int32) (x2 : Int32) (x3 : Int32) (C : MC) (I : MI) (J : MJ) (R : MR), Q117 n K x0 x1 x2 x3 C I J R → PX2_make_117 F_X2_makeRow F_X2_makeFan F_X2_makeRetry F_X2_makeHedge F_X2_at (fun (x0 : Nat) (x1 : Int32) (x3 : Int32) (C : MC) (I : MI) (J : MJ) (R : MR) => ∃ m, m < n ∧ Q50 m K x0 x1 x3 C I J R) (fun (x0 : Nat) (x1 : Int32) (x2 : Int32) (x3 : Int32) (C : MC) (I : MI) (J : MJ) (R : MR) => ∃ m, m < n ∧ Q117 m K x0 x1 x2 x3 C I J R) K x0 x1 x2 x3 C I J R) : SpX2_make l F := by
  refine Spec.of (by rfl) ?_
  intro Γ C I J R As Gd gl gr _ _ gb hF
  subst gl
  have G : Gb Γ yX2_make cX2_make 8 (none) [] rmX2_make bdX2_make := ⟨Gd, gr, gb⟩
  have key : ∀ n : Nat, (∀ (x0 : Nat) (x1 : Int32) (x3 : Int32) (C : MC) (I : MI) (J : MJ) (R : MR), Q50 n (gK Γ) x0 x1 x3 C I J R → AW Γ 0 0 C I J R 50 [(0, aR (some x0)), (1, aI x1), (3, aI x3)] []) ∧ (∀ (x0 : Nat) (x1 : Int32) (x2 : Int32) (x3 : Int32) (C : MC) (I : MI) (J : MJ) (R : MR), Q117 n (gK Γ) x0 x1 x2 x3 C I J R → AW Γ 0 0 C I J R 117 [(0, aR (some x0)), (1, aI x1), (2, aI x2), (3, aI x3)] []) := by
    intro n
    induction n using Nat.strongRecOn with
    | ind n ih =>
    have w50 : ∀ (x0 : Nat) (x1 : Int32) (x3 : Int32) (C : MC) (I : MI) (J : MJ) (R : MR), (∃ m, m < n ∧ Q50 m (gK Γ) x0 x1 x3 C I J R) → AW Γ 0 0 C I J R 50 [(0, aR (some x0)), (1, aI x1), (3, aI x3)] [] := fun x0 x1 x3 C I J R ⟨m, hm, hq⟩ => (ih m hm).1 x0 x1 x3 C I J R hq
    have w117 : ∀ (x0 : Nat) (x1 : Int32) (x2 : Int32) (x3 : Int32) (C : MC) (I : MI) (J : MJ) (R : MR), (∃ m, m < n ∧ Q117 m (gK Γ) x0 x1 x2 x3 C I J R) → AW Γ 0 0 C I J R 117 [(0, aR (some x0)), (1, aI x1), (2, aI x2), (3, aI x3)] [] := fun x0 x1 x2 x3 C I J R ⟨m, hm, hq⟩ => (ih m hm).2 x0 x1 x2 x3 C I J R hq
    have w200 : ∀ (x0 : Nat) (x1 : Int32) (x2 : Int32) (x3 : Int32) (x4 : Int64) (s0 : Int64) (C : MC) (I : MI) (J : MJ) (R : MR), PX2_make_200 F_X2_makeRow F_X2_makeFan F_X2_makeRetry F_X2_makeHedge F_X2_at (fun (x0 : Nat) (x1 : Int32) (x3 : Int32) (C : MC) (I : MI) (J : MJ) (R : MR) => ∃ m, m < n ∧ Q50 m (gK Γ) x0 x1 x3 C I J R) (fun (x0 : Nat) (x1 : Int32) (x2 : Int32) (x3 : Int32) (C : MC) (I : MI) (J : MJ) (R : MR) => ∃ m, m < n ∧ Q117 m (gK Γ) x0 x1 x2 x3 C I J R) (gK Γ) x0 x1 x2 x3 x4 s0 C I J R → AW Γ 0 0 C I J R 200 [(0, aR (some x0)), (1, aI x1), (2, aI x2), (3, aI x3), (4, aJ x4)] [aJ s0] := fun x0 x1 x2 x3 x4 s0 C I J R h => bX2_make_200 G w117 h
    have w162 : ∀ (x0 : Nat) (x1 : Int32) (x2 : Int32) (x3 : Int32) (s0 : Int64) (C : MC) (I : MI) (J : MJ) (R : MR), PX2_make_162 F_X2_makeRow F_X2_makeFan F_X2_makeRetry F_X2_makeHedge F_X2_at (fun (x0 : Nat) (x1 : Int32) (x3 : Int32) (C : MC) (I : MI) (J : MJ) (R : MR) => ∃ m, m < n ∧ Q50 m (gK Γ) x0 x1 x3 C I J R) (fun (x0 : Nat) (x1 : Int32) (x2 : Int32) (x3 : Int32) (C : MC) (I : MI) (J : MJ) (R : MR) => ∃ m, m < n ∧ Q117 m (gK Γ) x0 x1 x2 x3 C I J R) (gK Γ) x0 x1 x2 x3 s0 C I J R → AW Γ 0 0 C I J R 162 [(0, aR (some x0)), (1, aI x1), (2, aI x2), (3, aI x3)] [aJ s0] := fun x0 x1 x2 x3 s0 C I J R h => bX2_make_162 G S_X2_at w200 h
    exact ⟨fun x0 x1 x3 C I J R h => bX2_make_50 G w50 (h50 n (gK Γ) x0 x1 x3 C I J R h), fun x0 x1 x2 x3 C I J R h => bX2_make_117 G S_X2_at w162 (h117 n (gK Γ) x0 x1 x2 x3 C I J R h)⟩
  have w50 : ∀ (x0 : Nat) (x1 : Int32) (x3 : Int32) (C : MC) (I : MI) (J : MJ) (R : MR), (∃ n, Q50 n (gK Γ) x0 x1 x3 C I J R) → AW Γ 0 0 C I J R 50 [(0, aR (some x0)), (1, aI x1), (3, aI x3)] [] := fun x0 x1 x3 C I J R ⟨m, hq⟩ => (key m).1 x0 x1 x3 C I J R hq
  have w117 : ∀ (x0 : Nat) (x1 : Int32) (x2 : Int32) (x3 : Int32) (C : MC) (I : MI) (J : MJ) (R : MR), (∃ n, Q117 n (gK Γ) x0 x1 x2 x3 C I J R) → AW Γ 0 0 C I J R 117 [(0, aR (some x0)), (1, aI x1), (2, aI x2), (3, aI x3)] [] := fun x0 x1 x2 x3 C I J R ⟨m, hq⟩ => (key m).2 x0 x1 x2 x3 C I J R hq
  have w200 : ∀ (x0 : Nat) (x1 : Int32) (x2 : Int32) (x3 : Int32) (x4 : Int64) (s0 : Int64) (C : MC) (I : MI) (J : MJ) (R : MR), PX2_make_200 F_X2_makeRow F_X2_makeFan F_X2_makeRetry F_X2_makeHedge F_X2_at (fun (x0 : Nat) (x1 : Int32) (x3 : Int32) (C : MC) (I : MI) (J : MJ) (R : MR) => ∃ n, Q50 n (gK Γ) x0 x1 x3 C I J R) (fun (x0 : Nat) (x1 : Int32) (x2 : Int32) (x3 : Int32) (C : MC) (I : MI) (J : MJ) (R : MR) => ∃ n, Q117 n (gK Γ) x0 x1 x2 x3 C I J R) (gK Γ) x0 x1 x2 x3 x4 s0 C I J R → AW Γ 0 0 C I J R 200 [(0, aR (some x0)), (1, aI x1), (2, aI x2), (3, aI x3), (4, aJ x4)] [aJ s0] := fun x0 x1 x2 x3 x4 s0 C I J R h => bX2_make_200 G w117 h
  have w162 : ∀ (x0 : Nat) (x1 : Int32) (x2 : Int32) (x3 : Int32) (s0 : Int64) (C : MC) (I : MI) (J : MJ) (R : MR), PX2_make_162 F_X2_makeRow F_X2_makeFan F_X2_makeRetry F_X2_makeHedge F_X2_at (fun (x0 : Nat) (x1 : Int32) (x3 : Int32) (C : MC) (I : MI) (J : MJ) (R : MR) => ∃ n, Q50 n (gK Γ) x0 x1 x3 C I J R) (fun (x0 : Nat) (x1 : Int32) (x2 : Int32) (x3 : Int32) (C : MC) (I : MI) (J : MJ) (R : MR) => ∃ n, Q117 n (gK Γ) x0 x1 x2 x3 C I J R) (gK Γ) x0 x1 x2 x3 s0 C I J R → AW Γ 0 0 C I J R 162 [(0, aR (some x0)), (1, aI x1), (2, aI x2), (3, aI x3)] [aJ s0] := fun x0 x1 x2 x3 s0 C I J R h => bX2_make_162 G S_X2_at w200 h
  obtain ⟨x0, x1, rfl, h⟩ := h0 As C I J R (gK Γ) hF
  exact ⟨Nat.le_of_ble_eq_true rfl, bX2_make_0 G S_X2_makeRow S_X2_makeFan S_X2_makeRetry S_X2_makeHedge w50 w117 h⟩
def PX2_makeRow_258 (F_X2_clear : SPF) (F_X2_at : SPF) (Q17 : Nat → Int32 → Int32 → Int32 → MC → MI → MJ → MR → Prop) (Q59 : Nat → Int32 → Int32 → Int32 → Int32 → Int32 → MC → MI → MJ → MR → Prop) (Q95 : Nat → Int32 → Int32 → Int32 → Int32 → Int32 → MC → MI → MJ → MR → Prop) (Q121 : Nat → Int32 → Int32 → Int32 → Int32 → Int32 → Int32 → MC → MI → MJ → MR → Prop) (Q220 : Nat → Int32 → Int32 → Int32 → Int32 → MC → MI → MJ → MR → Prop) (Q258 : Nat → Int32 → MC → MI → MJ → MR → Prop) (K : AK) (x0 : Nat) (x3 : Int32) (C : MC) (I : MI) (J : MJ) (R : MR) : Prop :=
      (C x0).1 = 3 ∧
      ∃ q2 : Nat, R x0 26 = some q2 ∧
      (20 ≤ (C q2).1 ∧ (C q2).1 ≤ 30) ∧
      (((nI (C q2).2) ≤ x3 →
      K (.inl none) C I J R) ∧
      (¬ (nI (C q2).2) ≤ x3 →
      ∃ q5 : Nat, R x0 28 = some q5 ∧
      (C q5).1 = 21 ∧
      vp_in x3 (C q5).2 ∧
      (C q2).1 = 21 ∧
      vp_in x3 (C q2).2 ∧
      ∀ J10 : MJ, J10 = va_up J q2 (va_up (J q2) x3.toNatClampNeg (J q5 x3.toNatClampNeg)) →
      Q258 x0 (x3 + 1) C I J10 R))
def PX2_makeRow_256 (F_X2_clear : SPF) (F_X2_at : SPF) (Q17 : Nat → Int32 → Int32 → Int32 → MC → MI → MJ → MR → Prop) (Q59 : Nat → Int32 → Int32 → Int32 → Int32 → Int32 → MC → MI → MJ → MR → Prop) (Q95 : Nat → Int32 → Int32 → Int32 → Int32 → Int32 → MC → MI → MJ → MR → Prop) (Q121 : Nat → Int32 → Int32 → Int32 → Int32 → Int32 → Int32 → MC → MI → MJ → MR → Prop) (Q220 : Nat → Int32 → Int32 → Int32 → Int32 → MC → MI → MJ → MR → Prop) (Q258 : Nat → Int32 → MC → MI → MJ → MR → Prop) (K : AK) (x0 : Nat) (C : MC) (I : MI) (J : MJ) (R : MR) : Prop :=
      Q258 x0 (0 : Int32) C I J R
def PX2_makeRow_220 (F_X2_clear : SPF) (F_X2_at : SPF) (Q17 : Nat → Int32 → Int32 → Int32 → MC → MI → MJ → MR → Prop) (Q59 : Nat → Int32 → Int32 → Int32 → Int32 → Int32 → MC → MI → MJ → MR → Prop) (Q95 : Nat → Int32 → Int32 → Int32 → Int32 → Int32 → MC → MI → MJ → MR → Prop) (Q121 : Nat → Int32 → Int32 → Int32 → Int32 → Int32 → Int32 → MC → MI → MJ → MR → Prop) (Q220 : Nat → Int32 → Int32 → Int32 → Int32 → MC → MI → MJ → MR → Prop) (Q258 : Nat → Int32 → MC → MI → MJ → MR → Prop) (K : AK) (x0 : Nat) (x1 : Int32) (x2 : Int32) (x3 : Int32) (x5 : Int32) (C : MC) (I : MI) (J : MJ) (R : MR) : Prop :=
      (C x0).1 = 3 ∧
      ∃ q2 : Nat, R x0 28 = some q2 ∧
      (20 ≤ (C q2).1 ∧ (C q2).1 ≤ 30) ∧
      (((nI (C q2).2) ≤ x5 →
      Q17 x0 x1 x2 (x3 + 1) C I J R) ∧
      (¬ (nI (C q2).2) ≤ x5 →
      ∃ q5 : Nat, R x0 29 = some q5 ∧
      (C q5).1 = 21 ∧
      vp_in x5 (C q5).2 ∧
      (C q2).1 = 21 ∧
      vp_in x5 (C q2).2 ∧
      ∀ J10 : MJ, J10 = va_up J q2 (va_up (J q2) x5.toNatClampNeg (J q5 x5.toNatClampNeg)) →
      Q220 x0 x1 x2 x3 (x5 + 1) C I J10 R))
def PX2_makeRow_211 (F_X2_clear : SPF) (F_X2_at : SPF) (Q17 : Nat → Int32 → Int32 → Int32 → MC → MI → MJ → MR → Prop) (Q59 : Nat → Int32 → Int32 → Int32 → Int32 → Int32 → MC → MI → MJ → MR → Prop) (Q95 : Nat → Int32 → Int32 → Int32 → Int32 → Int32 → MC → MI → MJ → MR → Prop) (Q121 : Nat → Int32 → Int32 → Int32 → Int32 → Int32 → Int32 → MC → MI → MJ → MR → Prop) (Q220 : Nat → Int32 → Int32 → Int32 → Int32 → MC → MI → MJ → MR → Prop) (Q258 : Nat → Int32 → MC → MI → MJ → MR → Prop) (K : AK) (x0 : Nat) (x1 : Int32) (x2 : Int32) (x3 : Int32) (x4 : Int32) (x5 : Int32) (C : MC) (I : MI) (J : MJ) (R : MR) : Prop :=
      Q95 x0 x1 x2 x3 x4 (x5 + 1) C I J R
def PX2_makeRow_121 (F_X2_clear : SPF) (F_X2_at : SPF) (Q17 : Nat → Int32 → Int32 → Int32 → MC → MI → MJ → MR → Prop) (Q59 : Nat → Int32 → Int32 → Int32 → Int32 → Int32 → MC → MI → MJ → MR → Prop) (Q95 : Nat → Int32 → Int32 → Int32 → Int32 → Int32 → MC → MI → MJ → MR → Prop) (Q121 : Nat → Int32 → Int32 → Int32 → Int32 → Int32 → Int32 → MC → MI → MJ → MR → Prop) (Q220 : Nat → Int32 → Int32 → Int32 → Int32 → MC → MI → MJ → MR → Prop) (Q258 : Nat → Int32 → MC → MI → MJ → MR → Prop) (K : AK) (x0 : Nat) (x1 : Int32) (x2 : Int32) (x3 : Int32) (x4 : Int32) (x5 : Int32) (x6 : Int32) (C : MC) (I : MI) (J : MJ) (R : MR) : Prop :=
      (((121 : Int32) ≤ x6 →
      PX2_makeRow_211 F_X2_clear F_X2_at Q17 Q59 Q95 Q121 Q220 Q258 K x0 x1 x2 x3 x4 x5 C I J R) ∧
      (¬ (121 : Int32) ≤ x6 →
      (((600 : Int32) ≤ (x5 + x6) →
      PX2_makeRow_211 F_X2_clear F_X2_at Q17 Q59 Q95 Q121 Q220 Q258 K x0 x1 x2 x3 x4 x5 C I J R) ∧
      (¬ (600 : Int32) ≤ (x5 + x6) →
      (C x0).1 = 3 ∧
      ∃ q4 : Nat, R x0 29 = some q4 ∧
      (C q4).1 = 21 ∧
      vp_in (x5 + x6) (C q4).2 ∧
      ∃ q7 : Nat, R x0 28 = some q7 ∧
      (C q7).1 = 21 ∧
      vp_in x5 (C q7).2 ∧
      F_X2_at [aI x4, aI x6] C I J R (fun o C10 I11 J12 R13 =>
      ∃ r14 : Int32, o = .inl (some (aI r14)) ∧
      ∃ q15 : Nat, R x0 22 = some q15 ∧
      (C10 q15).1 = 21 ∧
      vp_in r14 (C10 q15).2 ∧
      (C10 q4).1 = 21 ∧
      vp_in (x5 + x6) (C10 q4).2 ∧
      ∀ J20 : MJ, J20 = va_up J12 q4 (va_up (J12 q4) (x5 + x6).toNatClampNeg ((J q4 (x5 + x6).toNatClampNeg) + ((J q7 x5.toNatClampNeg) * (J12 q15 r14.toNatClampNeg)))) →
      (C10 x0).1 = 3 ∧
      ∃ q22 : Nat, R13 x0 27 = some q22 ∧
      (C10 q22).1 = 21 ∧
      vp_in (x5 + x6) (C10 q22).2 ∧
      ∃ q25 : Nat, R13 x0 28 = some q25 ∧
      (C10 q25).1 = 21 ∧
      vp_in x5 (C10 q25).2 ∧
      F_X2_at [aI x4, aI x6] C10 I11 J20 R13 (fun o C28 I29 J30 R31 =>
      ∃ r32 : Int32, o = .inl (some (aI r32)) ∧
      ∃ q33 : Nat, R13 x0 23 = some q33 ∧
      (C28 q33).1 = 21 ∧
      vp_in r32 (C28 q33).2 ∧
      (C28 q22).1 = 21 ∧
      vp_in (x5 + x6) (C28 q22).2 ∧
      ∀ J38 : MJ, J38 = va_up J30 q22 (va_up (J30 q22) (x5 + x6).toNatClampNeg ((J20 q22 (x5 + x6).toNatClampNeg) + ((J20 q25 x5.toNatClampNeg) * (J30 q33 r32.toNatClampNeg)))) →
      Q121 x0 x1 x2 x3 x4 x5 (x6 + 1) C28 I29 J38 R31))))))
def PX2_makeRow_95 (F_X2_clear : SPF) (F_X2_at : SPF) (Q17 : Nat → Int32 → Int32 → Int32 → MC → MI → MJ → MR → Prop) (Q59 : Nat → Int32 → Int32 → Int32 → Int32 → Int32 → MC → MI → MJ → MR → Prop) (Q95 : Nat → Int32 → Int32 → Int32 → Int32 → Int32 → MC → MI → MJ → MR → Prop) (Q121 : Nat → Int32 → Int32 → Int32 → Int32 → Int32 → Int32 → MC → MI → MJ → MR → Prop) (Q220 : Nat → Int32 → Int32 → Int32 → Int32 → MC → MI → MJ → MR → Prop) (Q258 : Nat → Int32 → MC → MI → MJ → MR → Prop) (K : AK) (x0 : Nat) (x1 : Int32) (x2 : Int32) (x3 : Int32) (x4 : Int32) (x5 : Int32) (C : MC) (I : MI) (J : MJ) (R : MR) : Prop :=
      (((481 : Int32) ≤ x5 →
      Q220 x0 x1 x2 x3 (0 : Int32) C I J R) ∧
      (¬ (481 : Int32) ≤ x5 →
      (C x0).1 = 3 ∧
      ∃ q3 : Nat, R x0 28 = some q3 ∧
      (C q3).1 = 21 ∧
      vp_in x5 (C q3).2 ∧
      ((¬ (J q3 x5.toNatClampNeg) = (0 : Int64) →
      Q121 x0 x1 x2 x3 x4 x5 (0 : Int32) C I J R) ∧
      ((J q3 x5.toNatClampNeg) = (0 : Int64) →
      PX2_makeRow_211 F_X2_clear F_X2_at Q17 Q59 Q95 Q121 Q220 Q258 K x0 x1 x2 x3 x4 x5 C I J R))))
def PX2_makeRow_59 (F_X2_clear : SPF) (F_X2_at : SPF) (Q17 : Nat → Int32 → Int32 → Int32 → MC → MI → MJ → MR → Prop) (Q59 : Nat → Int32 → Int32 → Int32 → Int32 → Int32 → MC → MI → MJ → MR → Prop) (Q95 : Nat → Int32 → Int32 → Int32 → Int32 → Int32 → MC → MI → MJ → MR → Prop) (Q121 : Nat → Int32 → Int32 → Int32 → Int32 → Int32 → Int32 → MC → MI → MJ → MR → Prop) (Q220 : Nat → Int32 → Int32 → Int32 → Int32 → MC → MI → MJ → MR → Prop) (Q258 : Nat → Int32 → MC → MI → MJ → MR → Prop) (K : AK) (x0 : Nat) (x1 : Int32) (x2 : Int32) (x3 : Int32) (x4 : Int32) (x5 : Int32) (C : MC) (I : MI) (J : MJ) (R : MR) : Prop :=
      (C x0).1 = 3 ∧
      ∃ q2 : Nat, R x0 27 = some q2 ∧
      (20 ≤ (C q2).1 ∧ (C q2).1 ≤ 30) ∧
      (((nI (C q2).2) ≤ x5 →
      Q95 x0 x1 x2 x3 x4 (0 : Int32) C I J R) ∧
      (¬ (nI (C q2).2) ≤ x5 →
      (C q2).1 = 21 ∧
      vp_in x5 (C q2).2 ∧
      ∃ q7 : Nat, R x0 24 = some q7 ∧
      (C q7).1 = 21 ∧
      vp_in x4 (C q7).2 ∧
      ∀ J10 : MJ, J10 = va_up J q2 (va_up (J q2) x5.toNatClampNeg ((J q2 x5.toNatClampNeg) * (J q7 x4.toNatClampNeg))) →
      Q59 x0 x1 x2 x3 x4 (x5 + 1) C I J10 R))
def PX2_makeRow_17 (F_X2_clear : SPF) (F_X2_at : SPF) (Q17 : Nat → Int32 → Int32 → Int32 → MC → MI → MJ → MR → Prop) (Q59 : Nat → Int32 → Int32 → Int32 → Int32 → Int32 → MC → MI → MJ → MR → Prop) (Q95 : Nat → Int32 → Int32 → Int32 → Int32 → Int32 → MC → MI → MJ → MR → Prop) (Q121 : Nat → Int32 → Int32 → Int32 → Int32 → Int32 → Int32 → MC → MI → MJ → MR → Prop) (Q220 : Nat → Int32 → Int32 → Int32 → Int32 → MC → MI → MJ → MR → Prop) (Q258 : Nat → Int32 → MC → MI → MJ → MR → Prop) (K : AK) (x0 : Nat) (x1 : Int32) (x2 : Int32) (x3 : Int32) (C : MC) (I : MI) (J : MJ) (R : MR) : Prop :=
      ((x2 ≤ x3 →
      PX2_makeRow_256 F_X2_clear F_X2_at Q17 Q59 Q95 Q121 Q220 Q258 K x0 C I J R) ∧
      (¬ x2 ≤ x3 →
      (C x0).1 = 3 ∧
      ∃ q3 : Nat, R x0 8 = some q3 ∧
      (C q3).1 = 20 ∧
      vp_in (((4 : Int32) * x1) + x3) (C q3).2 ∧
      (((I q3 (((4 : Int32) * x1) + x3).toNatClampNeg) = (-1 : Int32) →
      PX2_makeRow_256 F_X2_clear F_X2_at Q17 Q59 Q95 Q121 Q220 Q258 K x0 C I J R) ∧
      (¬ (I q3 (((4 : Int32) * x1) + x3).toNatClampNeg) = (-1 : Int32) →
      F_X2_clear [aR (some x0), aR (R x0 29)] C I J R (fun o C7 I8 J9 R10 =>
      o = .inl none ∧
      Q59 x0 x1 x2 x3 (I q3 (((4 : Int32) * x1) + x3).toNatClampNeg) (0 : Int32) C7 I8 J9 R10)))))
def PX2_makeRow_0 (F_X2_clear : SPF) (F_X2_at : SPF) (Q17 : Nat → Int32 → Int32 → Int32 → MC → MI → MJ → MR → Prop) (Q59 : Nat → Int32 → Int32 → Int32 → Int32 → Int32 → MC → MI → MJ → MR → Prop) (Q95 : Nat → Int32 → Int32 → Int32 → Int32 → Int32 → MC → MI → MJ → MR → Prop) (Q121 : Nat → Int32 → Int32 → Int32 → Int32 → Int32 → Int32 → MC → MI → MJ → MR → Prop) (Q220 : Nat → Int32 → Int32 → Int32 → Int32 → MC → MI → MJ → MR → Prop) (Q258 : Nat → Int32 → MC → MI → MJ → MR → Prop) (K : AK) (x0 : Nat) (x1 : Int32) (x2 : Int32) (C : MC) (I : MI) (J : MJ) (R : MR) : Prop :=
      (C x0).1 = 3 ∧
      F_X2_clear [aR (some x0), aR (R x0 28)] C I J R (fun o C2 I3 J4 R5 =>
      o = .inl none ∧
      (C2 x0).1 = 3 ∧
      ∃ q8 : Nat, R5 x0 28 = some q8 ∧
      (C2 q8).1 = 21 ∧
      vp_in (0 : Int32) (C2 q8).2 ∧
      ∀ J11 : MJ, J11 = va_up J4 q8 (va_up (J4 q8) (0 : Int32).toNatClampNeg (1 : Int64)) →
      Q17 x0 x1 x2 (0 : Int32) C2 I3 J11 R5)
theorem wX2_makeRow {l : Launch}  {F_X2_clear : SPF} (S_X2_clear : SpX2_clear l F_X2_clear) {F_X2_at : SPF} (S_X2_at : SpX2_at l F_X2_at)
    (Q17 : Nat → AK → Nat → Int32 → Int32 → Int32 → MC → MI → MJ → MR → Prop)
    (Q59 : Nat → AK → Nat → Int32 → Int32 → Int32 → Int32 → Int32 → MC → MI → MJ → MR → Prop)
    (Q95 : Nat → AK → Nat → Int32 → Int32 → Int32 → Int32 → Int32 → MC → MI → MJ → MR → Prop)
    (Q121 : Nat → AK → Nat → Int32 → Int32 → Int32 → Int32 → Int32 → Int32 → MC → MI → MJ → MR → Prop)
    (Q220 : Nat → AK → Nat → Int32 → Int32 → Int32 → Int32 → MC → MI → MJ → MR → Prop)
    (Q258 : Nat → AK → Nat → Int32 → MC → MI → MJ → MR → Prop) {F : SPF}
    (h0 : ∀ (As : List AV) (C : MC) (I : MI) (J : MJ) (R : MR) (K : AK), F As C I J R K → ∃ (x0 : Nat) (x1 : Int32) (x2 : Int32), As = [aR (some x0), aI x1, aI x2] ∧ PX2_makeRow_0 F_X2_clear F_X2_at (fun (x0 : Nat) (x1 : Int32) (x2 : Int32) (x3 : Int32) (C : MC) (I : MI) (J : MJ) (R : MR) => ∃ n, Q17 n K x0 x1 x2 x3 C I J R) (fun (x0 : Nat) (x1 : Int32) (x2 : Int32) (x3 : Int32) (x4 : Int32) (x5 : Int32) (C : MC) (I : MI) (J : MJ) (R : MR) => ∃ n, Q59 n K x0 x1 x2 x3 x4 x5 C I J R) (fun (x0 : Nat) (x1 : Int32) (x2 : Int32) (x3 : Int32) (x4 : Int32) (x5 : Int32) (C : MC) (I : MI) (J : MJ) (R : MR) => ∃ n, Q95 n K x0 x1 x2 x3 x4 x5 C I J R) (fun (x0 : Nat) (x1 : Int32) (x2 : Int32) (x3 : Int32) (x4 : Int32) (x5 : Int32) (x6 : Int32) (C : MC) (I : MI) (J : MJ) (R : MR) => ∃ n, Q121 n K x0 x1 x2 x3 x4 x5 x6 C I J R) (fun (x0 : Nat) (x1 : Int32) (x2 : Int32) (x3 : Int32) (x5 : Int32) (C : MC) (I : MI) (J : MJ) (R : MR) => ∃ n, Q220 n K x0 x1 x2 x3 x5 C I J R) (fun (x0 : Nat) (x3 : Int32) (C : MC) (I : MI) (J : MJ) (R : MR) => ∃ n, Q258 n K x0 x3 C I J R) K x0 x1 x2 C I J R)
    (h17 : ∀ (n : Nat) (K : AK) (x0 : Nat) (x1 : Int32) (x2 : Int32) (x3 : Int32) (C : MC) (I : MI) (J : MJ) (R : MR), Q17 n K x0 x1 x2 x3 C I J R → PX2_makeRow_17 F_X2_clear F_X2_at (fun (x0 : Nat) (x1 : Int32) (x2 : Int32) (x3 : Int32) (C : MC) (I : MI) (J : MJ) (R : MR) => ∃ m, m < n ∧ Q17 m K x0 x1 x2 x3 C I J R) (fun (x0 : Nat) (x1 : Int32) (x2 : Int32) (x3 : Int32) (x4 : Int32) (x5 : Int32) (C : MC) (I : MI) (J : MJ) (R : MR) => ∃ m, m < n ∧ Q59 m K x0 x1 x2 x3 x4 x5 C I J R) (fun (x0 : Nat) (x1 : Int32) (x2 : Int32) (x3 : Int32) (x4 : Int32) (x5 : Int32) (C : MC) (I : MI) (J : MJ) (R : MR) => ∃ m, m < n ∧ Q95 m K x0 x1 x2 x3 x4 x5 C I J R) (fun (x0 : Nat) (x1 : Int32) (x2 : Int32) (x3 : Int32) (x4 : Int32) (x5 : Int32) (x6 : Int32) (C : MC) (I : MI) (J : MJ) (R : MR) => ∃ m, m < n ∧ Q121 m K x0 x1 x2 x3 x4 x5 x6 C I J R) (fun (x0 : Nat) (x1 : Int32) (x2 : Int32) (x3 : Int32) (x5 : Int32) (C : MC) (I : MI) (J : MJ) (R : MR) => ∃ m, m < n ∧ Q220 m K x0 x1 x2 x3 x5 C I J R) (fun (x0 : Nat) (x3 : Int32) (C : MC) (I : MI) (J : MJ) (R : MR) => ∃ m, m < n ∧ Q258 m K x0 x3 C I J R) K x0 x1 x2 x3 C I J R)
    (h59 : ∀ (n : Nat) (K : AK) (x0 : Nat) (x1 : Int32) (x2 : Int32) (x3 : Int32) (x4 : Int32) (x5 : Int32) (C : MC) (I : MI) (J : MJ) (R : MR), Q59 n K x0 x1 x2 x3 x4 x5 C I J R → PX2_makeRow_59 F_X2_clear F_X2_at (fun (x0 : Nat) (x1 : Int32) (x2 : Int32) (x3 : Int32) (C : MC) (I : MI) (J : MJ) (R : MR) => ∃ m, m < n ∧ Q17 m K x0 x1 x2 x3 C I J R) (fun (x0 : Nat) (x1 : Int32) (x2 : Int32) (x3 : Int32) (x4 : Int32) (x5 : Int32) (C : MC) (I : MI) (J : MJ) (R : MR) => ∃ m, m < n ∧ Q59 m K x0 x1 x2 x3 x4 x5 C I J R) (fun (x0 : Nat) (x1 : Int32) (x2 : Int32) (x3 : Int32) (x4 : Int32) (x5 : Int32) (C : MC) (I : MI) (J : MJ) (R : MR) => ∃ m, m < n ∧ Q95 m K x0 x1 x2 x3 x4 x5 C I J R) (fun (x0 : Nat) (x1 : Int32) (x2 : Int32) (x3 : Int32) (x4 : Int32) (x5 : Int32) (x6 : Int32) (C : MC) (I : MI) (J : MJ) (R : MR) => ∃ m, m < n ∧ Q121 m K x0 x1 x2 x3 x4 x5 x6 C I J R) (fun (x0 : Nat) (x1 : Int32) (x2 : Int32) (x3 : Int32) (x5 : Int32) (C : MC) (I : MI) (J : MJ) (R : MR) => ∃ m, m < n ∧ Q220 m K x0 x1 x2 x3 x5 C I J R) (fun (x0 : Nat) (x3 : Int32) (C : MC) (I : MI) (J : MJ) (R : MR) => ∃ m, m < n ∧ Q258 m K x0 x3 C I J R) K x0 x1 x2 x3 x4 x5 C I J R)
    (h95 : ∀ (n : Nat) (K : AK) (x0 : Nat) (x1 : Int32) (x2 : Int32) (x3 : Int32) (x4 : Int32) (x5 : Int32) (C : MC) (I : MI) (J : MJ) (R : MR), Q95 n K x0 x1 x2 x3 x4 x5 C I J R → PX2_makeRow_95 F_X2_clear F_X2_at (fun (x0 : Nat) (x1 : Int32) (x2 : Int32) (x3 : Int32) (C : MC) (I : MI) (J : MJ) (R : MR) => ∃ m, m < n ∧ Q17 m K x0 x1 x2 x3 C I J R) (fun (x0 : Nat) (x1 : Int32) (x2 : Int32) (x3 : Int32) (x4 : Int32) (x5 : Int32) (C : MC) (I : MI) (J : MJ) (R : MR) => ∃ m, m < n ∧ Q59 m K x0 x1 x2 x3 x4 x5 C I J R) (fun (x0 : Nat) (x1 : Int32) (x2 : Int32) (x3 : Int32) (x4 : Int32) (x5 : Int32) (C : MC) (I : MI) (J : MJ) (R : MR) => ∃ m, m < n ∧ Q95 m K x0 x1 x2 x3 x4 x5 C I J R) (fun (x0 : Nat) (x1 : Int32) (x2 : Int32) (x3 : Int32) (x4 : Int32) (x5 : Int32) (x6 : Int32) (C : MC) (I : MI) (J : MJ) (R : MR) => ∃ m, m < n ∧ Q121 m K x0 x1 x2 x3 x4 x5 x6 C I J R) (fun (x0 : Nat) (x1 : Int32) (x2 : Int32) (x3 : Int32) (x5 : Int32) (C : MC) (I : MI) (J : MJ) (R : MR) => ∃ m, m < n ∧ Q220 m K x0 x1 x2 x3 x5 C I J R) (fun (x0 : Nat) (x3 : Int32) (C : MC) (I : MI) (J : MJ) (R : MR) => ∃ m, m < n ∧ Q258 m K x0 x3 C I J R) K x0 x1 x2 x3 x4 x5 C I J R)
    (h121 : ∀ (n : Nat) (K : AK) (x0 : Nat) (x1 : Int32) (x2 : Int32) (x3 : Int32) (x4 : Int32) (x5 : Int32) (x6 : Int32) (C : MC) (I : MI) (J : MJ) (R : MR), Q121 n K x0 x1 x2 x3 x4 x5 x6 C I J R → PX2_makeRow_121 F_X2_clear F_X2_at (fun (x0 : Nat) (x1 : Int32) (x2 : Int32) (x3 : Int32) (C : MC) (I : MI) (J : MJ) (R : MR) => ∃ m, m < n ∧ Q17 m K x0 x1 x2 x3 C I J R) (fun (x0 : Nat) (x1 : Int32) (x2 : Int32) (x3 : Int32) (x4 : Int32) (x5 : Int32) (C : MC) (I : MI) (J : MJ) (R : MR) => ∃ m, m < n ∧ Q59 m K x0 x1 x2 x3 x4 x5 C I J R) (fun (x0 : Nat) (x1 : Int32) (x2 : Int32) (x3 : Int32) (x4 : Int32) (x5 : Int32) (C : MC) (I : MI) (J : MJ) (R : MR) => ∃ m, m < n ∧ Q95 m K x0 x1 x2 x3 x4 x5 C I J R) (fun (x0 : Nat) (x1 : Int32) (x2 : Int32) (x3 : Int32) (x4 : Int32) (x5 : Int32) (x6 : Int32) (C : MC) (I : MI) (J : MJ) (R : MR) => ∃ m, m < n ∧ Q121 m K x0 x1 x2 x3 x4 x5 x6 C I J R) (fun (x0 : Nat) (x1 : Int32) (x2 : Int32) (x3 : Int32) (x5 : Int32) (C : MC) (I : MI) (J : MJ) (R : MR) => ∃ m, m < n ∧ Q220 m K x0 x1 x2 x3 x5 C I J R) (fun (x0 : Nat) (x3 : Int32) (C : MC) (I : MI) (J : MJ) (R : MR) => ∃ m, m < n ∧ Q258 m K x0 x3 C I J R) K x0 x1 x2 x3 x4 x5 x6 C I J R)
    (h220 : ∀ (n : Nat) (K : AK) (x0 : Nat) (x1 : Int32) (x2 : Int32) (x3 : Int32) (x5 : Int32) (C : MC) (I : MI) (J : MJ) (R : MR), Q220 n K x0 x1 x2 x3 x5 C I J R → PX2_makeRow_220 F_X2_clear F_X2_at (fun (x0 : Nat) (x1 : Int32) (x2 : Int32) (x3 : Int32) (C : MC) (I : MI) (J : MJ) (R : MR) => ∃ m, m < n ∧ Q17 m K x0 x1 x2 x3 C I J R) (fun (x0 : Nat) (x1 : Int32) (x2 : Int32) (x3 : Int32) (x4 : Int32) (x5 : Int32) (C : MC) (I : MI) (J : MJ) (R : MR) => ∃ m, m < n ∧ Q59 m K x0 x1 x2 x3 x4 x5 C I J R) (fun (x0 : Nat) (x1 : Int32) (x2 : Int32) (x3 : Int32) (x4 : Int32) (x5 : Int32) (C : MC) (I : MI) (J : MJ) (R : MR) => ∃ m, m < n ∧ Q95 m K x0 x1 x2 x3 x4 x5 C I J R) (fun (x0 : Nat) (x1 : Int32) (x2 : Int32) (x3 : Int32) (x4 : Int32) (x5 : Int32) (x6 : Int32) (C : MC) (I : MI) (J : MJ) (R : MR) => ∃ m, m < n ∧ Q121 m K x0 x1 x2 x3 x4 x5 x6 C I J R) (fun (x0 : Nat) (x1 : Int32) (x2 : Int32) (x3 : Int32) (x5 : Int32) (C : MC) (I : MI) (J : MJ) (R : MR) => ∃ m, m < n ∧ Q220 m K x0 x1 x2 x3 x5 C I J R) (fun (x0 : Nat) (x3 : Int32) (C : MC) (I : MI) (J : MJ) (R : MR) => ∃ m, m < n ∧ Q258 m K x0 x3 C I J R) K x0 x1 x2 x3 x5 C I J R)
    (h258 : ∀ (n : Nat) (K : AK) (x0 : Nat) (x3 : Int32) (C : MC) (I : MI) (J : MJ) (R : MR), Q258 n K x0 x3 C I J R → PX2_makeRow_258 F_X2_clear F_X2_at (fun (x0 : Nat) (x1 : Int32) (x2 : Int32) (x3 : Int32) (C : MC) (I : MI) (J : MJ) (R : MR) => ∃ m, m < n ∧ Q17 m K x0 x1 x2 x3 C I J R) (fun (x0 : Nat) (x1 : Int32) (x2 : Int32) (x3 : Int32) (x4 : Int32) (x5 : Int32) (C : MC) (I : MI) (J : MJ) (R : MR) => ∃ m, m < n ∧ Q59 m K x0 x1 x2 x3 x4 x5 C I J R) (fun (x0 : Nat) (x1 : Int32) (x2 : Int32) (x3 : Int32) (x4 : Int32) (x5 : Int32) (C : MC) (I : MI) (J : MJ) (R : MR) => ∃ m, m < n ∧ Q95 m K x0 x1 x2 x3 x4 x5 C I J R) (fun (x0 : Nat) (x1 : Int32) (x2 : Int32) (x3 : Int32) (x4 : Int32) (x5 : Int32) (x6 : Int32) (C : MC) (I : MI) (J : MJ) (R : MR) => ∃ m, m < n ∧ Q121 m K x0 x1 x2 x3 x4 x5 x6 C I J R) (fun (x0 : Nat) (x1 : Int32) (x2 : Int32) (x3 : Int32) (x5 : Int32) (C : MC) (I : MI) (J : MJ) (R : MR) => ∃ m, m < n ∧ Q220 m K x0 x1 x2 x3 x5 C I J R) (fun (x0 : Nat) (x3 : Int32) (C : MC) (I : MI) (J : MJ) (R : MR) => ∃ m, m < n ∧ Q258 m K x0 x3 C I J R) K x0 x3 C I J R) : SpX2_makeRow l F := by
  refine Spec.of (by rfl) ?_
  intro Γ C I J R As Gd gl gr _ _ gb hF
  subst gl
  have G : Gb Γ yX2_makeRow cX2_makeRow 7 (none) [] rmX2_makeRow bdX2_makeRow := ⟨Gd, gr, gb⟩
  have key : ∀ n : Nat, (∀ (x0 : Nat) (x1 : Int32) (x2 : Int32) (x3 : Int32) (C : MC) (I : MI) (J : MJ) (R : MR), Q17 n (gK Γ) x0 x1 x2 x3 C I J R → AW Γ 0 0 C I J R 17 [(0, aR (some x0)), (1, aI x1), (2, aI x2), (3, aI x3)] []) ∧ (∀ (x0 : Nat) (x1 : Int32) (x2 : Int32) (x3 : Int32) (x4 : Int32) (x5 : Int32) (C : MC) (I : MI) (J : MJ) (R : MR), Q59 n (gK Γ) x0 x1 x2 x3 x4 x5 C I J R → AW Γ 0 0 C I J R 59 [(0, aR (some x0)), (1, aI x1), (2, aI x2), (3, aI x3), (4, aI x4), (5, aI x5)] []) ∧ (∀ (x0 : Nat) (x1 : Int32) (x2 : Int32) (x3 : Int32) (x4 : Int32) (x5 : Int32) (C : MC) (I : MI) (J : MJ) (R : MR), Q95 n (gK Γ) x0 x1 x2 x3 x4 x5 C I J R → AW Γ 0 0 C I J R 95 [(0, aR (some x0)), (1, aI x1), (2, aI x2), (3, aI x3), (4, aI x4), (5, aI x5)] []) ∧ (∀ (x0 : Nat) (x1 : Int32) (x2 : Int32) (x3 : Int32) (x4 : Int32) (x5 : Int32) (x6 : Int32) (C : MC) (I : MI) (J : MJ) (R : MR), Q121 n (gK Γ) x0 x1 x2 x3 x4 x5 x6 C I J R → AW Γ 0 0 C I J R 121 [(0, aR (some x0)), (1, aI x1), (2, aI x2), (3, aI x3), (4, aI x4), (5, aI x5), (6, aI x6)] []) ∧ (∀ (x0 : Nat) (x1 : Int32) (x2 : Int32) (x3 : Int32) (x5 : Int32) (C : MC) (I : MI) (J : MJ) (R : MR), Q220 n (gK Γ) x0 x1 x2 x3 x5 C I J R → AW Γ 0 0 C I J R 220 [(0, aR (some x0)), (1, aI x1), (2, aI x2), (3, aI x3), (5, aI x5)] []) ∧ (∀ (x0 : Nat) (x3 : Int32) (C : MC) (I : MI) (J : MJ) (R : MR), Q258 n (gK Γ) x0 x3 C I J R → AW Γ 0 0 C I J R 258 [(0, aR (some x0)), (3, aI x3)] []) := by
    intro n
    induction n using Nat.strongRecOn with
    | ind n ih =>
    have w17 : ∀ (x0 : Nat) (x1 : Int32) (x2 : Int32) (x3 : Int32) (C : MC) (I : MI) (J : MJ) (R : MR), (∃ m, m < n ∧ Q17 m (gK Γ) x0 x1 x2 x3 C I J R) → AW Γ 0 0 C I J R 17 [(0, aR (some x0)), (1, aI x1), (2, aI x2), (3, aI x3)] [] := fun x0 x1 x2 x3 C I J R ⟨m, hm, hq⟩ => (ih m hm).1 x0 x1 x2 x3 C I J R hq
    have w59 : ∀ (x0 : Nat) (x1 : Int32) (x2 : Int32) (x3 : Int32) (x4 : Int32) (x5 : Int32) (C : MC) (I : MI) (J : MJ) (R : MR), (∃ m, m < n ∧ Q59 m (gK Γ) x0 x1 x2 x3 x4 x5 C I J R) → AW Γ 0 0 C I J R 59 [(0, aR (some x0)), (1, aI x1), (2, aI x2), (3, aI x3), (4, aI x4), (5, aI x5)] [] := fun x0 x1 x2 x3 x4 x5 C I J R ⟨m, hm, hq⟩ => (ih m hm).2.1 x0 x1 x2 x3 x4 x5 C I J R hq
    have w95 : ∀ (x0 : Nat) (x1 : Int32) (x2 : Int32) (x3 : Int32) (x4 : Int32) (x5 : Int32) (C : MC) (I : MI) (J : MJ) (R : MR), (∃ m, m < n ∧ Q95 m (gK Γ) x0 x1 x2 x3 x4 x5 C I J R) → AW Γ 0 0 C I J R 95 [(0, aR (some x0)), (1, aI x1), (2, aI x2), (3, aI x3), (4, aI x4), (5, aI x5)] [] := fun x0 x1 x2 x3 x4 x5 C I J R ⟨m, hm, hq⟩ => (ih m hm).2.2.1 x0 x1 x2 x3 x4 x5 C I J R hq
    have w121 : ∀ (x0 : Nat) (x1 : Int32) (x2 : Int32) (x3 : Int32) (x4 : Int32) (x5 : Int32) (x6 : Int32) (C : MC) (I : MI) (J : MJ) (R : MR), (∃ m, m < n ∧ Q121 m (gK Γ) x0 x1 x2 x3 x4 x5 x6 C I J R) → AW Γ 0 0 C I J R 121 [(0, aR (some x0)), (1, aI x1), (2, aI x2), (3, aI x3), (4, aI x4), (5, aI x5), (6, aI x6)] [] := fun x0 x1 x2 x3 x4 x5 x6 C I J R ⟨m, hm, hq⟩ => (ih m hm).2.2.2.1 x0 x1 x2 x3 x4 x5 x6 C I J R hq
    have w220 : ∀ (x0 : Nat) (x1 : Int32) (x2 : Int32) (x3 : Int32) (x5 : Int32) (C : MC) (I : MI) (J : MJ) (R : MR), (∃ m, m < n ∧ Q220 m (gK Γ) x0 x1 x2 x3 x5 C I J R) → AW Γ 0 0 C I J R 220 [(0, aR (some x0)), (1, aI x1), (2, aI x2), (3, aI x3), (5, aI x5)] [] := fun x0 x1 x2 x3 x5 C I J R ⟨m, hm, hq⟩ => (ih m hm).2.2.2.2.1 x0 x1 x2 x3 x5 C I J R hq
    have w258 : ∀ (x0 : Nat) (x3 : Int32) (C : MC) (I : MI) (J : MJ) (R : MR), (∃ m, m < n ∧ Q258 m (gK Γ) x0 x3 C I J R) → AW Γ 0 0 C I J R 258 [(0, aR (some x0)), (3, aI x3)] [] := fun x0 x3 C I J R ⟨m, hm, hq⟩ => (ih m hm).2.2.2.2.2 x0 x3 C I J R hq
    have w256 : ∀ (x0 : Nat) (C : MC) (I : MI) (J : MJ) (R : MR), PX2_makeRow_256 F_X2_clear F_X2_at (fun (x0 : Nat) (x1 : Int32) (x2 : Int32) (x3 : Int32) (C : MC) (I : MI) (J : MJ) (R : MR) => ∃ m, m < n ∧ Q17 m (gK Γ) x0 x1 x2 x3 C I J R) (fun (x0 : Nat) (x1 : Int32) (x2 : Int32) (x3 : Int32) (x4 : Int32) (x5 : Int32) (C : MC) (I : MI) (J : MJ) (R : MR) => ∃ m, m < n ∧ Q59 m (gK Γ) x0 x1 x2 x3 x4 x5 C I J R) (fun (x0 : Nat) (x1 : Int32) (x2 : Int32) (x3 : Int32) (x4 : Int32) (x5 : Int32) (C : MC) (I : MI) (J : MJ) (R : MR) => ∃ m, m < n ∧ Q95 m (gK Γ) x0 x1 x2 x3 x4 x5 C I J R) (fun (x0 : Nat) (x1 : Int32) (x2 : Int32) (x3 : Int32) (x4 : Int32) (x5 : Int32) (x6 : Int32) (C : MC) (I : MI) (J : MJ) (R : MR) => ∃ m, m < n ∧ Q121 m (gK Γ) x0 x1 x2 x3 x4 x5 x6 C I J R) (fun (x0 : Nat) (x1 : Int32) (x2 : Int32) (x3 : Int32) (x5 : Int32) (C : MC) (I : MI) (J : MJ) (R : MR) => ∃ m, m < n ∧ Q220 m (gK Γ) x0 x1 x2 x3 x5 C I J R) (fun (x0 : Nat) (x3 : Int32) (C : MC) (I : MI) (J : MJ) (R : MR) => ∃ m, m < n ∧ Q258 m (gK Γ) x0 x3 C I J R) (gK Γ) x0 C I J R → AW Γ 0 0 C I J R 256 [(0, aR (some x0))] [] := fun x0 C I J R h => bX2_makeRow_256 G w258 h
    have w211 : ∀ (x0 : Nat) (x1 : Int32) (x2 : Int32) (x3 : Int32) (x4 : Int32) (x5 : Int32) (C : MC) (I : MI) (J : MJ) (R : MR), PX2_makeRow_211 F_X2_clear F_X2_at (fun (x0 : Nat) (x1 : Int32) (x2 : Int32) (x3 : Int32) (C : MC) (I : MI) (J : MJ) (R : MR) => ∃ m, m < n ∧ Q17 m (gK Γ) x0 x1 x2 x3 C I J R) (fun (x0 : Nat) (x1 : Int32) (x2 : Int32) (x3 : Int32) (x4 : Int32) (x5 : Int32) (C : MC) (I : MI) (J : MJ) (R : MR) => ∃ m, m < n ∧ Q59 m (gK Γ) x0 x1 x2 x3 x4 x5 C I J R) (fun (x0 : Nat) (x1 : Int32) (x2 : Int32) (x3 : Int32) (x4 : Int32) (x5 : Int32) (C : MC) (I : MI) (J : MJ) (R : MR) => ∃ m, m < n ∧ Q95 m (gK Γ) x0 x1 x2 x3 x4 x5 C I J R) (fun (x0 : Nat) (x1 : Int32) (x2 : Int32) (x3 : Int32) (x4 : Int32) (x5 : Int32) (x6 : Int32) (C : MC) (I : MI) (J : MJ) (R : MR) => ∃ m, m < n ∧ Q121 m (gK Γ) x0 x1 x2 x3 x4 x5 x6 C I J R) (fun (x0 : Nat) (x1 : Int32) (x2 : Int32) (x3 : Int32) (x5 : Int32) (C : MC) (I : MI) (J : MJ) (R : MR) => ∃ m, m < n ∧ Q220 m (gK Γ) x0 x1 x2 x3 x5 C I J R) (fun (x0 : Nat) (x3 : Int32) (C : MC) (I : MI) (J : MJ) (R : MR) => ∃ m, m < n ∧ Q258 m (gK Γ) x0 x3 C I J R) (gK Γ) x0 x1 x2 x3 x4 x5 C I J R → AW Γ 0 0 C I J R 211 [(0, aR (some x0)), (1, aI x1), (2, aI x2), (3, aI x3), (4, aI x4), (5, aI x5)] [] := fun x0 x1 x2 x3 x4 x5 C I J R h => bX2_makeRow_211 G w95 h
    exact ⟨fun x0 x1 x2 x3 C I J R h => bX2_makeRow_17 G S_X2_clear w59 w256 (h17 n (gK Γ) x0 x1 x2 x3 C I J R h), fun x0 x1 x2 x3 x4 x5 C I J R h => bX2_makeRow_59 G w59 w95 (h59 n (gK Γ) x0 x1 x2 x3 x4 x5 C I J R h), fun x0 x1 x2 x3 x4 x5 C I J R h => bX2_makeRow_95 G w121 w211 w220 (h95 n (gK Γ) x0 x1 x2 x3 x4 x5 C I J R h), fun x0 x1 x2 x3 x4 x5 x6 C I J R h => bX2_makeRow_121 G S_X2_at w121 w211 (h121 n (gK Γ) x0 x1 x2 x3 x4 x5 x6 C I J R h), fun x0 x1 x2 x3 x5 C I J R h => bX2_makeRow_220 G w17 w220 (h220 n (gK Γ) x0 x1 x2 x3 x5 C I J R h), fun x0 x3 C I J R h => bX2_makeRow_258 G w258 (h258 n (gK Γ) x0 x3 C I J R h)⟩
  have w17 : ∀ (x0 : Nat) (x1 : Int32) (x2 : Int32) (x3 : Int32) (C : MC) (I : MI) (J : MJ) (R : MR), (∃ n, Q17 n (gK Γ) x0 x1 x2 x3 C I J R) → AW Γ 0 0 C I J R 17 [(0, aR (some x0)), (1, aI x1), (2, aI x2), (3, aI x3)] [] := fun x0 x1 x2 x3 C I J R ⟨m, hq⟩ => (key m).1 x0 x1 x2 x3 C I J R hq
  have w59 : ∀ (x0 : Nat) (x1 : Int32) (x2 : Int32) (x3 : Int32) (x4 : Int32) (x5 : Int32) (C : MC) (I : MI) (J : MJ) (R : MR), (∃ n, Q59 n (gK Γ) x0 x1 x2 x3 x4 x5 C I J R) → AW Γ 0 0 C I J R 59 [(0, aR (some x0)), (1, aI x1), (2, aI x2), (3, aI x3), (4, aI x4), (5, aI x5)] [] := fun x0 x1 x2 x3 x4 x5 C I J R ⟨m, hq⟩ => (key m).2.1 x0 x1 x2 x3 x4 x5 C I J R hq
  have w95 : ∀ (x0 : Nat) (x1 : Int32) (x2 : Int32) (x3 : Int32) (x4 : Int32) (x5 : Int32) (C : MC) (I : MI) (J : MJ) (R : MR), (∃ n, Q95 n (gK Γ) x0 x1 x2 x3 x4 x5 C I J R) → AW Γ 0 0 C I J R 95 [(0, aR (some x0)), (1, aI x1), (2, aI x2), (3, aI x3), (4, aI x4), (5, aI x5)] [] := fun x0 x1 x2 x3 x4 x5 C I J R ⟨m, hq⟩ => (key m).2.2.1 x0 x1 x2 x3 x4 x5 C I J R hq
  have w121 : ∀ (x0 : Nat) (x1 : Int32) (x2 : Int32) (x3 : Int32) (x4 : Int32) (x5 : Int32) (x6 : Int32) (C : MC) (I : MI) (J : MJ) (R : MR), (∃ n, Q121 n (gK Γ) x0 x1 x2 x3 x4 x5 x6 C I J R) → AW Γ 0 0 C I J R 121 [(0, aR (some x0)), (1, aI x1), (2, aI x2), (3, aI x3), (4, aI x4), (5, aI x5), (6, aI x6)] [] := fun x0 x1 x2 x3 x4 x5 x6 C I J R ⟨m, hq⟩ => (key m).2.2.2.1 x0 x1 x2 x3 x4 x5 x6 C I J R hq
  have w220 : ∀ (x0 : Nat) (x1 : Int32) (x2 : Int32) (x3 : Int32) (x5 : Int32) (C : MC) (I : MI) (J : MJ) (R : MR), (∃ n, Q220 n (gK Γ) x0 x1 x2 x3 x5 C I J R) → AW Γ 0 0 C I J R 220 [(0, aR (some x0)), (1, aI x1), (2, aI x2), (3, aI x3), (5, aI x5)] [] := fun x0 x1 x2 x3 x5 C I J R ⟨m, hq⟩ => (key m).2.2.2.2.1 x0 x1 x2 x3 x5 C I J R hq
  have w258 : ∀ (x0 : Nat) (x3 : Int32) (C : MC) (I : MI) (J : MJ) (R : MR), (∃ n, Q258 n (gK Γ) x0 x3 C I J R) → AW Γ 0 0 C I J R 258 [(0, aR (some x0)), (3, aI x3)] [] := fun x0 x3 C I J R ⟨m, hq⟩ => (key m).2.2.2.2.2 x0 x3 C I J R hq
  have w256 : ∀ (x0 : Nat) (C : MC) (I : MI) (J : MJ) (R : MR), PX2_makeRow_256 F_X2_clear F_X2_at (fun (x0 : Nat) (x1 : Int32) (x2 : Int32) (x3 : Int32) (C : MC) (I : MI) (J : MJ) (R : MR) => ∃ n, Q17 n (gK Γ) x0 x1 x2 x3 C I J R) (fun (x0 : Nat) (x1 : Int32) (x2 : Int32) (x3 : Int32) (x4 : Int32) (x5 : Int32) (C : MC) (I : MI) (J : MJ) (R : MR) => ∃ n, Q59 n (gK Γ) x0 x1 x2 x3 x4 x5 C I J R) (fun (x0 : Nat) (x1 : Int32) (x2 : Int32) (x3 : Int32) (x4 : Int32) (x5 : Int32) (C : MC) (I : MI) (J : MJ) (R : MR) => ∃ n, Q95 n (gK Γ) x0 x1 x2 x3 x4 x5 C I J R) (fun (x0 : Nat) (x1 : Int32) (x2 : Int32) (x3 : Int32) (x4 : Int32) (x5 : Int32) (x6 : Int32) (C : MC) (I : MI) (J : MJ) (R : MR) => ∃ n, Q121 n (gK Γ) x0 x1 x2 x3 x4 x5 x6 C I J R) (fun (x0 : Nat) (x1 : Int32) (x2 : Int32) (x3 : Int32) (x5 : Int32) (C : MC) (I : MI) (J : MJ) (R : MR) => ∃ n, Q220 n (gK Γ) x0 x1 x2 x3 x5 C I J R) (fun (x0 : Nat) (x3 : Int32) (C : MC) (I : MI) (J : MJ) (R : MR) => ∃ n, Q258 n (gK Γ) x0 x3 C I J R) (gK Γ) x0 C I J R → AW Γ 0 0 C I J R 256 [(0, aR (some x0))] [] := fun x0 C I J R h => bX2_makeRow_256 G w258 h
  have w211 : ∀ (x0 : Nat) (x1 : Int32) (x2 : Int32) (x3 : Int32) (x4 : Int32) (x5 : Int32) (C : MC) (I : MI) (J : MJ) (R : MR), PX2_makeRow_211 F_X2_clear F_X2_at (fun (x0 : Nat) (x1 : Int32) (x2 : Int32) (x3 : Int32) (C : MC) (I : MI) (J : MJ) (R : MR) => ∃ n, Q17 n (gK Γ) x0 x1 x2 x3 C I J R) (fun (x0 : Nat) (x1 : Int32) (x2 : Int32) (x3 : Int32) (x4 : Int32) (x5 : Int32) (C : MC) (I : MI) (J : MJ) (R : MR) => ∃ n, Q59 n (gK Γ) x0 x1 x2 x3 x4 x5 C I J R) (fun (x0 : Nat) (x1 : Int32) (x2 : Int32) (x3 : Int32) (x4 : Int32) (x5 : Int32) (C : MC) (I : MI) (J : MJ) (R : MR) => ∃ n, Q95 n (gK Γ) x0 x1 x2 x3 x4 x5 C I J R) (fun (x0 : Nat) (x1 : Int32) (x2 : Int32) (x3 : Int32) (x4 : Int32) (x5 : Int32) (x6 : Int32) (C : MC) (I : MI) (J : MJ) (R : MR) => ∃ n, Q121 n (gK Γ) x0 x1 x2 x3 x4 x5 x6 C I J R) (fun (x0 : Nat) (x1 : Int32) (x2 : Int32) (x3 : Int32) (x5 : Int32) (C : MC) (I : MI) (J : MJ) (R : MR) => ∃ n, Q220 n (gK Γ) x0 x1 x2 x3 x5 C I J R) (fun (x0 : Nat) (x3 : Int32) (C : MC) (I : MI) (J : MJ) (R : MR) => ∃ n, Q258 n (gK Γ) x0 x3 C I J R) (gK Γ) x0 x1 x2 x3 x4 x5 C I J R → AW Γ 0 0 C I J R 211 [(0, aR (some x0)), (1, aI x1), (2, aI x2), (3, aI x3), (4, aI x4), (5, aI x5)] [] := fun x0 x1 x2 x3 x4 x5 C I J R h => bX2_makeRow_211 G w95 h
  obtain ⟨x0, x1, x2, rfl, h⟩ := h0 As C I J R (gK Γ) hF
  exact ⟨Nat.le_of_ble_eq_true rfl, bX2_makeRow_0 G S_X2_clear w17 h⟩
def PX2_at_0 (K : AK) (x0 : Int32) (x1 : Int32) (C : MC) (I : MI) (J : MJ) (R : MR) : Prop :=
      K (.inl (some (aI (((121 : Int32) * x0) + x1)))) C I J R
theorem wX2_at {l : Launch}  {F : SPF}
    (h0 : ∀ (As : List AV) (C : MC) (I : MI) (J : MJ) (R : MR) (K : AK), F As C I J R K → ∃ (x0 : Int32) (x1 : Int32), As = [aI x0, aI x1] ∧ PX2_at_0 K x0 x1 C I J R) : SpX2_at l F := by
  refine Spec.of (by rfl) ?_
  intro Γ C I J R As Gd gl gr _ _ gb hF
  subst gl
  have G : Gb Γ yX2_at cX2_at 2 (some .int) [] rmX2_at bdX2_at := ⟨Gd, gr, gb⟩
  obtain ⟨x0, x1, rfl, h⟩ := h0 As C I J R (gK Γ) hF
  exact ⟨Nat.le_of_ble_eq_true rfl, bX2_at_0 G h⟩
def PX2_makeFan_86 (F_X2_count : SPF) (Q8 : Nat → Int32 → Int64 → Int64 → Int32 → MC → MI → MJ → MR → Prop) (Q34 : Nat → Int32 → Int64 → Int64 → Int32 → Int64 → Int32 → MC → MI → MJ → MR → Prop) (Q86 : Nat → Int32 → Int64 → Int64 → Int32 → Int64 → Int32 → MC → MI → MJ → MR → Prop) (K : AK) (x0 : Nat) (x1 : Int32) (x2 : Int64) (x4 : Int64) (x6 : Int32) (x7 : Int64) (x9 : Int32) (C : MC) (I : MI) (J : MJ) (R : MR) : Prop :=
      (C x0).1 = 3 ∧
      ∃ q2 : Nat, R x0 9 = some q2 ∧
      (C q2).1 = 20 ∧
      vp_in x1 (C q2).2 ∧
      (((I q2 x1.toNatClampNeg) ≤ x9 →
      ∃ q6 : Nat, R x0 27 = some q6 ∧
      (C q6).1 = 21 ∧
      vp_in x6 (C q6).2 ∧
      ∀ J9 : MJ, J9 = va_up J q6 (va_up (J q6) x6.toNatClampNeg (x7 - x4)) →
      Q8 x0 x1 x2 x7 (x6 + 1) C I J9 R) ∧
      (¬ (I q2 x1.toNatClampNeg) ≤ x9 →
      ∃ q10 : Nat, R x0 31 = some q10 ∧
      (C q10).1 = 21 ∧
      vp_in x9 (C q10).2 ∧
      Q86 x0 x1 x2 x4 x6 (x7 + (J q10 x9.toNatClampNeg)) (x9 + 1) C I J R))
def PX2_makeFan_34 (F_X2_count : SPF) (Q8 : Nat → Int32 → Int64 → Int64 → Int32 → MC → MI → MJ → MR → Prop) (Q34 : Nat → Int32 → Int64 → Int64 → Int32 → Int64 → Int32 → MC → MI → MJ → MR → Prop) (Q86 : Nat → Int32 → Int64 → Int64 → Int32 → Int64 → Int32 → MC → MI → MJ → MR → Prop) (K : AK) (x0 : Nat) (x1 : Int32) (x2 : Int64) (x4 : Int64) (x6 : Int32) (x7 : Int64) (x9 : Int32) (C : MC) (I : MI) (J : MJ) (R : MR) : Prop :=
      (((5 : Int32) ≤ x9 →
      (C x0).1 = 3 ∧
      ∃ q3 : Nat, R x0 26 = some q3 ∧
      (C q3).1 = 21 ∧
      vp_in x6 (C q3).2 ∧
      ∀ J6 : MJ, J6 = va_up J q3 (va_up (J q3) x6.toNatClampNeg (x7 - x2)) →
      F_X2_count [aR (some x0), aI x1, aI x6, aI (1 : Int32)] C I J6 R (fun o C7 I8 J9 R10 =>
      o = .inl none ∧
      Q86 x0 x1 x7 x4 x6 (0 : Int64) (0 : Int32) C7 I8 J9 R10)) ∧
      (¬ (5 : Int32) ≤ x9 →
      (C x0).1 = 3 ∧
      ∃ q13 : Nat, R x0 31 = some q13 ∧
      (C q13).1 = 21 ∧
      vp_in x9 (C q13).2 ∧
      Q34 x0 x1 x2 x4 x6 (x7 + (J q13 x9.toNatClampNeg)) (x9 + 1) C I J R))
def PX2_makeFan_8 (F_X2_count : SPF) (Q8 : Nat → Int32 → Int64 → Int64 → Int32 → MC → MI → MJ → MR → Prop) (Q34 : Nat → Int32 → Int64 → Int64 → Int32 → Int64 → Int32 → MC → MI → MJ → MR → Prop) (Q86 : Nat → Int32 → Int64 → Int64 → Int32 → Int64 → Int32 → MC → MI → MJ → MR → Prop) (K : AK) (x0 : Nat) (x1 : Int32) (x2 : Int64) (x4 : Int64) (x6 : Int32) (C : MC) (I : MI) (J : MJ) (R : MR) : Prop :=
      (((121 : Int32) ≤ x6 →
      K (.inl none) C I J R) ∧
      (¬ (121 : Int32) ≤ x6 →
      (C x0).1 = 3 ∧
      F_X2_count [aR (some x0), aI x1, aI x6, aI (0 : Int32)] C I J R (fun o C3 I4 J5 R6 =>
      o = .inl none ∧
      (C3 x0).1 = 3 ∧
      ∃ q9 : Nat, R6 x0 9 = some q9 ∧
      (C3 q9).1 = 20 ∧
      vp_in x1 (C3 q9).2 ∧
      Q34 x0 x1 x2 x4 x6 (0 : Int64) (I4 q9 x1.toNatClampNeg) C3 I4 J5 R6)))
def PX2_makeFan_0 (F_X2_count : SPF) (Q8 : Nat → Int32 → Int64 → Int64 → Int32 → MC → MI → MJ → MR → Prop) (Q34 : Nat → Int32 → Int64 → Int64 → Int32 → Int64 → Int32 → MC → MI → MJ → MR → Prop) (Q86 : Nat → Int32 → Int64 → Int64 → Int32 → Int64 → Int32 → MC → MI → MJ → MR → Prop) (K : AK) (x0 : Nat) (x1 : Int32) (C : MC) (I : MI) (J : MJ) (R : MR) : Prop :=
      Q8 x0 x1 (0 : Int64) (0 : Int64) (0 : Int32) C I J R
theorem wX2_makeFan {l : Launch}  {F_X2_count : SPF} (S_X2_count : SpX2_count l F_X2_count)
    (Q8 : Nat → AK → Nat → Int32 → Int64 → Int64 → Int32 → MC → MI → MJ → MR → Prop)
    (Q34 : Nat → AK → Nat → Int32 → Int64 → Int64 → Int32 → Int64 → Int32 → MC → MI → MJ → MR → Prop)
    (Q86 : Nat → AK → Nat → Int32 → Int64 → Int64 → Int32 → Int64 → Int32 → MC → MI → MJ → MR → Prop) {F : SPF}
    (h0 : ∀ (As : List AV) (C : MC) (I : MI) (J : MJ) (R : MR) (K : AK), F As C I J R K → ∃ (x0 : Nat) (x1 : Int32), As = [aR (some x0), aI x1] ∧ PX2_makeFan_0 F_X2_count (fun (x0 : Nat) (x1 : Int32) (x2 : Int64) (x4 : Int64) (x6 : Int32) (C : MC) (I : MI) (J : MJ) (R : MR) => ∃ n, Q8 n K x0 x1 x2 x4 x6 C I J R) (fun (x0 : Nat) (x1 : Int32) (x2 : Int64) (x4 : Int64) (x6 : Int32) (x7 : Int64) (x9 : Int32) (C : MC) (I : MI) (J : MJ) (R : MR) => ∃ n, Q34 n K x0 x1 x2 x4 x6 x7 x9 C I J R) (fun (x0 : Nat) (x1 : Int32) (x2 : Int64) (x4 : Int64) (x6 : Int32) (x7 : Int64) (x9 : Int32) (C : MC) (I : MI) (J : MJ) (R : MR) => ∃ n, Q86 n K x0 x1 x2 x4 x6 x7 x9 C I J R) K x0 x1 C I J R)
    (h8 : ∀ (n : Nat) (K : AK) (x0 : Nat) (x1 : Int32) (x2 : Int64) (x4 : Int64) (x6 : Int32) (C : MC) (I : MI) (J : MJ) (R : MR), Q8 n K x0 x1 x2 x4 x6 C I J R → PX2_makeFan_8 F_X2_count (fun (x0 : Nat) (x1 : Int32) (x2 : Int64) (x4 : Int64) (x6 : Int32) (C : MC) (I : MI) (J : MJ) (R : MR) => ∃ m, m < n ∧ Q8 m K x0 x1 x2 x4 x6 C I J R) (fun (x0 : Nat) (x1 : Int32) (x2 : Int64) (x4 : Int64) (x6 : Int32) (x7 : Int64) (x9 : Int32) (C : MC) (I : MI) (J : MJ) (R : MR) => ∃ m, m < n ∧ Q34 m K x0 x1 x2 x4 x6 x7 x9 C I J R) (fun (x0 : Nat) (x1 : Int32) (x2 : Int64) (x4 : Int64) (x6 : Int32) (x7 : Int64) (x9 : Int32) (C : MC) (I : MI) (J : MJ) (R : MR) => ∃ m, m < n ∧ Q86 m K x0 x1 x2 x4 x6 x7 x9 C I J R) K x0 x1 x2 x4 x6 C I J R)
    (h34 : ∀ (n : Nat) (K : AK) (x0 : Nat) (x1 : Int32) (x2 : Int64) (x4 : Int64) (x6 : Int32) (x7 : Int64) (x9 : Int32) (C : MC) (I : MI) (J : MJ) (R : MR), Q34 n K x0 x1 x2 x4 x6 x7 x9 C I J R → PX2_makeFan_34 F_X2_count (fun (x0 : Nat) (x1 : Int32) (x2 : Int64) (x4 : Int64) (x6 : Int32) (C : MC) (I : MI) (J : MJ) (R : MR) => ∃ m, m < n ∧ Q8 m K x0 x1 x2 x4 x6 C I J R) (fun (x0 : Nat) (x1 : Int32) (x2 : Int64) (x4 : Int64) (x6 : Int32) (x7 : Int64) (x9 : Int32) (C : MC) (I : MI) (J : MJ) (R : MR) => ∃ m, m < n ∧ Q34 m K x0 x1 x2 x4 x6 x7 x9 C I J R) (fun (x0 : Nat) (x1 : Int32) (x2 : Int64) (x4 : Int64) (x6 : Int32) (x7 : Int64) (x9 : Int32) (C : MC) (I : MI) (J : MJ) (R : MR) => ∃ m, m < n ∧ Q86 m K x0 x1 x2 x4 x6 x7 x9 C I J R) K x0 x1 x2 x4 x6 x7 x9 C I J R)
    (h86 : ∀ (n : Nat) (K : AK) (x0 : Nat) (x1 : Int32) (x2 : Int64) (x4 : Int64) (x6 : Int32) (x7 : Int64) (x9 : Int32) (C : MC) (I : MI) (J : MJ) (R : MR), Q86 n K x0 x1 x2 x4 x6 x7 x9 C I J R → PX2_makeFan_86 F_X2_count (fun (x0 : Nat) (x1 : Int32) (x2 : Int64) (x4 : Int64) (x6 : Int32) (C : MC) (I : MI) (J : MJ) (R : MR) => ∃ m, m < n ∧ Q8 m K x0 x1 x2 x4 x6 C I J R) (fun (x0 : Nat) (x1 : Int32) (x2 : Int64) (x4 : Int64) (x6 : Int32) (x7 : Int64) (x9 : Int32) (C : MC) (I : MI) (J : MJ) (R : MR) => ∃ m, m < n ∧ Q34 m K x0 x1 x2 x4 x6 x7 x9 C I J R) (fun (x0 : Nat) (x1 : Int32) (x2 : Int64) (x4 : Int64) (x6 : Int32) (x7 : Int64) (x9 : Int32) (C : MC) (I : MI) (J : MJ) (R : MR) => ∃ m, m < n ∧ Q86 m K x0 x1 x2 x4 x6 x7 x9 C I J R) K x0 x1 x2 x4 x6 x7 x9 C I J R) : SpX2_makeFan l F := by
  refine Spec.of (by rfl) ?_
  intro Γ C I J R As Gd gl gr _ _ gb hF
  subst gl
  have G : Gb Γ yX2_makeFan cX2_makeFan 10 (none) [] rmX2_makeFan bdX2_makeFan := ⟨Gd, gr, gb⟩
  have key : ∀ n : Nat, (∀ (x0 : Nat) (x1 : Int32) (x2 : Int64) (x4 : Int64) (x6 : Int32) (C : MC) (I : MI) (J : MJ) (R : MR), Q8 n (gK Γ) x0 x1 x2 x4 x6 C I J R → AW Γ 0 0 C I J R 8 [(0, aR (some x0)), (1, aI x1), (2, aJ x2), (4, aJ x4), (6, aI x6)] []) ∧ (∀ (x0 : Nat) (x1 : Int32) (x2 : Int64) (x4 : Int64) (x6 : Int32) (x7 : Int64) (x9 : Int32) (C : MC) (I : MI) (J : MJ) (R : MR), Q34 n (gK Γ) x0 x1 x2 x4 x6 x7 x9 C I J R → AW Γ 0 0 C I J R 34 [(0, aR (some x0)), (1, aI x1), (2, aJ x2), (4, aJ x4), (6, aI x6), (7, aJ x7), (9, aI x9)] []) ∧ (∀ (x0 : Nat) (x1 : Int32) (x2 : Int64) (x4 : Int64) (x6 : Int32) (x7 : Int64) (x9 : Int32) (C : MC) (I : MI) (J : MJ) (R : MR), Q86 n (gK Γ) x0 x1 x2 x4 x6 x7 x9 C I J R → AW Γ 0 0 C I J R 86 [(0, aR (some x0)), (1, aI x1), (2, aJ x2), (4, aJ x4), (6, aI x6), (7, aJ x7), (9, aI x9)] []) := by
    intro n
    induction n using Nat.strongRecOn with
    | ind n ih =>
    have w8 : ∀ (x0 : Nat) (x1 : Int32) (x2 : Int64) (x4 : Int64) (x6 : Int32) (C : MC) (I : MI) (J : MJ) (R : MR), (∃ m, m < n ∧ Q8 m (gK Γ) x0 x1 x2 x4 x6 C I J R) → AW Γ 0 0 C I J R 8 [(0, aR (some x0)), (1, aI x1), (2, aJ x2), (4, aJ x4), (6, aI x6)] [] := fun x0 x1 x2 x4 x6 C I J R ⟨m, hm, hq⟩ => (ih m hm).1 x0 x1 x2 x4 x6 C I J R hq
    have w34 : ∀ (x0 : Nat) (x1 : Int32) (x2 : Int64) (x4 : Int64) (x6 : Int32) (x7 : Int64) (x9 : Int32) (C : MC) (I : MI) (J : MJ) (R : MR), (∃ m, m < n ∧ Q34 m (gK Γ) x0 x1 x2 x4 x6 x7 x9 C I J R) → AW Γ 0 0 C I J R 34 [(0, aR (some x0)), (1, aI x1), (2, aJ x2), (4, aJ x4), (6, aI x6), (7, aJ x7), (9, aI x9)] [] := fun x0 x1 x2 x4 x6 x7 x9 C I J R ⟨m, hm, hq⟩ => (ih m hm).2.1 x0 x1 x2 x4 x6 x7 x9 C I J R hq
    have w86 : ∀ (x0 : Nat) (x1 : Int32) (x2 : Int64) (x4 : Int64) (x6 : Int32) (x7 : Int64) (x9 : Int32) (C : MC) (I : MI) (J : MJ) (R : MR), (∃ m, m < n ∧ Q86 m (gK Γ) x0 x1 x2 x4 x6 x7 x9 C I J R) → AW Γ 0 0 C I J R 86 [(0, aR (some x0)), (1, aI x1), (2, aJ x2), (4, aJ x4), (6, aI x6), (7, aJ x7), (9, aI x9)] [] := fun x0 x1 x2 x4 x6 x7 x9 C I J R ⟨m, hm, hq⟩ => (ih m hm).2.2 x0 x1 x2 x4 x6 x7 x9 C I J R hq
    exact ⟨fun x0 x1 x2 x4 x6 C I J R h => bX2_makeFan_8 G S_X2_count w34 (h8 n (gK Γ) x0 x1 x2 x4 x6 C I J R h), fun x0 x1 x2 x4 x6 x7 x9 C I J R h => bX2_makeFan_34 G S_X2_count w34 w86 (h34 n (gK Γ) x0 x1 x2 x4 x6 x7 x9 C I J R h), fun x0 x1 x2 x4 x6 x7 x9 C I J R h => bX2_makeFan_86 G w8 w86 (h86 n (gK Γ) x0 x1 x2 x4 x6 x7 x9 C I J R h)⟩
  have w8 : ∀ (x0 : Nat) (x1 : Int32) (x2 : Int64) (x4 : Int64) (x6 : Int32) (C : MC) (I : MI) (J : MJ) (R : MR), (∃ n, Q8 n (gK Γ) x0 x1 x2 x4 x6 C I J R) → AW Γ 0 0 C I J R 8 [(0, aR (some x0)), (1, aI x1), (2, aJ x2), (4, aJ x4), (6, aI x6)] [] := fun x0 x1 x2 x4 x6 C I J R ⟨m, hq⟩ => (key m).1 x0 x1 x2 x4 x6 C I J R hq
  have w34 : ∀ (x0 : Nat) (x1 : Int32) (x2 : Int64) (x4 : Int64) (x6 : Int32) (x7 : Int64) (x9 : Int32) (C : MC) (I : MI) (J : MJ) (R : MR), (∃ n, Q34 n (gK Γ) x0 x1 x2 x4 x6 x7 x9 C I J R) → AW Γ 0 0 C I J R 34 [(0, aR (some x0)), (1, aI x1), (2, aJ x2), (4, aJ x4), (6, aI x6), (7, aJ x7), (9, aI x9)] [] := fun x0 x1 x2 x4 x6 x7 x9 C I J R ⟨m, hq⟩ => (key m).2.1 x0 x1 x2 x4 x6 x7 x9 C I J R hq
  have w86 : ∀ (x0 : Nat) (x1 : Int32) (x2 : Int64) (x4 : Int64) (x6 : Int32) (x7 : Int64) (x9 : Int32) (C : MC) (I : MI) (J : MJ) (R : MR), (∃ n, Q86 n (gK Γ) x0 x1 x2 x4 x6 x7 x9 C I J R) → AW Γ 0 0 C I J R 86 [(0, aR (some x0)), (1, aI x1), (2, aJ x2), (4, aJ x4), (6, aI x6), (7, aJ x7), (9, aI x9)] [] := fun x0 x1 x2 x4 x6 x7 x9 C I J R ⟨m, hq⟩ => (key m).2.2 x0 x1 x2 x4 x6 x7 x9 C I J R hq
  obtain ⟨x0, x1, rfl, h⟩ := h0 As C I J R (gK Γ) hF
  exact ⟨Nat.le_of_ble_eq_true rfl, bX2_makeFan_0 G w8 h⟩
def PX2_count_203 (F_X2_at : SPF) (Q3 : Nat → Int32 → Int32 → Int32 → Int32 → MC → MI → MJ → MR → Prop) (Q35 : Nat → Int32 → Int32 → Int32 → Int32 → MC → MI → MJ → MR → Prop) (Q92 : Nat → Int32 → Int32 → Int32 → Int32 → Int32 → Int64 → Int64 → Int32 → MC → MI → MJ → MR → Prop) (Q161 : Nat → Int32 → Int32 → Int32 → Int32 → Int64 → Int64 → Int32 → MC → MI → MJ → MR → Prop) (K : AK) (x0 : Nat) (x1 : Int32) (x2 : Int32) (x3 : Int32) (x4 : Int32) (x6 : Int64) (x8 : Int64) (x10 : Int32) (s0 : Option Nat) (s1 : Int32) (s2 : Int64) (s3 : Int64) (C : MC) (I : MI) (J : MJ) (R : MR) : Prop :=
      ∃ q1 : Nat, s0 = some q1 ∧
      (C q1).1 = 21 ∧
      vp_in s1 (C q1).2 ∧
      ∀ J4 : MJ, J4 = va_up J q1 (va_up (J q1) s1.toNatClampNeg (s2 + s3)) →
      Q161 x0 x1 x2 x3 x4 x6 x8 (x10 + (-1)) C I J4 R
def PX2_count_161 (F_X2_at : SPF) (Q3 : Nat → Int32 → Int32 → Int32 → Int32 → MC → MI → MJ → MR → Prop) (Q35 : Nat → Int32 → Int32 → Int32 → Int32 → MC → MI → MJ → MR → Prop) (Q92 : Nat → Int32 → Int32 → Int32 → Int32 → Int32 → Int64 → Int64 → Int32 → MC → MI → MJ → MR → Prop) (Q161 : Nat → Int32 → Int32 → Int32 → Int32 → Int64 → Int64 → Int32 → MC → MI → MJ → MR → Prop) (K : AK) (x0 : Nat) (x1 : Int32) (x2 : Int32) (x3 : Int32) (x4 : Int32) (x6 : Int64) (x8 : Int64) (x10 : Int32) (C : MC) (I : MI) (J : MJ) (R : MR) : Prop :=
      ((x10 < 0 →
      Q35 x0 x1 x2 x3 (x4 + 1) C I J R) ∧
      (¬ x10 < 0 →
      (C x0).1 = 3 ∧
      ∃ q3 : Nat, R x0 31 = some q3 ∧
      (C q3).1 = 21 ∧
      vp_in x10 (C q3).2 ∧
      ((x10 ≤ 0 →
      PX2_count_203 F_X2_at Q3 Q35 Q92 Q161 K x0 x1 x2 x3 x4 x6 x8 x10 (R x0 31) x10 ((J q3 x10.toNatClampNeg) * x8) (0 : Int64) C I J R) ∧
      (¬ x10 ≤ 0 →
      vp_in (x10 - (1 : Int32)) (C q3).2 ∧
      PX2_count_203 F_X2_at Q3 Q35 Q92 Q161 K x0 x1 x2 x3 x4 x6 x8 x10 (R x0 31) x10 ((J q3 x10.toNatClampNeg) * x8) ((J q3 (x10 - (1 : Int32)).toNatClampNeg) * x6) C I J R))))
def PX2_count_149 (F_X2_at : SPF) (Q3 : Nat → Int32 → Int32 → Int32 → Int32 → MC → MI → MJ → MR → Prop) (Q35 : Nat → Int32 → Int32 → Int32 → Int32 → MC → MI → MJ → MR → Prop) (Q92 : Nat → Int32 → Int32 → Int32 → Int32 → Int32 → Int64 → Int64 → Int32 → MC → MI → MJ → MR → Prop) (Q161 : Nat → Int32 → Int32 → Int32 → Int32 → Int64 → Int64 → Int32 → MC → MI → MJ → MR → Prop) (K : AK) (x0 : Nat) (x1 : Int32) (x2 : Int32) (x3 : Int32) (x4 : Int32) (x5 : Int32) (x6 : Int64) (x10 : Int32) (s0 : Int64) (s1 : Int64) (C : MC) (I : MI) (J : MJ) (R : MR) : Prop :=
      Q92 x0 x1 x2 x3 x4 x5 x6 (s0 + s1) (x10 + 1) C I J R
def PX2_count_92 (F_X2_at : SPF) (Q3 : Nat → Int32 → Int32 → Int32 → Int32 → MC → MI → MJ → MR → Prop) (Q35 : Nat → Int32 → Int32 → Int32 → Int32 → MC → MI → MJ → MR → Prop) (Q92 : Nat → Int32 → Int32 → Int32 → Int32 → Int32 → Int64 → Int64 → Int32 → MC → MI → MJ → MR → Prop) (Q161 : Nat → Int32 → Int32 → Int32 → Int32 → Int64 → Int64 → Int32 → MC → MI → MJ → MR → Prop) (K : AK) (x0 : Nat) (x1 : Int32) (x2 : Int32) (x3 : Int32) (x4 : Int32) (x5 : Int32) (x6 : Int64) (x8 : Int64) (x10 : Int32) (C : MC) (I : MI) (J : MJ) (R : MR) : Prop :=
      ((x2 < x10 →
      Q161 x0 x1 x2 x3 x4 x6 x8 (4 : Int32) C I J R) ∧
      (¬ x2 < x10 →
      (C x0).1 = 3 ∧
      F_X2_at [aI x5, aI x10] C I J R (fun o C3 I4 J5 R6 =>
      ∃ r7 : Int32, o = .inl (some (aI r7)) ∧
      ∃ q8 : Nat, R x0 22 = some q8 ∧
      (C3 q8).1 = 21 ∧
      vp_in r7 (C3 q8).2 ∧
      ((x3 = 0 →
      (C3 x0).1 = 3 ∧
      F_X2_at [aI x5, aI x10] C3 I4 J5 R6 (fun o C13 I14 J15 R16 =>
      ∃ r17 : Int32, o = .inl (some (aI r17)) ∧
      ∃ q18 : Nat, R6 x0 22 = some q18 ∧
      (C13 q18).1 = 21 ∧
      vp_in r17 (C13 q18).2 ∧
      PX2_count_149 F_X2_at Q3 Q35 Q92 Q161 K x0 x1 x2 x3 x4 x5 (x6 + (J5 q8 r7.toNatClampNeg)) x10 x8 (-(J15 q18 r17.toNatClampNeg)) C13 I14 J15 R16)) ∧
      (¬ x3 = 0 →
      (C3 x0).1 = 3 ∧
      F_X2_at [aI x5, aI x10] C3 I4 J5 R6 (fun o C22 I23 J24 R25 =>
      ∃ r26 : Int32, o = .inl (some (aI r26)) ∧
      ∃ q27 : Nat, R6 x0 23 = some q27 ∧
      (C22 q27).1 = 21 ∧
      vp_in r26 (C22 q27).2 ∧
      PX2_count_149 F_X2_at Q3 Q35 Q92 Q161 K x0 x1 x2 x3 x4 x5 (x6 + (J5 q8 r7.toNatClampNeg)) x10 x8 (J24 q27 r26.toNatClampNeg) C22 I23 J24 R25))))))
def PX2_count_87 (F_X2_at : SPF) (Q3 : Nat → Int32 → Int32 → Int32 → Int32 → MC → MI → MJ → MR → Prop) (Q35 : Nat → Int32 → Int32 → Int32 → Int32 → MC → MI → MJ → MR → Prop) (Q92 : Nat → Int32 → Int32 → Int32 → Int32 → Int32 → Int64 → Int64 → Int32 → MC → MI → MJ → MR → Prop) (Q161 : Nat → Int32 → Int32 → Int32 → Int32 → Int64 → Int64 → Int32 → MC → MI → MJ → MR → Prop) (K : AK) (x0 : Nat) (x1 : Int32) (x2 : Int32) (x3 : Int32) (x4 : Int32) (x5 : Int32) (x6 : Int64) (s0 : Int64) (C : MC) (I : MI) (J : MJ) (R : MR) : Prop :=
      Q92 x0 x1 x2 x3 x4 x5 x6 s0 (0 : Int32) C I J R
def PX2_count_35 (F_X2_at : SPF) (Q3 : Nat → Int32 → Int32 → Int32 → Int32 → MC → MI → MJ → MR → Prop) (Q35 : Nat → Int32 → Int32 → Int32 → Int32 → MC → MI → MJ → MR → Prop) (Q92 : Nat → Int32 → Int32 → Int32 → Int32 → Int32 → Int64 → Int64 → Int32 → MC → MI → MJ → MR → Prop) (Q161 : Nat → Int32 → Int32 → Int32 → Int32 → Int64 → Int64 → Int32 → MC → MI → MJ → MR → Prop) (K : AK) (x0 : Nat) (x1 : Int32) (x2 : Int32) (x3 : Int32) (x4 : Int32) (C : MC) (I : MI) (J : MJ) (R : MR) : Prop :=
      (((4 : Int32) ≤ x4 →
      K (.inl none) C I J R) ∧
      (¬ (4 : Int32) ≤ x4 →
      (C x0).1 = 3 ∧
      ∃ q3 : Nat, R x0 8 = some q3 ∧
      (C q3).1 = 20 ∧
      vp_in (((4 : Int32) * x1) + x4) (C q3).2 ∧
      (((I q3 (((4 : Int32) * x1) + x4).toNatClampNeg) = (-1 : Int32) →
      K (.inl none) C I J R) ∧
      (¬ (I q3 (((4 : Int32) * x1) + x4).toNatClampNeg) = (-1 : Int32) →
      ((x3 = 0 →
      ∃ q8 : Nat, R x0 24 = some q8 ∧
      (C q8).1 = 21 ∧
      vp_in (I q3 (((4 : Int32) * x1) + x4).toNatClampNeg) (C q8).2 ∧
      PX2_count_87 F_X2_at Q3 Q35 Q92 Q161 K x0 x1 x2 x3 x4 (I q3 (((4 : Int32) * x1) + x4).toNatClampNeg) (0 : Int64) (J q8 (I q3 (((4 : Int32) * x1) + x4).toNatClampNeg).toNatClampNeg) C I J R) ∧
      (¬ x3 = 0 →
      PX2_count_87 F_X2_at Q3 Q35 Q92 Q161 K x0 x1 x2 x3 x4 (I q3 (((4 : Int32) * x1) + x4).toNatClampNeg) (0 : Int64) (0 : Int64) C I J R))))))
def PX2_count_25 (F_X2_at : SPF) (Q3 : Nat → Int32 → Int32 → Int32 → Int32 → MC → MI → MJ → MR → Prop) (Q35 : Nat → Int32 → Int32 → Int32 → Int32 → MC → MI → MJ → MR → Prop) (Q92 : Nat → Int32 → Int32 → Int32 → Int32 → Int32 → Int64 → Int64 → Int32 → MC → MI → MJ → MR → Prop) (Q161 : Nat → Int32 → Int32 → Int32 → Int32 → Int64 → Int64 → Int32 → MC → MI → MJ → MR → Prop) (K : AK) (x0 : Nat) (x1 : Int32) (x2 : Int32) (x3 : Int32) (x4 : Int32) (s0 : Option Nat) (s1 : Int32) (s2 : Int64) (C : MC) (I : MI) (J : MJ) (R : MR) : Prop :=
      ∃ q1 : Nat, s0 = some q1 ∧
      (C q1).1 = 21 ∧
      vp_in s1 (C q1).2 ∧
      ∀ J4 : MJ, J4 = va_up J q1 (va_up (J q1) s1.toNatClampNeg s2) →
      Q3 x0 x1 x2 x3 (x4 + 1) C I J4 R
def PX2_count_3 (F_X2_at : SPF) (Q3 : Nat → Int32 → Int32 → Int32 → Int32 → MC → MI → MJ → MR → Prop) (Q35 : Nat → Int32 → Int32 → Int32 → Int32 → MC → MI → MJ → MR → Prop) (Q92 : Nat → Int32 → Int32 → Int32 → Int32 → Int32 → Int64 → Int64 → Int32 → MC → MI → MJ → MR → Prop) (Q161 : Nat → Int32 → Int32 → Int32 → Int32 → Int64 → Int64 → Int32 → MC → MI → MJ → MR → Prop) (K : AK) (x0 : Nat) (x1 : Int32) (x2 : Int32) (x3 : Int32) (x4 : Int32) (C : MC) (I : MI) (J : MJ) (R : MR) : Prop :=
      (((5 : Int32) ≤ x4 →
      Q35 x0 x1 x2 x3 (0 : Int32) C I J R) ∧
      (¬ (5 : Int32) ≤ x4 →
      (C x0).1 = 3 ∧
      ((¬ x4 = 0 →
      PX2_count_25 F_X2_at Q3 Q35 Q92 Q161 K x0 x1 x2 x3 x4 (R x0 31) x4 (0 : Int64) C I J R) ∧
      (x4 = 0 →
      PX2_count_25 F_X2_at Q3 Q35 Q92 Q161 K x0 x1 x2 x3 x4 (R x0 31) x4 (1 : Int64) C I J R))))
def PX2_count_0 (F_X2_at : SPF) (Q3 : Nat → Int32 → Int32 → Int32 → Int32 → MC → MI → MJ → MR → Prop) (Q35 : Nat → Int32 → Int32 → Int32 → Int32 → MC → MI → MJ → MR → Prop) (Q92 : Nat → Int32 → Int32 → Int32 → Int32 → Int32 → Int64 → Int64 → Int32 → MC → MI → MJ → MR → Prop) (Q161 : Nat → Int32 → Int32 → Int32 → Int32 → Int64 → Int64 → Int32 → MC → MI → MJ → MR → Prop) (K : AK) (x0 : Nat) (x1 : Int32) (x2 : Int32) (x3 : Int32) (C : MC) (I : MI) (J : MJ) (R : MR) : Prop :=
      Q3 x0 x1 x2 x3 (0 : Int32) C I J R
theorem wX2_count {l : Launch}  {F_X2_at : SPF} (S_X2_at : SpX2_at l F_X2_at)
    (Q3 : Nat → AK → Nat → Int32 → Int32 → Int32 → Int32 → MC → MI → MJ → MR → Prop)
    (Q35 : Nat → AK → Nat → Int32 → Int32 → Int32 → Int32 → MC → MI → MJ → MR → Prop)
    (Q92 : Nat → AK → Nat → Int32 → Int32 → Int32 → Int32 → Int32 → Int64 → Int64 → Int32 → MC → MI → MJ → MR → Prop)
    (Q161 : Nat → AK → Nat → Int32 → Int32 → Int32 → Int32 → Int64 → Int64 → Int32 → MC → MI → MJ → MR → Prop) {F : SPF}
    (h0 : ∀ (As : List AV) (C : MC) (I : MI) (J : MJ) (R : MR) (K : AK), F As C I J R K → ∃ (x0 : Nat) (x1 : Int32) (x2 : Int32) (x3 : Int32), As = [aR (some x0), aI x1, aI x2, aI x3] ∧ PX2_count_0 F_X2_at (fun (x0 : Nat) (x1 : Int32) (x2 : Int32) (x3 : Int32) (x4 : Int32) (C : MC) (I : MI) (J : MJ) (R : MR) => ∃ n, Q3 n K x0 x1 x2 x3 x4 C I J R) (fun (x0 : Nat) (x1 : Int32) (x2 : Int32) (x3 : Int32) (x4 : Int32) (C : MC) (I : MI) (J : MJ) (R : MR) => ∃ n, Q35 n K x0 x1 x2 x3 x4 C I J R) (fun (x0 : Nat) (x1 : Int32) (x2 : Int32) (x3 : Int32) (x4 : Int32) (x5 : Int32) (x6 : Int64) (x8 : Int64) (x10 : Int32) (C : MC) (I : MI) (J : MJ) (R : MR) => ∃ n, Q92 n K x0 x1 x2 x3 x4 x5 x6 x8 x10 C I J R) (fun (x0 : Nat) (x1 : Int32) (x2 : Int32) (x3 : Int32) (x4 : Int32) (x6 : Int64) (x8 : Int64) (x10 : Int32) (C : MC) (I : MI) (J : MJ) (R : MR) => ∃ n, Q161 n K x0 x1 x2 x3 x4 x6 x8 x10 C I J R) K x0 x1 x2 x3 C I J R)
    (h3 : ∀ (n : Nat) (K : AK) (x0 : Nat) (x1 : Int32) (x2 : Int32) (x3 : Int32) (x4 : Int32) (C : MC) (I : MI) (J : MJ) (R : MR), Q3 n K x0 x1 x2 x3 x4 C I J R → PX2_count_3 F_X2_at (fun (x0 : Nat) (x1 : Int32) (x2 : Int32) (x3 : Int32) (x4 : Int32) (C : MC) (I : MI) (J : MJ) (R : MR) => ∃ m, m < n ∧ Q3 m K x0 x1 x2 x3 x4 C I J R) (fun (x0 : Nat) (x1 : Int32) (x2 : Int32) (x3 : Int32) (x4 : Int32) (C : MC) (I : MI) (J : MJ) (R : MR) => ∃ m, m < n ∧ Q35 m K x0 x1 x2 x3 x4 C I J R) (fun (x0 : Nat) (x1 : Int32) (x2 : Int32) (x3 : Int32) (x4 : Int32) (x5 : Int32) (x6 : Int64) (x8 : Int64) (x10 : Int32) (C : MC) (I : MI) (J : MJ) (R : MR) => ∃ m, m < n ∧ Q92 m K x0 x1 x2 x3 x4 x5 x6 x8 x10 C I J R) (fun (x0 : Nat) (x1 : Int32) (x2 : Int32) (x3 : Int32) (x4 : Int32) (x6 : Int64) (x8 : Int64) (x10 : Int32) (C : MC) (I : MI) (J : MJ) (R : MR) => ∃ m, m < n ∧ Q161 m K x0 x1 x2 x3 x4 x6 x8 x10 C I J R) K x0 x1 x2 x3 x4 C I J R)
    (h35 : ∀ (n : Nat) (K : AK) (x0 : Nat) (x1 : Int32) (x2 : Int32) (x3 : Int32) (x4 : Int32) (C : MC) (I : MI) (J : MJ) (R : MR), Q35 n K x0 x1 x2 x3 x4 C I J R → PX2_count_35 F_X2_at (fun (x0 : Nat) (x1 : Int32) (x2 : Int32) (x3 : Int32) (x4 : Int32) (C : MC) (I : MI) (J : MJ) (R : MR) => ∃ m, m < n ∧ Q3 m K x0 x1 x2 x3 x4 C I J R) (fun (x0 : Nat) (x1 : Int32) (x2 : Int32) (x3 : Int32) (x4 : Int32) (C : MC) (I : MI) (J : MJ) (R : MR) => ∃ m, m < n ∧ Q35 m K x0 x1 x2 x3 x4 C I J R) (fun (x0 : Nat) (x1 : Int32) (x2 : Int32) (x3 : Int32) (x4 : Int32) (x5 : Int32) (x6 : Int64) (x8 : Int64) (x10 : Int32) (C : MC) (I : MI) (J : MJ) (R : MR) => ∃ m, m < n ∧ Q92 m K x0 x1 x2 x3 x4 x5 x6 x8 x10 C I J R) (fun (x0 : Nat) (x1 : Int32) (x2 : Int32) (x3 : Int32) (x4 : Int32) (x6 : Int64) (x8 : Int64) (x10 : Int32) (C : MC) (I : MI) (J : MJ) (R : MR) => ∃ m, m < n ∧ Q161 m K x0 x1 x2 x3 x4 x6 x8 x10 C I J R) K x0 x1 x2 x3 x4 C I J R)
    (h92 : ∀ (n : Nat) (K : AK) (x0 : Nat) (x1 : Int32) (x2 : Int32) (x3 : Int32) (x4 : Int32) (x5 : Int32) (x6 : Int64) (x8 : Int64) (x10 : Int32) (C : MC) (I : MI) (J : MJ) (R : MR), Q92 n K x0 x1 x2 x3 x4 x5 x6 x8 x10 C I J R → PX2_count_92 F_X2_at (fun (x0 : Nat) (x1 : Int32) (x2 : Int32) (x3 : Int32) (x4 : Int32) (C : MC) (I : MI) (J : MJ) (R : MR) => ∃ m, m < n ∧ Q3 m K x0 x1 x2 x3 x4 C I J R) (fun (x0 : Nat) (x1 : Int32) (x2 : Int32) (x3 : Int32) (x4 : Int32) (C : MC) (I : MI) (J : MJ) (R : MR) => ∃ m, m < n ∧ Q35 m K x0 x1 x2 x3 x4 C I J R) (fun (x0 : Nat) (x1 : Int32) (x2 : Int32) (x3 : Int32) (x4 : Int32) (x5 : Int32) (x6 : Int64) (x8 : Int64) (x10 : Int32) (C : MC) (I : MI) (J : MJ) (R : MR) => ∃ m, m < n ∧ Q92 m K x0 x1 x2 x3 x4 x5 x6 x8 x10 C I J R) (fun (x0 : Nat) (x1 : Int32) (x2 : Int32) (x3 : Int32) (x4 : Int32) (x6 : Int64) (x8 : Int64) (x10 : Int32) (C : MC) (I : MI) (J : MJ) (R : MR) => ∃ m, m < n ∧ Q161 m K x0 x1 x2 x3 x4 x6 x8 x10 C I J R) K x0 x1 x2 x3 x4 x5 x6 x8 x10 C I J R)
    (h161 : ∀ (n : Nat) (K : AK) (x0 : Nat) (x1 : Int32) (x2 : Int32) (x3 : Int32) (x4 : Int32) (x6 : Int64) (x8 : Int64) (x10 : Int32) (C : MC) (I : MI) (J : MJ) (R : MR), Q161 n K x0 x1 x2 x3 x4 x6 x8 x10 C I J R → PX2_count_161 F_X2_at (fun (x0 : Nat) (x1 : Int32) (x2 : Int32) (x3 : Int32) (x4 : Int32) (C : MC) (I : MI) (J : MJ) (R : MR) => ∃ m, m < n ∧ Q3 m K x0 x1 x2 x3 x4 C I J R) (fun (x0 : Nat) (x1 : Int32) (x2 : Int32) (x3 : Int32) (x4 : Int32) (C : MC) (I : MI) (J : MJ) (R : MR) => ∃ m, m < n ∧ Q35 m K x0 x1 x2 x3 x4 C I J R) (fun (x0 : Nat) (x1 : Int32) (x2 : Int32) (x3 : Int32) (x4 : Int32) (x5 : Int32) (x6 : Int64) (x8 : Int64) (x10 : Int32) (C : MC) (I : MI) (J : MJ) (R : MR) => ∃ m, m < n ∧ Q92 m K x0 x1 x2 x3 x4 x5 x6 x8 x10 C I J R) (fun (x0 : Nat) (x1 : Int32) (x2 : Int32) (x3 : Int32) (x4 : Int32) (x6 : Int64) (x8 : Int64) (x10 : Int32) (C : MC) (I : MI) (J : MJ) (R : MR) => ∃ m, m < n ∧ Q161 m K x0 x1 x2 x3 x4 x6 x8 x10 C I J R) K x0 x1 x2 x3 x4 x6 x8 x10 C I J R) : SpX2_count l F := by
  refine Spec.of (by rfl) ?_
  intro Γ C I J R As Gd gl gr _ _ gb hF
  subst gl
  have G : Gb Γ yX2_count cX2_count 11 (none) [] rmX2_count bdX2_count := ⟨Gd, gr, gb⟩
  have key : ∀ n : Nat, (∀ (x0 : Nat) (x1 : Int32) (x2 : Int32) (x3 : Int32) (x4 : Int32) (C : MC) (I : MI) (J : MJ) (R : MR), Q3 n (gK Γ) x0 x1 x2 x3 x4 C I J R → AW Γ 0 0 C I J R 3 [(0, aR (some x0)), (1, aI x1), (2, aI x2), (3, aI x3), (4, aI x4)] []) ∧ (∀ (x0 : Nat) (x1 : Int32) (x2 : Int32) (x3 : Int32) (x4 : Int32) (C : MC) (I : MI) (J : MJ) (R : MR), Q35 n (gK Γ) x0 x1 x2 x3 x4 C I J R → AW Γ 0 0 C I J R 35 [(0, aR (some x0)), (1, aI x1), (2, aI x2), (3, aI x3), (4, aI x4)] []) ∧ (∀ (x0 : Nat) (x1 : Int32) (x2 : Int32) (x3 : Int32) (x4 : Int32) (x5 : Int32) (x6 : Int64) (x8 : Int64) (x10 : Int32) (C : MC) (I : MI) (J : MJ) (R : MR), Q92 n (gK Γ) x0 x1 x2 x3 x4 x5 x6 x8 x10 C I J R → AW Γ 0 0 C I J R 92 [(0, aR (some x0)), (1, aI x1), (2, aI x2), (3, aI x3), (4, aI x4), (5, aI x5), (6, aJ x6), (8, aJ x8), (10, aI x10)] []) ∧ (∀ (x0 : Nat) (x1 : Int32) (x2 : Int32) (x3 : Int32) (x4 : Int32) (x6 : Int64) (x8 : Int64) (x10 : Int32) (C : MC) (I : MI) (J : MJ) (R : MR), Q161 n (gK Γ) x0 x1 x2 x3 x4 x6 x8 x10 C I J R → AW Γ 0 0 C I J R 161 [(0, aR (some x0)), (1, aI x1), (2, aI x2), (3, aI x3), (4, aI x4), (6, aJ x6), (8, aJ x8), (10, aI x10)] []) := by
    intro n
    induction n using Nat.strongRecOn with
    | ind n ih =>
    have w3 : ∀ (x0 : Nat) (x1 : Int32) (x2 : Int32) (x3 : Int32) (x4 : Int32) (C : MC) (I : MI) (J : MJ) (R : MR), (∃ m, m < n ∧ Q3 m (gK Γ) x0 x1 x2 x3 x4 C I J R) → AW Γ 0 0 C I J R 3 [(0, aR (some x0)), (1, aI x1), (2, aI x2), (3, aI x3), (4, aI x4)] [] := fun x0 x1 x2 x3 x4 C I J R ⟨m, hm, hq⟩ => (ih m hm).1 x0 x1 x2 x3 x4 C I J R hq
    have w35 : ∀ (x0 : Nat) (x1 : Int32) (x2 : Int32) (x3 : Int32) (x4 : Int32) (C : MC) (I : MI) (J : MJ) (R : MR), (∃ m, m < n ∧ Q35 m (gK Γ) x0 x1 x2 x3 x4 C I J R) → AW Γ 0 0 C I J R 35 [(0, aR (some x0)), (1, aI x1), (2, aI x2), (3, aI x3), (4, aI x4)] [] := fun x0 x1 x2 x3 x4 C I J R ⟨m, hm, hq⟩ => (ih m hm).2.1 x0 x1 x2 x3 x4 C I J R hq
    have w92 : ∀ (x0 : Nat) (x1 : Int32) (x2 : Int32) (x3 : Int32) (x4 : Int32) (x5 : Int32) (x6 : Int64) (x8 : Int64) (x10 : Int32) (C : MC) (I : MI) (J : MJ) (R : MR), (∃ m, m < n ∧ Q92 m (gK Γ) x0 x1 x2 x3 x4 x5 x6 x8 x10 C I J R) → AW Γ 0 0 C I J R 92 [(0, aR (some x0)), (1, aI x1), (2, aI x2), (3, aI x3), (4, aI x4), (5, aI x5), (6, aJ x6), (8, aJ x8), (10, aI x10)] [] := fun x0 x1 x2 x3 x4 x5 x6 x8 x10 C I J R ⟨m, hm, hq⟩ => (ih m hm).2.2.1 x0 x1 x2 x3 x4 x5 x6 x8 x10 C I J R hq
    have w161 : ∀ (x0 : Nat) (x1 : Int32) (x2 : Int32) (x3 : Int32) (x4 : Int32) (x6 : Int64) (x8 : Int64) (x10 : Int32) (C : MC) (I : MI) (J : MJ) (R : MR), (∃ m, m < n ∧ Q161 m (gK Γ) x0 x1 x2 x3 x4 x6 x8 x10 C I J R) → AW Γ 0 0 C I J R 161 [(0, aR (some x0)), (1, aI x1), (2, aI x2), (3, aI x3), (4, aI x4), (6, aJ x6), (8, aJ x8), (10, aI x10)] [] := fun x0 x1 x2 x3 x4 x6 x8 x10 C I J R ⟨m, hm, hq⟩ => (ih m hm).2.2.2 x0 x1 x2 x3 x4 x6 x8 x10 C I J R hq
    have w203 : ∀ (x0 : Nat) (x1 : Int32) (x2 : Int32) (x3 : Int32) (x4 : Int32) (x6 : Int64) (x8 : Int64) (x10 : Int32) (s0 : Option Nat) (s1 : Int32) (s2 : Int64) (s3 : Int64) (C : MC) (I : MI) (J : MJ) (R : MR), PX2_count_203 F_X2_at (fun (x0 : Nat) (x1 : Int32) (x2 : Int32) (x3 : Int32) (x4 : Int32) (C : MC) (I : MI) (J : MJ) (R : MR) => ∃ m, m < n ∧ Q3 m (gK Γ) x0 x1 x2 x3 x4 C I J R) (fun (x0 : Nat) (x1 : Int32) (x2 : Int32) (x3 : Int32) (x4 : Int32) (C : MC) (I : MI) (J : MJ) (R : MR) => ∃ m, m < n ∧ Q35 m (gK Γ) x0 x1 x2 x3 x4 C I J R) (fun (x0 : Nat) (x1 : Int32) (x2 : Int32) (x3 : Int32) (x4 : Int32) (x5 : Int32) (x6 : Int64) (x8 : Int64) (x10 : Int32) (C : MC) (I : MI) (J : MJ) (R : MR) => ∃ m, m < n ∧ Q92 m (gK Γ) x0 x1 x2 x3 x4 x5 x6 x8 x10 C I J R) (fun (x0 : Nat) (x1 : Int32) (x2 : Int32) (x3 : Int32) (x4 : Int32) (x6 : Int64) (x8 : Int64) (x10 : Int32) (C : MC) (I : MI) (J : MJ) (R : MR) => ∃ m, m < n ∧ Q161 m (gK Γ) x0 x1 x2 x3 x4 x6 x8 x10 C I J R) (gK Γ) x0 x1 x2 x3 x4 x6 x8 x10 s0 s1 s2 s3 C I J R → AW Γ 0 0 C I J R 203 [(0, aR (some x0)), (1, aI x1), (2, aI x2), (3, aI x3), (4, aI x4), (6, aJ x6), (8, aJ x8), (10, aI x10)] [aJ s3, aJ s2, aI s1, aR s0] := fun x0 x1 x2 x3 x4 x6 x8 x10 s0 s1 s2 s3 C I J R h => bX2_count_203 G w161 h
    have w149 : ∀ (x0 : Nat) (x1 : Int32) (x2 : Int32) (x3 : Int32) (x4 : Int32) (x5 : Int32) (x6 : Int64) (x10 : Int32) (s0 : Int64) (s1 : Int64) (C : MC) (I : MI) (J : MJ) (R : MR), PX2_count_149 F_X2_at (fun (x0 : Nat) (x1 : Int32) (x2 : Int32) (x3 : Int32) (x4 : Int32) (C : MC) (I : MI) (J : MJ) (R : MR) => ∃ m, m < n ∧ Q3 m (gK Γ) x0 x1 x2 x3 x4 C I J R) (fun (x0 : Nat) (x1 : Int32) (x2 : Int32) (x3 : Int32) (x4 : Int32) (C : MC) (I : MI) (J : MJ) (R : MR) => ∃ m, m < n ∧ Q35 m (gK Γ) x0 x1 x2 x3 x4 C I J R) (fun (x0 : Nat) (x1 : Int32) (x2 : Int32) (x3 : Int32) (x4 : Int32) (x5 : Int32) (x6 : Int64) (x8 : Int64) (x10 : Int32) (C : MC) (I : MI) (J : MJ) (R : MR) => ∃ m, m < n ∧ Q92 m (gK Γ) x0 x1 x2 x3 x4 x5 x6 x8 x10 C I J R) (fun (x0 : Nat) (x1 : Int32) (x2 : Int32) (x3 : Int32) (x4 : Int32) (x6 : Int64) (x8 : Int64) (x10 : Int32) (C : MC) (I : MI) (J : MJ) (R : MR) => ∃ m, m < n ∧ Q161 m (gK Γ) x0 x1 x2 x3 x4 x6 x8 x10 C I J R) (gK Γ) x0 x1 x2 x3 x4 x5 x6 x10 s0 s1 C I J R → AW Γ 0 0 C I J R 149 [(0, aR (some x0)), (1, aI x1), (2, aI x2), (3, aI x3), (4, aI x4), (5, aI x5), (6, aJ x6), (10, aI x10)] [aJ s1, aJ s0] := fun x0 x1 x2 x3 x4 x5 x6 x10 s0 s1 C I J R h => bX2_count_149 G w92 h
    have w87 : ∀ (x0 : Nat) (x1 : Int32) (x2 : Int32) (x3 : Int32) (x4 : Int32) (x5 : Int32) (x6 : Int64) (s0 : Int64) (C : MC) (I : MI) (J : MJ) (R : MR), PX2_count_87 F_X2_at (fun (x0 : Nat) (x1 : Int32) (x2 : Int32) (x3 : Int32) (x4 : Int32) (C : MC) (I : MI) (J : MJ) (R : MR) => ∃ m, m < n ∧ Q3 m (gK Γ) x0 x1 x2 x3 x4 C I J R) (fun (x0 : Nat) (x1 : Int32) (x2 : Int32) (x3 : Int32) (x4 : Int32) (C : MC) (I : MI) (J : MJ) (R : MR) => ∃ m, m < n ∧ Q35 m (gK Γ) x0 x1 x2 x3 x4 C I J R) (fun (x0 : Nat) (x1 : Int32) (x2 : Int32) (x3 : Int32) (x4 : Int32) (x5 : Int32) (x6 : Int64) (x8 : Int64) (x10 : Int32) (C : MC) (I : MI) (J : MJ) (R : MR) => ∃ m, m < n ∧ Q92 m (gK Γ) x0 x1 x2 x3 x4 x5 x6 x8 x10 C I J R) (fun (x0 : Nat) (x1 : Int32) (x2 : Int32) (x3 : Int32) (x4 : Int32) (x6 : Int64) (x8 : Int64) (x10 : Int32) (C : MC) (I : MI) (J : MJ) (R : MR) => ∃ m, m < n ∧ Q161 m (gK Γ) x0 x1 x2 x3 x4 x6 x8 x10 C I J R) (gK Γ) x0 x1 x2 x3 x4 x5 x6 s0 C I J R → AW Γ 0 0 C I J R 87 [(0, aR (some x0)), (1, aI x1), (2, aI x2), (3, aI x3), (4, aI x4), (5, aI x5), (6, aJ x6)] [aJ s0] := fun x0 x1 x2 x3 x4 x5 x6 s0 C I J R h => bX2_count_87 G w92 h
    have w25 : ∀ (x0 : Nat) (x1 : Int32) (x2 : Int32) (x3 : Int32) (x4 : Int32) (s0 : Option Nat) (s1 : Int32) (s2 : Int64) (C : MC) (I : MI) (J : MJ) (R : MR), PX2_count_25 F_X2_at (fun (x0 : Nat) (x1 : Int32) (x2 : Int32) (x3 : Int32) (x4 : Int32) (C : MC) (I : MI) (J : MJ) (R : MR) => ∃ m, m < n ∧ Q3 m (gK Γ) x0 x1 x2 x3 x4 C I J R) (fun (x0 : Nat) (x1 : Int32) (x2 : Int32) (x3 : Int32) (x4 : Int32) (C : MC) (I : MI) (J : MJ) (R : MR) => ∃ m, m < n ∧ Q35 m (gK Γ) x0 x1 x2 x3 x4 C I J R) (fun (x0 : Nat) (x1 : Int32) (x2 : Int32) (x3 : Int32) (x4 : Int32) (x5 : Int32) (x6 : Int64) (x8 : Int64) (x10 : Int32) (C : MC) (I : MI) (J : MJ) (R : MR) => ∃ m, m < n ∧ Q92 m (gK Γ) x0 x1 x2 x3 x4 x5 x6 x8 x10 C I J R) (fun (x0 : Nat) (x1 : Int32) (x2 : Int32) (x3 : Int32) (x4 : Int32) (x6 : Int64) (x8 : Int64) (x10 : Int32) (C : MC) (I : MI) (J : MJ) (R : MR) => ∃ m, m < n ∧ Q161 m (gK Γ) x0 x1 x2 x3 x4 x6 x8 x10 C I J R) (gK Γ) x0 x1 x2 x3 x4 s0 s1 s2 C I J R → AW Γ 0 0 C I J R 25 [(0, aR (some x0)), (1, aI x1), (2, aI x2), (3, aI x3), (4, aI x4)] [aJ s2, aI s1, aR s0] := fun x0 x1 x2 x3 x4 s0 s1 s2 C I J R h => bX2_count_25 G w3 h
    exact ⟨fun x0 x1 x2 x3 x4 C I J R h => bX2_count_3 G w25 w35 (h3 n (gK Γ) x0 x1 x2 x3 x4 C I J R h), fun x0 x1 x2 x3 x4 C I J R h => bX2_count_35 G w87 (h35 n (gK Γ) x0 x1 x2 x3 x4 C I J R h), fun x0 x1 x2 x3 x4 x5 x6 x8 x10 C I J R h => bX2_count_92 G S_X2_at w149 w161 (h92 n (gK Γ) x0 x1 x2 x3 x4 x5 x6 x8 x10 C I J R h), fun x0 x1 x2 x3 x4 x6 x8 x10 C I J R h => bX2_count_161 G w35 w203 (h161 n (gK Γ) x0 x1 x2 x3 x4 x6 x8 x10 C I J R h)⟩
  have w3 : ∀ (x0 : Nat) (x1 : Int32) (x2 : Int32) (x3 : Int32) (x4 : Int32) (C : MC) (I : MI) (J : MJ) (R : MR), (∃ n, Q3 n (gK Γ) x0 x1 x2 x3 x4 C I J R) → AW Γ 0 0 C I J R 3 [(0, aR (some x0)), (1, aI x1), (2, aI x2), (3, aI x3), (4, aI x4)] [] := fun x0 x1 x2 x3 x4 C I J R ⟨m, hq⟩ => (key m).1 x0 x1 x2 x3 x4 C I J R hq
  have w35 : ∀ (x0 : Nat) (x1 : Int32) (x2 : Int32) (x3 : Int32) (x4 : Int32) (C : MC) (I : MI) (J : MJ) (R : MR), (∃ n, Q35 n (gK Γ) x0 x1 x2 x3 x4 C I J R) → AW Γ 0 0 C I J R 35 [(0, aR (some x0)), (1, aI x1), (2, aI x2), (3, aI x3), (4, aI x4)] [] := fun x0 x1 x2 x3 x4 C I J R ⟨m, hq⟩ => (key m).2.1 x0 x1 x2 x3 x4 C I J R hq
  have w92 : ∀ (x0 : Nat) (x1 : Int32) (x2 : Int32) (x3 : Int32) (x4 : Int32) (x5 : Int32) (x6 : Int64) (x8 : Int64) (x10 : Int32) (C : MC) (I : MI) (J : MJ) (R : MR), (∃ n, Q92 n (gK Γ) x0 x1 x2 x3 x4 x5 x6 x8 x10 C I J R) → AW Γ 0 0 C I J R 92 [(0, aR (some x0)), (1, aI x1), (2, aI x2), (3, aI x3), (4, aI x4), (5, aI x5), (6, aJ x6), (8, aJ x8), (10, aI x10)] [] := fun x0 x1 x2 x3 x4 x5 x6 x8 x10 C I J R ⟨m, hq⟩ => (key m).2.2.1 x0 x1 x2 x3 x4 x5 x6 x8 x10 C I J R hq
  have w161 : ∀ (x0 : Nat) (x1 : Int32) (x2 : Int32) (x3 : Int32) (x4 : Int32) (x6 : Int64) (x8 : Int64) (x10 : Int32) (C : MC) (I : MI) (J : MJ) (R : MR), (∃ n, Q161 n (gK Γ) x0 x1 x2 x3 x4 x6 x8 x10 C I J R) → AW Γ 0 0 C I J R 161 [(0, aR (some x0)), (1, aI x1), (2, aI x2), (3, aI x3), (4, aI x4), (6, aJ x6), (8, aJ x8), (10, aI x10)] [] := fun x0 x1 x2 x3 x4 x6 x8 x10 C I J R ⟨m, hq⟩ => (key m).2.2.2 x0 x1 x2 x3 x4 x6 x8 x10 C I J R hq
  have w203 : ∀ (x0 : Nat) (x1 : Int32) (x2 : Int32) (x3 : Int32) (x4 : Int32) (x6 : Int64) (x8 : Int64) (x10 : Int32) (s0 : Option Nat) (s1 : Int32) (s2 : Int64) (s3 : Int64) (C : MC) (I : MI) (J : MJ) (R : MR), PX2_count_203 F_X2_at (fun (x0 : Nat) (x1 : Int32) (x2 : Int32) (x3 : Int32) (x4 : Int32) (C : MC) (I : MI) (J : MJ) (R : MR) => ∃ n, Q3 n (gK Γ) x0 x1 x2 x3 x4 C I J R) (fun (x0 : Nat) (x1 : Int32) (x2 : Int32) (x3 : Int32) (x4 : Int32) (C : MC) (I : MI) (J : MJ) (R : MR) => ∃ n, Q35 n (gK Γ) x0 x1 x2 x3 x4 C I J R) (fun (x0 : Nat) (x1 : Int32) (x2 : Int32) (x3 : Int32) (x4 : Int32) (x5 : Int32) (x6 : Int64) (x8 : Int64) (x10 : Int32) (C : MC) (I : MI) (J : MJ) (R : MR) => ∃ n, Q92 n (gK Γ) x0 x1 x2 x3 x4 x5 x6 x8 x10 C I J R) (fun (x0 : Nat) (x1 : Int32) (x2 : Int32) (x3 : Int32) (x4 : Int32) (x6 : Int64) (x8 : Int64) (x10 : Int32) (C : MC) (I : MI) (J : MJ) (R : MR) => ∃ n, Q161 n (gK Γ) x0 x1 x2 x3 x4 x6 x8 x10 C I J R) (gK Γ) x0 x1 x2 x3 x4 x6 x8 x10 s0 s1 s2 s3 C I J R → AW Γ 0 0 C I J R 203 [(0, aR (some x0)), (1, aI x1), (2, aI x2), (3, aI x3), (4, aI x4), (6, aJ x6), (8, aJ x8), (10, aI x10)] [aJ s3, aJ s2, aI s1, aR s0] := fun x0 x1 x2 x3 x4 x6 x8 x10 s0 s1 s2 s3 C I J R h => bX2_count_203 G w161 h
  have w149 : ∀ (x0 : Nat) (x1 : Int32) (x2 : Int32) (x3 : Int32) (x4 : Int32) (x5 : Int32) (x6 : Int64) (x10 : Int32) (s0 : Int64) (s1 : Int64) (C : MC) (I : MI) (J : MJ) (R : MR), PX2_count_149 F_X2_at (fun (x0 : Nat) (x1 : Int32) (x2 : Int32) (x3 : Int32) (x4 : Int32) (C : MC) (I : MI) (J : MJ) (R : MR) => ∃ n, Q3 n (gK Γ) x0 x1 x2 x3 x4 C I J R) (fun (x0 : Nat) (x1 : Int32) (x2 : Int32) (x3 : Int32) (x4 : Int32) (C : MC) (I : MI) (J : MJ) (R : MR) => ∃ n, Q35 n (gK Γ) x0 x1 x2 x3 x4 C I J R) (fun (x0 : Nat) (x1 : Int32) (x2 : Int32) (x3 : Int32) (x4 : Int32) (x5 : Int32) (x6 : Int64) (x8 : Int64) (x10 : Int32) (C : MC) (I : MI) (J : MJ) (R : MR) => ∃ n, Q92 n (gK Γ) x0 x1 x2 x3 x4 x5 x6 x8 x10 C I J R) (fun (x0 : Nat) (x1 : Int32) (x2 : Int32) (x3 : Int32) (x4 : Int32) (x6 : Int64) (x8 : Int64) (x10 : Int32) (C : MC) (I : MI) (J : MJ) (R : MR) => ∃ n, Q161 n (gK Γ) x0 x1 x2 x3 x4 x6 x8 x10 C I J R) (gK Γ) x0 x1 x2 x3 x4 x5 x6 x10 s0 s1 C I J R → AW Γ 0 0 C I J R 149 [(0, aR (some x0)), (1, aI x1), (2, aI x2), (3, aI x3), (4, aI x4), (5, aI x5), (6, aJ x6), (10, aI x10)] [aJ s1, aJ s0] := fun x0 x1 x2 x3 x4 x5 x6 x10 s0 s1 C I J R h => bX2_count_149 G w92 h
  have w87 : ∀ (x0 : Nat) (x1 : Int32) (x2 : Int32) (x3 : Int32) (x4 : Int32) (x5 : Int32) (x6 : Int64) (s0 : Int64) (C : MC) (I : MI) (J : MJ) (R : MR), PX2_count_87 F_X2_at (fun (x0 : Nat) (x1 : Int32) (x2 : Int32) (x3 : Int32) (x4 : Int32) (C : MC) (I : MI) (J : MJ) (R : MR) => ∃ n, Q3 n (gK Γ) x0 x1 x2 x3 x4 C I J R) (fun (x0 : Nat) (x1 : Int32) (x2 : Int32) (x3 : Int32) (x4 : Int32) (C : MC) (I : MI) (J : MJ) (R : MR) => ∃ n, Q35 n (gK Γ) x0 x1 x2 x3 x4 C I J R) (fun (x0 : Nat) (x1 : Int32) (x2 : Int32) (x3 : Int32) (x4 : Int32) (x5 : Int32) (x6 : Int64) (x8 : Int64) (x10 : Int32) (C : MC) (I : MI) (J : MJ) (R : MR) => ∃ n, Q92 n (gK Γ) x0 x1 x2 x3 x4 x5 x6 x8 x10 C I J R) (fun (x0 : Nat) (x1 : Int32) (x2 : Int32) (x3 : Int32) (x4 : Int32) (x6 : Int64) (x8 : Int64) (x10 : Int32) (C : MC) (I : MI) (J : MJ) (R : MR) => ∃ n, Q161 n (gK Γ) x0 x1 x2 x3 x4 x6 x8 x10 C I J R) (gK Γ) x0 x1 x2 x3 x4 x5 x6 s0 C I J R → AW Γ 0 0 C I J R 87 [(0, aR (some x0)), (1, aI x1), (2, aI x2), (3, aI x3), (4, aI x4), (5, aI x5), (6, aJ x6)] [aJ s0] := fun x0 x1 x2 x3 x4 x5 x6 s0 C I J R h => bX2_count_87 G w92 h
  have w25 : ∀ (x0 : Nat) (x1 : Int32) (x2 : Int32) (x3 : Int32) (x4 : Int32) (s0 : Option Nat) (s1 : Int32) (s2 : Int64) (C : MC) (I : MI) (J : MJ) (R : MR), PX2_count_25 F_X2_at (fun (x0 : Nat) (x1 : Int32) (x2 : Int32) (x3 : Int32) (x4 : Int32) (C : MC) (I : MI) (J : MJ) (R : MR) => ∃ n, Q3 n (gK Γ) x0 x1 x2 x3 x4 C I J R) (fun (x0 : Nat) (x1 : Int32) (x2 : Int32) (x3 : Int32) (x4 : Int32) (C : MC) (I : MI) (J : MJ) (R : MR) => ∃ n, Q35 n (gK Γ) x0 x1 x2 x3 x4 C I J R) (fun (x0 : Nat) (x1 : Int32) (x2 : Int32) (x3 : Int32) (x4 : Int32) (x5 : Int32) (x6 : Int64) (x8 : Int64) (x10 : Int32) (C : MC) (I : MI) (J : MJ) (R : MR) => ∃ n, Q92 n (gK Γ) x0 x1 x2 x3 x4 x5 x6 x8 x10 C I J R) (fun (x0 : Nat) (x1 : Int32) (x2 : Int32) (x3 : Int32) (x4 : Int32) (x6 : Int64) (x8 : Int64) (x10 : Int32) (C : MC) (I : MI) (J : MJ) (R : MR) => ∃ n, Q161 n (gK Γ) x0 x1 x2 x3 x4 x6 x8 x10 C I J R) (gK Γ) x0 x1 x2 x3 x4 s0 s1 s2 C I J R → AW Γ 0 0 C I J R 25 [(0, aR (some x0)), (1, aI x1), (2, aI x2), (3, aI x3), (4, aI x4)] [aJ s2, aI s1, aR s0] := fun x0 x1 x2 x3 x4 s0 s1 s2 C I J R h => bX2_count_25 G w3 h
  obtain ⟨x0, x1, x2, x3, rfl, h⟩ := h0 As C I J R (gK Γ) hF
  exact ⟨Nat.le_of_ble_eq_true rfl, bX2_count_0 G w3 h⟩
def PX2_makeRetry_293 (F_X2_clear : SPF) (F_X2_at : SPF) (Q44 : Nat → Int32 → Int32 → Int32 → Int32 → MC → MI → MJ → MR → Prop) (Q62 : Nat → Int32 → Int32 → Int32 → Int32 → Int32 → MC → MI → MJ → MR → Prop) (Q97 : Nat → Int32 → Int32 → Int32 → Int32 → Int32 → MC → MI → MJ → MR → Prop) (Q124 : Nat → Int32 → Int32 → Int32 → Int32 → Int32 → Int32 → MC → MI → MJ → MR → Prop) (Q254 : Nat → Int32 → Int32 → Int32 → Int32 → Int32 → MC → MI → MJ → MR → Prop) (Q293 : Nat → Int32 → MC → MI → MJ → MR → Prop) (K : AK) (x0 : Nat) (x5 : Int32) (C : MC) (I : MI) (J : MJ) (R : MR) : Prop :=
      (C x0).1 = 3 ∧
      ∃ q2 : Nat, R x0 27 = some q2 ∧
      (20 ≤ (C q2).1 ∧ (C q2).1 ≤ 30) ∧
      (((nI (C q2).2) ≤ x5 →
      K (.inl none) C I J R) ∧
      (¬ (nI (C q2).2) ≤ x5 →
      ∃ q5 : Nat, R x0 28 = some q5 ∧
      (C q5).1 = 21 ∧
      vp_in x5 (C q5).2 ∧
      (C q2).1 = 21 ∧
      vp_in x5 (C q2).2 ∧
      ∀ J10 : MJ, J10 = va_up J q2 (va_up (J q2) x5.toNatClampNeg (J q5 x5.toNatClampNeg)) →
      Q293 x0 (x5 + 1) C I J10 R))
def PX2_makeRetry_254 (F_X2_clear : SPF) (F_X2_at : SPF) (Q44 : Nat → Int32 → Int32 → Int32 → Int32 → MC → MI → MJ → MR → Prop) (Q62 : Nat → Int32 → Int32 → Int32 → Int32 → Int32 → MC → MI → MJ → MR → Prop) (Q97 : Nat → Int32 → Int32 → Int32 → Int32 → Int32 → MC → MI → MJ → MR → Prop) (Q124 : Nat → Int32 → Int32 → Int32 → Int32 → Int32 → Int32 → MC → MI → MJ → MR → Prop) (Q254 : Nat → Int32 → Int32 → Int32 → Int32 → Int32 → MC → MI → MJ → MR → Prop) (Q293 : Nat → Int32 → MC → MI → MJ → MR → Prop) (K : AK) (x0 : Nat) (x2 : Int32) (x3 : Int32) (x4 : Int32) (x5 : Int32) (x6 : Int32) (C : MC) (I : MI) (J : MJ) (R : MR) : Prop :=
      (C x0).1 = 3 ∧
      ∃ q2 : Nat, R x0 28 = some q2 ∧
      (20 ≤ (C q2).1 ∧ (C q2).1 ≤ 30) ∧
      (((nI (C q2).2) ≤ x6 →
      Q44 x0 x2 x3 x4 (x5 + 1) C I J R) ∧
      (¬ (nI (C q2).2) ≤ x6 →
      ∃ q5 : Nat, R x0 29 = some q5 ∧
      (C q5).1 = 21 ∧
      vp_in x6 (C q5).2 ∧
      (C q2).1 = 21 ∧
      vp_in x6 (C q2).2 ∧
      ∀ J10 : MJ, J10 = va_up J q2 (va_up (J q2) x6.toNatClampNeg (J q5 x6.toNatClampNeg)) →
      Q254 x0 x2 x3 x4 x5 (x6 + 1) C I J10 R))
def PX2_makeRetry_245 (F_X2_clear : SPF) (F_X2_at : SPF) (Q44 : Nat → Int32 → Int32 → Int32 → Int32 → MC → MI → MJ → MR → Prop) (Q62 : Nat → Int32 → Int32 → Int32 → Int32 → Int32 → MC → MI → MJ → MR → Prop) (Q97 : Nat → Int32 → Int32 → Int32 → Int32 → Int32 → MC → MI → MJ → MR → Prop) (Q124 : Nat → Int32 → Int32 → Int32 → Int32 → Int32 → Int32 → MC → MI → MJ → MR → Prop) (Q254 : Nat → Int32 → Int32 → Int32 → Int32 → Int32 → MC → MI → MJ → MR → Prop) (Q293 : Nat → Int32 → MC → MI → MJ → MR → Prop) (K : AK) (x0 : Nat) (x2 : Int32) (x3 : Int32) (x4 : Int32) (x5 : Int32) (x6 : Int32) (C : MC) (I : MI) (J : MJ) (R : MR) : Prop :=
      Q97 x0 x2 x3 x4 x5 (x6 + 1) C I J R
def PX2_makeRetry_203 (F_X2_clear : SPF) (F_X2_at : SPF) (Q44 : Nat → Int32 → Int32 → Int32 → Int32 → MC → MI → MJ → MR → Prop) (Q62 : Nat → Int32 → Int32 → Int32 → Int32 → Int32 → MC → MI → MJ → MR → Prop) (Q97 : Nat → Int32 → Int32 → Int32 → Int32 → Int32 → MC → MI → MJ → MR → Prop) (Q124 : Nat → Int32 → Int32 → Int32 → Int32 → Int32 → Int32 → MC → MI → MJ → MR → Prop) (Q254 : Nat → Int32 → Int32 → Int32 → Int32 → Int32 → MC → MI → MJ → MR → Prop) (Q293 : Nat → Int32 → MC → MI → MJ → MR → Prop) (K : AK) (x0 : Nat) (x2 : Int32) (x3 : Int32) (x4 : Int32) (x5 : Int32) (x6 : Int32) (x7 : Int32) (C : MC) (I : MI) (J : MJ) (R : MR) : Prop :=
      (C x0).1 = 3 ∧
      ∃ q2 : Nat, R x0 29 = some q2 ∧
      (C q2).1 = 21 ∧
      vp_in (x6 + (if x3 < x7 then x3 else x7)) (C q2).2 ∧
      ∃ q5 : Nat, R x0 28 = some q5 ∧
      (C q5).1 = 21 ∧
      vp_in x6 (C q5).2 ∧
      F_X2_at [aI x2, aI x7] C I J R (fun o C8 I9 J10 R11 =>
      ∃ r12 : Int32, o = .inl (some (aI r12)) ∧
      ∃ q13 : Nat, R x0 23 = some q13 ∧
      (C8 q13).1 = 21 ∧
      vp_in r12 (C8 q13).2 ∧
      (C8 q2).1 = 21 ∧
      vp_in (x6 + (if x3 < x7 then x3 else x7)) (C8 q2).2 ∧
      ∀ J18 : MJ, J18 = va_up J10 q2 (va_up (J10 q2) (x6 + (if x3 < x7 then x3 else x7)).toNatClampNeg ((J q2 (x6 + (if x3 < x7 then x3 else x7)).toNatClampNeg) + ((J q5 x6.toNatClampNeg) * (J10 q13 r12.toNatClampNeg)))) →
      Q124 x0 x2 x3 x4 x5 x6 (x7 + 1) C8 I9 J18 R11)
def PX2_makeRetry_124 (F_X2_clear : SPF) (F_X2_at : SPF) (Q44 : Nat → Int32 → Int32 → Int32 → Int32 → MC → MI → MJ → MR → Prop) (Q62 : Nat → Int32 → Int32 → Int32 → Int32 → Int32 → MC → MI → MJ → MR → Prop) (Q97 : Nat → Int32 → Int32 → Int32 → Int32 → Int32 → MC → MI → MJ → MR → Prop) (Q124 : Nat → Int32 → Int32 → Int32 → Int32 → Int32 → Int32 → MC → MI → MJ → MR → Prop) (Q254 : Nat → Int32 → Int32 → Int32 → Int32 → Int32 → MC → MI → MJ → MR → Prop) (Q293 : Nat → Int32 → MC → MI → MJ → MR → Prop) (K : AK) (x0 : Nat) (x2 : Int32) (x3 : Int32) (x4 : Int32) (x5 : Int32) (x6 : Int32) (x7 : Int32) (C : MC) (I : MI) (J : MJ) (R : MR) : Prop :=
      (((121 : Int32) ≤ x7 →
      PX2_makeRetry_245 F_X2_clear F_X2_at Q44 Q62 Q97 Q124 Q254 Q293 K x0 x2 x3 x4 x5 x6 C I J R) ∧
      (¬ (121 : Int32) ≤ x7 →
      ((x3 < x7 →
      (C x0).1 = 3 ∧
      ∃ q4 : Nat, R x0 29 = some q4 ∧
      (C q4).1 = 21 ∧
      vp_in (x6 + x3) (C q4).2 ∧
      ∃ q7 : Nat, R x0 28 = some q7 ∧
      (C q7).1 = 21 ∧
      vp_in x6 (C q7).2 ∧
      F_X2_at [aI x2, aI x7] C I J R (fun o C10 I11 J12 R13 =>
      ∃ r14 : Int32, o = .inl (some (aI r14)) ∧
      ∃ q15 : Nat, R x0 22 = some q15 ∧
      (C10 q15).1 = 21 ∧
      vp_in r14 (C10 q15).2 ∧
      (C10 q4).1 = 21 ∧
      vp_in (x6 + x3) (C10 q4).2 ∧
      ∀ J20 : MJ, J20 = va_up J12 q4 (va_up (J12 q4) (x6 + x3).toNatClampNeg ((J q4 (x6 + x3).toNatClampNeg) + ((J q7 x6.toNatClampNeg) * (J12 q15 r14.toNatClampNeg)))) →
      PX2_makeRetry_203 F_X2_clear F_X2_at Q44 Q62 Q97 Q124 Q254 Q293 K x0 x2 x3 x4 x5 x6 x7 C10 I11 J20 R13)) ∧
      (¬ x3 < x7 →
      (C x0).1 = 3 ∧
      ∃ q22 : Nat, R x0 26 = some q22 ∧
      (C q22).1 = 21 ∧
      vp_in (x6 + x7) (C q22).2 ∧
      ∃ q25 : Nat, R x0 28 = some q25 ∧
      (C q25).1 = 21 ∧
      vp_in x6 (C q25).2 ∧
      F_X2_at [aI x2, aI x7] C I J R (fun o C28 I29 J30 R31 =>
      ∃ r32 : Int32, o = .inl (some (aI r32)) ∧
      ∃ q33 : Nat, R x0 22 = some q33 ∧
      (C28 q33).1 = 21 ∧
      vp_in r32 (C28 q33).2 ∧
      (C28 q22).1 = 21 ∧
      vp_in (x6 + x7) (C28 q22).2 ∧
      ∀ J38 : MJ, J38 = va_up J30 q22 (va_up (J30 q22) (x6 + x7).toNatClampNeg ((J q22 (x6 + x7).toNatClampNeg) + ((J q25 x6.toNatClampNeg) * (J30 q33 r32.toNatClampNeg)))) →
      PX2_makeRetry_203 F_X2_clear F_X2_at Q44 Q62 Q97 Q124 Q254 Q293 K x0 x2 x3 x4 x5 x6 x7 C28 I29 J38 R31)))))
def PX2_makeRetry_97 (F_X2_clear : SPF) (F_X2_at : SPF) (Q44 : Nat → Int32 → Int32 → Int32 → Int32 → MC → MI → MJ → MR → Prop) (Q62 : Nat → Int32 → Int32 → Int32 → Int32 → Int32 → MC → MI → MJ → MR → Prop) (Q97 : Nat → Int32 → Int32 → Int32 → Int32 → Int32 → MC → MI → MJ → MR → Prop) (Q124 : Nat → Int32 → Int32 → Int32 → Int32 → Int32 → Int32 → MC → MI → MJ → MR → Prop) (Q254 : Nat → Int32 → Int32 → Int32 → Int32 → Int32 → MC → MI → MJ → MR → Prop) (Q293 : Nat → Int32 → MC → MI → MJ → MR → Prop) (K : AK) (x0 : Nat) (x2 : Int32) (x3 : Int32) (x4 : Int32) (x5 : Int32) (x6 : Int32) (C : MC) (I : MI) (J : MJ) (R : MR) : Prop :=
      (((x3 * x5) < x6 →
      Q254 x0 x2 x3 x4 x5 (0 : Int32) C I J R) ∧
      (¬ (x3 * x5) < x6 →
      (C x0).1 = 3 ∧
      ∃ q3 : Nat, R x0 28 = some q3 ∧
      (C q3).1 = 21 ∧
      vp_in x6 (C q3).2 ∧
      ((¬ (J q3 x6.toNatClampNeg) = (0 : Int64) →
      Q124 x0 x2 x3 x4 x5 x6 (0 : Int32) C I J R) ∧
      ((J q3 x6.toNatClampNeg) = (0 : Int64) →
      PX2_makeRetry_245 F_X2_clear F_X2_at Q44 Q62 Q97 Q124 Q254 Q293 K x0 x2 x3 x4 x5 x6 C I J R))))
def PX2_makeRetry_62 (F_X2_clear : SPF) (F_X2_at : SPF) (Q44 : Nat → Int32 → Int32 → Int32 → Int32 → MC → MI → MJ → MR → Prop) (Q62 : Nat → Int32 → Int32 → Int32 → Int32 → Int32 → MC → MI → MJ → MR → Prop) (Q97 : Nat → Int32 → Int32 → Int32 → Int32 → Int32 → MC → MI → MJ → MR → Prop) (Q124 : Nat → Int32 → Int32 → Int32 → Int32 → Int32 → Int32 → MC → MI → MJ → MR → Prop) (Q254 : Nat → Int32 → Int32 → Int32 → Int32 → Int32 → MC → MI → MJ → MR → Prop) (Q293 : Nat → Int32 → MC → MI → MJ → MR → Prop) (K : AK) (x0 : Nat) (x2 : Int32) (x3 : Int32) (x4 : Int32) (x5 : Int32) (x6 : Int32) (C : MC) (I : MI) (J : MJ) (R : MR) : Prop :=
      (C x0).1 = 3 ∧
      ∃ q2 : Nat, R x0 26 = some q2 ∧
      (20 ≤ (C q2).1 ∧ (C q2).1 ≤ 30) ∧
      (((nI (C q2).2) ≤ x6 →
      Q97 x0 x2 x3 x4 x5 (0 : Int32) C I J R) ∧
      (¬ (nI (C q2).2) ≤ x6 →
      (C q2).1 = 21 ∧
      vp_in x6 (C q2).2 ∧
      ∃ q7 : Nat, R x0 24 = some q7 ∧
      (C q7).1 = 21 ∧
      vp_in x2 (C q7).2 ∧
      ∀ J10 : MJ, J10 = va_up J q2 (va_up (J q2) x6.toNatClampNeg ((J q2 x6.toNatClampNeg) * (J q7 x2.toNatClampNeg))) →
      Q62 x0 x2 x3 x4 x5 (x6 + 1) C I J10 R))
def PX2_makeRetry_44 (F_X2_clear : SPF) (F_X2_at : SPF) (Q44 : Nat → Int32 → Int32 → Int32 → Int32 → MC → MI → MJ → MR → Prop) (Q62 : Nat → Int32 → Int32 → Int32 → Int32 → Int32 → MC → MI → MJ → MR → Prop) (Q97 : Nat → Int32 → Int32 → Int32 → Int32 → Int32 → MC → MI → MJ → MR → Prop) (Q124 : Nat → Int32 → Int32 → Int32 → Int32 → Int32 → Int32 → MC → MI → MJ → MR → Prop) (Q254 : Nat → Int32 → Int32 → Int32 → Int32 → Int32 → MC → MI → MJ → MR → Prop) (Q293 : Nat → Int32 → MC → MI → MJ → MR → Prop) (K : AK) (x0 : Nat) (x2 : Int32) (x3 : Int32) (x4 : Int32) (x5 : Int32) (C : MC) (I : MI) (J : MJ) (R : MR) : Prop :=
      ((x4 ≤ x5 →
      Q293 x0 (0 : Int32) C I J R) ∧
      (¬ x4 ≤ x5 →
      (C x0).1 = 3 ∧
      F_X2_clear [aR (some x0), aR (R x0 29)] C I J R (fun o C3 I4 J5 R6 =>
      o = .inl none ∧
      Q62 x0 x2 x3 x4 x5 (0 : Int32) C3 I4 J5 R6)))
def PX2_makeRetry_0 (F_X2_clear : SPF) (F_X2_at : SPF) (Q44 : Nat → Int32 → Int32 → Int32 → Int32 → MC → MI → MJ → MR → Prop) (Q62 : Nat → Int32 → Int32 → Int32 → Int32 → Int32 → MC → MI → MJ → MR → Prop) (Q97 : Nat → Int32 → Int32 → Int32 → Int32 → Int32 → MC → MI → MJ → MR → Prop) (Q124 : Nat → Int32 → Int32 → Int32 → Int32 → Int32 → Int32 → MC → MI → MJ → MR → Prop) (Q254 : Nat → Int32 → Int32 → Int32 → Int32 → Int32 → MC → MI → MJ → MR → Prop) (Q293 : Nat → Int32 → MC → MI → MJ → MR → Prop) (K : AK) (x0 : Nat) (x1 : Int32) (C : MC) (I : MI) (J : MJ) (R : MR) : Prop :=
      (C x0).1 = 3 ∧
      ∃ q2 : Nat, R x0 8 = some q2 ∧
      (C q2).1 = 20 ∧
      vp_in ((4 : Int32) * x1) (C q2).2 ∧
      ∃ q5 : Nat, R x0 9 = some q5 ∧
      (C q5).1 = 20 ∧
      vp_in x1 (C q5).2 ∧
      ∃ q8 : Nat, R x0 10 = some q8 ∧
      (C q8).1 = 20 ∧
      vp_in x1 (C q8).2 ∧
      F_X2_clear [aR (some x0), aR (R x0 28)] C I J R (fun o C11 I12 J13 R14 =>
      o = .inl none ∧
      (C11 x0).1 = 3 ∧
      ∃ q17 : Nat, R14 x0 28 = some q17 ∧
      (C11 q17).1 = 21 ∧
      vp_in (0 : Int32) (C11 q17).2 ∧
      ∀ J20 : MJ, J20 = va_up J13 q17 (va_up (J13 q17) (0 : Int32).toNatClampNeg (1 : Int64)) →
      Q44 x0 (I q2 ((4 : Int32) * x1).toNatClampNeg) (I q5 x1.toNatClampNeg) ((I q8 x1.toNatClampNeg) + (1 : Int32)) (0 : Int32) C11 I12 J20 R14)
theorem wX2_makeRetry {l : Launch}  {F_X2_clear : SPF} (S_X2_clear : SpX2_clear l F_X2_clear) {F_X2_at : SPF} (S_X2_at : SpX2_at l F_X2_at)
    (Q44 : Nat → AK → Nat → Int32 → Int32 → Int32 → Int32 → MC → MI → MJ → MR → Prop)
    (Q62 : Nat → AK → Nat → Int32 → Int32 → Int32 → Int32 → Int32 → MC → MI → MJ → MR → Prop)
    (Q97 : Nat → AK → Nat → Int32 → Int32 → Int32 → Int32 → Int32 → MC → MI → MJ → MR → Prop)
    (Q124 : Nat → AK → Nat → Int32 → Int32 → Int32 → Int32 → Int32 → Int32 → MC → MI → MJ → MR → Prop)
    (Q254 : Nat → AK → Nat → Int32 → Int32 → Int32 → Int32 → Int32 → MC → MI → MJ → MR → Prop)
    (Q293 : Nat → AK → Nat → Int32 → MC → MI → MJ → MR → Prop) {F : SPF}
    (h0 : ∀ (As : List AV) (C : MC) (I : MI) (J : MJ) (R : MR) (K : AK), F As C I J R K → ∃ (x0 : Nat) (x1 : Int32), As = [aR (some x0), aI x1] ∧ PX2_makeRetry_0 F_X2_clear F_X2_at (fun (x0 : Nat) (x2 : Int32) (x3 : Int32) (x4 : Int32) (x5 : Int32) (C : MC) (I : MI) (J : MJ) (R : MR) => ∃ n, Q44 n K x0 x2 x3 x4 x5 C I J R) (fun (x0 : Nat) (x2 : Int32) (x3 : Int32) (x4 : Int32) (x5 : Int32) (x6 : Int32) (C : MC) (I : MI) (J : MJ) (R : MR) => ∃ n, Q62 n K x0 x2 x3 x4 x5 x6 C I J R) (fun (x0 : Nat) (x2 : Int32) (x3 : Int32) (x4 : Int32) (x5 : Int32) (x6 : Int32) (C : MC) (I : MI) (J : MJ) (R : MR) => ∃ n, Q97 n K x0 x2 x3 x4 x5 x6 C I J R) (fun (x0 : Nat) (x2 : Int32) (x3 : Int32) (x4 : Int32) (x5 : Int32) (x6 : Int32) (x7 : Int32) (C : MC) (I : MI) (J : MJ) (R : MR) => ∃ n, Q124 n K x0 x2 x3 x4 x5 x6 x7 C I J R) (fun (x0 : Nat) (x2 : Int32) (x3 : Int32) (x4 : Int32) (x5 : Int32) (x6 : Int32) (C : MC) (I : MI) (J : MJ) (R : MR) => ∃ n, Q254 n K x0 x2 x3 x4 x5 x6 C I J R) (fun (x0 : Nat) (x5 : Int32) (C : MC) (I : MI) (J : MJ) (R : MR) => ∃ n, Q293 n K x0 x5 C I J R) K x0 x1 C I J R)
    (h44 : ∀ (n : Nat) (K : AK) (x0 : Nat) (x2 : Int32) (x3 : Int32) (x4 : Int32) (x5 : Int32) (C : MC) (I : MI) (J : MJ) (R : MR), Q44 n K x0 x2 x3 x4 x5 C I J R → PX2_makeRetry_44 F_X2_clear F_X2_at (fun (x0 : Nat) (x2 : Int32) (x3 : Int32) (x4 : Int32) (x5 : Int32) (C : MC) (I : MI) (J : MJ) (R : MR) => ∃ m, m < n ∧ Q44 m K x0 x2 x3 x4 x5 C I J R) (fun (x0 : Nat) (x2 : Int32) (x3 : Int32) (x4 : Int32) (x5 : Int32) (x6 : Int32) (C : MC) (I : MI) (J : MJ) (R : MR) => ∃ m, m < n ∧ Q62 m K x0 x2 x3 x4 x5 x6 C I J R) (fun (x0 : Nat) (x2 : Int32) (x3 : Int32) (x4 : Int32) (x5 : Int32) (x6 : Int32) (C : MC) (I : MI) (J : MJ) (R : MR) => ∃ m, m < n ∧ Q97 m K x0 x2 x3 x4 x5 x6 C I J R) (fun (x0 : Nat) (x2 : Int32) (x3 : Int32) (x4 : Int32) (x5 : Int32) (x6 : Int32) (x7 : Int32) (C : MC) (I : MI) (J : MJ) (R : MR) => ∃ m, m < n ∧ Q124 m K x0 x2 x3 x4 x5 x6 x7 C I J R) (fun (x0 : Nat) (x2 : Int32) (x3 : Int32) (x4 : Int32) (x5 : Int32) (x6 : Int32) (C : MC) (I : MI) (J : MJ) (R : MR) => ∃ m, m < n ∧ Q254 m K x0 x2 x3 x4 x5 x6 C I J R) (fun (x0 : Nat) (x5 : Int32) (C : MC) (I : MI) (J : MJ) (R : MR) => ∃ m, m < n ∧ Q293 m K x0 x5 C I J R) K x0 x2 x3 x4 x5 C I J R)
    (h62 : ∀ (n : Nat) (K : AK) (x0 : Nat) (x2 : Int32) (x3 : Int32) (x4 : Int32) (x5 : Int32) (x6 : Int32) (C : MC) (I : MI) (J : MJ) (R : MR), Q62 n K x0 x2 x3 x4 x5 x6 C I J R → PX2_makeRetry_62 F_X2_clear F_X2_at (fun (x0 : Nat) (x2 : Int32) (x3 : Int32) (x4 : Int32) (x5 : Int32) (C : MC) (I : MI) (J : MJ) (R : MR) => ∃ m, m < n ∧ Q44 m K x0 x2 x3 x4 x5 C I J R) (fun (x0 : Nat) (x2 : Int32) (x3 : Int32) (x4 : Int32) (x5 : Int32) (x6 : Int32) (C : MC) (I : MI) (J : MJ) (R : MR) => ∃ m, m < n ∧ Q62 m K x0 x2 x3 x4 x5 x6 C I J R) (fun (x0 : Nat) (x2 : Int32) (x3 : Int32) (x4 : Int32) (x5 : Int32) (x6 : Int32) (C : MC) (I : MI) (J : MJ) (R : MR) => ∃ m, m < n ∧ Q97 m K x0 x2 x3 x4 x5 x6 C I J R) (fun (x0 : Nat) (x2 : Int32) (x3 : Int32) (x4 : Int32) (x5 : Int32) (x6 : Int32) (x7 : Int32) (C : MC) (I : MI) (J : MJ) (R : MR) => ∃ m, m < n ∧ Q124 m K x0 x2 x3 x4 x5 x6 x7 C I J R) (fun (x0 : Nat) (x2 : Int32) (x3 : Int32) (x4 : Int32) (x5 : Int32) (x6 : Int32) (C : MC) (I : MI) (J : MJ) (R : MR) => ∃ m, m < n ∧ Q254 m K x0 x2 x3 x4 x5 x6 C I J R) (fun (x0 : Nat) (x5 : Int32) (C : MC) (I : MI) (J : MJ) (R : MR) => ∃ m, m < n ∧ Q293 m K x0 x5 C I J R) K x0 x2 x3 x4 x5 x6 C I J R)
    (h97 : ∀ (n : Nat) (K : AK) (x0 : Nat) (x2 : Int32) (x3 : Int32) (x4 : Int32) (x5 : Int32) (x6 : Int32) (C : MC) (I : MI) (J : MJ) (R : MR), Q97 n K x0 x2 x3 x4 x5 x6 C I J R → PX2_makeRetry_97 F_X2_clear F_X2_at (fun (x0 : Nat) (x2 : Int32) (x3 : Int32) (x4 : Int32) (x5 : Int32) (C : MC) (I : MI) (J : MJ) (R : MR) => ∃ m, m < n ∧ Q44 m K x0 x2 x3 x4 x5 C I J R) (fun (x0 : Nat) (x2 : Int32) (x3 : Int32) (x4 : Int32) (x5 : Int32) (x6 : Int32) (C : MC) (I : MI) (J : MJ) (R : MR) => ∃ m, m < n ∧ Q62 m K x0 x2 x3 x4 x5 x6 C I J R) (fun (x0 : Nat) (x2 : Int32) (x3 : Int32) (x4 : Int32) (x5 : Int32) (x6 : Int32) (C : MC) (I : MI) (J : MJ) (R : MR) => ∃ m, m < n ∧ Q97 m K x0 x2 x3 x4 x5 x6 C I J R) (fun (x0 : Nat) (x2 : Int32) (x3 : Int32) (x4 : Int32) (x5 : Int32) (x6 : Int32) (x7 : Int32) (C : MC) (I : MI) (J : MJ) (R : MR) => ∃ m, m < n ∧ Q124 m K x0 x2 x3 x4 x5 x6 x7 C I J R) (fun (x0 : Nat) (x2 : Int32) (x3 : Int32) (x4 : Int32) (x5 : Int32) (x6 : Int32) (C : MC) (I : MI) (J : MJ) (R : MR) => ∃ m, m < n ∧ Q254 m K x0 x2 x3 x4 x5 x6 C I J R) (fun (x0 : Nat) (x5 : Int32) (C : MC) (I : MI) (J : MJ) (R : MR) => ∃ m, m < n ∧ Q293 m K x0 x5 C I J R) K x0 x2 x3 x4 x5 x6 C I J R)
    (h124 : ∀ (n : Nat) (K : AK) (x0 : Nat) (x2 : Int32) (x3 : Int32) (x4 : Int32) (x5 : Int32) (x6 : Int32) (x7 : Int32) (C : MC) (I : MI) (J : MJ) (R : MR), Q124 n K x0 x2 x3 x4 x5 x6 x7 C I J R → PX2_makeRetry_124 F_X2_clear F_X2_at (fun (x0 : Nat) (x2 : Int32) (x3 : Int32) (x4 : Int32) (x5 : Int32) (C : MC) (I : MI) (J : MJ) (R : MR) => ∃ m, m < n ∧ Q44 m K x0 x2 x3 x4 x5 C I J R) (fun (x0 : Nat) (x2 : Int32) (x3 : Int32) (x4 : Int32) (x5 : Int32) (x6 : Int32) (C : MC) (I : MI) (J : MJ) (R : MR) => ∃ m, m < n ∧ Q62 m K x0 x2 x3 x4 x5 x6 C I J R) (fun (x0 : Nat) (x2 : Int32) (x3 : Int32) (x4 : Int32) (x5 : Int32) (x6 : Int32) (C : MC) (I : MI) (J : MJ) (R : MR) => ∃ m, m < n ∧ Q97 m K x0 x2 x3 x4 x5 x6 C I J R) (fun (x0 : Nat) (x2 : Int32) (x3 : Int32) (x4 : Int32) (x5 : Int32) (x6 : Int32) (x7 : Int32) (C : MC) (I : MI) (J : MJ) (R : MR) => ∃ m, m < n ∧ Q124 m K x0 x2 x3 x4 x5 x6 x7 C I J R) (fun (x0 : Nat) (x2 : Int32) (x3 : Int32) (x4 : Int32) (x5 : Int32) (x6 : Int32) (C : MC) (I : MI) (J : MJ) (R : MR) => ∃ m, m < n ∧ Q254 m K x0 x2 x3 x4 x5 x6 C I J R) (fun (x0 : Nat) (x5 : Int32) (C : MC) (I : MI) (J : MJ) (R : MR) => ∃ m, m < n ∧ Q293 m K x0 x5 C I J R) K x0 x2 x3 x4 x5 x6 x7 C I J R)
    (h254 : ∀ (n : Nat) (K : AK) (x0 : Nat) (x2 : Int32) (x3 : Int32) (x4 : Int32) (x5 : Int32) (x6 : Int32) (C : MC) (I : MI) (J : MJ) (R : MR), Q254 n K x0 x2 x3 x4 x5 x6 C I J R → PX2_makeRetry_254 F_X2_clear F_X2_at (fun (x0 : Nat) (x2 : Int32) (x3 : Int32) (x4 : Int32) (x5 : Int32) (C : MC) (I : MI) (J : MJ) (R : MR) => ∃ m, m < n ∧ Q44 m K x0 x2 x3 x4 x5 C I J R) (fun (x0 : Nat) (x2 : Int32) (x3 : Int32) (x4 : Int32) (x5 : Int32) (x6 : Int32) (C : MC) (I : MI) (J : MJ) (R : MR) => ∃ m, m < n ∧ Q62 m K x0 x2 x3 x4 x5 x6 C I J R) (fun (x0 : Nat) (x2 : Int32) (x3 : Int32) (x4 : Int32) (x5 : Int32) (x6 : Int32) (C : MC) (I : MI) (J : MJ) (R : MR) => ∃ m, m < n ∧ Q97 m K x0 x2 x3 x4 x5 x6 C I J R) (fun (x0 : Nat) (x2 : Int32) (x3 : Int32) (x4 : Int32) (x5 : Int32) (x6 : Int32) (x7 : Int32) (C : MC) (I : MI) (J : MJ) (R : MR) => ∃ m, m < n ∧ Q124 m K x0 x2 x3 x4 x5 x6 x7 C I J R) (fun (x0 : Nat) (x2 : Int32) (x3 : Int32) (x4 : Int32) (x5 : Int32) (x6 : Int32) (C : MC) (I : MI) (J : MJ) (R : MR) => ∃ m, m < n ∧ Q254 m K x0 x2 x3 x4 x5 x6 C I J R) (fun (x0 : Nat) (x5 : Int32) (C : MC) (I : MI) (J : MJ) (R : MR) => ∃ m, m < n ∧ Q293 m K x0 x5 C I J R) K x0 x2 x3 x4 x5 x6 C I J R)
    (h293 : ∀ (n : Nat) (K : AK) (x0 : Nat) (x5 : Int32) (C : MC) (I : MI) (J : MJ) (R : MR), Q293 n K x0 x5 C I J R → PX2_makeRetry_293 F_X2_clear F_X2_at (fun (x0 : Nat) (x2 : Int32) (x3 : Int32) (x4 : Int32) (x5 : Int32) (C : MC) (I : MI) (J : MJ) (R : MR) => ∃ m, m < n ∧ Q44 m K x0 x2 x3 x4 x5 C I J R) (fun (x0 : Nat) (x2 : Int32) (x3 : Int32) (x4 : Int32) (x5 : Int32) (x6 : Int32) (C : MC) (I : MI) (J : MJ) (R : MR) => ∃ m, m < n ∧ Q62 m K x0 x2 x3 x4 x5 x6 C I J R) (fun (x0 : Nat) (x2 : Int32) (x3 : Int32) (x4 : Int32) (x5 : Int32) (x6 : Int32) (C : MC) (I : MI) (J : MJ) (R : MR) => ∃ m, m < n ∧ Q97 m K x0 x2 x3 x4 x5 x6 C I J R) (fun (x0 : Nat) (x2 : Int32) (x3 : Int32) (x4 : Int32) (x5 : Int32) (x6 : Int32) (x7 : Int32) (C : MC) (I : MI) (J : MJ) (R : MR) => ∃ m, m < n ∧ Q124 m K x0 x2 x3 x4 x5 x6 x7 C I J R) (fun (x0 : Nat) (x2 : Int32) (x3 : Int32) (x4 : Int32) (x5 : Int32) (x6 : Int32) (C : MC) (I : MI) (J : MJ) (R : MR) => ∃ m, m < n ∧ Q254 m K x0 x2 x3 x4 x5 x6 C I J R) (fun (x0 : Nat) (x5 : Int32) (C : MC) (I : MI) (J : MJ) (R : MR) => ∃ m, m < n ∧ Q293 m K x0 x5 C I J R) K x0 x5 C I J R) : SpX2_makeRetry l F := by
  refine Spec.of (by rfl) ?_
  intro Γ C I J R As Gd gl gr _ _ gb hF
  subst gl
  have G : Gb Γ yX2_makeRetry cX2_makeRetry 8 (none) [] rmX2_makeRetry bdX2_makeRetry := ⟨Gd, gr, gb⟩
  have key : ∀ n : Nat, (∀ (x0 : Nat) (x2 : Int32) (x3 : Int32) (x4 : Int32) (x5 : Int32) (C : MC) (I : MI) (J : MJ) (R : MR), Q44 n (gK Γ) x0 x2 x3 x4 x5 C I J R → AW Γ 0 0 C I J R 44 [(0, aR (some x0)), (2, aI x2), (3, aI x3), (4, aI x4), (5, aI x5)] []) ∧ (∀ (x0 : Nat) (x2 : Int32) (x3 : Int32) (x4 : Int32) (x5 : Int32) (x6 : Int32) (C : MC) (I : MI) (J : MJ) (R : MR), Q62 n (gK Γ) x0 x2 x3 x4 x5 x6 C I J R → AW Γ 0 0 C I J R 62 [(0, aR (some x0)), (2, aI x2), (3, aI x3), (4, aI x4), (5, aI x5), (6, aI x6)] []) ∧ (∀ (x0 : Nat) (x2 : Int32) (x3 : Int32) (x4 : Int32) (x5 : Int32) (x6 : Int32) (C : MC) (I : MI) (J : MJ) (R : MR), Q97 n (gK Γ) x0 x2 x3 x4 x5 x6 C I J R → AW Γ 0 0 C I J R 97 [(0, aR (some x0)), (2, aI x2), (3, aI x3), (4, aI x4), (5, aI x5), (6, aI x6)] []) ∧ (∀ (x0 : Nat) (x2 : Int32) (x3 : Int32) (x4 : Int32) (x5 : Int32) (x6 : Int32) (x7 : Int32) (C : MC) (I : MI) (J : MJ) (R : MR), Q124 n (gK Γ) x0 x2 x3 x4 x5 x6 x7 C I J R → AW Γ 0 0 C I J R 124 [(0, aR (some x0)), (2, aI x2), (3, aI x3), (4, aI x4), (5, aI x5), (6, aI x6), (7, aI x7)] []) ∧ (∀ (x0 : Nat) (x2 : Int32) (x3 : Int32) (x4 : Int32) (x5 : Int32) (x6 : Int32) (C : MC) (I : MI) (J : MJ) (R : MR), Q254 n (gK Γ) x0 x2 x3 x4 x5 x6 C I J R → AW Γ 0 0 C I J R 254 [(0, aR (some x0)), (2, aI x2), (3, aI x3), (4, aI x4), (5, aI x5), (6, aI x6)] []) ∧ (∀ (x0 : Nat) (x5 : Int32) (C : MC) (I : MI) (J : MJ) (R : MR), Q293 n (gK Γ) x0 x5 C I J R → AW Γ 0 0 C I J R 293 [(0, aR (some x0)), (5, aI x5)] []) := by
    intro n
    induction n using Nat.strongRecOn with
    | ind n ih =>
    have w44 : ∀ (x0 : Nat) (x2 : Int32) (x3 : Int32) (x4 : Int32) (x5 : Int32) (C : MC) (I : MI) (J : MJ) (R : MR), (∃ m, m < n ∧ Q44 m (gK Γ) x0 x2 x3 x4 x5 C I J R) → AW Γ 0 0 C I J R 44 [(0, aR (some x0)), (2, aI x2), (3, aI x3), (4, aI x4), (5, aI x5)] [] := fun x0 x2 x3 x4 x5 C I J R ⟨m, hm, hq⟩ => (ih m hm).1 x0 x2 x3 x4 x5 C I J R hq
    have w62 : ∀ (x0 : Nat) (x2 : Int32) (x3 : Int32) (x4 : Int32) (x5 : Int32) (x6 : Int32) (C : MC) (I : MI) (J : MJ) (R : MR), (∃ m, m < n ∧ Q62 m (gK Γ) x0 x2 x3 x4 x5 x6 C I J R) → AW Γ 0 0 C I J R 62 [(0, aR (some x0)), (2, aI x2), (3, aI x3), (4, aI x4), (5, aI x5), (6, aI x6)] [] := fun x0 x2 x3 x4 x5 x6 C I J R ⟨m, hm, hq⟩ => (ih m hm).2.1 x0 x2 x3 x4 x5 x6 C I J R hq
    have w97 : ∀ (x0 : Nat) (x2 : Int32) (x3 : Int32) (x4 : Int32) (x5 : Int32) (x6 : Int32) (C : MC) (I : MI) (J : MJ) (R : MR), (∃ m, m < n ∧ Q97 m (gK Γ) x0 x2 x3 x4 x5 x6 C I J R) → AW Γ 0 0 C I J R 97 [(0, aR (some x0)), (2, aI x2), (3, aI x3), (4, aI x4), (5, aI x5), (6, aI x6)] [] := fun x0 x2 x3 x4 x5 x6 C I J R ⟨m, hm, hq⟩ => (ih m hm).2.2.1 x0 x2 x3 x4 x5 x6 C I J R hq
    have w124 : ∀ (x0 : Nat) (x2 : Int32) (x3 : Int32) (x4 : Int32) (x5 : Int32) (x6 : Int32) (x7 : Int32) (C : MC) (I : MI) (J : MJ) (R : MR), (∃ m, m < n ∧ Q124 m (gK Γ) x0 x2 x3 x4 x5 x6 x7 C I J R) → AW Γ 0 0 C I J R 124 [(0, aR (some x0)), (2, aI x2), (3, aI x3), (4, aI x4), (5, aI x5), (6, aI x6), (7, aI x7)] [] := fun x0 x2 x3 x4 x5 x6 x7 C I J R ⟨m, hm, hq⟩ => (ih m hm).2.2.2.1 x0 x2 x3 x4 x5 x6 x7 C I J R hq
    have w254 : ∀ (x0 : Nat) (x2 : Int32) (x3 : Int32) (x4 : Int32) (x5 : Int32) (x6 : Int32) (C : MC) (I : MI) (J : MJ) (R : MR), (∃ m, m < n ∧ Q254 m (gK Γ) x0 x2 x3 x4 x5 x6 C I J R) → AW Γ 0 0 C I J R 254 [(0, aR (some x0)), (2, aI x2), (3, aI x3), (4, aI x4), (5, aI x5), (6, aI x6)] [] := fun x0 x2 x3 x4 x5 x6 C I J R ⟨m, hm, hq⟩ => (ih m hm).2.2.2.2.1 x0 x2 x3 x4 x5 x6 C I J R hq
    have w293 : ∀ (x0 : Nat) (x5 : Int32) (C : MC) (I : MI) (J : MJ) (R : MR), (∃ m, m < n ∧ Q293 m (gK Γ) x0 x5 C I J R) → AW Γ 0 0 C I J R 293 [(0, aR (some x0)), (5, aI x5)] [] := fun x0 x5 C I J R ⟨m, hm, hq⟩ => (ih m hm).2.2.2.2.2 x0 x5 C I J R hq
    have w245 : ∀ (x0 : Nat) (x2 : Int32) (x3 : Int32) (x4 : Int32) (x5 : Int32) (x6 : Int32) (C : MC) (I : MI) (J : MJ) (R : MR), PX2_makeRetry_245 F_X2_clear F_X2_at (fun (x0 : Nat) (x2 : Int32) (x3 : Int32) (x4 : Int32) (x5 : Int32) (C : MC) (I : MI) (J : MJ) (R : MR) => ∃ m, m < n ∧ Q44 m (gK Γ) x0 x2 x3 x4 x5 C I J R) (fun (x0 : Nat) (x2 : Int32) (x3 : Int32) (x4 : Int32) (x5 : Int32) (x6 : Int32) (C : MC) (I : MI) (J : MJ) (R : MR) => ∃ m, m < n ∧ Q62 m (gK Γ) x0 x2 x3 x4 x5 x6 C I J R) (fun (x0 : Nat) (x2 : Int32) (x3 : Int32) (x4 : Int32) (x5 : Int32) (x6 : Int32) (C : MC) (I : MI) (J : MJ) (R : MR) => ∃ m, m < n ∧ Q97 m (gK Γ) x0 x2 x3 x4 x5 x6 C I J R) (fun (x0 : Nat) (x2 : Int32) (x3 : Int32) (x4 : Int32) (x5 : Int32) (x6 : Int32) (x7 : Int32) (C : MC) (I : MI) (J : MJ) (R : MR) => ∃ m, m < n ∧ Q124 m (gK Γ) x0 x2 x3 x4 x5 x6 x7 C I J R) (fun (x0 : Nat) (x2 : Int32) (x3 : Int32) (x4 : Int32) (x5 : Int32) (x6 : Int32) (C : MC) (I : MI) (J : MJ) (R : MR) => ∃ m, m < n ∧ Q254 m (gK Γ) x0 x2 x3 x4 x5 x6 C I J R) (fun (x0 : Nat) (x5 : Int32) (C : MC) (I : MI) (J : MJ) (R : MR) => ∃ m, m < n ∧ Q293 m (gK Γ) x0 x5 C I J R) (gK Γ) x0 x2 x3 x4 x5 x6 C I J R → AW Γ 0 0 C I J R 245 [(0, aR (some x0)), (2, aI x2), (3, aI x3), (4, aI x4), (5, aI x5), (6, aI x6)] [] := fun x0 x2 x3 x4 x5 x6 C I J R h => bX2_makeRetry_245 G w97 h
    have w203 : ∀ (x0 : Nat) (x2 : Int32) (x3 : Int32) (x4 : Int32) (x5 : Int32) (x6 : Int32) (x7 : Int32) (C : MC) (I : MI) (J : MJ) (R : MR), PX2_makeRetry_203 F_X2_clear F_X2_at (fun (x0 : Nat) (x2 : Int32) (x3 : Int32) (x4 : Int32) (x5 : Int32) (C : MC) (I : MI) (J : MJ) (R : MR) => ∃ m, m < n ∧ Q44 m (gK Γ) x0 x2 x3 x4 x5 C I J R) (fun (x0 : Nat) (x2 : Int32) (x3 : Int32) (x4 : Int32) (x5 : Int32) (x6 : Int32) (C : MC) (I : MI) (J : MJ) (R : MR) => ∃ m, m < n ∧ Q62 m (gK Γ) x0 x2 x3 x4 x5 x6 C I J R) (fun (x0 : Nat) (x2 : Int32) (x3 : Int32) (x4 : Int32) (x5 : Int32) (x6 : Int32) (C : MC) (I : MI) (J : MJ) (R : MR) => ∃ m, m < n ∧ Q97 m (gK Γ) x0 x2 x3 x4 x5 x6 C I J R) (fun (x0 : Nat) (x2 : Int32) (x3 : Int32) (x4 : Int32) (x5 : Int32) (x6 : Int32) (x7 : Int32) (C : MC) (I : MI) (J : MJ) (R : MR) => ∃ m, m < n ∧ Q124 m (gK Γ) x0 x2 x3 x4 x5 x6 x7 C I J R) (fun (x0 : Nat) (x2 : Int32) (x3 : Int32) (x4 : Int32) (x5 : Int32) (x6 : Int32) (C : MC) (I : MI) (J : MJ) (R : MR) => ∃ m, m < n ∧ Q254 m (gK Γ) x0 x2 x3 x4 x5 x6 C I J R) (fun (x0 : Nat) (x5 : Int32) (C : MC) (I : MI) (J : MJ) (R : MR) => ∃ m, m < n ∧ Q293 m (gK Γ) x0 x5 C I J R) (gK Γ) x0 x2 x3 x4 x5 x6 x7 C I J R → AW Γ 0 0 C I J R 203 [(0, aR (some x0)), (2, aI x2), (3, aI x3), (4, aI x4), (5, aI x5), (6, aI x6), (7, aI x7)] [] := fun x0 x2 x3 x4 x5 x6 x7 C I J R h => bX2_makeRetry_203 G S_X2_at w124 h
    exact ⟨fun x0 x2 x3 x4 x5 C I J R h => bX2_makeRetry_44 G S_X2_clear w62 w293 (h44 n (gK Γ) x0 x2 x3 x4 x5 C I J R h), fun x0 x2 x3 x4 x5 x6 C I J R h => bX2_makeRetry_62 G w62 w97 (h62 n (gK Γ) x0 x2 x3 x4 x5 x6 C I J R h), fun x0 x2 x3 x4 x5 x6 C I J R h => bX2_makeRetry_97 G w124 w245 w254 (h97 n (gK Γ) x0 x2 x3 x4 x5 x6 C I J R h), fun x0 x2 x3 x4 x5 x6 x7 C I J R h => bX2_makeRetry_124 G S_X2_at w203 w245 (h124 n (gK Γ) x0 x2 x3 x4 x5 x6 x7 C I J R h), fun x0 x2 x3 x4 x5 x6 C I J R h => bX2_makeRetry_254 G w44 w254 (h254 n (gK Γ) x0 x2 x3 x4 x5 x6 C I J R h), fun x0 x5 C I J R h => bX2_makeRetry_293 G w293 (h293 n (gK Γ) x0 x5 C I J R h)⟩
  have w44 : ∀ (x0 : Nat) (x2 : Int32) (x3 : Int32) (x4 : Int32) (x5 : Int32) (C : MC) (I : MI) (J : MJ) (R : MR), (∃ n, Q44 n (gK Γ) x0 x2 x3 x4 x5 C I J R) → AW Γ 0 0 C I J R 44 [(0, aR (some x0)), (2, aI x2), (3, aI x3), (4, aI x4), (5, aI x5)] [] := fun x0 x2 x3 x4 x5 C I J R ⟨m, hq⟩ => (key m).1 x0 x2 x3 x4 x5 C I J R hq
  have w62 : ∀ (x0 : Nat) (x2 : Int32) (x3 : Int32) (x4 : Int32) (x5 : Int32) (x6 : Int32) (C : MC) (I : MI) (J : MJ) (R : MR), (∃ n, Q62 n (gK Γ) x0 x2 x3 x4 x5 x6 C I J R) → AW Γ 0 0 C I J R 62 [(0, aR (some x0)), (2, aI x2), (3, aI x3), (4, aI x4), (5, aI x5), (6, aI x6)] [] := fun x0 x2 x3 x4 x5 x6 C I J R ⟨m, hq⟩ => (key m).2.1 x0 x2 x3 x4 x5 x6 C I J R hq
  have w97 : ∀ (x0 : Nat) (x2 : Int32) (x3 : Int32) (x4 : Int32) (x5 : Int32) (x6 : Int32) (C : MC) (I : MI) (J : MJ) (R : MR), (∃ n, Q97 n (gK Γ) x0 x2 x3 x4 x5 x6 C I J R) → AW Γ 0 0 C I J R 97 [(0, aR (some x0)), (2, aI x2), (3, aI x3), (4, aI x4), (5, aI x5), (6, aI x6)] [] := fun x0 x2 x3 x4 x5 x6 C I J R ⟨m, hq⟩ => (key m).2.2.1 x0 x2 x3 x4 x5 x6 C I J R hq
  have w124 : ∀ (x0 : Nat) (x2 : Int32) (x3 : Int32) (x4 : Int32) (x5 : Int32) (x6 : Int32) (x7 : Int32) (C : MC) (I : MI) (J : MJ) (R : MR), (∃ n, Q124 n (gK Γ) x0 x2 x3 x4 x5 x6 x7 C I J R) → AW Γ 0 0 C I J R 124 [(0, aR (some x0)), (2, aI x2), (3, aI x3), (4, aI x4), (5, aI x5), (6, aI x6), (7, aI x7)] [] := fun x0 x2 x3 x4 x5 x6 x7 C I J R ⟨m, hq⟩ => (key m).2.2.2.1 x0 x2 x3 x4 x5 x6 x7 C I J R hq
  have w254 : ∀ (x0 : Nat) (x2 : Int32) (x3 : Int32) (x4 : Int32) (x5 : Int32) (x6 : Int32) (C : MC) (I : MI) (J : MJ) (R : MR), (∃ n, Q254 n (gK Γ) x0 x2 x3 x4 x5 x6 C I J R) → AW Γ 0 0 C I J R 254 [(0, aR (some x0)), (2, aI x2), (3, aI x3), (4, aI x4), (5, aI x5), (6, aI x6)] [] := fun x0 x2 x3 x4 x5 x6 C I J R ⟨m, hq⟩ => (key m).2.2.2.2.1 x0 x2 x3 x4 x5 x6 C I J R hq
  have w293 : ∀ (x0 : Nat) (x5 : Int32) (C : MC) (I : MI) (J : MJ) (R : MR), (∃ n, Q293 n (gK Γ) x0 x5 C I J R) → AW Γ 0 0 C I J R 293 [(0, aR (some x0)), (5, aI x5)] [] := fun x0 x5 C I J R ⟨m, hq⟩ => (key m).2.2.2.2.2 x0 x5 C I J R hq
  have w245 : ∀ (x0 : Nat) (x2 : Int32) (x3 : Int32) (x4 : Int32) (x5 : Int32) (x6 : Int32) (C : MC) (I : MI) (J : MJ) (R : MR), PX2_makeRetry_245 F_X2_clear F_X2_at (fun (x0 : Nat) (x2 : Int32) (x3 : Int32) (x4 : Int32) (x5 : Int32) (C : MC) (I : MI) (J : MJ) (R : MR) => ∃ n, Q44 n (gK Γ) x0 x2 x3 x4 x5 C I J R) (fun (x0 : Nat) (x2 : Int32) (x3 : Int32) (x4 : Int32) (x5 : Int32) (x6 : Int32) (C : MC) (I : MI) (J : MJ) (R : MR) => ∃ n, Q62 n (gK Γ) x0 x2 x3 x4 x5 x6 C I J R) (fun (x0 : Nat) (x2 : Int32) (x3 : Int32) (x4 : Int32) (x5 : Int32) (x6 : Int32) (C : MC) (I : MI) (J : MJ) (R : MR) => ∃ n, Q97 n (gK Γ) x0 x2 x3 x4 x5 x6 C I J R) (fun (x0 : Nat) (x2 : Int32) (x3 : Int32) (x4 : Int32) (x5 : Int32) (x6 : Int32) (x7 : Int32) (C : MC) (I : MI) (J : MJ) (R : MR) => ∃ n, Q124 n (gK Γ) x0 x2 x3 x4 x5 x6 x7 C I J R) (fun (x0 : Nat) (x2 : Int32) (x3 : Int32) (x4 : Int32) (x5 : Int32) (x6 : Int32) (C : MC) (I : MI) (J : MJ) (R : MR) => ∃ n, Q254 n (gK Γ) x0 x2 x3 x4 x5 x6 C I J R) (fun (x0 : Nat) (x5 : Int32) (C : MC) (I : MI) (J : MJ) (R : MR) => ∃ n, Q293 n (gK Γ) x0 x5 C I J R) (gK Γ) x0 x2 x3 x4 x5 x6 C I J R → AW Γ 0 0 C I J R 245 [(0, aR (some x0)), (2, aI x2), (3, aI x3), (4, aI x4), (5, aI x5), (6, aI x6)] [] := fun x0 x2 x3 x4 x5 x6 C I J R h => bX2_makeRetry_245 G w97 h
  have w203 : ∀ (x0 : Nat) (x2 : Int32) (x3 : Int32) (x4 : Int32) (x5 : Int32) (x6 : Int32) (x7 : Int32) (C : MC) (I : MI) (J : MJ) (R : MR), PX2_makeRetry_203 F_X2_clear F_X2_at (fun (x0 : Nat) (x2 : Int32) (x3 : Int32) (x4 : Int32) (x5 : Int32) (C : MC) (I : MI) (J : MJ) (R : MR) => ∃ n, Q44 n (gK Γ) x0 x2 x3 x4 x5 C I J R) (fun (x0 : Nat) (x2 : Int32) (x3 : Int32) (x4 : Int32) (x5 : Int32) (x6 : Int32) (C : MC) (I : MI) (J : MJ) (R : MR) => ∃ n, Q62 n (gK Γ) x0 x2 x3 x4 x5 x6 C I J R) (fun (x0 : Nat) (x2 : Int32) (x3 : Int32) (x4 : Int32) (x5 : Int32) (x6 : Int32) (C : MC) (I : MI) (J : MJ) (R : MR) => ∃ n, Q97 n (gK Γ) x0 x2 x3 x4 x5 x6 C I J R) (fun (x0 : Nat) (x2 : Int32) (x3 : Int32) (x4 : Int32) (x5 : Int32) (x6 : Int32) (x7 : Int32) (C : MC) (I : MI) (J : MJ) (R : MR) => ∃ n, Q124 n (gK Γ) x0 x2 x3 x4 x5 x6 x7 C I J R) (fun (x0 : Nat) (x2 : Int32) (x3 : Int32) (x4 : Int32) (x5 : Int32) (x6 : Int32) (C : MC) (I : MI) (J : MJ) (R : MR) => ∃ n, Q254 n (gK Γ) x0 x2 x3 x4 x5 x6 C I J R) (fun (x0 : Nat) (x5 : Int32) (C : MC) (I : MI) (J : MJ) (R : MR) => ∃ n, Q293 n (gK Γ) x0 x5 C I J R) (gK Γ) x0 x2 x3 x4 x5 x6 x7 C I J R → AW Γ 0 0 C I J R 203 [(0, aR (some x0)), (2, aI x2), (3, aI x3), (4, aI x4), (5, aI x5), (6, aI x6), (7, aI x7)] [] := fun x0 x2 x3 x4 x5 x6 x7 C I J R h => bX2_makeRetry_203 G S_X2_at w124 h
  obtain ⟨x0, x1, rfl, h⟩ := h0 As C I J R (gK Γ) hF
  exact ⟨Nat.le_of_ble_eq_true rfl, bX2_makeRetry_0 G S_X2_clear w44 h⟩
def PX2_makeHedge_255 (F_X2_at : SPF) (Q19 : Nat → Int32 → Int32 → Int32 → MC → MI → MJ → MR → Prop) (Q94 : Nat → Int32 → Int32 → Int32 → Int32 → MC → MI → MJ → MR → Prop) (K : AK) (x0 : Nat) (x2 : Int32) (x3 : Int32) (x4 : Int32) (C : MC) (I : MI) (J : MJ) (R : MR) : Prop :=
      Q19 x0 x2 x3 (x4 + 1) C I J R
def PX2_makeHedge_94 (F_X2_at : SPF) (Q19 : Nat → Int32 → Int32 → Int32 → MC → MI → MJ → MR → Prop) (Q94 : Nat → Int32 → Int32 → Int32 → Int32 → MC → MI → MJ → MR → Prop) (K : AK) (x0 : Nat) (x2 : Int32) (x3 : Int32) (x4 : Int32) (x5 : Int32) (C : MC) (I : MI) (J : MJ) (R : MR) : Prop :=
      (((121 : Int32) ≤ x5 →
      PX2_makeHedge_255 F_X2_at Q19 Q94 K x0 x2 x3 x4 C I J R) ∧
      (¬ (121 : Int32) ≤ x5 →
      (C x0).1 = 3 ∧
      ∃ q3 : Nat, R x0 26 = some q3 ∧
      (C q3).1 = 21 ∧
      vp_in (if (x3 + x5) < x4 then (x3 + x5) else x4) (C q3).2 ∧
      F_X2_at [aI x2, aI x4] C I J R (fun o C6 I7 J8 R9 =>
      ∃ r10 : Int32, o = .inl (some (aI r10)) ∧
      ∃ q11 : Nat, R x0 22 = some q11 ∧
      (C6 q11).1 = 21 ∧
      vp_in r10 (C6 q11).2 ∧
      (C6 x0).1 = 3 ∧
      F_X2_at [aI x2, aI x5] C6 I7 J8 R9 (fun o C15 I16 J17 R18 =>
      ∃ r19 : Int32, o = .inl (some (aI r19)) ∧
      ∃ q20 : Nat, R9 x0 22 = some q20 ∧
      (C15 q20).1 = 21 ∧
      vp_in r19 (C15 q20).2 ∧
      (C15 q3).1 = 21 ∧
      vp_in (if (x3 + x5) < x4 then (x3 + x5) else x4) (C15 q3).2 ∧
      ∀ J25 : MJ, J25 = va_up J17 q3 (va_up (J17 q3) (if (x3 + x5) < x4 then (x3 + x5) else x4).toNatClampNeg ((J q3 (if (x3 + x5) < x4 then (x3 + x5) else x4).toNatClampNeg) + ((J8 q11 r10.toNatClampNeg) * (J17 q20 r19.toNatClampNeg)))) →
      (C15 x0).1 = 3 ∧
      ∃ q27 : Nat, R18 x0 26 = some q27 ∧
      (C15 q27).1 = 21 ∧
      vp_in x4 (C15 q27).2 ∧
      F_X2_at [aI x2, aI x4] C15 I16 J25 R18 (fun o C30 I31 J32 R33 =>
      ∃ r34 : Int32, o = .inl (some (aI r34)) ∧
      ∃ q35 : Nat, R18 x0 22 = some q35 ∧
      (C30 q35).1 = 21 ∧
      vp_in r34 (C30 q35).2 ∧
      (C30 x0).1 = 3 ∧
      F_X2_at [aI x2, aI x5] C30 I31 J32 R33 (fun o C39 I40 J41 R42 =>
      ∃ r43 : Int32, o = .inl (some (aI r43)) ∧
      ∃ q44 : Nat, R33 x0 23 = some q44 ∧
      (C39 q44).1 = 21 ∧
      vp_in r43 (C39 q44).2 ∧
      (C39 q27).1 = 21 ∧
      vp_in x4 (C39 q27).2 ∧
      ∀ J49 : MJ, J49 = va_up J41 q27 (va_up (J41 q27) x4.toNatClampNeg ((J25 q27 x4.toNatClampNeg) + ((J32 q35 r34.toNatClampNeg) * (J41 q44 r43.toNatClampNeg)))) →
      (C39 x0).1 = 3 ∧
      ∃ q51 : Nat, R42 x0 26 = some q51 ∧
      (C39 q51).1 = 21 ∧
      vp_in (x3 + x5) (C39 q51).2 ∧
      F_X2_at [aI x2, aI x4] C39 I40 J49 R42 (fun o C54 I55 J56 R57 =>
      ∃ r58 : Int32, o = .inl (some (aI r58)) ∧
      ∃ q59 : Nat, R42 x0 23 = some q59 ∧
      (C54 q59).1 = 21 ∧
      vp_in r58 (C54 q59).2 ∧
      (C54 x0).1 = 3 ∧
      F_X2_at [aI x2, aI x5] C54 I55 J56 R57 (fun o C63 I64 J65 R66 =>
      ∃ r67 : Int32, o = .inl (some (aI r67)) ∧
      ∃ q68 : Nat, R57 x0 22 = some q68 ∧
      (C63 q68).1 = 21 ∧
      vp_in r67 (C63 q68).2 ∧
      (C63 q51).1 = 21 ∧
      vp_in (x3 + x5) (C63 q51).2 ∧
      ∀ J73 : MJ, J73 = va_up J65 q51 (va_up (J65 q51) (x3 + x5).toNatClampNeg ((J49 q51 (x3 + x5).toNatClampNeg) + ((J56 q59 r58.toNatClampNeg) * (J65 q68 r67.toNatClampNeg)))) →
      (C63 x0).1 = 3 ∧
      ∃ q75 : Nat, R66 x0 27 = some q75 ∧
      (C63 q75).1 = 21 ∧
      vp_in (if x4 < (x3 + x5) then (x3 + x5) else x4) (C63 q75).2 ∧
      F_X2_at [aI x2, aI x4] C63 I64 J73 R66 (fun o C78 I79 J80 R81 =>
      ∃ r82 : Int32, o = .inl (some (aI r82)) ∧
      ∃ q83 : Nat, R66 x0 23 = some q83 ∧
      (C78 q83).1 = 21 ∧
      vp_in r82 (C78 q83).2 ∧
      (C78 x0).1 = 3 ∧
      F_X2_at [aI x2, aI x5] C78 I79 J80 R81 (fun o C87 I88 J89 R90 =>
      ∃ r91 : Int32, o = .inl (some (aI r91)) ∧
      ∃ q92 : Nat, R81 x0 23 = some q92 ∧
      (C87 q92).1 = 21 ∧
      vp_in r91 (C87 q92).2 ∧
      (C87 q75).1 = 21 ∧
      vp_in (if x4 < (x3 + x5) then (x3 + x5) else x4) (C87 q75).2 ∧
      ∀ J97 : MJ, J97 = va_up J89 q75 (va_up (J89 q75) (if x4 < (x3 + x5) then (x3 + x5) else x4).toNatClampNeg ((J73 q75 (if x4 < (x3 + x5) then (x3 + x5) else x4).toNatClampNeg) + ((J80 q83 r82.toNatClampNeg) * (J89 q92 r91.toNatClampNeg)))) →
      Q94 x0 x2 x3 x4 (x5 + 1) C87 I88 J97 R90))))))))))
def PX2_makeHedge_19 (F_X2_at : SPF) (Q19 : Nat → Int32 → Int32 → Int32 → MC → MI → MJ → MR → Prop) (Q94 : Nat → Int32 → Int32 → Int32 → Int32 → MC → MI → MJ → MR → Prop) (K : AK) (x0 : Nat) (x2 : Int32) (x3 : Int32) (x4 : Int32) (C : MC) (I : MI) (J : MJ) (R : MR) : Prop :=
      (((121 : Int32) ≤ x4 →
      K (.inl none) C I J R) ∧
      (¬ (121 : Int32) ≤ x4 →
      ((x3 < x4 →
      Q94 x0 x2 x3 x4 (0 : Int32) C I J R) ∧
      (¬ x3 < x4 →
      (C x0).1 = 3 ∧
      ∃ q4 : Nat, R x0 26 = some q4 ∧
      (C q4).1 = 21 ∧
      vp_in x4 (C q4).2 ∧
      F_X2_at [aI x2, aI x4] C I J R (fun o C7 I8 J9 R10 =>
      ∃ r11 : Int32, o = .inl (some (aI r11)) ∧
      ∃ q12 : Nat, R x0 22 = some q12 ∧
      (C7 q12).1 = 21 ∧
      vp_in r11 (C7 q12).2 ∧
      (C7 x0).1 = 3 ∧
      ∃ q16 : Nat, R10 x0 24 = some q16 ∧
      (C7 q16).1 = 21 ∧
      vp_in x2 (C7 q16).2 ∧
      (C7 q4).1 = 21 ∧
      vp_in x4 (C7 q4).2 ∧
      ∀ J21 : MJ, J21 = va_up J9 q4 (va_up (J9 q4) x4.toNatClampNeg ((J q4 x4.toNatClampNeg) + ((J9 q12 r11.toNatClampNeg) * (J9 q16 x2.toNatClampNeg)))) →
      ∃ q22 : Nat, R10 x0 27 = some q22 ∧
      (C7 q22).1 = 21 ∧
      vp_in x4 (C7 q22).2 ∧
      F_X2_at [aI x2, aI x4] C7 I8 J21 R10 (fun o C25 I26 J27 R28 =>
      ∃ r29 : Int32, o = .inl (some (aI r29)) ∧
      ∃ q30 : Nat, R10 x0 23 = some q30 ∧
      (C25 q30).1 = 21 ∧
      vp_in r29 (C25 q30).2 ∧
      (C25 x0).1 = 3 ∧
      ∃ q34 : Nat, R28 x0 24 = some q34 ∧
      (C25 q34).1 = 21 ∧
      vp_in x2 (C25 q34).2 ∧
      (C25 q22).1 = 21 ∧
      vp_in x4 (C25 q22).2 ∧
      ∀ J39 : MJ, J39 = va_up J27 q22 (va_up (J27 q22) x4.toNatClampNeg ((J21 q22 x4.toNatClampNeg) + ((J27 q30 r29.toNatClampNeg) * (J27 q34 x2.toNatClampNeg)))) →
      PX2_makeHedge_255 F_X2_at Q19 Q94 K x0 x2 x3 x4 C25 I26 J39 R28))))))
def PX2_makeHedge_0 (F_X2_at : SPF) (Q19 : Nat → Int32 → Int32 → Int32 → MC → MI → MJ → MR → Prop) (Q94 : Nat → Int32 → Int32 → Int32 → Int32 → MC → MI → MJ → MR → Prop) (K : AK) (x0 : Nat) (x1 : Int32) (C : MC) (I : MI) (J : MJ) (R : MR) : Prop :=
      (C x0).1 = 3 ∧
      ∃ q2 : Nat, R x0 8 = some q2 ∧
      (C q2).1 = 20 ∧
      vp_in ((4 : Int32) * x1) (C q2).2 ∧
      ∃ q5 : Nat, R x0 9 = some q5 ∧
      (C q5).1 = 20 ∧
      vp_in x1 (C q5).2 ∧
      Q19 x0 (I q2 ((4 : Int32) * x1).toNatClampNeg) (I q5 x1.toNatClampNeg) (0 : Int32) C I J R
theorem wX2_makeHedge {l : Launch}  {F_X2_at : SPF} (S_X2_at : SpX2_at l F_X2_at)
    (Q19 : Nat → AK → Nat → Int32 → Int32 → Int32 → MC → MI → MJ → MR → Prop)
    (Q94 : Nat → AK → Nat → Int32 → Int32 → Int32 → Int32 → MC → MI → MJ → MR → Prop) {F : SPF}
    (h0 : ∀ (As : List AV) (C : MC) (I : MI) (J : MJ) (R : MR) (K : AK), F As C I J R K → ∃ (x0 : Nat) (x1 : Int32), As = [aR (some x0), aI x1] ∧ PX2_makeHedge_0 F_X2_at (fun (x0 : Nat) (x2 : Int32) (x3 : Int32) (x4 : Int32) (C : MC) (I : MI) (J : MJ) (R : MR) => ∃ n, Q19 n K x0 x2 x3 x4 C I J R) (fun (x0 : Nat) (x2 : Int32) (x3 : Int32) (x4 : Int32) (x5 : Int32) (C : MC) (I : MI) (J : MJ) (R : MR) => ∃ n, Q94 n K x0 x2 x3 x4 x5 C I J R) K x0 x1 C I J R)
    (h19 : ∀ (n : Nat) (K : AK) (x0 : Nat) (x2 : Int32) (x3 : Int32) (x4 : Int32) (C : MC) (I : MI) (J : MJ) (R : MR), Q19 n K x0 x2 x3 x4 C I J R → PX2_makeHedge_19 F_X2_at (fun (x0 : Nat) (x2 : Int32) (x3 : Int32) (x4 : Int32) (C : MC) (I : MI) (J : MJ) (R : MR) => ∃ m, m < n ∧ Q19 m K x0 x2 x3 x4 C I J R) (fun (x0 : Nat) (x2 : Int32) (x3 : Int32) (x4 : Int32) (x5 : Int32) (C : MC) (I : MI) (J : MJ) (R : MR) => ∃ m, m < n ∧ Q94 m K x0 x2 x3 x4 x5 C I J R) K x0 x2 x3 x4 C I J R)
    (h94 : ∀ (n : Nat) (K : AK) (x0 : Nat) (x2 : Int32) (x3 : Int32) (x4 : Int32) (x5 : Int32) (C : MC) (I : MI) (J : MJ) (R : MR), Q94 n K x0 x2 x3 x4 x5 C I J R → PX2_makeHedge_94 F_X2_at (fun (x0 : Nat) (x2 : Int32) (x3 : Int32) (x4 : Int32) (C : MC) (I : MI) (J : MJ) (R : MR) => ∃ m, m < n ∧ Q19 m K x0 x2 x3 x4 C I J R) (fun (x0 : Nat) (x2 : Int32) (x3 : Int32) (x4 : Int32) (x5 : Int32) (C : MC) (I : MI) (J : MJ) (R : MR) => ∃ m, m < n ∧ Q94 m K x0 x2 x3 x4 x5 C I J R) K x0 x2 x3 x4 x5 C I J R) : SpX2_makeHedge l F := by
  refine Spec.of (by rfl) ?_
  intro Γ C I J R As Gd gl gr _ _ gb hF
  subst gl
  have G : Gb Γ yX2_makeHedge cX2_makeHedge 6 (none) [] rmX2_makeHedge bdX2_makeHedge := ⟨Gd, gr, gb⟩
  have key : ∀ n : Nat, (∀ (x0 : Nat) (x2 : Int32) (x3 : Int32) (x4 : Int32) (C : MC) (I : MI) (J : MJ) (R : MR), Q19 n (gK Γ) x0 x2 x3 x4 C I J R → AW Γ 0 0 C I J R 19 [(0, aR (some x0)), (2, aI x2), (3, aI x3), (4, aI x4)] []) ∧ (∀ (x0 : Nat) (x2 : Int32) (x3 : Int32) (x4 : Int32) (x5 : Int32) (C : MC) (I : MI) (J : MJ) (R : MR), Q94 n (gK Γ) x0 x2 x3 x4 x5 C I J R → AW Γ 0 0 C I J R 94 [(0, aR (some x0)), (2, aI x2), (3, aI x3), (4, aI x4), (5, aI x5)] []) := by
    intro n
    induction n using Nat.strongRecOn with
    | ind n ih =>
    have w19 : ∀ (x0 : Nat) (x2 : Int32) (x3 : Int32) (x4 : Int32) (C : MC) (I : MI) (J : MJ) (R : MR), (∃ m, m < n ∧ Q19 m (gK Γ) x0 x2 x3 x4 C I J R) → AW Γ 0 0 C I J R 19 [(0, aR (some x0)), (2, aI x2), (3, aI x3), (4, aI x4)] [] := fun x0 x2 x3 x4 C I J R ⟨m, hm, hq⟩ => (ih m hm).1 x0 x2 x3 x4 C I J R hq
    have w94 : ∀ (x0 : Nat) (x2 : Int32) (x3 : Int32) (x4 : Int32) (x5 : Int32) (C : MC) (I : MI) (J : MJ) (R : MR), (∃ m, m < n ∧ Q94 m (gK Γ) x0 x2 x3 x4 x5 C I J R) → AW Γ 0 0 C I J R 94 [(0, aR (some x0)), (2, aI x2), (3, aI x3), (4, aI x4), (5, aI x5)] [] := fun x0 x2 x3 x4 x5 C I J R ⟨m, hm, hq⟩ => (ih m hm).2 x0 x2 x3 x4 x5 C I J R hq
    have w255 : ∀ (x0 : Nat) (x2 : Int32) (x3 : Int32) (x4 : Int32) (C : MC) (I : MI) (J : MJ) (R : MR), PX2_makeHedge_255 F_X2_at (fun (x0 : Nat) (x2 : Int32) (x3 : Int32) (x4 : Int32) (C : MC) (I : MI) (J : MJ) (R : MR) => ∃ m, m < n ∧ Q19 m (gK Γ) x0 x2 x3 x4 C I J R) (fun (x0 : Nat) (x2 : Int32) (x3 : Int32) (x4 : Int32) (x5 : Int32) (C : MC) (I : MI) (J : MJ) (R : MR) => ∃ m, m < n ∧ Q94 m (gK Γ) x0 x2 x3 x4 x5 C I J R) (gK Γ) x0 x2 x3 x4 C I J R → AW Γ 0 0 C I J R 255 [(0, aR (some x0)), (2, aI x2), (3, aI x3), (4, aI x4)] [] := fun x0 x2 x3 x4 C I J R h => bX2_makeHedge_255 G w19 h
    exact ⟨fun x0 x2 x3 x4 C I J R h => bX2_makeHedge_19 G S_X2_at w94 w255 (h19 n (gK Γ) x0 x2 x3 x4 C I J R h), fun x0 x2 x3 x4 x5 C I J R h => bX2_makeHedge_94 G S_X2_at w94 w255 (h94 n (gK Γ) x0 x2 x3 x4 x5 C I J R h)⟩
  have w19 : ∀ (x0 : Nat) (x2 : Int32) (x3 : Int32) (x4 : Int32) (C : MC) (I : MI) (J : MJ) (R : MR), (∃ n, Q19 n (gK Γ) x0 x2 x3 x4 C I J R) → AW Γ 0 0 C I J R 19 [(0, aR (some x0)), (2, aI x2), (3, aI x3), (4, aI x4)] [] := fun x0 x2 x3 x4 C I J R ⟨m, hq⟩ => (key m).1 x0 x2 x3 x4 C I J R hq
  have w94 : ∀ (x0 : Nat) (x2 : Int32) (x3 : Int32) (x4 : Int32) (x5 : Int32) (C : MC) (I : MI) (J : MJ) (R : MR), (∃ n, Q94 n (gK Γ) x0 x2 x3 x4 x5 C I J R) → AW Γ 0 0 C I J R 94 [(0, aR (some x0)), (2, aI x2), (3, aI x3), (4, aI x4), (5, aI x5)] [] := fun x0 x2 x3 x4 x5 C I J R ⟨m, hq⟩ => (key m).2 x0 x2 x3 x4 x5 C I J R hq
  have w255 : ∀ (x0 : Nat) (x2 : Int32) (x3 : Int32) (x4 : Int32) (C : MC) (I : MI) (J : MJ) (R : MR), PX2_makeHedge_255 F_X2_at (fun (x0 : Nat) (x2 : Int32) (x3 : Int32) (x4 : Int32) (C : MC) (I : MI) (J : MJ) (R : MR) => ∃ n, Q19 n (gK Γ) x0 x2 x3 x4 C I J R) (fun (x0 : Nat) (x2 : Int32) (x3 : Int32) (x4 : Int32) (x5 : Int32) (C : MC) (I : MI) (J : MJ) (R : MR) => ∃ n, Q94 n (gK Γ) x0 x2 x3 x4 x5 C I J R) (gK Γ) x0 x2 x3 x4 C I J R → AW Γ 0 0 C I J R 255 [(0, aR (some x0)), (2, aI x2), (3, aI x3), (4, aI x4)] [] := fun x0 x2 x3 x4 C I J R h => bX2_makeHedge_255 G w19 h
  obtain ⟨x0, x1, rfl, h⟩ := h0 As C I J R (gK Γ) hF
  exact ⟨Nat.le_of_ble_eq_true rfl, bX2_makeHedge_0 G w19 h⟩
def PX2_settle_163 (F_X2_common : SPF) (F_X2_at : SPF) (Q9 : Nat → Int32 → Int64 → Int64 → Int32 → Int32 → MC → MI → MJ → MR → Prop) (Q103 : Nat → Int32 → Int64 → Int64 → Int32 → Int32 → MC → MI → MJ → MR → Prop) (K : AK) (x0 : Nat) (x1 : Int32) (x2 : Int64) (x4 : Int64) (C : MC) (I : MI) (J : MJ) (R : MR) : Prop :=
      (C x0).1 = 3 ∧
      ¬ x4 = 0 ∧
      ∃ q3 : Nat, R x0 24 = some q3 ∧
      (C q3).1 = 21 ∧
      vp_in x1 (C q3).2 ∧
      ∀ J6 : MJ, J6 = va_up J q3 (va_up (J q3) x1.toNatClampNeg (x2 / x4)) →
      K (.inl none) C I J6 R
def PX2_settle_103 (F_X2_common : SPF) (F_X2_at : SPF) (Q9 : Nat → Int32 → Int64 → Int64 → Int32 → Int32 → MC → MI → MJ → MR → Prop) (Q103 : Nat → Int32 → Int64 → Int64 → Int32 → Int32 → MC → MI → MJ → MR → Prop) (K : AK) (x0 : Nat) (x1 : Int32) (x2 : Int64) (x4 : Int64) (x6 : Int32) (x7 : Int32) (C : MC) (I : MI) (J : MJ) (R : MR) : Prop :=
      (((121 : Int32) ≤ x7 →
      PX2_settle_163 F_X2_common F_X2_at Q9 Q103 K x0 x1 x2 x4 C I J R) ∧
      (¬ (121 : Int32) ≤ x7 →
      ((¬ x6 = 0 →
      PX2_settle_163 F_X2_common F_X2_at Q9 Q103 K x0 x1 x2 x4 C I J R) ∧
      (x6 = 0 →
      (C x0).1 = 3 ∧
      F_X2_at [aI x1, aI x7] C I J R (fun o C4 I5 J6 R7 =>
      ∃ r8 : Int32, o = .inl (some (aI r8)) ∧
      (C4 x0).1 = 3 ∧
      ∃ q10 : Nat, R7 x0 26 = some q10 ∧
      (C4 q10).1 = 21 ∧
      vp_in x7 (C4 q10).2 ∧
      ¬ x4 = 0 ∧
      ∃ q14 : Nat, R x0 22 = some q14 ∧
      (C4 q14).1 = 21 ∧
      vp_in r8 (C4 q14).2 ∧
      ∀ J17 : MJ, J17 = va_up J6 q14 (va_up (J6 q14) r8.toNatClampNeg ((J6 q10 x7.toNatClampNeg) / x4)) →
      F_X2_at [aI x1, aI x7] C4 I5 J17 R7 (fun o C18 I19 J20 R21 =>
      ∃ r22 : Int32, o = .inl (some (aI r22)) ∧
      (C18 x0).1 = 3 ∧
      ∃ q24 : Nat, R21 x0 27 = some q24 ∧
      (C18 q24).1 = 21 ∧
      vp_in x7 (C18 q24).2 ∧
      ¬ x4 = 0 ∧
      ∃ q28 : Nat, R7 x0 23 = some q28 ∧
      (C18 q28).1 = 21 ∧
      vp_in r22 (C18 q28).2 ∧
      ∀ J31 : MJ, J31 = va_up J20 q28 (va_up (J20 q28) r22.toNatClampNeg ((J20 q24 x7.toNatClampNeg) / x4)) →
      Q103 x0 x1 x2 x4 x6 (x7 + 1) C18 I19 J31 R21))))))
def PX2_settle_84 (F_X2_common : SPF) (F_X2_at : SPF) (Q9 : Nat → Int32 → Int64 → Int64 → Int32 → Int32 → MC → MI → MJ → MR → Prop) (Q103 : Nat → Int32 → Int64 → Int64 → Int32 → Int32 → MC → MI → MJ → MR → Prop) (K : AK) (x0 : Nat) (x1 : Int32) (x2 : Int64) (x4 : Int64) (x7 : Int32) (s0 : Int32) (C : MC) (I : MI) (J : MJ) (R : MR) : Prop :=
      Q9 x0 x1 x2 x4 s0 (x7 + 1) C I J R
def PX2_settle_83 (F_X2_common : SPF) (F_X2_at : SPF) (Q9 : Nat → Int32 → Int64 → Int64 → Int32 → Int32 → MC → MI → MJ → MR → Prop) (Q103 : Nat → Int32 → Int64 → Int64 → Int32 → Int32 → MC → MI → MJ → MR → Prop) (K : AK) (x0 : Nat) (x1 : Int32) (x2 : Int64) (x4 : Int64) (x7 : Int32) (C : MC) (I : MI) (J : MJ) (R : MR) : Prop :=
      PX2_settle_84 F_X2_common F_X2_at Q9 Q103 K x0 x1 x2 x4 x7 (0 : Int32) C I J R
def PX2_settle_79 (F_X2_common : SPF) (F_X2_at : SPF) (Q9 : Nat → Int32 → Int64 → Int64 → Int32 → Int32 → MC → MI → MJ → MR → Prop) (Q103 : Nat → Int32 → Int64 → Int64 → Int32 → Int32 → MC → MI → MJ → MR → Prop) (K : AK) (x0 : Nat) (x1 : Int32) (x2 : Int64) (x4 : Int64) (x7 : Int32) (C : MC) (I : MI) (J : MJ) (R : MR) : Prop :=
      PX2_settle_84 F_X2_common F_X2_at Q9 Q103 K x0 x1 x2 x4 x7 (1 : Int32) C I J R
def PX2_settle_9 (F_X2_common : SPF) (F_X2_at : SPF) (Q9 : Nat → Int32 → Int64 → Int64 → Int32 → Int32 → MC → MI → MJ → MR → Prop) (Q103 : Nat → Int32 → Int64 → Int64 → Int32 → Int32 → MC → MI → MJ → MR → Prop) (K : AK) (x0 : Nat) (x1 : Int32) (x2 : Int64) (x4 : Int64) (x6 : Int32) (x7 : Int32) (C : MC) (I : MI) (J : MJ) (R : MR) : Prop :=
      (C x0).1 = 3 ∧
      ∃ q2 : Nat, R x0 26 = some q2 ∧
      (20 ≤ (C q2).1 ∧ (C q2).1 ≤ 30) ∧
      (((nI (C q2).2) ≤ x7 →
      ∃ q5 : Nat, R x0 25 = some q5 ∧
      (C q5).1 = 24 ∧
      vp_in x1 (C q5).2 ∧
      (x6 = 0 ∨ x6 = 1) ∧
      ∀ I9 : MI, I9 = va_up I q5 (va_up (I q5) x1.toNatClampNeg x6) →
      Q103 x0 x1 x2 x4 x6 (0 : Int32) C I9 J R) ∧
      (¬ (nI (C q2).2) ≤ x7 →
      (C q2).1 = 21 ∧
      vp_in x7 (C q2).2 ∧
      F_X2_common [aJ x4, aJ (J q2 x7.toNatClampNeg)] C I J R (fun o C12 I13 J14 R15 =>
      ∃ r16 : Int64, o = .inl (some (aJ r16)) ∧
      (C12 x0).1 = 3 ∧
      ∃ q18 : Nat, R15 x0 27 = some q18 ∧
      (C12 q18).1 = 21 ∧
      vp_in x7 (C12 q18).2 ∧
      F_X2_common [aJ r16, aJ (J14 q18 x7.toNatClampNeg)] C12 I13 J14 R15 (fun o C21 I22 J23 R24 =>
      ∃ r25 : Int64, o = .inl (some (aJ r25)) ∧
      ((¬ x6 = 0 →
      PX2_settle_79 F_X2_common F_X2_at Q9 Q103 K x0 x1 x2 r25 x7 C21 I22 J23 R24) ∧
      (x6 = 0 →
      ((x7 < (121 : Int32) →
      PX2_settle_83 F_X2_common F_X2_at Q9 Q103 K x0 x1 x2 r25 x7 C21 I22 J23 R24) ∧
      (¬ x7 < (121 : Int32) →
      (C21 x0).1 = 3 ∧
      ∃ q29 : Nat, R24 x0 26 = some q29 ∧
      (C21 q29).1 = 21 ∧
      vp_in x7 (C21 q29).2 ∧
      (((0 : Int64) < (J23 q29 x7.toNatClampNeg) →
      PX2_settle_79 F_X2_common F_X2_at Q9 Q103 K x0 x1 x2 r25 x7 C21 I22 J23 R24) ∧
      (¬ (0 : Int64) < (J23 q29 x7.toNatClampNeg) →
      ∃ q33 : Nat, R24 x0 27 = some q33 ∧
      (C21 q33).1 = 21 ∧
      vp_in x7 (C21 q33).2 ∧
      (((J23 q33 x7.toNatClampNeg) ≤ (0 : Int64) →
      PX2_settle_83 F_X2_common F_X2_at Q9 Q103 K x0 x1 x2 r25 x7 C21 I22 J23 R24) ∧
      (¬ (J23 q33 x7.toNatClampNeg) ≤ (0 : Int64) →
      PX2_settle_79 F_X2_common F_X2_at Q9 Q103 K x0 x1 x2 r25 x7 C21 I22 J23 R24))))))))))))
def PX2_settle_0 (F_X2_common : SPF) (F_X2_at : SPF) (Q9 : Nat → Int32 → Int64 → Int64 → Int32 → Int32 → MC → MI → MJ → MR → Prop) (Q103 : Nat → Int32 → Int64 → Int64 → Int32 → Int32 → MC → MI → MJ → MR → Prop) (K : AK) (x0 : Nat) (x1 : Int32) (x2 : Int64) (C : MC) (I : MI) (J : MJ) (R : MR) : Prop :=
      Q9 x0 x1 x2 x2 (0 : Int32) (0 : Int32) C I J R
theorem wX2_settle {l : Launch}  {F_X2_common : SPF} (S_X2_common : SpX2_common l F_X2_common) {F_X2_at : SPF} (S_X2_at : SpX2_at l F_X2_at)
    (Q9 : Nat → AK → Nat → Int32 → Int64 → Int64 → Int32 → Int32 → MC → MI → MJ → MR → Prop)
    (Q103 : Nat → AK → Nat → Int32 → Int64 → Int64 → Int32 → Int32 → MC → MI → MJ → MR → Prop) {F : SPF}
    (h0 : ∀ (As : List AV) (C : MC) (I : MI) (J : MJ) (R : MR) (K : AK), F As C I J R K → ∃ (x0 : Nat) (x1 : Int32) (x2 : Int64), As = [aR (some x0), aI x1, aJ x2] ∧ PX2_settle_0 F_X2_common F_X2_at (fun (x0 : Nat) (x1 : Int32) (x2 : Int64) (x4 : Int64) (x6 : Int32) (x7 : Int32) (C : MC) (I : MI) (J : MJ) (R : MR) => ∃ n, Q9 n K x0 x1 x2 x4 x6 x7 C I J R) (fun (x0 : Nat) (x1 : Int32) (x2 : Int64) (x4 : Int64) (x6 : Int32) (x7 : Int32) (C : MC) (I : MI) (J : MJ) (R : MR) => ∃ n, Q103 n K x0 x1 x2 x4 x6 x7 C I J R) K x0 x1 x2 C I J R)
    (h9 : ∀ (n : Nat) (K : AK) (x0 : Nat) (x1 : Int32) (x2 : Int64) (x4 : Int64) (x6 : Int32) (x7 : Int32) (C : MC) (I : MI) (J : MJ) (R : MR), Q9 n K x0 x1 x2 x4 x6 x7 C I J R → PX2_settle_9 F_X2_common F_X2_at (fun (x0 : Nat) (x1 : Int32) (x2 : Int64) (x4 : Int64) (x6 : Int32) (x7 : Int32) (C : MC) (I : MI) (J : MJ) (R : MR) => ∃ m, m < n ∧ Q9 m K x0 x1 x2 x4 x6 x7 C I J R) (fun (x0 : Nat) (x1 : Int32) (x2 : Int64) (x4 : Int64) (x6 : Int32) (x7 : Int32) (C : MC) (I : MI) (J : MJ) (R : MR) => ∃ m, m < n ∧ Q103 m K x0 x1 x2 x4 x6 x7 C I J R) K x0 x1 x2 x4 x6 x7 C I J R)
    (h103 : ∀ (n : Nat) (K : AK) (x0 : Nat) (x1 : Int32) (x2 : Int64) (x4 : Int64) (x6 : Int32) (x7 : Int32) (C : MC) (I : MI) (J : MJ) (R : MR), Q103 n K x0 x1 x2 x4 x6 x7 C I J R → PX2_settle_103 F_X2_common F_X2_at (fun (x0 : Nat) (x1 : Int32) (x2 : Int64) (x4 : Int64) (x6 : Int32) (x7 : Int32) (C : MC) (I : MI) (J : MJ) (R : MR) => ∃ m, m < n ∧ Q9 m K x0 x1 x2 x4 x6 x7 C I J R) (fun (x0 : Nat) (x1 : Int32) (x2 : Int64) (x4 : Int64) (x6 : Int32) (x7 : Int32) (C : MC) (I : MI) (J : MJ) (R : MR) => ∃ m, m < n ∧ Q103 m K x0 x1 x2 x4 x6 x7 C I J R) K x0 x1 x2 x4 x6 x7 C I J R) : SpX2_settle l F := by
  refine Spec.of (by rfl) ?_
  intro Γ C I J R As Gd gl gr _ _ gb hF
  subst gl
  have G : Gb Γ yX2_settle cX2_settle 8 (none) [] rmX2_settle bdX2_settle := ⟨Gd, gr, gb⟩
  have key : ∀ n : Nat, (∀ (x0 : Nat) (x1 : Int32) (x2 : Int64) (x4 : Int64) (x6 : Int32) (x7 : Int32) (C : MC) (I : MI) (J : MJ) (R : MR), Q9 n (gK Γ) x0 x1 x2 x4 x6 x7 C I J R → AW Γ 0 0 C I J R 9 [(0, aR (some x0)), (1, aI x1), (2, aJ x2), (4, aJ x4), (6, aI x6), (7, aI x7)] []) ∧ (∀ (x0 : Nat) (x1 : Int32) (x2 : Int64) (x4 : Int64) (x6 : Int32) (x7 : Int32) (C : MC) (I : MI) (J : MJ) (R : MR), Q103 n (gK Γ) x0 x1 x2 x4 x6 x7 C I J R → AW Γ 0 0 C I J R 103 [(0, aR (some x0)), (1, aI x1), (2, aJ x2), (4, aJ x4), (6, aI x6), (7, aI x7)] []) := by
    intro n
    induction n using Nat.strongRecOn with
    | ind n ih =>
    have w9 : ∀ (x0 : Nat) (x1 : Int32) (x2 : Int64) (x4 : Int64) (x6 : Int32) (x7 : Int32) (C : MC) (I : MI) (J : MJ) (R : MR), (∃ m, m < n ∧ Q9 m (gK Γ) x0 x1 x2 x4 x6 x7 C I J R) → AW Γ 0 0 C I J R 9 [(0, aR (some x0)), (1, aI x1), (2, aJ x2), (4, aJ x4), (6, aI x6), (7, aI x7)] [] := fun x0 x1 x2 x4 x6 x7 C I J R ⟨m, hm, hq⟩ => (ih m hm).1 x0 x1 x2 x4 x6 x7 C I J R hq
    have w103 : ∀ (x0 : Nat) (x1 : Int32) (x2 : Int64) (x4 : Int64) (x6 : Int32) (x7 : Int32) (C : MC) (I : MI) (J : MJ) (R : MR), (∃ m, m < n ∧ Q103 m (gK Γ) x0 x1 x2 x4 x6 x7 C I J R) → AW Γ 0 0 C I J R 103 [(0, aR (some x0)), (1, aI x1), (2, aJ x2), (4, aJ x4), (6, aI x6), (7, aI x7)] [] := fun x0 x1 x2 x4 x6 x7 C I J R ⟨m, hm, hq⟩ => (ih m hm).2 x0 x1 x2 x4 x6 x7 C I J R hq
    have w163 : ∀ (x0 : Nat) (x1 : Int32) (x2 : Int64) (x4 : Int64) (C : MC) (I : MI) (J : MJ) (R : MR), PX2_settle_163 F_X2_common F_X2_at (fun (x0 : Nat) (x1 : Int32) (x2 : Int64) (x4 : Int64) (x6 : Int32) (x7 : Int32) (C : MC) (I : MI) (J : MJ) (R : MR) => ∃ m, m < n ∧ Q9 m (gK Γ) x0 x1 x2 x4 x6 x7 C I J R) (fun (x0 : Nat) (x1 : Int32) (x2 : Int64) (x4 : Int64) (x6 : Int32) (x7 : Int32) (C : MC) (I : MI) (J : MJ) (R : MR) => ∃ m, m < n ∧ Q103 m (gK Γ) x0 x1 x2 x4 x6 x7 C I J R) (gK Γ) x0 x1 x2 x4 C I J R → AW Γ 0 0 C I J R 163 [(0, aR (some x0)), (1, aI x1), (2, aJ x2), (4, aJ x4)] [] := fun x0 x1 x2 x4 C I J R h => bX2_settle_163 G h
    have w84 : ∀ (x0 : Nat) (x1 : Int32) (x2 : Int64) (x4 : Int64) (x7 : Int32) (s0 : Int32) (C : MC) (I : MI) (J : MJ) (R : MR), PX2_settle_84 F_X2_common F_X2_at (fun (x0 : Nat) (x1 : Int32) (x2 : Int64) (x4 : Int64) (x6 : Int32) (x7 : Int32) (C : MC) (I : MI) (J : MJ) (R : MR) => ∃ m, m < n ∧ Q9 m (gK Γ) x0 x1 x2 x4 x6 x7 C I J R) (fun (x0 : Nat) (x1 : Int32) (x2 : Int64) (x4 : Int64) (x6 : Int32) (x7 : Int32) (C : MC) (I : MI) (J : MJ) (R : MR) => ∃ m, m < n ∧ Q103 m (gK Γ) x0 x1 x2 x4 x6 x7 C I J R) (gK Γ) x0 x1 x2 x4 x7 s0 C I J R → AW Γ 0 0 C I J R 84 [(0, aR (some x0)), (1, aI x1), (2, aJ x2), (4, aJ x4), (7, aI x7)] [aI s0] := fun x0 x1 x2 x4 x7 s0 C I J R h => bX2_settle_84 G w9 h
    have w83 : ∀ (x0 : Nat) (x1 : Int32) (x2 : Int64) (x4 : Int64) (x7 : Int32) (C : MC) (I : MI) (J : MJ) (R : MR), PX2_settle_83 F_X2_common F_X2_at (fun (x0 : Nat) (x1 : Int32) (x2 : Int64) (x4 : Int64) (x6 : Int32) (x7 : Int32) (C : MC) (I : MI) (J : MJ) (R : MR) => ∃ m, m < n ∧ Q9 m (gK Γ) x0 x1 x2 x4 x6 x7 C I J R) (fun (x0 : Nat) (x1 : Int32) (x2 : Int64) (x4 : Int64) (x6 : Int32) (x7 : Int32) (C : MC) (I : MI) (J : MJ) (R : MR) => ∃ m, m < n ∧ Q103 m (gK Γ) x0 x1 x2 x4 x6 x7 C I J R) (gK Γ) x0 x1 x2 x4 x7 C I J R → AW Γ 0 0 C I J R 83 [(0, aR (some x0)), (1, aI x1), (2, aJ x2), (4, aJ x4), (7, aI x7)] [] := fun x0 x1 x2 x4 x7 C I J R h => bX2_settle_83 G w84 h
    have w79 : ∀ (x0 : Nat) (x1 : Int32) (x2 : Int64) (x4 : Int64) (x7 : Int32) (C : MC) (I : MI) (J : MJ) (R : MR), PX2_settle_79 F_X2_common F_X2_at (fun (x0 : Nat) (x1 : Int32) (x2 : Int64) (x4 : Int64) (x6 : Int32) (x7 : Int32) (C : MC) (I : MI) (J : MJ) (R : MR) => ∃ m, m < n ∧ Q9 m (gK Γ) x0 x1 x2 x4 x6 x7 C I J R) (fun (x0 : Nat) (x1 : Int32) (x2 : Int64) (x4 : Int64) (x6 : Int32) (x7 : Int32) (C : MC) (I : MI) (J : MJ) (R : MR) => ∃ m, m < n ∧ Q103 m (gK Γ) x0 x1 x2 x4 x6 x7 C I J R) (gK Γ) x0 x1 x2 x4 x7 C I J R → AW Γ 0 0 C I J R 79 [(0, aR (some x0)), (1, aI x1), (2, aJ x2), (4, aJ x4), (7, aI x7)] [] := fun x0 x1 x2 x4 x7 C I J R h => bX2_settle_79 G w84 h
    exact ⟨fun x0 x1 x2 x4 x6 x7 C I J R h => bX2_settle_9 G S_X2_common w79 w83 w103 (h9 n (gK Γ) x0 x1 x2 x4 x6 x7 C I J R h), fun x0 x1 x2 x4 x6 x7 C I J R h => bX2_settle_103 G S_X2_at w103 w163 (h103 n (gK Γ) x0 x1 x2 x4 x6 x7 C I J R h)⟩
  have w9 : ∀ (x0 : Nat) (x1 : Int32) (x2 : Int64) (x4 : Int64) (x6 : Int32) (x7 : Int32) (C : MC) (I : MI) (J : MJ) (R : MR), (∃ n, Q9 n (gK Γ) x0 x1 x2 x4 x6 x7 C I J R) → AW Γ 0 0 C I J R 9 [(0, aR (some x0)), (1, aI x1), (2, aJ x2), (4, aJ x4), (6, aI x6), (7, aI x7)] [] := fun x0 x1 x2 x4 x6 x7 C I J R ⟨m, hq⟩ => (key m).1 x0 x1 x2 x4 x6 x7 C I J R hq
  have w103 : ∀ (x0 : Nat) (x1 : Int32) (x2 : Int64) (x4 : Int64) (x6 : Int32) (x7 : Int32) (C : MC) (I : MI) (J : MJ) (R : MR), (∃ n, Q103 n (gK Γ) x0 x1 x2 x4 x6 x7 C I J R) → AW Γ 0 0 C I J R 103 [(0, aR (some x0)), (1, aI x1), (2, aJ x2), (4, aJ x4), (6, aI x6), (7, aI x7)] [] := fun x0 x1 x2 x4 x6 x7 C I J R ⟨m, hq⟩ => (key m).2 x0 x1 x2 x4 x6 x7 C I J R hq
  have w163 : ∀ (x0 : Nat) (x1 : Int32) (x2 : Int64) (x4 : Int64) (C : MC) (I : MI) (J : MJ) (R : MR), PX2_settle_163 F_X2_common F_X2_at (fun (x0 : Nat) (x1 : Int32) (x2 : Int64) (x4 : Int64) (x6 : Int32) (x7 : Int32) (C : MC) (I : MI) (J : MJ) (R : MR) => ∃ n, Q9 n (gK Γ) x0 x1 x2 x4 x6 x7 C I J R) (fun (x0 : Nat) (x1 : Int32) (x2 : Int64) (x4 : Int64) (x6 : Int32) (x7 : Int32) (C : MC) (I : MI) (J : MJ) (R : MR) => ∃ n, Q103 n (gK Γ) x0 x1 x2 x4 x6 x7 C I J R) (gK Γ) x0 x1 x2 x4 C I J R → AW Γ 0 0 C I J R 163 [(0, aR (some x0)), (1, aI x1), (2, aJ x2), (4, aJ x4)] [] := fun x0 x1 x2 x4 C I J R h => bX2_settle_163 G h
  have w84 : ∀ (x0 : Nat) (x1 : Int32) (x2 : Int64) (x4 : Int64) (x7 : Int32) (s0 : Int32) (C : MC) (I : MI) (J : MJ) (R : MR), PX2_settle_84 F_X2_common F_X2_at (fun (x0 : Nat) (x1 : Int32) (x2 : Int64) (x4 : Int64) (x6 : Int32) (x7 : Int32) (C : MC) (I : MI) (J : MJ) (R : MR) => ∃ n, Q9 n (gK Γ) x0 x1 x2 x4 x6 x7 C I J R) (fun (x0 : Nat) (x1 : Int32) (x2 : Int64) (x4 : Int64) (x6 : Int32) (x7 : Int32) (C : MC) (I : MI) (J : MJ) (R : MR) => ∃ n, Q103 n (gK Γ) x0 x1 x2 x4 x6 x7 C I J R) (gK Γ) x0 x1 x2 x4 x7 s0 C I J R → AW Γ 0 0 C I J R 84 [(0, aR (some x0)), (1, aI x1), (2, aJ x2), (4, aJ x4), (7, aI x7)] [aI s0] := fun x0 x1 x2 x4 x7 s0 C I J R h => bX2_settle_84 G w9 h
  have w83 : ∀ (x0 : Nat) (x1 : Int32) (x2 : Int64) (x4 : Int64) (x7 : Int32) (C : MC) (I : MI) (J : MJ) (R : MR), PX2_settle_83 F_X2_common F_X2_at (fun (x0 : Nat) (x1 : Int32) (x2 : Int64) (x4 : Int64) (x6 : Int32) (x7 : Int32) (C : MC) (I : MI) (J : MJ) (R : MR) => ∃ n, Q9 n (gK Γ) x0 x1 x2 x4 x6 x7 C I J R) (fun (x0 : Nat) (x1 : Int32) (x2 : Int64) (x4 : Int64) (x6 : Int32) (x7 : Int32) (C : MC) (I : MI) (J : MJ) (R : MR) => ∃ n, Q103 n (gK Γ) x0 x1 x2 x4 x6 x7 C I J R) (gK Γ) x0 x1 x2 x4 x7 C I J R → AW Γ 0 0 C I J R 83 [(0, aR (some x0)), (1, aI x1), (2, aJ x2), (4, aJ x4), (7, aI x7)] [] := fun x0 x1 x2 x4 x7 C I J R h => bX2_settle_83 G w84 h
  have w79 : ∀ (x0 : Nat) (x1 : Int32) (x2 : Int64) (x4 : Int64) (x7 : Int32) (C : MC) (I : MI) (J : MJ) (R : MR), PX2_settle_79 F_X2_common F_X2_at (fun (x0 : Nat) (x1 : Int32) (x2 : Int64) (x4 : Int64) (x6 : Int32) (x7 : Int32) (C : MC) (I : MI) (J : MJ) (R : MR) => ∃ n, Q9 n (gK Γ) x0 x1 x2 x4 x6 x7 C I J R) (fun (x0 : Nat) (x1 : Int32) (x2 : Int64) (x4 : Int64) (x6 : Int32) (x7 : Int32) (C : MC) (I : MI) (J : MJ) (R : MR) => ∃ n, Q103 n (gK Γ) x0 x1 x2 x4 x6 x7 C I J R) (gK Γ) x0 x1 x2 x4 x7 C I J R → AW Γ 0 0 C I J R 79 [(0, aR (some x0)), (1, aI x1), (2, aJ x2), (4, aJ x4), (7, aI x7)] [] := fun x0 x1 x2 x4 x7 C I J R h => bX2_settle_79 G w84 h
  obtain ⟨x0, x1, x2, rfl, h⟩ := h0 As C I J R (gK Γ) hF
  exact ⟨Nat.le_of_ble_eq_true rfl, bX2_settle_0 G w9 h⟩
def PX2_common_6 (Q6 : Int64 → Int64 → MC → MI → MJ → MR → Prop) (K : AK) (x4 : Int64) (x6 : Int64) (C : MC) (I : MI) (J : MJ) (R : MR) : Prop :=
      ((x6 = (0 : Int64) →
      K (.inl (some (aJ x4))) C I J R) ∧
      (¬ x6 = (0 : Int64) →
      ¬ x6 = 0 ∧
      Q6 x6 (x4 - x4 / x6 * x6) C I J R))
def PX2_common_0 (Q6 : Int64 → Int64 → MC → MI → MJ → MR → Prop) (K : AK) (x0 : Int64) (x2 : Int64) (C : MC) (I : MI) (J : MJ) (R : MR) : Prop :=
      Q6 x0 x2 C I J R
theorem wX2_common {l : Launch} 
    (Q6 : Nat → AK → Int64 → Int64 → MC → MI → MJ → MR → Prop) {F : SPF}
    (h0 : ∀ (As : List AV) (C : MC) (I : MI) (J : MJ) (R : MR) (K : AK), F As C I J R K → ∃ (x0 : Int64) (x2 : Int64), As = [aJ x0, aJ x2] ∧ PX2_common_0 (fun (x4 : Int64) (x6 : Int64) (C : MC) (I : MI) (J : MJ) (R : MR) => ∃ n, Q6 n K x4 x6 C I J R) K x0 x2 C I J R)
    (h6 : ∀ (n : Nat) (K : AK) (x4 : Int64) (x6 : Int64) (C : MC) (I : MI) (J : MJ) (R : MR), Q6 n K x4 x6 C I J R → PX2_common_6 (fun (x4 : Int64) (x6 : Int64) (C : MC) (I : MI) (J : MJ) (R : MR) => ∃ m, m < n ∧ Q6 m K x4 x6 C I J R) K x4 x6 C I J R) : SpX2_common l F := by
  refine Spec.of (by rfl) ?_
  intro Γ C I J R As Gd gl gr _ _ gb hF
  subst gl
  have G : Gb Γ yX2_common cX2_common 10 (some .long) [] rmX2_common bdX2_common := ⟨Gd, gr, gb⟩
  have key : ∀ n : Nat, (∀ (x4 : Int64) (x6 : Int64) (C : MC) (I : MI) (J : MJ) (R : MR), Q6 n (gK Γ) x4 x6 C I J R → AW Γ 0 0 C I J R 6 [(4, aJ x4), (6, aJ x6)] []) := by
    intro n
    induction n using Nat.strongRecOn with
    | ind n ih =>
    have w6 : ∀ (x4 : Int64) (x6 : Int64) (C : MC) (I : MI) (J : MJ) (R : MR), (∃ m, m < n ∧ Q6 m (gK Γ) x4 x6 C I J R) → AW Γ 0 0 C I J R 6 [(4, aJ x4), (6, aJ x6)] [] := fun x4 x6 C I J R ⟨m, hm, hq⟩ => (ih m hm) x4 x6 C I J R hq
    exact fun x4 x6 C I J R h => bX2_common_6 G w6 (h6 n (gK Γ) x4 x6 C I J R h)
  have w6 : ∀ (x4 : Int64) (x6 : Int64) (C : MC) (I : MI) (J : MJ) (R : MR), (∃ n, Q6 n (gK Γ) x4 x6 C I J R) → AW Γ 0 0 C I J R 6 [(4, aJ x4), (6, aJ x6)] [] := fun x4 x6 C I J R ⟨m, hq⟩ => (key m) x4 x6 C I J R hq
  obtain ⟨x0, x2, rfl, h⟩ := h0 As C I J R (gK Γ) hF
  exact ⟨Nat.le_of_ble_eq_true rfl, bX2_common_0 G w6 h⟩
def PX2_leaves_36 (F_X2_has : SPF) (Q4 : Nat → Int32 → Int32 → Int32 → MC → MI → MJ → MR → Prop) (K : AK) (x0 : Nat) (x1 : Int32) (x3 : Int32) (s0 : Int32) (s1 : Int32) (C : MC) (I : MI) (J : MJ) (R : MR) : Prop :=
      Q4 x0 x1 (s0 + s1) (x3 + 1) C I J R
def PX2_leaves_35 (F_X2_has : SPF) (Q4 : Nat → Int32 → Int32 → Int32 → MC → MI → MJ → MR → Prop) (K : AK) (x0 : Nat) (x1 : Int32) (x3 : Int32) (s0 : Int32) (C : MC) (I : MI) (J : MJ) (R : MR) : Prop :=
      PX2_leaves_36 F_X2_has Q4 K x0 x1 x3 s0 (0 : Int32) C I J R
def PX2_leaves_4 (F_X2_has : SPF) (Q4 : Nat → Int32 → Int32 → Int32 → MC → MI → MJ → MR → Prop) (K : AK) (x0 : Nat) (x1 : Int32) (x2 : Int32) (x3 : Int32) (C : MC) (I : MI) (J : MJ) (R : MR) : Prop :=
      (C x0).1 = 3 ∧
      (((I x0 6) ≤ x3 →
      K (.inl (some (aI x2))) C I J R) ∧
      (¬ (I x0 6) ≤ x3 →
      ∃ q3 : Nat, R x0 7 = some q3 ∧
      (C q3).1 = 20 ∧
      vp_in x3 (C q3).2 ∧
      ((¬ (I q3 x3.toNatClampNeg) = 0 →
      PX2_leaves_35 F_X2_has Q4 K x0 x1 x3 x2 C I J R) ∧
      ((I q3 x3.toNatClampNeg) = 0 →
      F_X2_has [aR (some x0), aI x1, aI x3] C I J R (fun o C7 I8 J9 R10 =>
      ∃ r11 : Int32, o = .inl (some (aI r11)) ∧
      ((r11 = 0 →
      PX2_leaves_35 F_X2_has Q4 K x0 x1 x3 x2 C7 I8 J9 R10) ∧
      (¬ r11 = 0 →
      PX2_leaves_36 F_X2_has Q4 K x0 x1 x3 x2 (1 : Int32) C7 I8 J9 R10)))))))
def PX2_leaves_0 (F_X2_has : SPF) (Q4 : Nat → Int32 → Int32 → Int32 → MC → MI → MJ → MR → Prop) (K : AK) (x0 : Nat) (x1 : Int32) (C : MC) (I : MI) (J : MJ) (R : MR) : Prop :=
      Q4 x0 x1 (0 : Int32) (0 : Int32) C I J R
theorem wX2_leaves {l : Launch}  {F_X2_has : SPF} (S_X2_has : SpX2_has l F_X2_has)
    (Q4 : Nat → AK → Nat → Int32 → Int32 → Int32 → MC → MI → MJ → MR → Prop) {F : SPF}
    (h0 : ∀ (As : List AV) (C : MC) (I : MI) (J : MJ) (R : MR) (K : AK), F As C I J R K → ∃ (x0 : Nat) (x1 : Int32), As = [aR (some x0), aI x1] ∧ PX2_leaves_0 F_X2_has (fun (x0 : Nat) (x1 : Int32) (x2 : Int32) (x3 : Int32) (C : MC) (I : MI) (J : MJ) (R : MR) => ∃ n, Q4 n K x0 x1 x2 x3 C I J R) K x0 x1 C I J R)
    (h4 : ∀ (n : Nat) (K : AK) (x0 : Nat) (x1 : Int32) (x2 : Int32) (x3 : Int32) (C : MC) (I : MI) (J : MJ) (R : MR), Q4 n K x0 x1 x2 x3 C I J R → PX2_leaves_4 F_X2_has (fun (x0 : Nat) (x1 : Int32) (x2 : Int32) (x3 : Int32) (C : MC) (I : MI) (J : MJ) (R : MR) => ∃ m, m < n ∧ Q4 m K x0 x1 x2 x3 C I J R) K x0 x1 x2 x3 C I J R) : SpX2_leaves l F := by
  refine Spec.of (by rfl) ?_
  intro Γ C I J R As Gd gl gr _ _ gb hF
  subst gl
  have G : Gb Γ yX2_leaves cX2_leaves 4 (some .int) [] rmX2_leaves bdX2_leaves := ⟨Gd, gr, gb⟩
  have key : ∀ n : Nat, (∀ (x0 : Nat) (x1 : Int32) (x2 : Int32) (x3 : Int32) (C : MC) (I : MI) (J : MJ) (R : MR), Q4 n (gK Γ) x0 x1 x2 x3 C I J R → AW Γ 0 0 C I J R 4 [(0, aR (some x0)), (1, aI x1), (2, aI x2), (3, aI x3)] []) := by
    intro n
    induction n using Nat.strongRecOn with
    | ind n ih =>
    have w4 : ∀ (x0 : Nat) (x1 : Int32) (x2 : Int32) (x3 : Int32) (C : MC) (I : MI) (J : MJ) (R : MR), (∃ m, m < n ∧ Q4 m (gK Γ) x0 x1 x2 x3 C I J R) → AW Γ 0 0 C I J R 4 [(0, aR (some x0)), (1, aI x1), (2, aI x2), (3, aI x3)] [] := fun x0 x1 x2 x3 C I J R ⟨m, hm, hq⟩ => (ih m hm) x0 x1 x2 x3 C I J R hq
    have w36 : ∀ (x0 : Nat) (x1 : Int32) (x3 : Int32) (s0 : Int32) (s1 : Int32) (C : MC) (I : MI) (J : MJ) (R : MR), PX2_leaves_36 F_X2_has (fun (x0 : Nat) (x1 : Int32) (x2 : Int32) (x3 : Int32) (C : MC) (I : MI) (J : MJ) (R : MR) => ∃ m, m < n ∧ Q4 m (gK Γ) x0 x1 x2 x3 C I J R) (gK Γ) x0 x1 x3 s0 s1 C I J R → AW Γ 0 0 C I J R 36 [(0, aR (some x0)), (1, aI x1), (3, aI x3)] [aI s1, aI s0] := fun x0 x1 x3 s0 s1 C I J R h => bX2_leaves_36 G w4 h
    have w35 : ∀ (x0 : Nat) (x1 : Int32) (x3 : Int32) (s0 : Int32) (C : MC) (I : MI) (J : MJ) (R : MR), PX2_leaves_35 F_X2_has (fun (x0 : Nat) (x1 : Int32) (x2 : Int32) (x3 : Int32) (C : MC) (I : MI) (J : MJ) (R : MR) => ∃ m, m < n ∧ Q4 m (gK Γ) x0 x1 x2 x3 C I J R) (gK Γ) x0 x1 x3 s0 C I J R → AW Γ 0 0 C I J R 35 [(0, aR (some x0)), (1, aI x1), (3, aI x3)] [aI s0] := fun x0 x1 x3 s0 C I J R h => bX2_leaves_35 G w36 h
    exact fun x0 x1 x2 x3 C I J R h => bX2_leaves_4 G S_X2_has w35 w36 (h4 n (gK Γ) x0 x1 x2 x3 C I J R h)
  have w4 : ∀ (x0 : Nat) (x1 : Int32) (x2 : Int32) (x3 : Int32) (C : MC) (I : MI) (J : MJ) (R : MR), (∃ n, Q4 n (gK Γ) x0 x1 x2 x3 C I J R) → AW Γ 0 0 C I J R 4 [(0, aR (some x0)), (1, aI x1), (2, aI x2), (3, aI x3)] [] := fun x0 x1 x2 x3 C I J R ⟨m, hq⟩ => (key m) x0 x1 x2 x3 C I J R hq
  have w36 : ∀ (x0 : Nat) (x1 : Int32) (x3 : Int32) (s0 : Int32) (s1 : Int32) (C : MC) (I : MI) (J : MJ) (R : MR), PX2_leaves_36 F_X2_has (fun (x0 : Nat) (x1 : Int32) (x2 : Int32) (x3 : Int32) (C : MC) (I : MI) (J : MJ) (R : MR) => ∃ n, Q4 n (gK Γ) x0 x1 x2 x3 C I J R) (gK Γ) x0 x1 x3 s0 s1 C I J R → AW Γ 0 0 C I J R 36 [(0, aR (some x0)), (1, aI x1), (3, aI x3)] [aI s1, aI s0] := fun x0 x1 x3 s0 s1 C I J R h => bX2_leaves_36 G w4 h
  have w35 : ∀ (x0 : Nat) (x1 : Int32) (x3 : Int32) (s0 : Int32) (C : MC) (I : MI) (J : MJ) (R : MR), PX2_leaves_35 F_X2_has (fun (x0 : Nat) (x1 : Int32) (x2 : Int32) (x3 : Int32) (C : MC) (I : MI) (J : MJ) (R : MR) => ∃ n, Q4 n (gK Γ) x0 x1 x2 x3 C I J R) (gK Γ) x0 x1 x3 s0 C I J R → AW Γ 0 0 C I J R 35 [(0, aR (some x0)), (1, aI x1), (3, aI x3)] [aI s0] := fun x0 x1 x3 s0 C I J R h => bX2_leaves_35 G w36 h
  obtain ⟨x0, x1, rfl, h⟩ := h0 As C I J R (gK Γ) hF
  exact ⟨Nat.le_of_ble_eq_true rfl, bX2_leaves_0 G w4 h⟩
def PX2_has_22 (Q2 : Nat → Int32 → Int32 → MC → MI → MJ → MR → Prop) (K : AK) (x1 : Int32) (x3 : Int32) (C : MC) (I : MI) (J : MJ) (R : MR) : Prop :=
      ((¬ x3 = x1 →
      K (.inl (some (aI (0 : Int32)))) C I J R) ∧
      (x3 = x1 →
      K (.inl (some (aI (1 : Int32)))) C I J R))
def PX2_has_2 (Q2 : Nat → Int32 → Int32 → MC → MI → MJ → MR → Prop) (K : AK) (x0 : Nat) (x1 : Int32) (x3 : Int32) (C : MC) (I : MI) (J : MJ) (R : MR) : Prop :=
      ((x3 = (-1 : Int32) →
      PX2_has_22 Q2 K x1 x3 C I J R) ∧
      (¬ x3 = (-1 : Int32) →
      ((x3 = x1 →
      PX2_has_22 Q2 K x1 x3 C I J R) ∧
      (¬ x3 = x1 →
      (C x0).1 = 3 ∧
      ∃ q4 : Nat, R x0 11 = some q4 ∧
      (C q4).1 = 20 ∧
      vp_in x3 (C q4).2 ∧
      Q2 x0 x1 (I q4 x3.toNatClampNeg) C I J R))))
def PX2_has_0 (Q2 : Nat → Int32 → Int32 → MC → MI → MJ → MR → Prop) (K : AK) (x0 : Nat) (x1 : Int32) (x2 : Int32) (C : MC) (I : MI) (J : MJ) (R : MR) : Prop :=
      Q2 x0 x1 x2 C I J R
theorem wX2_has {l : Launch} 
    (Q2 : Nat → AK → Nat → Int32 → Int32 → MC → MI → MJ → MR → Prop) {F : SPF}
    (h0 : ∀ (As : List AV) (C : MC) (I : MI) (J : MJ) (R : MR) (K : AK), F As C I J R K → ∃ (x0 : Nat) (x1 : Int32) (x2 : Int32), As = [aR (some x0), aI x1, aI x2] ∧ PX2_has_0 (fun (x0 : Nat) (x1 : Int32) (x3 : Int32) (C : MC) (I : MI) (J : MJ) (R : MR) => ∃ n, Q2 n K x0 x1 x3 C I J R) K x0 x1 x2 C I J R)
    (h2 : ∀ (n : Nat) (K : AK) (x0 : Nat) (x1 : Int32) (x3 : Int32) (C : MC) (I : MI) (J : MJ) (R : MR), Q2 n K x0 x1 x3 C I J R → PX2_has_2 (fun (x0 : Nat) (x1 : Int32) (x3 : Int32) (C : MC) (I : MI) (J : MJ) (R : MR) => ∃ m, m < n ∧ Q2 m K x0 x1 x3 C I J R) K x0 x1 x3 C I J R) : SpX2_has l F := by
  refine Spec.of (by rfl) ?_
  intro Γ C I J R As Gd gl gr _ _ gb hF
  subst gl
  have G : Gb Γ yX2_has cX2_has 4 (some .boolean) [] rmX2_has bdX2_has := ⟨Gd, gr, gb⟩
  have key : ∀ n : Nat, (∀ (x0 : Nat) (x1 : Int32) (x3 : Int32) (C : MC) (I : MI) (J : MJ) (R : MR), Q2 n (gK Γ) x0 x1 x3 C I J R → AW Γ 0 0 C I J R 2 [(0, aR (some x0)), (1, aI x1), (3, aI x3)] []) := by
    intro n
    induction n using Nat.strongRecOn with
    | ind n ih =>
    have w2 : ∀ (x0 : Nat) (x1 : Int32) (x3 : Int32) (C : MC) (I : MI) (J : MJ) (R : MR), (∃ m, m < n ∧ Q2 m (gK Γ) x0 x1 x3 C I J R) → AW Γ 0 0 C I J R 2 [(0, aR (some x0)), (1, aI x1), (3, aI x3)] [] := fun x0 x1 x3 C I J R ⟨m, hm, hq⟩ => (ih m hm) x0 x1 x3 C I J R hq
    have w22 : ∀ (x1 : Int32) (x3 : Int32) (C : MC) (I : MI) (J : MJ) (R : MR), PX2_has_22 (fun (x0 : Nat) (x1 : Int32) (x3 : Int32) (C : MC) (I : MI) (J : MJ) (R : MR) => ∃ m, m < n ∧ Q2 m (gK Γ) x0 x1 x3 C I J R) (gK Γ) x1 x3 C I J R → AW Γ 0 0 C I J R 22 [(1, aI x1), (3, aI x3)] [] := fun x1 x3 C I J R h => bX2_has_22 G h
    exact fun x0 x1 x3 C I J R h => bX2_has_2 G w2 w22 (h2 n (gK Γ) x0 x1 x3 C I J R h)
  have w2 : ∀ (x0 : Nat) (x1 : Int32) (x3 : Int32) (C : MC) (I : MI) (J : MJ) (R : MR), (∃ n, Q2 n (gK Γ) x0 x1 x3 C I J R) → AW Γ 0 0 C I J R 2 [(0, aR (some x0)), (1, aI x1), (3, aI x3)] [] := fun x0 x1 x3 C I J R ⟨m, hq⟩ => (key m) x0 x1 x3 C I J R hq
  have w22 : ∀ (x1 : Int32) (x3 : Int32) (C : MC) (I : MI) (J : MJ) (R : MR), PX2_has_22 (fun (x0 : Nat) (x1 : Int32) (x3 : Int32) (C : MC) (I : MI) (J : MJ) (R : MR) => ∃ n, Q2 n (gK Γ) x0 x1 x3 C I J R) (gK Γ) x1 x3 C I J R → AW Γ 0 0 C I J R 22 [(1, aI x1), (3, aI x3)] [] := fun x1 x3 C I J R h => bX2_has_22 G h
  obtain ⟨x0, x1, x2, rfl, h⟩ := h0 As C I J R (gK Γ) hF
  exact ⟨Nat.le_of_ble_eq_true rfl, bX2_has_0 G w2 h⟩
