/-! WALKS of X0_told X0_numberOf X0_great X0_weight X0_whole X0_by X0_tells X0_fails X0_promise X0_isShare X0_isEnough X0_bound X0_asks X0_leafOf X0_isIn X0_change X0_price X0_grade X0_choosers X0_best X0_leaves X (printed by gen/blocks.py) -/
set_option maxRecDepth 100000
section BL
variable {Γ : Gm} {C : MC} {I : MI} {J : MJ} {R : MR}
set_option maxHeartbeats 1000000
theorem bX0_told_0 (G : Gb Γ yX0_told cX0_told 4 (some .int) [(5, 68, 102, 53), (69, 73, 102, 53), (74, 82, 102, 53), (83, 88, 102, 53), (89, 93, 102, 53), (94, 101, 102, 53), (5, 68, 109, 13), (69, 73, 109, 13), (74, 82, 109, 13), (83, 88, 109, 13), (89, 93, 109, 13), (94, 101, 109, 13)] rmX0_told bdX0_told) {F_X0_thing : SPF} (S_X0_thing : SpX0_thing (gL Γ) F_X0_thing)
    {Q25 : Nat → Int32 → Nat → Nat → MC → MI → MJ → MR → Prop} (w25 : ∀ (x0 : Nat) (x2 : Int32) (x3 : Nat) (s0 : Nat) (C : MC) (I : MI) (J : MJ) (R : MR), Q25 x0 x2 x3 s0 C I J R → AW Γ 0 0 C I J R 25 [(0, aR (some x0)), (2, aI x2), (3, aR (some x3))] [aR (some s0)])
    {Q26 : Nat → Int32 → Nat → Nat → Int32 → MC → MI → MJ → MR → Prop} (w26 : ∀ (x0 : Nat) (x2 : Int32) (x3 : Nat) (s0 : Nat) (s1 : Int32) (C : MC) (I : MI) (J : MJ) (R : MR), Q26 x0 x2 x3 s0 s1 C I J R → AW Γ 0 0 C I J R 26 [(0, aR (some x0)), (2, aI x2), (3, aR (some x3))] [aI s1, aR (some s0)])
    {Q102 : Nat → Nat → MC → MI → MJ → MR → Prop} (w102 : ∀ (x0 : Nat) (s0 : Nat) (C : MC) (I : MI) (J : MJ) (R : MR), Q102 x0 s0 C I J R → AW Γ 0 0 C I J R 102 [(0, aR (some x0))] [aR (some s0)]) {x0 : Nat} {x1 : Int32} {x2 : Int32}
    (h : (C x0).1 = 1 ∧
      ∀ I2 : MI, I2 = va_up I x0 (va_up (I x0) 5 (0 : Int32)) →
      F_X0_thing [aR (some x0), aI x1] C I2 J R (fun o C3 I4 J5 R6 =>
      (∃ r7 : Nat, o = .inl (some (aR (some r7))) ∧
      ((x2 < 0 →
      Q25 x0 x2 r7 x0 C3 I4 J5 R6) ∧
      (¬ x2 < 0 →
      (((5 : Int32) < x2 →
      Q25 x0 x2 r7 x0 C3 I4 J5 R6) ∧
      (¬ (5 : Int32) < x2 →
      Q26 x0 x2 r7 x0 (1 : Int32) C3 I4 J5 R6))))) ∨
      (∃ q10 : Nat, o = .inr q10 ∧
      ((C3 q10).1 = 2 ∧
      Q102 x0 q10 C3 I4 J5 R6)))) :
    AW Γ 0 0 C I J R 0 [(0, aR (some x0)), (1, aI x1), (2, aI x2)] [] := by
  have G0 := G.1
  refine aw_aload_n G0 0 rfl dX0_told_0 ?_
  refine aw_iconst (v := (0 : Int32)) G0 dX0_told_1 (by decide) ?_
  obtain ⟨k1, h⟩ := h
  refine aw_putI (f := 5) G0 (by rw [k1]; exact fp_X0_63 _) dX0_told_2 ?_
  generalize gI2 : va_up I x0 (va_up (I x0) 5 (0 : Int32)) = I2
  have h := h I2 gI2.symm
  refine aw_aload_n G0 0 rfl dX0_told_5 ?_
  refine aw_iload_n G0 1 rfl dX0_told_6 ?_
  refine aw_callV (k1 := 0) (n1 := 0) (k2 := 0) (n2 := 0) (st := []) G0 S_X0_thing gi_X0_163 (Or.inl (by rw [k1]; decide)) (by rw [k1]; rfl) md_X0_thing (Nat.le_of_ble_eq_true rfl) (by decide) (by rw [G.2.1]; decide) (by rw [G.2.1]; decide) [aI x1] rfl rfl dX0_told_7 h (fun o C3 I4 J5 R6 h => ?_)
  rcases h with ⟨r7, rfl, h⟩ | ⟨q10, rfl, h⟩
  · show AW Γ 0 0 C3 I4 J5 R6 (7 + 3) [(0, aR (some x0)), (1, aI x1), (2, aI x2)] [aR (some r7)]
    refine aw_astore_n (lv' := [(3, aR (some r7)), (0, aR (some x0)), (1, aI x1), (2, aI x2)]) G0 (by decide) rfl dX0_told_10 ?_
    refine aw_aload_n G0 1 rfl dX0_told_11 ?_
    refine aw_iload_n G0 3 rfl dX0_told_12 ?_
    refine aw_if_lt G0 25 dX0_told_13 (by decide) (fun c8 => ?_) (fun c8 => ?_)
    · have h := h.1 c8
      exact (aw_lv [1, 3, 0] rfl (w25 x0 x2 r7 x0 C3 I4 J5 R6 h))
    · have h := h.2 c8
      refine aw_iload_n G0 3 rfl dX0_told_16 ?_
      refine aw_iconst (v := (5 : Int32)) G0 dX0_told_17 (by decide) ?_
      refine aw_icmp_gt G0 25 dX0_told_18 (by decide) (fun c9 => ?_) (fun c9 => ?_)
      · have h := h.1 c9
        exact (aw_lv [1, 3, 0] rfl (w25 x0 x2 r7 x0 C3 I4 J5 R6 h))
      · have h := h.2 c9
        refine aw_iconst (v := (1 : Int32)) G0 dX0_told_21 (by decide) ?_
        refine aw_goto G0 26 dX0_told_22 (by decide) ?_
        exact (aw_lv [1, 3, 0] rfl (w26 x0 x2 r7 x0 (1 : Int32) C3 I4 J5 R6 h))
  · show AX Γ 0 0 C3 I4 J5 R6 7 [(0, aR (some x0)), (1, aI x1), (2, aI x2)] q10
    obtain ⟨k11, h⟩ := h
    refine ax_catch G0 0 rfl (fun j hj _ _ _ _ _ => absurd hj (Nat.not_lt_zero j)) rfl (by decide) q84 (Or.inl k11) (by rw [k11]; exact q86) ?_
    exact (aw_lv [0] rfl (w102 x0 q10 C3 I4 J5 R6 h))
theorem bX0_told_25 (G : Gb Γ yX0_told cX0_told 4 (some .int) [(5, 68, 102, 53), (69, 73, 102, 53), (74, 82, 102, 53), (83, 88, 102, 53), (89, 93, 102, 53), (94, 101, 102, 53), (5, 68, 109, 13), (69, 73, 109, 13), (74, 82, 109, 13), (83, 88, 109, 13), (89, 93, 109, 13), (94, 101, 109, 13)] rmX0_told bdX0_told)
    {Q26 : Nat → Int32 → Nat → Nat → Int32 → MC → MI → MJ → MR → Prop} (w26 : ∀ (x0 : Nat) (x2 : Int32) (x3 : Nat) (s0 : Nat) (s1 : Int32) (C : MC) (I : MI) (J : MJ) (R : MR), Q26 x0 x2 x3 s0 s1 C I J R → AW Γ 0 0 C I J R 26 [(0, aR (some x0)), (2, aI x2), (3, aR (some x3))] [aI s1, aR (some s0)]) {x0 : Nat} {x2 : Int32} {x3 : Nat} {s0 : Nat}
    (h : Q26 x0 x2 x3 s0 (0 : Int32) C I J R) :
    AW Γ 0 0 C I J R 25 [(0, aR (some x0)), (2, aI x2), (3, aR (some x3))] [aR (some s0)] := by
  have G0 := G.1
  refine aw_iconst (v := (0 : Int32)) G0 dX0_told_25 (by decide) ?_
  exact (w26 x0 x2 x3 s0 (0 : Int32) C I J R h)
theorem bX0_told_26 (G : Gb Γ yX0_told cX0_told 4 (some .int) [(5, 68, 102, 53), (69, 73, 102, 53), (74, 82, 102, 53), (83, 88, 102, 53), (89, 93, 102, 53), (94, 101, 102, 53), (5, 68, 109, 13), (69, 73, 109, 13), (74, 82, 109, 13), (83, 88, 109, 13), (89, 93, 109, 13), (94, 101, 109, 13)] rmX0_told bdX0_told) {F_X0_want : SPF} (S_X0_want : SpX0_want (gL Γ) F_X0_want) {F_Vkind : SPF} (S_Vkind : SpVkind (gL Γ) F_Vkind) {F_X0_numberOf : SPF} (S_X0_numberOf : SpX0_numberOf (gL Γ) F_X0_numberOf) {F_Vleaves : SPF} (S_Vleaves : SpVleaves (gL Γ) 20 F_Vleaves) {F_Vtable : SPF} (S_Vtable : SpVtable (gL Γ) 20 F_Vtable) {F_X3_last : SPF} (S_X3_last : SpX3_last (gL Γ) F_X3_last)
    {Q102 : Nat → Nat → MC → MI → MJ → MR → Prop} (w102 : ∀ (x0 : Nat) (s0 : Nat) (C : MC) (I : MI) (J : MJ) (R : MR), Q102 x0 s0 C I J R → AW Γ 0 0 C I J R 102 [(0, aR (some x0))] [aR (some s0)])
    {Q109 : Nat → Nat → MC → MI → MJ → MR → Prop} (w109 : ∀ (x0 : Nat) (s0 : Nat) (C : MC) (I : MI) (J : MJ) (R : MR), Q109 x0 s0 C I J R → AW Γ 1 6 C I J R 109 [(0, aR (some x0))] [aR (some s0)]) {x0 : Nat} {x2 : Int32} {x3 : Nat} {s0 : Nat} {s1 : Int32}
    (h : (C s0).1 = 1 ∧
      F_X0_want [aR (some s0), aI s1, aI (1 : Int32)] C I J R (fun o C2 I3 J4 R5 =>
      (o = .inl none ∧
      ((x2.toInt = 0 →
      (C2 x0).1 = 1 ∧
      gK Γ (.inl (some (aI (I3 x0 3)))) C2 I3 J4 R5) ∧
      (x2.toInt = 1 →
      kTh (C2 x3).1 ∧
      F_Vkind [aR (some x3)] C2 I3 J4 R5 (fun o C10 I11 J12 R13 =>
      ∃ r14 : Int32, o = .inl (some (aI r14)) ∧
      gK Γ (.inl (some (aI r14))) C10 I11 J12 R13)) ∧
      (x2.toInt = 2 →
      kTh (C2 x3).1 ∧
      (C2 x0).1 = 1 ∧
      F_X0_numberOf [aR (some x0), aR (R5 x3 3)] C2 I3 J4 R5 (fun o C17 I18 J19 R20 =>
      ∃ r21 : Int32, o = .inl (some (aI r21)) ∧
      gK Γ (.inl (some (aI r21))) C17 I18 J19 R20)) ∧
      (x2.toInt = 3 →
      kTh (C2 x3).1 ∧
      ∃ q23 : Nat, R5 x3 0 = some q23 ∧
      (20 ≤ (C2 q23).1 ∧ (C2 q23).1 ≤ 30) ∧
      gK Γ (.inl (some (aI (nI (C2 q23).2)))) C2 I3 J4 R5) ∧
      (x2.toInt = 4 →
      kTh (C2 x3).1 ∧
      F_Vleaves [aR (some x3)] C2 I3 J4 R5 (fun o C26 I27 J28 R29 =>
      ∃ r30 : Int32, o = .inl (some (aI r30)) ∧
      gK Γ (.inl (some (aI r30))) C26 I27 J28 R29)) ∧
      ((x2.toInt < 0 ∨ 4 < x2.toInt) →
      kTh (C2 x3).1 ∧
      F_Vtable [aR (some x3)] C2 I3 J4 R5 (fun o C32 I33 J34 R35 =>
      (∃ r36 : Nat, o = .inl (some (aR (some r36))) ∧
      (C32 r36).1 = 4 ∧
      F_X3_last [aR (some r36)] C32 I33 J34 R35 (fun o C38 I39 J40 R41 =>
      ∃ r42 : Int32, o = .inl (some (aI r42)) ∧
      gK Γ (.inl (some (aI r42))) C38 I39 J40 R41)) ∨
      (∃ q43 : Nat, o = .inr q43 ∧
      ((C32 q43).1 = 11 ∧
      Q109 x0 q43 C32 I33 J34 R35)))))) ∨
      (∃ q45 : Nat, o = .inr q45 ∧
      ((C2 q45).1 = 2 ∧
      Q102 x0 q45 C2 I3 J4 R5)))) :
    AW Γ 0 0 C I J R 26 [(0, aR (some x0)), (2, aI x2), (3, aR (some x3))] [aI s1, aR (some s0)] := by
  have G0 := G.1
  refine aw_iconst (v := (1 : Int32)) G0 dX0_told_26 (by decide) ?_
  obtain ⟨k1, h⟩ := h
  refine aw_callV (k1 := 0) (n1 := 0) (k2 := 0) (n2 := 0) (st := []) G0 S_X0_want gi_X0_87 (Or.inl (by rw [k1]; decide)) (by rw [k1]; rfl) md_X0_want (Nat.le_of_ble_eq_true rfl) (by decide) (by rw [G.2.1]; decide) (by rw [G.2.1]; decide) [aI s1, aI (1 : Int32)] rfl rfl dX0_told_27 h (fun o C2 I3 J4 R5 h => ?_)
  rcases h with ⟨rfl, h⟩ | ⟨q45, rfl, h⟩
  · show AW Γ 0 0 C2 I3 J4 R5 (27 + 3) [(0, aR (some x0)), (2, aI x2), (3, aR (some x3))] []
    refine aw_iload_n G0 1 rfl dX0_told_30 ?_
    have h7 := h
    refine aw_tsw G0 dX0_told_31 (by decide) (fun j off tgt ho ht hx => ?_) (fun j off ho => ?_) (fun tgt ht hx => ?_) (by decide)
    · match j, ho with
      | 0, ho =>
        have ho2 : off = (33 : Int) := by simpa using ho.symm
        subst ho2
        have et : tgt = 64 := by omega
        subst et
        have h := h7.1 (by simpa using hx)
        refine aw_aload_n G0 0 rfl dX0_told_64 ?_
        obtain ⟨k8, h⟩ := h
        refine aw_getI (f := 3) G0 (by rw [k8]; exact fb_X0_133) dX0_told_65 ?_
        exact aw_ireturn G0 (Or.inl rfl) (by rw [G.2.2]; decide) (by rw [G.2.1]; decide) dX0_told_68 h
      | 1, ho =>
        have ho2 : off = (38 : Int) := by simpa using ho.symm
        subst ho2
        have et : tgt = 69 := by omega
        subst et
        have h := h7.2.1 (by simpa using hx)
        refine aw_aload_n G0 2 rfl dX0_told_69 ?_
        obtain ⟨k9, h⟩ := h
        refine vc_X0_203 (k1 := 0) (n1 := 0) (k2 := 0) (n2 := 0) (st := []) G0 S_Vkind k9 (Nat.le_of_ble_eq_true rfl) (by decide) (by rw [G.2.1]; decide) (by rw [G.2.1]; decide) [] rfl rfl dX0_told_70 h (fun o C10 I11 J12 R13 h => ?_)
        obtain ⟨r14, rfl, h⟩ := h
        show AW Γ 0 0 C10 I11 J12 R13 (70 + 3) [(0, aR (some x0)), (2, aI x2), (3, aR (some x3))] [aI r14]
        exact aw_ireturn G0 (Or.inl rfl) (by rw [G.2.2]; decide) (by rw [G.2.1]; decide) dX0_told_73 h
      | 2, ho =>
        have ho2 : off = (43 : Int) := by simpa using ho.symm
        subst ho2
        have et : tgt = 74 := by omega
        subst et
        have h := h7.2.2.1 (by simpa using hx)
        refine aw_aload_n G0 0 rfl dX0_told_74 ?_
        refine aw_aload_n G0 2 rfl dX0_told_75 ?_
        obtain ⟨k15, h⟩ := h
        refine aw_getR (f := 3) G0 (fb_X0_167 _ k15) dX0_told_76 ?_
        obtain ⟨k16, h⟩ := h
        refine aw_callV (k1 := 0) (n1 := 0) (k2 := 0) (n2 := 0) (st := []) G0 S_X0_numberOf gi_X0_207 (Or.inl (by rw [k16]; decide)) (by rw [k16]; rfl) md_X0_numberOf (Nat.le_of_ble_eq_true rfl) (by decide) (by rw [G.2.1]; decide) (by rw [G.2.1]; decide) [aR (R5 x3 3)] rfl rfl dX0_told_79 h (fun o C17 I18 J19 R20 h => ?_)
        obtain ⟨r21, rfl, h⟩ := h
        show AW Γ 0 0 C17 I18 J19 R20 (79 + 3) [(0, aR (some x0)), (2, aI x2), (3, aR (some x3))] [aI r21]
        exact aw_ireturn G0 (Or.inl rfl) (by rw [G.2.2]; decide) (by rw [G.2.1]; decide) dX0_told_82 h
      | 3, ho =>
        have ho2 : off = (52 : Int) := by simpa using ho.symm
        subst ho2
        have et : tgt = 83 := by omega
        subst et
        have h := h7.2.2.2.1 (by simpa using hx)
        refine aw_aload_n G0 2 rfl dX0_told_83 ?_
        obtain ⟨k22, h⟩ := h
        refine aw_getR (f := 0) G0 (fb_X0_210 _ k22) dX0_told_84 ?_
        obtain ⟨q23, e23, h⟩ := h
        refine aw_dr0 e23 ?_
        obtain ⟨k24, h⟩ := h
        refine aw_alen (v := nI (C2 q23).2) G0 k24 rfl dX0_told_87 ?_
        exact aw_ireturn G0 (Or.inl rfl) (by rw [G.2.2]; decide) (by rw [G.2.1]; decide) dX0_told_88 h
      | 4, ho =>
        have ho2 : off = (58 : Int) := by simpa using ho.symm
        subst ho2
        have et : tgt = 89 := by omega
        subst et
        have h := h7.2.2.2.2.1 (by simpa using hx)
        refine aw_aload_n G0 2 rfl dX0_told_89 ?_
        obtain ⟨k25, h⟩ := h
        refine vc_X0_213 (k1 := 0) (n1 := 0) (k2 := 0) (n2 := 0) (st := []) G0 S_Vleaves k25 (Nat.le_of_ble_eq_true rfl) (by decide) (by rw [G.2.1]; decide) (by rw [G.2.1]; decide) [] rfl rfl dX0_told_90 h (fun o C26 I27 J28 R29 h => ?_)
        obtain ⟨r30, rfl, h⟩ := h
        show AW Γ 0 0 C26 I27 J28 R29 (90 + 3) [(0, aR (some x0)), (2, aI x2), (3, aR (some x3))] [aI r30]
        exact aw_ireturn G0 (Or.inl rfl) (by rw [G.2.2]; decide) (by rw [G.2.1]; decide) dX0_told_93 h
      | j + 5, ho => simp at ho
    · match j, ho with
      | 0, ho => cases ho; decide
      | 1, ho => cases ho; decide
      | 2, ho => cases ho; decide
      | 3, ho => cases ho; decide
      | 4, ho => cases ho; decide
      | j + 5, ho => simp at ho
    · have et : tgt = 94 := by omega
      subst et
      have h := h7.2.2.2.2.2 hx
      refine aw_aload_n G0 2 rfl dX0_told_94 ?_
      obtain ⟨k31, h⟩ := h
      refine vc_X0_216 (k1 := 0) (n1 := 0) (k2 := 1) (n2 := 6) (st := []) G0 S_Vtable k31 (Nat.le_of_ble_eq_true rfl) (by decide) (by rw [G.2.1]; decide) (by rw [G.2.1]; decide) [] rfl rfl dX0_told_95 h (fun o C32 I33 J34 R35 h => ?_)
      rcases h with ⟨r36, rfl, h⟩ | ⟨q43, rfl, h⟩
      · show AW Γ 0 0 C32 I33 J34 R35 (95 + 3) [(0, aR (some x0)), (2, aI x2), (3, aR (some x3))] [aR (some r36)]
        obtain ⟨k37, h⟩ := h
        refine aw_callV (k1 := 0) (n1 := 0) (k2 := 0) (n2 := 0) (st := []) G0 S_X3_last gi_X0_219 (Or.inl (by rw [k37]; decide)) (by rw [k37]; rfl) md_X3_last (Nat.le_of_ble_eq_true rfl) (by decide) (by rw [G.2.1]; decide) (by rw [G.2.1]; decide) [] rfl rfl dX0_told_98 h (fun o C38 I39 J40 R41 h => ?_)
        obtain ⟨r42, rfl, h⟩ := h
        show AW Γ 0 0 C38 I39 J40 R41 (98 + 3) [(0, aR (some x0)), (2, aI x2), (3, aR (some x3))] [aI r42]
        exact aw_ireturn G0 (Or.inl rfl) (by rw [G.2.2]; decide) (by rw [G.2.1]; decide) dX0_told_101 h
      · show AX Γ 1 6 C32 I33 J34 R35 95 [(0, aR (some x0)), (2, aI x2), (3, aR (some x3))] q43
        obtain ⟨k44, h⟩ := h
        refine ax_catch G0 11 rfl (fun j hj a9 b9 h9 t9 ee => by
            match j, hj, ee with
            | 0, _, ee => cases ee; exact Or.inl rfl
            | 1, _, ee => cases ee; exact Or.inl rfl
            | 2, _, ee => cases ee; exact Or.inl rfl
            | 3, _, ee => cases ee; exact Or.inl rfl
            | 4, _, ee => cases ee; exact Or.inl rfl
            | 5, _, ee => cases ee; exact Or.inr ⟨by decide, _, q84, by rw [k44]; decide⟩
            | 6, _, ee => cases ee; exact Or.inl rfl
            | 7, _, ee => cases ee; exact Or.inl rfl
            | 8, _, ee => cases ee; exact Or.inl rfl
            | 9, _, ee => cases ee; exact Or.inl rfl
            | 10, _, ee => cases ee; exact Or.inl rfl
            | j + 11, hj, _ => exact absurd hj (by omega)) rfl (by decide) q593 (Or.inr (Or.inl k44)) (by rw [k44]; exact q662) ?_
        exact (aw_lv [0] rfl (w109 x0 q43 C32 I33 J34 R35 h))
  · show AX Γ 0 0 C2 I3 J4 R5 27 [(0, aR (some x0)), (2, aI x2), (3, aR (some x3))] q45
    obtain ⟨k46, h⟩ := h
    refine ax_catch G0 0 rfl (fun j hj _ _ _ _ _ => absurd hj (Nat.not_lt_zero j)) rfl (by decide) q84 (Or.inl k46) (by rw [k46]; exact q86) ?_
    exact (aw_lv [0] rfl (w102 x0 q45 C2 I3 J4 R5 h))
theorem bX0_told_102 (G : Gb Γ yX0_told cX0_told 4 (some .int) [(5, 68, 102, 53), (69, 73, 102, 53), (74, 82, 102, 53), (83, 88, 102, 53), (89, 93, 102, 53), (94, 101, 102, 53), (5, 68, 109, 13), (69, 73, 109, 13), (74, 82, 109, 13), (83, 88, 109, 13), (89, 93, 109, 13), (94, 101, 109, 13)] rmX0_told bdX0_told) {F_X0_none : SPF} (S_X0_none : SpX0_none (gL Γ) F_X0_none) {x0 : Nat} {s0 : Nat}
    (h : (C x0).1 = 1 ∧
      F_X0_none [aR (some x0), aR (some s0)] C I J R (fun o C2 I3 J4 R5 =>
      ∃ r6 : Int32, o = .inl (some (aI r6)) ∧
      gK Γ (.inl (some (aI r6))) C2 I3 J4 R5)) :
    AW Γ 0 0 C I J R 102 [(0, aR (some x0))] [aR (some s0)] := by
  have G0 := G.1
  refine aw_astore_n (lv' := [(3, aR (some s0)), (0, aR (some x0))]) G0 (by decide) rfl dX0_told_102 ?_
  refine aw_aload_n G0 1 rfl dX0_told_103 ?_
  refine aw_aload_n G0 0 rfl dX0_told_104 ?_
  obtain ⟨k1, h⟩ := h
  refine aw_callV (k1 := 0) (n1 := 0) (k2 := 0) (n2 := 0) (st := []) G0 S_X0_none gi_X0_117 (Or.inl (by rw [k1]; decide)) (by rw [k1]; rfl) md_X0_none (Nat.le_of_ble_eq_true rfl) (by decide) (by rw [G.2.1]; decide) (by rw [G.2.1]; decide) [aR (some s0)] rfl rfl dX0_told_105 h (fun o C2 I3 J4 R5 h => ?_)
  obtain ⟨r6, rfl, h⟩ := h
  show AW Γ 0 0 C2 I3 J4 R5 (105 + 3) [(3, aR (some s0)), (0, aR (some x0))] [aI r6]
  exact aw_ireturn G0 (Or.inl rfl) (by rw [G.2.2]; decide) (by rw [G.2.1]; decide) dX0_told_108 h
theorem bX0_told_109 (G : Gb Γ yX0_told cX0_told 4 (some .int) [(5, 68, 102, 53), (69, 73, 102, 53), (74, 82, 102, 53), (83, 88, 102, 53), (89, 93, 102, 53), (94, 101, 102, 53), (5, 68, 109, 13), (69, 73, 109, 13), (74, 82, 109, 13), (83, 88, 109, 13), (89, 93, 109, 13), (94, 101, 109, 13)] rmX0_told bdX0_told) {F_X0_great : SPF} (S_X0_great : SpX0_great (gL Γ) F_X0_great) {x0 : Nat} {s0 : Nat}
    (h : (C x0).1 = 1 ∧
      F_X0_great [aR (some x0)] C I J R (fun o C2 I3 J4 R5 =>
      ∃ r6 : Int32, o = .inl (some (aI r6)) ∧
      gK Γ (.inl (some (aI r6))) C2 I3 J4 R5)) :
    AW Γ 1 6 C I J R 109 [(0, aR (some x0))] [aR (some s0)] := by
  have G0 := G.1
  refine aw_astore_n (lv' := [(3, aR (some s0)), (0, aR (some x0))]) G0 (by decide) rfl dX0_told_109 ?_
  refine aw_aload_n G0 1 rfl dX0_told_110 ?_
  obtain ⟨k1, h⟩ := h
  refine aw_callV (k1 := 1) (n1 := 6) (k2 := 1) (n2 := 6) (st := []) G0 S_X0_great gi_X0_222 (Or.inl (by rw [k1]; decide)) (by rw [k1]; rfl) md_X0_great (Nat.le_of_ble_eq_true rfl) (by decide) (by rw [G.2.1]; decide) (by rw [G.2.1]; decide) [] rfl rfl dX0_told_111 h (fun o C2 I3 J4 R5 h => ?_)
  obtain ⟨r6, rfl, h⟩ := h
  show AW Γ 1 6 C2 I3 J4 R5 (111 + 3) [(3, aR (some s0)), (0, aR (some x0))] [aI r6]
  exact aw_ireturn G0 (Or.inl rfl) (by rw [G.2.2]; decide) (by rw [G.2.1]; decide) dX0_told_114 h
theorem bX0_numberOf_0 (G : Gb Γ yX0_numberOf cX0_numberOf 3 (some .int) [] rmX0_numberOf bdX0_numberOf)
    {Q2 : Nat → Option Nat → Int32 → MC → MI → MJ → MR → Prop} (w2 : ∀ (x0 : Nat) (x1 : Option Nat) (x2 : Int32) (C : MC) (I : MI) (J : MJ) (R : MR), Q2 x0 x1 x2 C I J R → AW Γ 0 0 C I J R 2 [(0, aR (some x0)), (1, aR x1), (2, aI x2)] []) {x0 : Nat} {x1 : Option Nat}
    (h : Q2 x0 x1 (0 : Int32) C I J R) :
    AW Γ 0 0 C I J R 0 [(0, aR (some x0)), (1, aR x1)] [] := by
  have G0 := G.1
  refine aw_iconst (v := (0 : Int32)) G0 dX0_numberOf_0 (by decide) ?_
  refine aw_istore_n (lv' := [(2, aI (0 : Int32)), (0, aR (some x0)), (1, aR x1)]) G0 (by decide) rfl dX0_numberOf_1 ?_
  exact (aw_lv [1, 2, 0] rfl (w2 x0 x1 (0 : Int32) C I J R h))
theorem bX0_numberOf_2 (G : Gb Γ yX0_numberOf cX0_numberOf 3 (some .int) [] rmX0_numberOf bdX0_numberOf)
    {Q2 : Nat → Option Nat → Int32 → MC → MI → MJ → MR → Prop} (w2 : ∀ (x0 : Nat) (x1 : Option Nat) (x2 : Int32) (C : MC) (I : MI) (J : MJ) (R : MR), Q2 x0 x1 x2 C I J R → AW Γ 0 0 C I J R 2 [(0, aR (some x0)), (1, aR x1), (2, aI x2)] [])
    {Q26 : Nat → Int32 → MC → MI → MJ → MR → Prop} (w26 : ∀ (x0 : Nat) (x2 : Int32) (C : MC) (I : MI) (J : MJ) (R : MR), Q26 x0 x2 C I J R → AW Γ 0 0 C I J R 26 [(0, aR (some x0)), (2, aI x2)] []) {x0 : Nat} {x1 : Option Nat} {x2 : Int32}
    (h : (C x0).1 = 1 ∧
      (((I x0 3) ≤ x2 →
      Q26 x0 x2 C I J R) ∧
      (¬ (I x0 3) ≤ x2 →
      ∃ q3 : Nat, R x0 2 = some q3 ∧
      (25 ≤ (C q3).1 ∧ (C q3).1 < 30) ∧
      vp_in x2 (C q3).2 ∧
      ((R q3 x2.toNatClampNeg = x1 →
      Q26 x0 x2 C I J R) ∧
      (¬ R q3 x2.toNatClampNeg = x1 →
      Q2 x0 x1 (x2 + 1) C I J R))))) :
    AW Γ 0 0 C I J R 2 [(0, aR (some x0)), (1, aR x1), (2, aI x2)] [] := by
  have G0 := G.1
  refine aw_iload_n G0 2 rfl dX0_numberOf_2 ?_
  refine aw_aload_n G0 0 rfl dX0_numberOf_3 ?_
  obtain ⟨k1, h⟩ := h
  refine aw_getI (f := 3) G0 (by rw [k1]; exact fb_X0_133) dX0_numberOf_4 ?_
  refine aw_icmp_ge G0 26 dX0_numberOf_7 (by decide) (fun c2 => ?_) (fun c2 => ?_)
  · have h := h.1 c2
    exact (aw_lv [0, 2] rfl (w26 x0 x2 C I J R h))
  · have h := h.2 c2
    refine aw_aload_n G0 0 rfl dX0_numberOf_10 ?_
    refine aw_getR (f := 2) G0 (by rw [k1]; exact fb_X0_49) dX0_numberOf_11 ?_
    refine aw_iload_n G0 2 rfl dX0_numberOf_14 ?_
    obtain ⟨q3, e3, h⟩ := h
    refine aw_dr1 e3 ?_
    obtain ⟨k4, h⟩ := h
    obtain ⟨k5, h⟩ := h
    refine aw_aald G0 k4 k5 dX0_numberOf_15 ?_
    refine aw_aload_n G0 1 rfl dX0_numberOf_16 ?_
    refine aw_acmp_eq G0 26 dX0_numberOf_17 (by decide) (fun c6 => ?_) (fun c6 => ?_)
    · have h := h.1 c6
      exact (aw_lv [0, 2] rfl (w26 x0 x2 C I J R h))
    · have h := h.2 c6
      refine aw_iinc (v := x2 + 1) (lv' := [(2, aI (x2 + 1)), (0, aR (some x0)), (1, aR x1)]) G0 2 rfl rfl (by decide) rfl dX0_numberOf_20 ?_
      refine aw_goto G0 2 dX0_numberOf_23 (by decide) ?_
      exact (aw_lv [1, 2, 0] rfl (w2 x0 x1 (x2 + 1) C I J R h))
theorem bX0_numberOf_26 (G : Gb Γ yX0_numberOf cX0_numberOf 3 (some .int) [] rmX0_numberOf bdX0_numberOf) {x0 : Nat} {x2 : Int32}
    (h : (C x0).1 = 1 ∧
      (((I x0 3) ≤ x2 →
      gK Γ (.inl (some (aI (-1 : Int32)))) C I J R) ∧
      (¬ (I x0 3) ≤ x2 →
      gK Γ (.inl (some (aI x2))) C I J R))) :
    AW Γ 0 0 C I J R 26 [(0, aR (some x0)), (2, aI x2)] [] := by
  have G0 := G.1
  refine aw_iload_n G0 1 rfl dX0_numberOf_26 ?_
  refine aw_aload_n G0 0 rfl dX0_numberOf_27 ?_
  obtain ⟨k1, h⟩ := h
  refine aw_getI (f := 3) G0 (by rw [k1]; exact fb_X0_133) dX0_numberOf_28 ?_
  refine aw_icmp_ge G0 38 dX0_numberOf_31 (by decide) (fun c2 => ?_) (fun c2 => ?_)
  · have h := h.1 c2
    refine aw_iconst (v := (-1 : Int32)) G0 dX0_numberOf_38 (by decide) ?_
    exact aw_ireturn G0 (Or.inl rfl) (by rw [G.2.2]; decide) (by rw [G.2.1]; decide) dX0_numberOf_39 h
  · have h := h.2 c2
    refine aw_iload_n G0 1 rfl dX0_numberOf_34 ?_
    refine aw_goto G0 39 dX0_numberOf_35 (by decide) ?_
    exact aw_ireturn G0 (Or.inl rfl) (by rw [G.2.2]; decide) (by rw [G.2.1]; decide) dX0_numberOf_39 h
theorem bX0_great_0 (G : Gb Γ yX0_great cX0_great 1 (some .int) [] rmX0_great bdX0_great) {x0 : Nat}
    (h : (C x0).1 = 1 ∧
      ∀ I2 : MI, I2 = va_up I x0 (va_up (I x0) 5 (9 : Int32)) →
      gK Γ (.inl (some (aI (-1 : Int32)))) C I2 J R) :
    AW Γ 0 0 C I J R 0 [(0, aR (some x0))] [] := by
  have G0 := G.1
  refine aw_aload_n G0 0 rfl dX0_great_0 ?_
  refine aw_bipush (v := (9 : Int32)) G0 dX0_great_1 (by decide) ?_
  obtain ⟨k1, h⟩ := h
  refine aw_putI (f := 5) G0 (by rw [k1]; exact fp_X0_63 _) dX0_great_3 ?_
  generalize gI2 : va_up I x0 (va_up (I x0) 5 (9 : Int32)) = I2
  have h := h I2 gI2.symm
  refine aw_iconst (v := (-1 : Int32)) G0 dX0_great_6 (by decide) ?_
  exact aw_ireturn G0 (Or.inl rfl) (by rw [G.2.2]; decide) (by rw [G.2.1]; decide) dX0_great_7 h
theorem bX0_weight_0 (G : Gb Γ yX0_weight cX0_weight 5 (some .long) [(5, 59, 60, 53), (5, 59, 70, 13)] rmX0_weight bdX0_weight) {F_X0_thing : SPF} (S_X0_thing : SpX0_thing (gL Γ) F_X0_thing)
    {Q27 : Nat → Int32 → Int32 → Nat → Nat → MC → MI → MJ → MR → Prop} (w27 : ∀ (x0 : Nat) (x2 : Int32) (x3 : Int32) (x4 : Nat) (s0 : Nat) (C : MC) (I : MI) (J : MJ) (R : MR), Q27 x0 x2 x3 x4 s0 C I J R → AW Γ 0 0 C I J R 27 [(0, aR (some x0)), (2, aI x2), (3, aI x3), (4, aR (some x4))] [aR (some s0)])
    {Q28 : Nat → Int32 → Int32 → Nat → Nat → Int32 → MC → MI → MJ → MR → Prop} (w28 : ∀ (x0 : Nat) (x2 : Int32) (x3 : Int32) (x4 : Nat) (s0 : Nat) (s1 : Int32) (C : MC) (I : MI) (J : MJ) (R : MR), Q28 x0 x2 x3 x4 s0 s1 C I J R → AW Γ 0 0 C I J R 28 [(0, aR (some x0)), (2, aI x2), (3, aI x3), (4, aR (some x4))] [aI s1, aR (some s0)])
    {Q60 : Nat → Nat → MC → MI → MJ → MR → Prop} (w60 : ∀ (x0 : Nat) (s0 : Nat) (C : MC) (I : MI) (J : MJ) (R : MR), Q60 x0 s0 C I J R → AW Γ 0 0 C I J R 60 [(0, aR (some x0))] [aR (some s0)]) {x0 : Nat} {x1 : Int32} {x2 : Int32} {x3 : Int32}
    (h : (C x0).1 = 1 ∧
      ∀ I2 : MI, I2 = va_up I x0 (va_up (I x0) 5 (0 : Int32)) →
      F_X0_thing [aR (some x0), aI x1] C I2 J R (fun o C3 I4 J5 R6 =>
      (∃ r7 : Nat, o = .inl (some (aR (some r7))) ∧
      ((x2 < 0 →
      Q27 x0 x2 x3 r7 x0 C3 I4 J5 R6) ∧
      (¬ x2 < 0 →
      (((120 : Int32) < x2 →
      Q27 x0 x2 x3 r7 x0 C3 I4 J5 R6) ∧
      (¬ (120 : Int32) < x2 →
      Q28 x0 x2 x3 r7 x0 (1 : Int32) C3 I4 J5 R6))))) ∨
      (∃ q10 : Nat, o = .inr q10 ∧
      ((C3 q10).1 = 2 ∧
      Q60 x0 q10 C3 I4 J5 R6)))) :
    AW Γ 0 0 C I J R 0 [(0, aR (some x0)), (1, aI x1), (2, aI x2), (3, aI x3)] [] := by
  have G0 := G.1
  refine aw_aload_n G0 0 rfl dX0_weight_0 ?_
  refine aw_iconst (v := (0 : Int32)) G0 dX0_weight_1 (by decide) ?_
  obtain ⟨k1, h⟩ := h
  refine aw_putI (f := 5) G0 (by rw [k1]; exact fp_X0_63 _) dX0_weight_2 ?_
  generalize gI2 : va_up I x0 (va_up (I x0) 5 (0 : Int32)) = I2
  have h := h I2 gI2.symm
  refine aw_aload_n G0 0 rfl dX0_weight_5 ?_
  refine aw_iload_n G0 1 rfl dX0_weight_6 ?_
  refine aw_callV (k1 := 0) (n1 := 0) (k2 := 0) (n2 := 0) (st := []) G0 S_X0_thing gi_X0_163 (Or.inl (by rw [k1]; decide)) (by rw [k1]; rfl) md_X0_thing (Nat.le_of_ble_eq_true rfl) (by decide) (by rw [G.2.1]; decide) (by rw [G.2.1]; decide) [aI x1] rfl rfl dX0_weight_7 h (fun o C3 I4 J5 R6 h => ?_)
  rcases h with ⟨r7, rfl, h⟩ | ⟨q10, rfl, h⟩
  · show AW Γ 0 0 C3 I4 J5 R6 (7 + 3) [(0, aR (some x0)), (1, aI x1), (2, aI x2), (3, aI x3)] [aR (some r7)]
    refine aw_astore (lv' := [(4, aR (some r7)), (0, aR (some x0)), (1, aI x1), (2, aI x2), (3, aI x3)]) G0 (by decide) rfl dX0_weight_10 ?_
    refine aw_aload_n G0 1 rfl dX0_weight_12 ?_
    refine aw_iload_n G0 3 rfl dX0_weight_13 ?_
    refine aw_if_lt G0 27 dX0_weight_14 (by decide) (fun c8 => ?_) (fun c8 => ?_)
    · have h := h.1 c8
      exact (aw_lv [1, 3, 4, 0] rfl (w27 x0 x2 x3 r7 x0 C3 I4 J5 R6 h))
    · have h := h.2 c8
      refine aw_iload_n G0 3 rfl dX0_weight_17 ?_
      refine aw_bipush (v := (120 : Int32)) G0 dX0_weight_18 (by decide) ?_
      refine aw_icmp_gt G0 27 dX0_weight_20 (by decide) (fun c9 => ?_) (fun c9 => ?_)
      · have h := h.1 c9
        exact (aw_lv [1, 3, 4, 0] rfl (w27 x0 x2 x3 r7 x0 C3 I4 J5 R6 h))
      · have h := h.2 c9
        refine aw_iconst (v := (1 : Int32)) G0 dX0_weight_23 (by decide) ?_
        refine aw_goto G0 28 dX0_weight_24 (by decide) ?_
        exact (aw_lv [1, 3, 4, 0] rfl (w28 x0 x2 x3 r7 x0 (1 : Int32) C3 I4 J5 R6 h))
  · show AX Γ 0 0 C3 I4 J5 R6 7 [(0, aR (some x0)), (1, aI x1), (2, aI x2), (3, aI x3)] q10
    obtain ⟨k11, h⟩ := h
    refine ax_catch G0 0 rfl (fun j hj _ _ _ _ _ => absurd hj (Nat.not_lt_zero j)) rfl (by decide) q84 (Or.inl k11) (by rw [k11]; exact q86) ?_
    exact (aw_lv [0] rfl (w60 x0 q10 C3 I4 J5 R6 h))
theorem bX0_weight_27 (G : Gb Γ yX0_weight cX0_weight 5 (some .long) [(5, 59, 60, 53), (5, 59, 70, 13)] rmX0_weight bdX0_weight)
    {Q28 : Nat → Int32 → Int32 → Nat → Nat → Int32 → MC → MI → MJ → MR → Prop} (w28 : ∀ (x0 : Nat) (x2 : Int32) (x3 : Int32) (x4 : Nat) (s0 : Nat) (s1 : Int32) (C : MC) (I : MI) (J : MJ) (R : MR), Q28 x0 x2 x3 x4 s0 s1 C I J R → AW Γ 0 0 C I J R 28 [(0, aR (some x0)), (2, aI x2), (3, aI x3), (4, aR (some x4))] [aI s1, aR (some s0)]) {x0 : Nat} {x2 : Int32} {x3 : Int32} {x4 : Nat} {s0 : Nat}
    (h : Q28 x0 x2 x3 x4 s0 (0 : Int32) C I J R) :
    AW Γ 0 0 C I J R 27 [(0, aR (some x0)), (2, aI x2), (3, aI x3), (4, aR (some x4))] [aR (some s0)] := by
  have G0 := G.1
  refine aw_iconst (v := (0 : Int32)) G0 dX0_weight_27 (by decide) ?_
  exact (w28 x0 x2 x3 x4 s0 (0 : Int32) C I J R h)
theorem bX0_weight_28 (G : Gb Γ yX0_weight cX0_weight 5 (some .long) [(5, 59, 60, 53), (5, 59, 70, 13)] rmX0_weight bdX0_weight) {F_X0_want : SPF} (S_X0_want : SpX0_want (gL Γ) F_X0_want) {F_Vtable : SPF} (S_Vtable : SpVtable (gL Γ) 20 F_Vtable)
    {Q60 : Nat → Nat → MC → MI → MJ → MR → Prop} (w60 : ∀ (x0 : Nat) (s0 : Nat) (C : MC) (I : MI) (J : MJ) (R : MR), Q60 x0 s0 C I J R → AW Γ 0 0 C I J R 60 [(0, aR (some x0))] [aR (some s0)])
    {Q70 : Nat → Nat → MC → MI → MJ → MR → Prop} (w70 : ∀ (x0 : Nat) (s0 : Nat) (C : MC) (I : MI) (J : MJ) (R : MR), Q70 x0 s0 C I J R → AW Γ 1 6 C I J R 70 [(0, aR (some x0))] [aR (some s0)]) {x0 : Nat} {x2 : Int32} {x3 : Int32} {x4 : Nat} {s0 : Nat} {s1 : Int32}
    (h : (C s0).1 = 1 ∧
      F_X0_want [aR (some s0), aI s1, aI (1 : Int32)] C I J R (fun o C2 I3 J4 R5 =>
      (o = .inl none ∧
      ((x3 = 0 →
      kTh (C2 x4).1 ∧
      F_Vtable [aR (some x4)] C2 I3 J4 R5 (fun o C9 I10 J11 R12 =>
      (∃ r13 : Nat, o = .inl (some (aR (some r13))) ∧
      (C9 r13).1 = 4 ∧
      ∃ q15 : Nat, R12 r13 1 = some q15 ∧
      (C9 q15).1 = 21 ∧
      vp_in x2 (C9 q15).2 ∧
      gK Γ (.inl (some (aJ (J11 q15 x2.toNatClampNeg)))) C9 I10 J11 R12) ∨
      (∃ q18 : Nat, o = .inr q18 ∧
      ((C9 q18).1 = 11 ∧
      Q70 x0 q18 C9 I10 J11 R12)))) ∧
      (¬ x3 = 0 →
      kTh (C2 x4).1 ∧
      F_Vtable [aR (some x4)] C2 I3 J4 R5 (fun o C21 I22 J23 R24 =>
      (∃ r25 : Nat, o = .inl (some (aR (some r25))) ∧
      (C21 r25).1 = 4 ∧
      ∃ q27 : Nat, R24 r25 0 = some q27 ∧
      (C21 q27).1 = 21 ∧
      vp_in x2 (C21 q27).2 ∧
      gK Γ (.inl (some (aJ (J23 q27 x2.toNatClampNeg)))) C21 I22 J23 R24) ∨
      (∃ q30 : Nat, o = .inr q30 ∧
      ((C21 q30).1 = 11 ∧
      Q70 x0 q30 C21 I22 J23 R24)))))) ∨
      (∃ q32 : Nat, o = .inr q32 ∧
      ((C2 q32).1 = 2 ∧
      Q60 x0 q32 C2 I3 J4 R5)))) :
    AW Γ 0 0 C I J R 28 [(0, aR (some x0)), (2, aI x2), (3, aI x3), (4, aR (some x4))] [aI s1, aR (some s0)] := by
  have G0 := G.1
  refine aw_iconst (v := (1 : Int32)) G0 dX0_weight_28 (by decide) ?_
  obtain ⟨k1, h⟩ := h
  refine aw_callV (k1 := 0) (n1 := 0) (k2 := 0) (n2 := 0) (st := []) G0 S_X0_want gi_X0_87 (Or.inl (by rw [k1]; decide)) (by rw [k1]; rfl) md_X0_want (Nat.le_of_ble_eq_true rfl) (by decide) (by rw [G.2.1]; decide) (by rw [G.2.1]; decide) [aI s1, aI (1 : Int32)] rfl rfl dX0_weight_29 h (fun o C2 I3 J4 R5 h => ?_)
  rcases h with ⟨rfl, h⟩ | ⟨q32, rfl, h⟩
  · show AW Γ 0 0 C2 I3 J4 R5 (29 + 3) [(0, aR (some x0)), (2, aI x2), (3, aI x3), (4, aR (some x4))] []
    refine aw_iload_n G0 2 rfl dX0_weight_32 ?_
    refine aw_if_eq G0 49 dX0_weight_33 (by decide) (fun c7 => ?_) (fun c7 => ?_)
    · have h := h.1 c7
      refine aw_aload G0 3 rfl dX0_weight_49 ?_
      obtain ⟨k8, h⟩ := h
      refine vc_X0_216 (k1 := 0) (n1 := 0) (k2 := 1) (n2 := 6) (st := []) G0 S_Vtable k8 (Nat.le_of_ble_eq_true rfl) (by decide) (by rw [G.2.1]; decide) (by rw [G.2.1]; decide) [] rfl rfl dX0_weight_51 h (fun o C9 I10 J11 R12 h => ?_)
      rcases h with ⟨r13, rfl, h⟩ | ⟨q18, rfl, h⟩
      · show AW Γ 0 0 C9 I10 J11 R12 (51 + 3) [(0, aR (some x0)), (2, aI x2), (3, aI x3), (4, aR (some x4))] [aR (some r13)]
        obtain ⟨k14, h⟩ := h
        refine aw_getR (f := 1) G0 (by rw [k14]; exact fb_X0_19) dX0_weight_54 ?_
        refine aw_iload_n G0 1 rfl dX0_weight_57 ?_
        obtain ⟨q15, e15, h⟩ := h
        refine aw_dr1 e15 ?_
        obtain ⟨k16, h⟩ := h
        obtain ⟨k17, h⟩ := h
        refine aw_lald G0 k16 k17 dX0_weight_58 ?_
        exact aw_lreturn G0 (by rw [G.2.2]; decide) (by rw [G.2.1]; decide) dX0_weight_59 h
      · show AX Γ 1 6 C9 I10 J11 R12 51 [(0, aR (some x0)), (2, aI x2), (3, aI x3), (4, aR (some x4))] q18
        obtain ⟨k19, h⟩ := h
        refine ax_catch G0 1 rfl (fun j hj a9 b9 h9 t9 ee => by
            match j, hj, ee with
            | 0, _, ee => cases ee; exact Or.inr ⟨by decide, _, q84, by rw [k19]; decide⟩
            | j + 1, hj, _ => exact absurd hj (by omega)) rfl (by decide) q593 (Or.inr (Or.inl k19)) (by rw [k19]; exact q662) ?_
        exact (aw_lv [0] rfl (w70 x0 q18 C9 I10 J11 R12 h))
    · have h := h.2 c7
      refine aw_aload G0 3 rfl dX0_weight_36 ?_
      obtain ⟨k20, h⟩ := h
      refine vc_X0_216 (k1 := 0) (n1 := 0) (k2 := 1) (n2 := 6) (st := []) G0 S_Vtable k20 (Nat.le_of_ble_eq_true rfl) (by decide) (by rw [G.2.1]; decide) (by rw [G.2.1]; decide) [] rfl rfl dX0_weight_38 h (fun o C21 I22 J23 R24 h => ?_)
      rcases h with ⟨r25, rfl, h⟩ | ⟨q30, rfl, h⟩
      · show AW Γ 0 0 C21 I22 J23 R24 (38 + 3) [(0, aR (some x0)), (2, aI x2), (3, aI x3), (4, aR (some x4))] [aR (some r25)]
        obtain ⟨k26, h⟩ := h
        refine aw_getR (f := 0) G0 (by rw [k26]; exact fb_X0_32) dX0_weight_41 ?_
        refine aw_iload_n G0 1 rfl dX0_weight_44 ?_
        obtain ⟨q27, e27, h⟩ := h
        refine aw_dr1 e27 ?_
        obtain ⟨k28, h⟩ := h
        obtain ⟨k29, h⟩ := h
        refine aw_lald G0 k28 k29 dX0_weight_45 ?_
        refine aw_goto G0 59 dX0_weight_46 (by decide) ?_
        exact aw_lreturn G0 (by rw [G.2.2]; decide) (by rw [G.2.1]; decide) dX0_weight_59 h
      · show AX Γ 1 6 C21 I22 J23 R24 38 [(0, aR (some x0)), (2, aI x2), (3, aI x3), (4, aR (some x4))] q30
        obtain ⟨k31, h⟩ := h
        refine ax_catch G0 1 rfl (fun j hj a9 b9 h9 t9 ee => by
            match j, hj, ee with
            | 0, _, ee => cases ee; exact Or.inr ⟨by decide, _, q84, by rw [k31]; decide⟩
            | j + 1, hj, _ => exact absurd hj (by omega)) rfl (by decide) q593 (Or.inr (Or.inl k31)) (by rw [k31]; exact q662) ?_
        exact (aw_lv [0] rfl (w70 x0 q30 C21 I22 J23 R24 h))
  · show AX Γ 0 0 C2 I3 J4 R5 29 [(0, aR (some x0)), (2, aI x2), (3, aI x3), (4, aR (some x4))] q32
    obtain ⟨k33, h⟩ := h
    refine ax_catch G0 0 rfl (fun j hj _ _ _ _ _ => absurd hj (Nat.not_lt_zero j)) rfl (by decide) q84 (Or.inl k33) (by rw [k33]; exact q86) ?_
    exact (aw_lv [0] rfl (w60 x0 q32 C2 I3 J4 R5 h))
theorem bX0_weight_60 (G : Gb Γ yX0_weight cX0_weight 5 (some .long) [(5, 59, 60, 53), (5, 59, 70, 13)] rmX0_weight bdX0_weight) {F_X0_none : SPF} (S_X0_none : SpX0_none (gL Γ) F_X0_none) {x0 : Nat} {s0 : Nat}
    (h : (C x0).1 = 1 ∧
      F_X0_none [aR (some x0), aR (some s0)] C I J R (fun o C2 I3 J4 R5 =>
      ∃ r6 : Int32, o = .inl (some (aI r6)) ∧
      gK Γ (.inl (some (aJ r6.toInt64))) C2 I3 J4 R5)) :
    AW Γ 0 0 C I J R 60 [(0, aR (some x0))] [aR (some s0)] := by
  have G0 := G.1
  refine aw_astore (lv' := [(4, aR (some s0)), (0, aR (some x0))]) G0 (by decide) rfl dX0_weight_60 ?_
  refine aw_aload_n G0 1 rfl dX0_weight_62 ?_
  refine aw_aload G0 0 rfl dX0_weight_63 ?_
  obtain ⟨k1, h⟩ := h
  refine aw_callV (k1 := 0) (n1 := 0) (k2 := 0) (n2 := 0) (st := []) G0 S_X0_none gi_X0_117 (Or.inl (by rw [k1]; decide)) (by rw [k1]; rfl) md_X0_none (Nat.le_of_ble_eq_true rfl) (by decide) (by rw [G.2.1]; decide) (by rw [G.2.1]; decide) [aR (some s0)] rfl rfl dX0_weight_65 h (fun o C2 I3 J4 R5 h => ?_)
  obtain ⟨r6, rfl, h⟩ := h
  show AW Γ 0 0 C2 I3 J4 R5 (65 + 3) [(4, aR (some s0)), (0, aR (some x0))] [aI r6]
  refine aw_i2l G0 dX0_weight_68 ?_
  exact aw_lreturn G0 (by rw [G.2.2]; decide) (by rw [G.2.1]; decide) dX0_weight_69 h
theorem bX0_weight_70 (G : Gb Γ yX0_weight cX0_weight 5 (some .long) [(5, 59, 60, 53), (5, 59, 70, 13)] rmX0_weight bdX0_weight) {F_X0_great : SPF} (S_X0_great : SpX0_great (gL Γ) F_X0_great) {x0 : Nat} {s0 : Nat}
    (h : (C x0).1 = 1 ∧
      F_X0_great [aR (some x0)] C I J R (fun o C2 I3 J4 R5 =>
      ∃ r6 : Int32, o = .inl (some (aI r6)) ∧
      gK Γ (.inl (some (aJ r6.toInt64))) C2 I3 J4 R5)) :
    AW Γ 1 6 C I J R 70 [(0, aR (some x0))] [aR (some s0)] := by
  have G0 := G.1
  refine aw_astore (lv' := [(4, aR (some s0)), (0, aR (some x0))]) G0 (by decide) rfl dX0_weight_70 ?_
  refine aw_aload_n G0 1 rfl dX0_weight_72 ?_
  obtain ⟨k1, h⟩ := h
  refine aw_callV (k1 := 1) (n1 := 6) (k2 := 1) (n2 := 6) (st := []) G0 S_X0_great gi_X0_222 (Or.inl (by rw [k1]; decide)) (by rw [k1]; rfl) md_X0_great (Nat.le_of_ble_eq_true rfl) (by decide) (by rw [G.2.1]; decide) (by rw [G.2.1]; decide) [] rfl rfl dX0_weight_73 h (fun o C2 I3 J4 R5 h => ?_)
  obtain ⟨r6, rfl, h⟩ := h
  show AW Γ 1 6 C2 I3 J4 R5 (73 + 3) [(4, aR (some s0)), (0, aR (some x0))] [aI r6]
  refine aw_i2l G0 dX0_weight_76 ?_
  exact aw_lreturn G0 (by rw [G.2.2]; decide) (by rw [G.2.1]; decide) dX0_weight_77 h
theorem bX0_whole_0 (G : Gb Γ yX0_whole cX0_whole 3 (some .long) [(5, 16, 17, 53), (5, 16, 25, 13)] rmX0_whole bdX0_whole) {F_X0_thing : SPF} (S_X0_thing : SpX0_thing (gL Γ) F_X0_thing) {F_Vtable : SPF} (S_Vtable : SpVtable (gL Γ) 20 F_Vtable)
    {Q17 : Nat → Nat → MC → MI → MJ → MR → Prop} (w17 : ∀ (x0 : Nat) (s0 : Nat) (C : MC) (I : MI) (J : MJ) (R : MR), Q17 x0 s0 C I J R → AW Γ 0 0 C I J R 17 [(0, aR (some x0))] [aR (some s0)])
    {Q25 : Nat → Nat → MC → MI → MJ → MR → Prop} (w25 : ∀ (x0 : Nat) (s0 : Nat) (C : MC) (I : MI) (J : MJ) (R : MR), Q25 x0 s0 C I J R → AW Γ 1 6 C I J R 25 [(0, aR (some x0))] [aR (some s0)]) {x0 : Nat} {x1 : Int32}
    (h : (C x0).1 = 1 ∧
      ∀ I2 : MI, I2 = va_up I x0 (va_up (I x0) 5 (0 : Int32)) →
      F_X0_thing [aR (some x0), aI x1] C I2 J R (fun o C3 I4 J5 R6 =>
      (∃ r7 : Nat, o = .inl (some (aR (some r7))) ∧
      kTh (C3 r7).1 ∧
      F_Vtable [aR (some r7)] C3 I4 J5 R6 (fun o C9 I10 J11 R12 =>
      (∃ r13 : Nat, o = .inl (some (aR (some r13))) ∧
      (C9 r13).1 = 4 ∧
      gK Γ (.inl (some (aJ (J11 r13 2)))) C9 I10 J11 R12) ∨
      (∃ q15 : Nat, o = .inr q15 ∧
      ((C9 q15).1 = 11 ∧
      Q25 x0 q15 C9 I10 J11 R12)))) ∨
      (∃ q17 : Nat, o = .inr q17 ∧
      ((C3 q17).1 = 2 ∧
      Q17 x0 q17 C3 I4 J5 R6)))) :
    AW Γ 0 0 C I J R 0 [(0, aR (some x0)), (1, aI x1)] [] := by
  have G0 := G.1
  refine aw_aload_n G0 0 rfl dX0_whole_0 ?_
  refine aw_iconst (v := (0 : Int32)) G0 dX0_whole_1 (by decide) ?_
  obtain ⟨k1, h⟩ := h
  refine aw_putI (f := 5) G0 (by rw [k1]; exact fp_X0_63 _) dX0_whole_2 ?_
  generalize gI2 : va_up I x0 (va_up (I x0) 5 (0 : Int32)) = I2
  have h := h I2 gI2.symm
  refine aw_aload_n G0 0 rfl dX0_whole_5 ?_
  refine aw_iload_n G0 1 rfl dX0_whole_6 ?_
  refine aw_callV (k1 := 0) (n1 := 0) (k2 := 0) (n2 := 0) (st := []) G0 S_X0_thing gi_X0_163 (Or.inl (by rw [k1]; decide)) (by rw [k1]; rfl) md_X0_thing (Nat.le_of_ble_eq_true rfl) (by decide) (by rw [G.2.1]; decide) (by rw [G.2.1]; decide) [aI x1] rfl rfl dX0_whole_7 h (fun o C3 I4 J5 R6 h => ?_)
  rcases h with ⟨r7, rfl, h⟩ | ⟨q17, rfl, h⟩
  · show AW Γ 0 0 C3 I4 J5 R6 (7 + 3) [(0, aR (some x0)), (1, aI x1)] [aR (some r7)]
    obtain ⟨k8, h⟩ := h
    refine vc_X0_216 (k1 := 0) (n1 := 0) (k2 := 1) (n2 := 6) (st := []) G0 S_Vtable k8 (Nat.le_of_ble_eq_true rfl) (by decide) (by rw [G.2.1]; decide) (by rw [G.2.1]; decide) [] rfl rfl dX0_whole_10 h (fun o C9 I10 J11 R12 h => ?_)
    rcases h with ⟨r13, rfl, h⟩ | ⟨q15, rfl, h⟩
    · show AW Γ 0 0 C9 I10 J11 R12 (10 + 3) [(0, aR (some x0)), (1, aI x1)] [aR (some r13)]
      obtain ⟨k14, h⟩ := h
      refine aw_getJ (f := 2) G0 (by rw [k14]; exact fb_X0_24) dX0_whole_13 ?_
      exact aw_lreturn G0 (by rw [G.2.2]; decide) (by rw [G.2.1]; decide) dX0_whole_16 h
    · show AX Γ 1 6 C9 I10 J11 R12 10 [(0, aR (some x0)), (1, aI x1)] q15
      obtain ⟨k16, h⟩ := h
      refine ax_catch G0 1 rfl (fun j hj a9 b9 h9 t9 ee => by
          match j, hj, ee with
          | 0, _, ee => cases ee; exact Or.inr ⟨by decide, _, q84, by rw [k16]; decide⟩
          | j + 1, hj, _ => exact absurd hj (by omega)) rfl (by decide) q593 (Or.inr (Or.inl k16)) (by rw [k16]; exact q662) ?_
      exact (aw_lv [0] rfl (w25 x0 q15 C9 I10 J11 R12 h))
  · show AX Γ 0 0 C3 I4 J5 R6 7 [(0, aR (some x0)), (1, aI x1)] q17
    obtain ⟨k18, h⟩ := h
    refine ax_catch G0 0 rfl (fun j hj _ _ _ _ _ => absurd hj (Nat.not_lt_zero j)) rfl (by decide) q84 (Or.inl k18) (by rw [k18]; exact q86) ?_
    exact (aw_lv [0] rfl (w17 x0 q17 C3 I4 J5 R6 h))
theorem bX0_whole_17 (G : Gb Γ yX0_whole cX0_whole 3 (some .long) [(5, 16, 17, 53), (5, 16, 25, 13)] rmX0_whole bdX0_whole) {F_X0_none : SPF} (S_X0_none : SpX0_none (gL Γ) F_X0_none) {x0 : Nat} {s0 : Nat}
    (h : (C x0).1 = 1 ∧
      F_X0_none [aR (some x0), aR (some s0)] C I J R (fun o C2 I3 J4 R5 =>
      ∃ r6 : Int32, o = .inl (some (aI r6)) ∧
      gK Γ (.inl (some (aJ r6.toInt64))) C2 I3 J4 R5)) :
    AW Γ 0 0 C I J R 17 [(0, aR (some x0))] [aR (some s0)] := by
  have G0 := G.1
  refine aw_astore_n (lv' := [(2, aR (some s0)), (0, aR (some x0))]) G0 (by decide) rfl dX0_whole_17 ?_
  refine aw_aload_n G0 1 rfl dX0_whole_18 ?_
  refine aw_aload_n G0 0 rfl dX0_whole_19 ?_
  obtain ⟨k1, h⟩ := h
  refine aw_callV (k1 := 0) (n1 := 0) (k2 := 0) (n2 := 0) (st := []) G0 S_X0_none gi_X0_117 (Or.inl (by rw [k1]; decide)) (by rw [k1]; rfl) md_X0_none (Nat.le_of_ble_eq_true rfl) (by decide) (by rw [G.2.1]; decide) (by rw [G.2.1]; decide) [aR (some s0)] rfl rfl dX0_whole_20 h (fun o C2 I3 J4 R5 h => ?_)
  obtain ⟨r6, rfl, h⟩ := h
  show AW Γ 0 0 C2 I3 J4 R5 (20 + 3) [(2, aR (some s0)), (0, aR (some x0))] [aI r6]
  refine aw_i2l G0 dX0_whole_23 ?_
  exact aw_lreturn G0 (by rw [G.2.2]; decide) (by rw [G.2.1]; decide) dX0_whole_24 h
theorem bX0_whole_25 (G : Gb Γ yX0_whole cX0_whole 3 (some .long) [(5, 16, 17, 53), (5, 16, 25, 13)] rmX0_whole bdX0_whole) {F_X0_great : SPF} (S_X0_great : SpX0_great (gL Γ) F_X0_great) {x0 : Nat} {s0 : Nat}
    (h : (C x0).1 = 1 ∧
      F_X0_great [aR (some x0)] C I J R (fun o C2 I3 J4 R5 =>
      ∃ r6 : Int32, o = .inl (some (aI r6)) ∧
      gK Γ (.inl (some (aJ r6.toInt64))) C2 I3 J4 R5)) :
    AW Γ 1 6 C I J R 25 [(0, aR (some x0))] [aR (some s0)] := by
  have G0 := G.1
  refine aw_astore_n (lv' := [(2, aR (some s0)), (0, aR (some x0))]) G0 (by decide) rfl dX0_whole_25 ?_
  refine aw_aload_n G0 1 rfl dX0_whole_26 ?_
  obtain ⟨k1, h⟩ := h
  refine aw_callV (k1 := 1) (n1 := 6) (k2 := 1) (n2 := 6) (st := []) G0 S_X0_great gi_X0_222 (Or.inl (by rw [k1]; decide)) (by rw [k1]; rfl) md_X0_great (Nat.le_of_ble_eq_true rfl) (by decide) (by rw [G.2.1]; decide) (by rw [G.2.1]; decide) [] rfl rfl dX0_whole_27 h (fun o C2 I3 J4 R5 h => ?_)
  obtain ⟨r6, rfl, h⟩ := h
  show AW Γ 1 6 C2 I3 J4 R5 (27 + 3) [(2, aR (some s0)), (0, aR (some x0))] [aI r6]
  refine aw_i2l G0 dX0_whole_30 ?_
  exact aw_lreturn G0 (by rw [G.2.2]; decide) (by rw [G.2.1]; decide) dX0_whole_31 h
theorem bX0_by_0 (G : Gb Γ yX0_by cX0_by 5 (some .int) [(5, 52, 53, 53), (5, 52, 60, 13)] rmX0_by bdX0_by) {F_X0_thing : SPF} (S_X0_thing : SpX0_thing (gL Γ) F_X0_thing)
    {Q26 : Nat → Int32 → Nat → Nat → MC → MI → MJ → MR → Prop} (w26 : ∀ (x0 : Nat) (x2 : Int32) (x3 : Nat) (s0 : Nat) (C : MC) (I : MI) (J : MJ) (R : MR), Q26 x0 x2 x3 s0 C I J R → AW Γ 0 0 C I J R 26 [(0, aR (some x0)), (2, aI x2), (3, aR (some x3))] [aR (some s0)])
    {Q27 : Nat → Int32 → Nat → Nat → Int32 → MC → MI → MJ → MR → Prop} (w27 : ∀ (x0 : Nat) (x2 : Int32) (x3 : Nat) (s0 : Nat) (s1 : Int32) (C : MC) (I : MI) (J : MJ) (R : MR), Q27 x0 x2 x3 s0 s1 C I J R → AW Γ 0 0 C I J R 27 [(0, aR (some x0)), (2, aI x2), (3, aR (some x3))] [aI s1, aR (some s0)])
    {Q53 : Nat → Nat → MC → MI → MJ → MR → Prop} (w53 : ∀ (x0 : Nat) (s0 : Nat) (C : MC) (I : MI) (J : MJ) (R : MR), Q53 x0 s0 C I J R → AW Γ 0 0 C I J R 53 [(0, aR (some x0))] [aR (some s0)]) {x0 : Nat} {x1 : Int32} {x2 : Int32}
    (h : (C x0).1 = 1 ∧
      ∀ I2 : MI, I2 = va_up I x0 (va_up (I x0) 5 (0 : Int32)) →
      F_X0_thing [aR (some x0), aI x1] C I2 J R (fun o C3 I4 J5 R6 =>
      (∃ r7 : Nat, o = .inl (some (aR (some r7))) ∧
      ((x2 < 0 →
      Q26 x0 x2 r7 x0 C3 I4 J5 R6) ∧
      (¬ x2 < 0 →
      (((120 : Int32) < x2 →
      Q26 x0 x2 r7 x0 C3 I4 J5 R6) ∧
      (¬ (120 : Int32) < x2 →
      Q27 x0 x2 r7 x0 (1 : Int32) C3 I4 J5 R6))))) ∨
      (∃ q10 : Nat, o = .inr q10 ∧
      ((C3 q10).1 = 2 ∧
      Q53 x0 q10 C3 I4 J5 R6)))) :
    AW Γ 0 0 C I J R 0 [(0, aR (some x0)), (1, aI x1), (2, aI x2)] [] := by
  have G0 := G.1
  refine aw_aload_n G0 0 rfl dX0_by_0 ?_
  refine aw_iconst (v := (0 : Int32)) G0 dX0_by_1 (by decide) ?_
  obtain ⟨k1, h⟩ := h
  refine aw_putI (f := 5) G0 (by rw [k1]; exact fp_X0_63 _) dX0_by_2 ?_
  generalize gI2 : va_up I x0 (va_up (I x0) 5 (0 : Int32)) = I2
  have h := h I2 gI2.symm
  refine aw_aload_n G0 0 rfl dX0_by_5 ?_
  refine aw_iload_n G0 1 rfl dX0_by_6 ?_
  refine aw_callV (k1 := 0) (n1 := 0) (k2 := 0) (n2 := 0) (st := []) G0 S_X0_thing gi_X0_163 (Or.inl (by rw [k1]; decide)) (by rw [k1]; rfl) md_X0_thing (Nat.le_of_ble_eq_true rfl) (by decide) (by rw [G.2.1]; decide) (by rw [G.2.1]; decide) [aI x1] rfl rfl dX0_by_7 h (fun o C3 I4 J5 R6 h => ?_)
  rcases h with ⟨r7, rfl, h⟩ | ⟨q10, rfl, h⟩
  · show AW Γ 0 0 C3 I4 J5 R6 (7 + 3) [(0, aR (some x0)), (1, aI x1), (2, aI x2)] [aR (some r7)]
    refine aw_astore_n (lv' := [(3, aR (some r7)), (0, aR (some x0)), (1, aI x1), (2, aI x2)]) G0 (by decide) rfl dX0_by_10 ?_
    refine aw_aload_n G0 1 rfl dX0_by_11 ?_
    refine aw_iload_n G0 3 rfl dX0_by_12 ?_
    refine aw_if_lt G0 26 dX0_by_13 (by decide) (fun c8 => ?_) (fun c8 => ?_)
    · have h := h.1 c8
      exact (aw_lv [1, 3, 0] rfl (w26 x0 x2 r7 x0 C3 I4 J5 R6 h))
    · have h := h.2 c8
      refine aw_iload_n G0 3 rfl dX0_by_16 ?_
      refine aw_bipush (v := (120 : Int32)) G0 dX0_by_17 (by decide) ?_
      refine aw_icmp_gt G0 26 dX0_by_19 (by decide) (fun c9 => ?_) (fun c9 => ?_)
      · have h := h.1 c9
        exact (aw_lv [1, 3, 0] rfl (w26 x0 x2 r7 x0 C3 I4 J5 R6 h))
      · have h := h.2 c9
        refine aw_iconst (v := (1 : Int32)) G0 dX0_by_22 (by decide) ?_
        refine aw_goto G0 27 dX0_by_23 (by decide) ?_
        exact (aw_lv [1, 3, 0] rfl (w27 x0 x2 r7 x0 (1 : Int32) C3 I4 J5 R6 h))
  · show AX Γ 0 0 C3 I4 J5 R6 7 [(0, aR (some x0)), (1, aI x1), (2, aI x2)] q10
    obtain ⟨k11, h⟩ := h
    refine ax_catch G0 0 rfl (fun j hj _ _ _ _ _ => absurd hj (Nat.not_lt_zero j)) rfl (by decide) q84 (Or.inl k11) (by rw [k11]; exact q86) ?_
    exact (aw_lv [0] rfl (w53 x0 q10 C3 I4 J5 R6 h))
theorem bX0_by_26 (G : Gb Γ yX0_by cX0_by 5 (some .int) [(5, 52, 53, 53), (5, 52, 60, 13)] rmX0_by bdX0_by)
    {Q27 : Nat → Int32 → Nat → Nat → Int32 → MC → MI → MJ → MR → Prop} (w27 : ∀ (x0 : Nat) (x2 : Int32) (x3 : Nat) (s0 : Nat) (s1 : Int32) (C : MC) (I : MI) (J : MJ) (R : MR), Q27 x0 x2 x3 s0 s1 C I J R → AW Γ 0 0 C I J R 27 [(0, aR (some x0)), (2, aI x2), (3, aR (some x3))] [aI s1, aR (some s0)]) {x0 : Nat} {x2 : Int32} {x3 : Nat} {s0 : Nat}
    (h : Q27 x0 x2 x3 s0 (0 : Int32) C I J R) :
    AW Γ 0 0 C I J R 26 [(0, aR (some x0)), (2, aI x2), (3, aR (some x3))] [aR (some s0)] := by
  have G0 := G.1
  refine aw_iconst (v := (0 : Int32)) G0 dX0_by_26 (by decide) ?_
  exact (w27 x0 x2 x3 s0 (0 : Int32) C I J R h)
theorem bX0_by_27 (G : Gb Γ yX0_by cX0_by 5 (some .int) [(5, 52, 53, 53), (5, 52, 60, 13)] rmX0_by bdX0_by) {F_X0_want : SPF} (S_X0_want : SpX0_want (gL Γ) F_X0_want) {F_Vtable : SPF} (S_Vtable : SpVtable (gL Γ) 20 F_Vtable) {F_X3_by : SPF} (S_X3_by : SpX3_by (gL Γ) F_X3_by) {F_X0_tells : SPF} (S_X0_tells : SpX0_tells (gL Γ) F_X0_tells)
    {Q53 : Nat → Nat → MC → MI → MJ → MR → Prop} (w53 : ∀ (x0 : Nat) (s0 : Nat) (C : MC) (I : MI) (J : MJ) (R : MR), Q53 x0 s0 C I J R → AW Γ 0 0 C I J R 53 [(0, aR (some x0))] [aR (some s0)])
    {Q60 : Nat → Nat → MC → MI → MJ → MR → Prop} (w60 : ∀ (x0 : Nat) (s0 : Nat) (C : MC) (I : MI) (J : MJ) (R : MR), Q60 x0 s0 C I J R → AW Γ 1 6 C I J R 60 [(0, aR (some x0))] [aR (some s0)]) {x0 : Nat} {x2 : Int32} {x3 : Nat} {s0 : Nat} {s1 : Int32}
    (h : (C s0).1 = 1 ∧
      F_X0_want [aR (some s0), aI s1, aI (1 : Int32)] C I J R (fun o C2 I3 J4 R5 =>
      (o = .inl none ∧
      kTh (C2 x3).1 ∧
      F_Vtable [aR (some x3)] C2 I3 J4 R5 (fun o C8 I9 J10 R11 =>
      (∃ r12 : Nat, o = .inl (some (aR (some r12))) ∧
      (C8 r12).1 = 4 ∧
      F_X3_by [aR (some r12), aI x2] C8 I9 J10 R11 (fun o C14 I15 J16 R17 =>
      ∃ r18 : Int64, o = .inl (some (aJ r18)) ∧
      (C14 r12).1 = 4 ∧
      (C14 x0).1 = 1 ∧
      F_X0_tells [aR (some x0), aJ r18, aJ (J16 r12 2)] C14 I15 J16 R17 (fun o C21 I22 J23 R24 =>
      ∃ r25 : Int32, o = .inl (some (aI r25)) ∧
      gK Γ (.inl (some (aI r25))) C21 I22 J23 R24))) ∨
      (∃ q26 : Nat, o = .inr q26 ∧
      ((C8 q26).1 = 11 ∧
      Q60 x0 q26 C8 I9 J10 R11)))) ∨
      (∃ q28 : Nat, o = .inr q28 ∧
      ((C2 q28).1 = 2 ∧
      Q53 x0 q28 C2 I3 J4 R5)))) :
    AW Γ 0 0 C I J R 27 [(0, aR (some x0)), (2, aI x2), (3, aR (some x3))] [aI s1, aR (some s0)] := by
  have G0 := G.1
  refine aw_iconst (v := (1 : Int32)) G0 dX0_by_27 (by decide) ?_
  obtain ⟨k1, h⟩ := h
  refine aw_callV (k1 := 0) (n1 := 0) (k2 := 0) (n2 := 0) (st := []) G0 S_X0_want gi_X0_87 (Or.inl (by rw [k1]; decide)) (by rw [k1]; rfl) md_X0_want (Nat.le_of_ble_eq_true rfl) (by decide) (by rw [G.2.1]; decide) (by rw [G.2.1]; decide) [aI s1, aI (1 : Int32)] rfl rfl dX0_by_28 h (fun o C2 I3 J4 R5 h => ?_)
  rcases h with ⟨rfl, h⟩ | ⟨q28, rfl, h⟩
  · show AW Γ 0 0 C2 I3 J4 R5 (28 + 3) [(0, aR (some x0)), (2, aI x2), (3, aR (some x3))] []
    refine aw_aload_n G0 2 rfl dX0_by_31 ?_
    obtain ⟨k7, h⟩ := h
    refine vc_X0_216 (k1 := 0) (n1 := 0) (k2 := 1) (n2 := 6) (st := []) G0 S_Vtable k7 (Nat.le_of_ble_eq_true rfl) (by decide) (by rw [G.2.1]; decide) (by rw [G.2.1]; decide) [] rfl rfl dX0_by_32 h (fun o C8 I9 J10 R11 h => ?_)
    rcases h with ⟨r12, rfl, h⟩ | ⟨q26, rfl, h⟩
    · show AW Γ 0 0 C8 I9 J10 R11 (32 + 3) [(0, aR (some x0)), (2, aI x2), (3, aR (some x3))] [aR (some r12)]
      refine aw_astore (lv' := [(4, aR (some r12)), (0, aR (some x0)), (2, aI x2), (3, aR (some x3))]) G0 (by decide) rfl dX0_by_35 ?_
      refine aw_aload_n G0 1 rfl dX0_by_37 ?_
      refine aw_aload G0 0 rfl dX0_by_38 ?_
      refine aw_iload_n G0 2 rfl dX0_by_40 ?_
      obtain ⟨k13, h⟩ := h
      refine aw_callV (k1 := 0) (n1 := 0) (k2 := 0) (n2 := 0) (st := [aR (some x0)]) G0 S_X3_by gi_X0_225 (Or.inl (by rw [k13]; decide)) (by rw [k13]; rfl) md_X3_by (Nat.le_of_ble_eq_true rfl) (by decide) (by rw [G.2.1]; decide) (by rw [G.2.1]; decide) [aI x2] rfl rfl dX0_by_41 h (fun o C14 I15 J16 R17 h => ?_)
      obtain ⟨r18, rfl, h⟩ := h
      show AW Γ 0 0 C14 I15 J16 R17 (41 + 3) [(4, aR (some r12)), (0, aR (some x0)), (2, aI x2), (3, aR (some x3))] [aJ r18, aR (some x0)]
      refine aw_aload G0 0 rfl dX0_by_44 ?_
      obtain ⟨k19, h⟩ := h
      refine aw_getJ (f := 2) G0 (by rw [k19]; exact fb_X0_24) dX0_by_46 ?_
      obtain ⟨k20, h⟩ := h
      refine aw_callV (k1 := 0) (n1 := 0) (k2 := 0) (n2 := 0) (st := []) G0 S_X0_tells gi_X0_228 (Or.inl (by rw [k20]; decide)) (by rw [k20]; rfl) md_X0_tells (Nat.le_of_ble_eq_true rfl) (by decide) (by rw [G.2.1]; decide) (by rw [G.2.1]; decide) [aJ r18, aJ (J16 r12 2)] rfl rfl dX0_by_49 h (fun o C21 I22 J23 R24 h => ?_)
      obtain ⟨r25, rfl, h⟩ := h
      show AW Γ 0 0 C21 I22 J23 R24 (49 + 3) [(4, aR (some r12)), (0, aR (some x0)), (2, aI x2), (3, aR (some x3))] [aI r25]
      exact aw_ireturn G0 (Or.inl rfl) (by rw [G.2.2]; decide) (by rw [G.2.1]; decide) dX0_by_52 h
    · show AX Γ 1 6 C8 I9 J10 R11 32 [(0, aR (some x0)), (2, aI x2), (3, aR (some x3))] q26
      obtain ⟨k27, h⟩ := h
      refine ax_catch G0 1 rfl (fun j hj a9 b9 h9 t9 ee => by
          match j, hj, ee with
          | 0, _, ee => cases ee; exact Or.inr ⟨by decide, _, q84, by rw [k27]; decide⟩
          | j + 1, hj, _ => exact absurd hj (by omega)) rfl (by decide) q593 (Or.inr (Or.inl k27)) (by rw [k27]; exact q662) ?_
      exact (aw_lv [0] rfl (w60 x0 q26 C8 I9 J10 R11 h))
  · show AX Γ 0 0 C2 I3 J4 R5 28 [(0, aR (some x0)), (2, aI x2), (3, aR (some x3))] q28
    obtain ⟨k29, h⟩ := h
    refine ax_catch G0 0 rfl (fun j hj _ _ _ _ _ => absurd hj (Nat.not_lt_zero j)) rfl (by decide) q84 (Or.inl k29) (by rw [k29]; exact q86) ?_
    exact (aw_lv [0] rfl (w53 x0 q28 C2 I3 J4 R5 h))
theorem bX0_by_53 (G : Gb Γ yX0_by cX0_by 5 (some .int) [(5, 52, 53, 53), (5, 52, 60, 13)] rmX0_by bdX0_by) {F_X0_none : SPF} (S_X0_none : SpX0_none (gL Γ) F_X0_none) {x0 : Nat} {s0 : Nat}
    (h : (C x0).1 = 1 ∧
      F_X0_none [aR (some x0), aR (some s0)] C I J R (fun o C2 I3 J4 R5 =>
      ∃ r6 : Int32, o = .inl (some (aI r6)) ∧
      gK Γ (.inl (some (aI r6))) C2 I3 J4 R5)) :
    AW Γ 0 0 C I J R 53 [(0, aR (some x0))] [aR (some s0)] := by
  have G0 := G.1
  refine aw_astore_n (lv' := [(3, aR (some s0)), (0, aR (some x0))]) G0 (by decide) rfl dX0_by_53 ?_
  refine aw_aload_n G0 1 rfl dX0_by_54 ?_
  refine aw_aload_n G0 0 rfl dX0_by_55 ?_
  obtain ⟨k1, h⟩ := h
  refine aw_callV (k1 := 0) (n1 := 0) (k2 := 0) (n2 := 0) (st := []) G0 S_X0_none gi_X0_117 (Or.inl (by rw [k1]; decide)) (by rw [k1]; rfl) md_X0_none (Nat.le_of_ble_eq_true rfl) (by decide) (by rw [G.2.1]; decide) (by rw [G.2.1]; decide) [aR (some s0)] rfl rfl dX0_by_56 h (fun o C2 I3 J4 R5 h => ?_)
  obtain ⟨r6, rfl, h⟩ := h
  show AW Γ 0 0 C2 I3 J4 R5 (56 + 3) [(3, aR (some s0)), (0, aR (some x0))] [aI r6]
  exact aw_ireturn G0 (Or.inl rfl) (by rw [G.2.2]; decide) (by rw [G.2.1]; decide) dX0_by_59 h
theorem bX0_by_60 (G : Gb Γ yX0_by cX0_by 5 (some .int) [(5, 52, 53, 53), (5, 52, 60, 13)] rmX0_by bdX0_by) {F_X0_great : SPF} (S_X0_great : SpX0_great (gL Γ) F_X0_great) {x0 : Nat} {s0 : Nat}
    (h : (C x0).1 = 1 ∧
      F_X0_great [aR (some x0)] C I J R (fun o C2 I3 J4 R5 =>
      ∃ r6 : Int32, o = .inl (some (aI r6)) ∧
      gK Γ (.inl (some (aI r6))) C2 I3 J4 R5)) :
    AW Γ 1 6 C I J R 60 [(0, aR (some x0))] [aR (some s0)] := by
  have G0 := G.1
  refine aw_astore_n (lv' := [(3, aR (some s0)), (0, aR (some x0))]) G0 (by decide) rfl dX0_by_60 ?_
  refine aw_aload_n G0 1 rfl dX0_by_61 ?_
  obtain ⟨k1, h⟩ := h
  refine aw_callV (k1 := 1) (n1 := 6) (k2 := 1) (n2 := 6) (st := []) G0 S_X0_great gi_X0_222 (Or.inl (by rw [k1]; decide)) (by rw [k1]; rfl) md_X0_great (Nat.le_of_ble_eq_true rfl) (by decide) (by rw [G.2.1]; decide) (by rw [G.2.1]; decide) [] rfl rfl dX0_by_62 h (fun o C2 I3 J4 R5 h => ?_)
  obtain ⟨r6, rfl, h⟩ := h
  show AW Γ 1 6 C2 I3 J4 R5 (62 + 3) [(3, aR (some s0)), (0, aR (some x0))] [aI r6]
  exact aw_ireturn G0 (Or.inl rfl) (by rw [G.2.2]; decide) (by rw [G.2.1]; decide) dX0_by_65 h
theorem bX0_tells_0 (G : Gb Γ yX0_tells cX0_tells 7 (some .int) [] rmX0_tells bdX0_tells) {F_X0_common : SPF} (S_X0_common : SpX0_common (gL Γ) F_X0_common) {x0 : Nat} {x1 : Int64} {x3 : Int64}
    (h : F_X0_common [aJ x1, aJ x3] C I J R (fun o C1 I2 J3 R4 =>
      ∃ r5 : Int64, o = .inl (some (aJ r5)) ∧
      ¬ r5 = 0 ∧
      (C1 x0).1 = 1 ∧
      ∀ J8 : MJ, J8 = va_up J3 x0 (va_up (J3 x0) 6 (x1 / r5)) →
      ∀ J9 : MJ, J9 = va_up J8 x0 (va_up (J8 x0) 7 (x3 / r5)) →
      ((x1 ≤ (0 : Int64) →
      gK Γ (.inl (some (aI (0 : Int32)))) C1 I2 J9 R4) ∧
      (¬ x1 ≤ (0 : Int64) →
      gK Γ (.inl (some (aI (1 : Int32)))) C1 I2 J9 R4)))) :
    AW Γ 0 0 C I J R 0 [(0, aR (some x0)), (1, aJ x1), (3, aJ x3)] [] := by
  have G0 := G.1
  refine aw_lload_n G0 1 rfl dX0_tells_0 ?_
  refine aw_lload_n G0 2 rfl dX0_tells_1 ?_
  refine aw_callS (k1 := 0) (n1 := 0) (k2 := 0) (n2 := 0) (st := []) G0 S_X0_common gi_X0_83 md_X0_common (Nat.le_of_ble_eq_true rfl) (by decide) (by rw [G.2.1]; decide) (by rw [G.2.1]; decide) [aJ x1, aJ x3] rfl rfl dX0_tells_2 h (fun o C1 I2 J3 R4 h => ?_)
  obtain ⟨r5, rfl, h⟩ := h
  show AW Γ 0 0 C1 I2 J3 R4 (2 + 3) [(0, aR (some x0)), (1, aJ x1), (3, aJ x3)] [aJ r5]
  refine aw_lstore (lv' := [(5, aJ r5), (0, aR (some x0)), (1, aJ x1), (3, aJ x3)]) G0 (by decide) rfl dX0_tells_5 ?_
  refine aw_aload_n G0 1 rfl dX0_tells_7 ?_
  refine aw_lload_n G0 2 rfl dX0_tells_8 ?_
  refine aw_lload G0 0 rfl dX0_tells_9 ?_
  obtain ⟨k6, h⟩ := h
  refine aw_ldiv G0 k6 dX0_tells_11 ?_
  obtain ⟨k7, h⟩ := h
  refine aw_putJ (f := 6) G0 (by rw [k7]; exact fp_X0_67 _) dX0_tells_12 ?_
  generalize gJ8 : va_up J3 x0 (va_up (J3 x0) 6 (x1 / r5)) = J8
  have h := h J8 gJ8.symm
  refine aw_aload_n G0 1 rfl dX0_tells_15 ?_
  refine aw_lload_n G0 3 rfl dX0_tells_16 ?_
  refine aw_lload G0 0 rfl dX0_tells_17 ?_
  refine aw_ldiv G0 k6 dX0_tells_19 ?_
  refine aw_putJ (f := 7) G0 (by rw [k7]; exact fp_X0_60 _) dX0_tells_20 ?_
  generalize gJ9 : va_up J8 x0 (va_up (J8 x0) 7 (x3 / r5)) = J9
  have h := h J9 gJ9.symm
  refine aw_lload_n G0 2 rfl dX0_tells_23 ?_
  refine aw_lconst (v := (0 : Int64)) G0 dX0_tells_24 (by decide) ?_
  refine aw_lif_le G0 33 dX0_tells_25 dX0_tells_26 (by decide) (fun c10 => ?_) (fun c10 => ?_)
  · have h := h.1 c10
    refine aw_iconst (v := (0 : Int32)) G0 dX0_tells_33 (by decide) ?_
    exact aw_ireturn G0 (Or.inl rfl) (by rw [G.2.2]; decide) (by rw [G.2.1]; decide) dX0_tells_34 h
  · have h := h.2 c10
    refine aw_iconst (v := (1 : Int32)) G0 dX0_tells_29 (by decide) ?_
    refine aw_goto G0 34 dX0_tells_30 (by decide) ?_
    exact aw_ireturn G0 (Or.inl rfl) (by rw [G.2.2]; decide) (by rw [G.2.1]; decide) dX0_tells_34 h
theorem bX0_fails_0 (G : Gb Γ yX0_fails cX0_fails 3 (some .int) [(5, 26, 27, 53), (5, 26, 34, 13)] rmX0_fails bdX0_fails) {F_X0_thing : SPF} (S_X0_thing : SpX0_thing (gL Γ) F_X0_thing) {F_Vtable : SPF} (S_Vtable : SpVtable (gL Γ) 20 F_Vtable) {F_X3_failed : SPF} (S_X3_failed : SpX3_failed (gL Γ) F_X3_failed) {F_X0_tells : SPF} (S_X0_tells : SpX0_tells (gL Γ) F_X0_tells)
    {Q27 : Nat → Nat → MC → MI → MJ → MR → Prop} (w27 : ∀ (x0 : Nat) (s0 : Nat) (C : MC) (I : MI) (J : MJ) (R : MR), Q27 x0 s0 C I J R → AW Γ 0 0 C I J R 27 [(0, aR (some x0))] [aR (some s0)])
    {Q34 : Nat → Nat → MC → MI → MJ → MR → Prop} (w34 : ∀ (x0 : Nat) (s0 : Nat) (C : MC) (I : MI) (J : MJ) (R : MR), Q34 x0 s0 C I J R → AW Γ 1 6 C I J R 34 [(0, aR (some x0))] [aR (some s0)]) {x0 : Nat} {x1 : Int32}
    (h : (C x0).1 = 1 ∧
      ∀ I2 : MI, I2 = va_up I x0 (va_up (I x0) 5 (0 : Int32)) →
      F_X0_thing [aR (some x0), aI x1] C I2 J R (fun o C3 I4 J5 R6 =>
      (∃ r7 : Nat, o = .inl (some (aR (some r7))) ∧
      kTh (C3 r7).1 ∧
      F_Vtable [aR (some r7)] C3 I4 J5 R6 (fun o C9 I10 J11 R12 =>
      (∃ r13 : Nat, o = .inl (some (aR (some r13))) ∧
      (C9 r13).1 = 4 ∧
      F_X3_failed [aR (some r13)] C9 I10 J11 R12 (fun o C15 I16 J17 R18 =>
      ∃ r19 : Int64, o = .inl (some (aJ r19)) ∧
      (C15 r13).1 = 4 ∧
      (C15 x0).1 = 1 ∧
      F_X0_tells [aR (some x0), aJ r19, aJ (J17 r13 2)] C15 I16 J17 R18 (fun o C22 I23 J24 R25 =>
      ∃ r26 : Int32, o = .inl (some (aI r26)) ∧
      gK Γ (.inl (some (aI r26))) C22 I23 J24 R25))) ∨
      (∃ q27 : Nat, o = .inr q27 ∧
      ((C9 q27).1 = 11 ∧
      Q34 x0 q27 C9 I10 J11 R12)))) ∨
      (∃ q29 : Nat, o = .inr q29 ∧
      ((C3 q29).1 = 2 ∧
      Q27 x0 q29 C3 I4 J5 R6)))) :
    AW Γ 0 0 C I J R 0 [(0, aR (some x0)), (1, aI x1)] [] := by
  have G0 := G.1
  refine aw_aload_n G0 0 rfl dX0_fails_0 ?_
  refine aw_iconst (v := (0 : Int32)) G0 dX0_fails_1 (by decide) ?_
  obtain ⟨k1, h⟩ := h
  refine aw_putI (f := 5) G0 (by rw [k1]; exact fp_X0_63 _) dX0_fails_2 ?_
  generalize gI2 : va_up I x0 (va_up (I x0) 5 (0 : Int32)) = I2
  have h := h I2 gI2.symm
  refine aw_aload_n G0 0 rfl dX0_fails_5 ?_
  refine aw_iload_n G0 1 rfl dX0_fails_6 ?_
  refine aw_callV (k1 := 0) (n1 := 0) (k2 := 0) (n2 := 0) (st := []) G0 S_X0_thing gi_X0_163 (Or.inl (by rw [k1]; decide)) (by rw [k1]; rfl) md_X0_thing (Nat.le_of_ble_eq_true rfl) (by decide) (by rw [G.2.1]; decide) (by rw [G.2.1]; decide) [aI x1] rfl rfl dX0_fails_7 h (fun o C3 I4 J5 R6 h => ?_)
  rcases h with ⟨r7, rfl, h⟩ | ⟨q29, rfl, h⟩
  · show AW Γ 0 0 C3 I4 J5 R6 (7 + 3) [(0, aR (some x0)), (1, aI x1)] [aR (some r7)]
    obtain ⟨k8, h⟩ := h
    refine vc_X0_216 (k1 := 0) (n1 := 0) (k2 := 1) (n2 := 6) (st := []) G0 S_Vtable k8 (Nat.le_of_ble_eq_true rfl) (by decide) (by rw [G.2.1]; decide) (by rw [G.2.1]; decide) [] rfl rfl dX0_fails_10 h (fun o C9 I10 J11 R12 h => ?_)
    rcases h with ⟨r13, rfl, h⟩ | ⟨q27, rfl, h⟩
    · show AW Γ 0 0 C9 I10 J11 R12 (10 + 3) [(0, aR (some x0)), (1, aI x1)] [aR (some r13)]
      refine aw_astore_n (lv' := [(2, aR (some r13)), (0, aR (some x0)), (1, aI x1)]) G0 (by decide) rfl dX0_fails_13 ?_
      refine aw_aload_n G0 1 rfl dX0_fails_14 ?_
      refine aw_aload_n G0 0 rfl dX0_fails_15 ?_
      obtain ⟨k14, h⟩ := h
      refine aw_callV (k1 := 0) (n1 := 0) (k2 := 0) (n2 := 0) (st := [aR (some x0)]) G0 S_X3_failed gi_X0_232 (Or.inl (by rw [k14]; decide)) (by rw [k14]; rfl) md_X3_failed (Nat.le_of_ble_eq_true rfl) (by decide) (by rw [G.2.1]; decide) (by rw [G.2.1]; decide) [] rfl rfl dX0_fails_16 h (fun o C15 I16 J17 R18 h => ?_)
      obtain ⟨r19, rfl, h⟩ := h
      show AW Γ 0 0 C15 I16 J17 R18 (16 + 3) [(2, aR (some r13)), (0, aR (some x0)), (1, aI x1)] [aJ r19, aR (some x0)]
      refine aw_aload_n G0 0 rfl dX0_fails_19 ?_
      obtain ⟨k20, h⟩ := h
      refine aw_getJ (f := 2) G0 (by rw [k20]; exact fb_X0_24) dX0_fails_20 ?_
      obtain ⟨k21, h⟩ := h
      refine aw_callV (k1 := 0) (n1 := 0) (k2 := 0) (n2 := 0) (st := []) G0 S_X0_tells gi_X0_228 (Or.inl (by rw [k21]; decide)) (by rw [k21]; rfl) md_X0_tells (Nat.le_of_ble_eq_true rfl) (by decide) (by rw [G.2.1]; decide) (by rw [G.2.1]; decide) [aJ r19, aJ (J17 r13 2)] rfl rfl dX0_fails_23 h (fun o C22 I23 J24 R25 h => ?_)
      obtain ⟨r26, rfl, h⟩ := h
      show AW Γ 0 0 C22 I23 J24 R25 (23 + 3) [(2, aR (some r13)), (0, aR (some x0)), (1, aI x1)] [aI r26]
      exact aw_ireturn G0 (Or.inl rfl) (by rw [G.2.2]; decide) (by rw [G.2.1]; decide) dX0_fails_26 h
    · show AX Γ 1 6 C9 I10 J11 R12 10 [(0, aR (some x0)), (1, aI x1)] q27
      obtain ⟨k28, h⟩ := h
      refine ax_catch G0 1 rfl (fun j hj a9 b9 h9 t9 ee => by
          match j, hj, ee with
          | 0, _, ee => cases ee; exact Or.inr ⟨by decide, _, q84, by rw [k28]; decide⟩
          | j + 1, hj, _ => exact absurd hj (by omega)) rfl (by decide) q593 (Or.inr (Or.inl k28)) (by rw [k28]; exact q662) ?_
      exact (aw_lv [0] rfl (w34 x0 q27 C9 I10 J11 R12 h))
  · show AX Γ 0 0 C3 I4 J5 R6 7 [(0, aR (some x0)), (1, aI x1)] q29
    obtain ⟨k30, h⟩ := h
    refine ax_catch G0 0 rfl (fun j hj _ _ _ _ _ => absurd hj (Nat.not_lt_zero j)) rfl (by decide) q84 (Or.inl k30) (by rw [k30]; exact q86) ?_
    exact (aw_lv [0] rfl (w27 x0 q29 C3 I4 J5 R6 h))
theorem bX0_fails_27 (G : Gb Γ yX0_fails cX0_fails 3 (some .int) [(5, 26, 27, 53), (5, 26, 34, 13)] rmX0_fails bdX0_fails) {F_X0_none : SPF} (S_X0_none : SpX0_none (gL Γ) F_X0_none) {x0 : Nat} {s0 : Nat}
    (h : (C x0).1 = 1 ∧
      F_X0_none [aR (some x0), aR (some s0)] C I J R (fun o C2 I3 J4 R5 =>
      ∃ r6 : Int32, o = .inl (some (aI r6)) ∧
      gK Γ (.inl (some (aI r6))) C2 I3 J4 R5)) :
    AW Γ 0 0 C I J R 27 [(0, aR (some x0))] [aR (some s0)] := by
  have G0 := G.1
  refine aw_astore_n (lv' := [(2, aR (some s0)), (0, aR (some x0))]) G0 (by decide) rfl dX0_fails_27 ?_
  refine aw_aload_n G0 1 rfl dX0_fails_28 ?_
  refine aw_aload_n G0 0 rfl dX0_fails_29 ?_
  obtain ⟨k1, h⟩ := h
  refine aw_callV (k1 := 0) (n1 := 0) (k2 := 0) (n2 := 0) (st := []) G0 S_X0_none gi_X0_117 (Or.inl (by rw [k1]; decide)) (by rw [k1]; rfl) md_X0_none (Nat.le_of_ble_eq_true rfl) (by decide) (by rw [G.2.1]; decide) (by rw [G.2.1]; decide) [aR (some s0)] rfl rfl dX0_fails_30 h (fun o C2 I3 J4 R5 h => ?_)
  obtain ⟨r6, rfl, h⟩ := h
  show AW Γ 0 0 C2 I3 J4 R5 (30 + 3) [(2, aR (some s0)), (0, aR (some x0))] [aI r6]
  exact aw_ireturn G0 (Or.inl rfl) (by rw [G.2.2]; decide) (by rw [G.2.1]; decide) dX0_fails_33 h
theorem bX0_fails_34 (G : Gb Γ yX0_fails cX0_fails 3 (some .int) [(5, 26, 27, 53), (5, 26, 34, 13)] rmX0_fails bdX0_fails) {F_X0_great : SPF} (S_X0_great : SpX0_great (gL Γ) F_X0_great) {x0 : Nat} {s0 : Nat}
    (h : (C x0).1 = 1 ∧
      F_X0_great [aR (some x0)] C I J R (fun o C2 I3 J4 R5 =>
      ∃ r6 : Int32, o = .inl (some (aI r6)) ∧
      gK Γ (.inl (some (aI r6))) C2 I3 J4 R5)) :
    AW Γ 1 6 C I J R 34 [(0, aR (some x0))] [aR (some s0)] := by
  have G0 := G.1
  refine aw_astore_n (lv' := [(2, aR (some s0)), (0, aR (some x0))]) G0 (by decide) rfl dX0_fails_34 ?_
  refine aw_aload_n G0 1 rfl dX0_fails_35 ?_
  obtain ⟨k1, h⟩ := h
  refine aw_callV (k1 := 1) (n1 := 6) (k2 := 1) (n2 := 6) (st := []) G0 S_X0_great gi_X0_222 (Or.inl (by rw [k1]; decide)) (by rw [k1]; rfl) md_X0_great (Nat.le_of_ble_eq_true rfl) (by decide) (by rw [G.2.1]; decide) (by rw [G.2.1]; decide) [] rfl rfl dX0_fails_36 h (fun o C2 I3 J4 R5 h => ?_)
  obtain ⟨r6, rfl, h⟩ := h
  show AW Γ 1 6 C2 I3 J4 R5 (36 + 3) [(2, aR (some s0)), (0, aR (some x0))] [aI r6]
  exact aw_ireturn G0 (Or.inl rfl) (by rw [G.2.2]; decide) (by rw [G.2.1]; decide) dX0_fails_39 h
theorem bX0_promise_0 (G : Gb Γ yX0_promise cX0_promise 7 (some .int) [(5, 87, 88, 53), (5, 87, 97, 13)] rmX0_promise bdX0_promise) {F_X0_thing : SPF} (S_X0_thing : SpX0_thing (gL Γ) F_X0_thing) {F_X0_isShare : SPF} (S_X0_isShare : SpX0_isShare (gL Γ) F_X0_isShare) {F_X0_want : SPF} (S_X0_want : SpX0_want (gL Γ) F_X0_want) {F_Vtable : SPF} (S_Vtable : SpVtable (gL Γ) 20 F_Vtable)
    {Q32 : Nat → Int32 → Int32 → Nat → Int32 → MC → MI → MJ → MR → Prop} (w32 : ∀ (x0 : Nat) (x2 : Int32) (x3 : Int32) (x5 : Nat) (x6 : Int32) (C : MC) (I : MI) (J : MJ) (R : MR), Q32 x0 x2 x3 x5 x6 C I J R → AW Γ 0 0 C I J R 32 [(0, aR (some x0)), (2, aI x2), (3, aI x3), (5, aR (some x5)), (6, aI x6)] [])
    {Q88 : Nat → Nat → MC → MI → MJ → MR → Prop} (w88 : ∀ (x0 : Nat) (s0 : Nat) (C : MC) (I : MI) (J : MJ) (R : MR), Q88 x0 s0 C I J R → AW Γ 0 0 C I J R 88 [(0, aR (some x0))] [aR (some s0)])
    {Q97 : Nat → Nat → MC → MI → MJ → MR → Prop} (w97 : ∀ (x0 : Nat) (s0 : Nat) (C : MC) (I : MI) (J : MJ) (R : MR), Q97 x0 s0 C I J R → AW Γ 1 6 C I J R 97 [(0, aR (some x0))] [aR (some s0)]) {x0 : Nat} {x1 : Int32} {x2 : Int32} {x3 : Int32}
    (h : (C x0).1 = 1 ∧
      ∀ I2 : MI, I2 = va_up I x0 (va_up (I x0) 5 (0 : Int32)) →
      F_X0_thing [aR (some x0), aI x1] C I2 J R (fun o C3 I4 J5 R6 =>
      (∃ r7 : Nat, o = .inl (some (aR (some r7))) ∧
      F_X0_isShare [aI x2, aI x3] C3 I4 J5 R6 (fun o C8 I9 J10 R11 =>
      ∃ r12 : Int32, o = .inl (some (aI r12)) ∧
      (C8 x0).1 = 1 ∧
      F_X0_want [aR (some x0), aI r12, aI (1 : Int32)] C8 I9 J10 R11 (fun o C14 I15 J16 R17 =>
      (o = .inl none ∧
      kTh (C14 r7).1 ∧
      F_Vtable [aR (some r7)] C14 I15 J16 R17 (fun o C20 I21 J22 R23 =>
      (∃ r24 : Nat, o = .inl (some (aR (some r24))) ∧
      Q32 x0 x2 x3 r24 (0 : Int32) C20 I21 J22 R23) ∨
      (∃ q25 : Nat, o = .inr q25 ∧
      ((C20 q25).1 = 11 ∧
      Q97 x0 q25 C20 I21 J22 R23)))) ∨
      (∃ q27 : Nat, o = .inr q27 ∧
      ((C14 q27).1 = 2 ∧
      Q88 x0 q27 C14 I15 J16 R17))))) ∨
      (∃ q29 : Nat, o = .inr q29 ∧
      ((C3 q29).1 = 2 ∧
      Q88 x0 q29 C3 I4 J5 R6)))) :
    AW Γ 0 0 C I J R 0 [(0, aR (some x0)), (1, aI x1), (2, aI x2), (3, aI x3)] [] := by
  have G0 := G.1
  refine aw_aload_n G0 0 rfl dX0_promise_0 ?_
  refine aw_iconst (v := (0 : Int32)) G0 dX0_promise_1 (by decide) ?_
  obtain ⟨k1, h⟩ := h
  refine aw_putI (f := 5) G0 (by rw [k1]; exact fp_X0_63 _) dX0_promise_2 ?_
  generalize gI2 : va_up I x0 (va_up (I x0) 5 (0 : Int32)) = I2
  have h := h I2 gI2.symm
  refine aw_aload_n G0 0 rfl dX0_promise_5 ?_
  refine aw_iload_n G0 1 rfl dX0_promise_6 ?_
  refine aw_callV (k1 := 0) (n1 := 0) (k2 := 0) (n2 := 0) (st := []) G0 S_X0_thing gi_X0_163 (Or.inl (by rw [k1]; decide)) (by rw [k1]; rfl) md_X0_thing (Nat.le_of_ble_eq_true rfl) (by decide) (by rw [G.2.1]; decide) (by rw [G.2.1]; decide) [aI x1] rfl rfl dX0_promise_7 h (fun o C3 I4 J5 R6 h => ?_)
  rcases h with ⟨r7, rfl, h⟩ | ⟨q29, rfl, h⟩
  · show AW Γ 0 0 C3 I4 J5 R6 (7 + 3) [(0, aR (some x0)), (1, aI x1), (2, aI x2), (3, aI x3)] [aR (some r7)]
    refine aw_astore (lv' := [(4, aR (some r7)), (0, aR (some x0)), (1, aI x1), (2, aI x2), (3, aI x3)]) G0 (by decide) rfl dX0_promise_10 ?_
    refine aw_aload_n G0 1 rfl dX0_promise_12 ?_
    refine aw_iload_n G0 3 rfl dX0_promise_13 ?_
    refine aw_iload_n G0 4 rfl dX0_promise_14 ?_
    refine aw_callS (k1 := 0) (n1 := 0) (k2 := 0) (n2 := 0) (st := [aR (some x0)]) G0 S_X0_isShare gi_X0_237 md_X0_isShare (Nat.le_of_ble_eq_true rfl) (by decide) (by rw [G.2.1]; decide) (by rw [G.2.1]; decide) [aI x2, aI x3] rfl rfl dX0_promise_15 h (fun o C8 I9 J10 R11 h => ?_)
    obtain ⟨r12, rfl, h⟩ := h
    show AW Γ 0 0 C8 I9 J10 R11 (15 + 3) [(4, aR (some r7)), (0, aR (some x0)), (1, aI x1), (2, aI x2), (3, aI x3)] [aI r12, aR (some x0)]
    refine aw_iconst (v := (1 : Int32)) G0 dX0_promise_18 (by decide) ?_
    obtain ⟨k13, h⟩ := h
    refine aw_callV (k1 := 0) (n1 := 0) (k2 := 0) (n2 := 0) (st := []) G0 S_X0_want gi_X0_87 (Or.inl (by rw [k13]; decide)) (by rw [k13]; rfl) md_X0_want (Nat.le_of_ble_eq_true rfl) (by decide) (by rw [G.2.1]; decide) (by rw [G.2.1]; decide) [aI r12, aI (1 : Int32)] rfl rfl dX0_promise_19 h (fun o C14 I15 J16 R17 h => ?_)
    rcases h with ⟨rfl, h⟩ | ⟨q27, rfl, h⟩
    · show AW Γ 0 0 C14 I15 J16 R17 (19 + 3) [(4, aR (some r7)), (0, aR (some x0)), (1, aI x1), (2, aI x2), (3, aI x3)] []
      refine aw_aload G0 0 rfl dX0_promise_22 ?_
      obtain ⟨k19, h⟩ := h
      refine vc_X0_216 (k1 := 0) (n1 := 0) (k2 := 1) (n2 := 6) (st := []) G0 S_Vtable k19 (Nat.le_of_ble_eq_true rfl) (by decide) (by rw [G.2.1]; decide) (by rw [G.2.1]; decide) [] rfl rfl dX0_promise_24 h (fun o C20 I21 J22 R23 h => ?_)
      rcases h with ⟨r24, rfl, h⟩ | ⟨q25, rfl, h⟩
      · show AW Γ 0 0 C20 I21 J22 R23 (24 + 3) [(4, aR (some r7)), (0, aR (some x0)), (1, aI x1), (2, aI x2), (3, aI x3)] [aR (some r24)]
        refine aw_astore (lv' := [(5, aR (some r24)), (4, aR (some r7)), (0, aR (some x0)), (1, aI x1), (2, aI x2), (3, aI x3)]) G0 (by decide) rfl dX0_promise_27 ?_
        refine aw_iconst (v := (0 : Int32)) G0 dX0_promise_29 (by decide) ?_
        refine aw_istore (lv' := [(6, aI (0 : Int32)), (5, aR (some r24)), (4, aR (some r7)), (0, aR (some x0)), (1, aI x1), (2, aI x2), (3, aI x3)]) G0 (by decide) rfl dX0_promise_30 ?_
        exact (aw_lv [3, 5, 6, 1, 0] rfl (w32 x0 x2 x3 r24 (0 : Int32) C20 I21 J22 R23 h))
      · show AX Γ 1 6 C20 I21 J22 R23 24 [(4, aR (some r7)), (0, aR (some x0)), (1, aI x1), (2, aI x2), (3, aI x3)] q25
        obtain ⟨k26, h⟩ := h
        refine ax_catch G0 1 rfl (fun j hj a9 b9 h9 t9 ee => by
            match j, hj, ee with
            | 0, _, ee => cases ee; exact Or.inr ⟨by decide, _, q84, by rw [k26]; decide⟩
            | j + 1, hj, _ => exact absurd hj (by omega)) rfl (by decide) q593 (Or.inr (Or.inl k26)) (by rw [k26]; exact q662) ?_
        exact (aw_lv [1] rfl (w97 x0 q25 C20 I21 J22 R23 h))
    · show AX Γ 0 0 C14 I15 J16 R17 19 [(4, aR (some r7)), (0, aR (some x0)), (1, aI x1), (2, aI x2), (3, aI x3)] q27
      obtain ⟨k28, h⟩ := h
      refine ax_catch G0 0 rfl (fun j hj _ _ _ _ _ => absurd hj (Nat.not_lt_zero j)) rfl (by decide) q84 (Or.inl k28) (by rw [k28]; exact q86) ?_
      exact (aw_lv [1] rfl (w88 x0 q27 C14 I15 J16 R17 h))
  · show AX Γ 0 0 C3 I4 J5 R6 7 [(0, aR (some x0)), (1, aI x1), (2, aI x2), (3, aI x3)] q29
    obtain ⟨k30, h⟩ := h
    refine ax_catch G0 0 rfl (fun j hj _ _ _ _ _ => absurd hj (Nat.not_lt_zero j)) rfl (by decide) q84 (Or.inl k30) (by rw [k30]; exact q86) ?_
    exact (aw_lv [0] rfl (w88 x0 q29 C3 I4 J5 R6 h))
theorem bX0_promise_32 (G : Gb Γ yX0_promise cX0_promise 7 (some .int) [(5, 87, 88, 53), (5, 87, 97, 13)] rmX0_promise bdX0_promise) {F_X3_by : SPF} (S_X3_by : SpX3_by (gL Γ) F_X3_by) {F_X0_isEnough : SPF} (S_X0_isEnough : SpX0_isEnough (gL Γ) F_X0_isEnough)
    {Q32 : Nat → Int32 → Int32 → Nat → Int32 → MC → MI → MJ → MR → Prop} (w32 : ∀ (x0 : Nat) (x2 : Int32) (x3 : Int32) (x5 : Nat) (x6 : Int32) (C : MC) (I : MI) (J : MJ) (R : MR), Q32 x0 x2 x3 x5 x6 C I J R → AW Γ 0 0 C I J R 32 [(0, aR (some x0)), (2, aI x2), (3, aI x3), (5, aR (some x5)), (6, aI x6)] [])
    {Q67 : Nat → Int32 → MC → MI → MJ → MR → Prop} (w67 : ∀ (x0 : Nat) (x6 : Int32) (C : MC) (I : MI) (J : MJ) (R : MR), Q67 x0 x6 C I J R → AW Γ 0 0 C I J R 67 [(0, aR (some x0)), (6, aI x6)] []) {x0 : Nat} {x2 : Int32} {x3 : Int32} {x5 : Nat} {x6 : Int32}
    (h : (((120 : Int32) < x6 →
      Q67 x0 x6 C I J R) ∧
      (¬ (120 : Int32) < x6 →
      (C x5).1 = 4 ∧
      F_X3_by [aR (some x5), aI x6] C I J R (fun o C3 I4 J5 R6 =>
      ∃ r7 : Int64, o = .inl (some (aJ r7)) ∧
      (C3 x5).1 = 4 ∧
      F_X0_isEnough [aJ r7, aJ (J5 x5 2), aJ x2.toInt64, aJ x3.toInt64] C3 I4 J5 R6 (fun o C9 I10 J11 R12 =>
      ∃ r13 : Int32, o = .inl (some (aI r13)) ∧
      ((¬ r13 = 0 →
      Q67 x0 x6 C9 I10 J11 R12) ∧
      (r13 = 0 →
      Q32 x0 x2 x3 x5 (x6 + 1) C9 I10 J11 R12))))))) :
    AW Γ 0 0 C I J R 32 [(0, aR (some x0)), (2, aI x2), (3, aI x3), (5, aR (some x5)), (6, aI x6)] [] := by
  have G0 := G.1
  refine aw_iload G0 4 rfl dX0_promise_32 ?_
  refine aw_bipush (v := (120 : Int32)) G0 dX0_promise_34 (by decide) ?_
  refine aw_icmp_gt G0 67 dX0_promise_36 (by decide) (fun c1 => ?_) (fun c1 => ?_)
  · have h := h.1 c1
    exact (aw_lv [0, 4] rfl (w67 x0 x6 C I J R h))
  · have h := h.2 c1
    refine aw_aload G0 3 rfl dX0_promise_39 ?_
    refine aw_iload G0 4 rfl dX0_promise_41 ?_
    obtain ⟨k2, h⟩ := h
    refine aw_callV (k1 := 0) (n1 := 0) (k2 := 0) (n2 := 0) (st := []) G0 S_X3_by gi_X0_225 (Or.inl (by rw [k2]; decide)) (by rw [k2]; rfl) md_X3_by (Nat.le_of_ble_eq_true rfl) (by decide) (by rw [G.2.1]; decide) (by rw [G.2.1]; decide) [aI x6] rfl rfl dX0_promise_43 h (fun o C3 I4 J5 R6 h => ?_)
    obtain ⟨r7, rfl, h⟩ := h
    show AW Γ 0 0 C3 I4 J5 R6 (43 + 3) [(0, aR (some x0)), (2, aI x2), (3, aI x3), (5, aR (some x5)), (6, aI x6)] [aJ r7]
    refine aw_aload G0 3 rfl dX0_promise_46 ?_
    obtain ⟨k8, h⟩ := h
    refine aw_getJ (f := 2) G0 (by rw [k8]; exact fb_X0_24) dX0_promise_48 ?_
    refine aw_iload_n G0 1 rfl dX0_promise_51 ?_
    refine aw_i2l G0 dX0_promise_52 ?_
    refine aw_iload_n G0 2 rfl dX0_promise_53 ?_
    refine aw_i2l G0 dX0_promise_54 ?_
    refine aw_callS (k1 := 0) (n1 := 0) (k2 := 0) (n2 := 0) (st := []) G0 S_X0_isEnough gi_X0_241 md_X0_isEnough (Nat.le_of_ble_eq_true rfl) (by decide) (by rw [G.2.1]; decide) (by rw [G.2.1]; decide) [aJ r7, aJ (J5 x5 2), aJ x2.toInt64, aJ x3.toInt64] rfl rfl dX0_promise_55 h (fun o C9 I10 J11 R12 h => ?_)
    obtain ⟨r13, rfl, h⟩ := h
    show AW Γ 0 0 C9 I10 J11 R12 (55 + 3) [(0, aR (some x0)), (2, aI x2), (3, aI x3), (5, aR (some x5)), (6, aI x6)] [aI r13]
    refine aw_if_ne G0 67 dX0_promise_58 (by decide) (fun c14 => ?_) (fun c14 => ?_)
    · have h := h.1 c14
      exact (aw_lv [0, 4] rfl (w67 x0 x6 C9 I10 J11 R12 h))
    · have h := h.2 c14
      refine aw_iinc (v := x6 + 1) (lv' := [(6, aI (x6 + 1)), (0, aR (some x0)), (2, aI x2), (3, aI x3), (5, aR (some x5))]) G0 4 rfl rfl (by decide) rfl dX0_promise_61 ?_
      refine aw_goto G0 32 dX0_promise_64 (by decide) ?_
      exact (aw_lv [1, 2, 3, 4, 0] rfl (w32 x0 x2 x3 x5 (x6 + 1) C9 I10 J11 R12 h))
theorem bX0_promise_67 (G : Gb Γ yX0_promise cX0_promise 7 (some .int) [(5, 87, 88, 53), (5, 87, 97, 13)] rmX0_promise bdX0_promise) {F_X0_want : SPF} (S_X0_want : SpX0_want (gL Γ) F_X0_want)
    {Q88 : Nat → Nat → MC → MI → MJ → MR → Prop} (w88 : ∀ (x0 : Nat) (s0 : Nat) (C : MC) (I : MI) (J : MJ) (R : MR), Q88 x0 s0 C I J R → AW Γ 0 0 C I J R 88 [(0, aR (some x0))] [aR (some s0)]) {x0 : Nat} {x6 : Int32}
    (h : (((120 : Int32) < x6 →
      (C x0).1 = 1 ∧
      F_X0_want [aR (some x0), aI (0 : Int32), aI (6 : Int32)] C I J R (fun o C3 I4 J5 R6 =>
      (o = .inl none ∧
      gK Γ (.inl (some (aI x6))) C3 I4 J5 R6) ∨
      (∃ q8 : Nat, o = .inr q8 ∧
      ((C3 q8).1 = 2 ∧
      Q88 x0 q8 C3 I4 J5 R6)))) ∧
      (¬ (120 : Int32) < x6 →
      (C x0).1 = 1 ∧
      F_X0_want [aR (some x0), aI (1 : Int32), aI (6 : Int32)] C I J R (fun o C11 I12 J13 R14 =>
      (o = .inl none ∧
      gK Γ (.inl (some (aI x6))) C11 I12 J13 R14) ∨
      (∃ q16 : Nat, o = .inr q16 ∧
      ((C11 q16).1 = 2 ∧
      Q88 x0 q16 C11 I12 J13 R14)))))) :
    AW Γ 0 0 C I J R 67 [(0, aR (some x0)), (6, aI x6)] [] := by
  have G0 := G.1
  refine aw_aload_n G0 0 rfl dX0_promise_67 ?_
  refine aw_iload G0 1 rfl dX0_promise_68 ?_
  refine aw_bipush (v := (120 : Int32)) G0 dX0_promise_70 (by decide) ?_
  refine aw_icmp_gt G0 79 dX0_promise_72 (by decide) (fun c1 => ?_) (fun c1 => ?_)
  · have h := h.1 c1
    refine aw_iconst (v := (0 : Int32)) G0 dX0_promise_79 (by decide) ?_
    refine aw_bipush (v := (6 : Int32)) G0 dX0_promise_80 (by decide) ?_
    obtain ⟨k2, h⟩ := h
    refine aw_callV (k1 := 0) (n1 := 0) (k2 := 0) (n2 := 0) (st := []) G0 S_X0_want gi_X0_87 (Or.inl (by rw [k2]; decide)) (by rw [k2]; rfl) md_X0_want (Nat.le_of_ble_eq_true rfl) (by decide) (by rw [G.2.1]; decide) (by rw [G.2.1]; decide) [aI (0 : Int32), aI (6 : Int32)] rfl rfl dX0_promise_82 h (fun o C3 I4 J5 R6 h => ?_)
    rcases h with ⟨rfl, h⟩ | ⟨q8, rfl, h⟩
    · show AW Γ 0 0 C3 I4 J5 R6 (82 + 3) [(0, aR (some x0)), (6, aI x6)] []
      refine aw_iload G0 1 rfl dX0_promise_85 ?_
      exact aw_ireturn G0 (Or.inl rfl) (by rw [G.2.2]; decide) (by rw [G.2.1]; decide) dX0_promise_87 h
    · show AX Γ 0 0 C3 I4 J5 R6 82 [(0, aR (some x0)), (6, aI x6)] q8
      obtain ⟨k9, h⟩ := h
      refine ax_catch G0 0 rfl (fun j hj _ _ _ _ _ => absurd hj (Nat.not_lt_zero j)) rfl (by decide) q84 (Or.inl k9) (by rw [k9]; exact q86) ?_
      exact (aw_lv [0] rfl (w88 x0 q8 C3 I4 J5 R6 h))
  · have h := h.2 c1
    refine aw_iconst (v := (1 : Int32)) G0 dX0_promise_75 (by decide) ?_
    refine aw_goto G0 80 dX0_promise_76 (by decide) ?_
    refine aw_bipush (v := (6 : Int32)) G0 dX0_promise_80 (by decide) ?_
    obtain ⟨k10, h⟩ := h
    refine aw_callV (k1 := 0) (n1 := 0) (k2 := 0) (n2 := 0) (st := []) G0 S_X0_want gi_X0_87 (Or.inl (by rw [k10]; decide)) (by rw [k10]; rfl) md_X0_want (Nat.le_of_ble_eq_true rfl) (by decide) (by rw [G.2.1]; decide) (by rw [G.2.1]; decide) [aI (1 : Int32), aI (6 : Int32)] rfl rfl dX0_promise_82 h (fun o C11 I12 J13 R14 h => ?_)
    rcases h with ⟨rfl, h⟩ | ⟨q16, rfl, h⟩
    · show AW Γ 0 0 C11 I12 J13 R14 (82 + 3) [(0, aR (some x0)), (6, aI x6)] []
      refine aw_iload G0 1 rfl dX0_promise_85 ?_
      exact aw_ireturn G0 (Or.inl rfl) (by rw [G.2.2]; decide) (by rw [G.2.1]; decide) dX0_promise_87 h
    · show AX Γ 0 0 C11 I12 J13 R14 82 [(0, aR (some x0)), (6, aI x6)] q16
      obtain ⟨k17, h⟩ := h
      refine ax_catch G0 0 rfl (fun j hj _ _ _ _ _ => absurd hj (Nat.not_lt_zero j)) rfl (by decide) q84 (Or.inl k17) (by rw [k17]; exact q86) ?_
      exact (aw_lv [0] rfl (w88 x0 q16 C11 I12 J13 R14 h))
theorem bX0_promise_88 (G : Gb Γ yX0_promise cX0_promise 7 (some .int) [(5, 87, 88, 53), (5, 87, 97, 13)] rmX0_promise bdX0_promise) {F_X0_none : SPF} (S_X0_none : SpX0_none (gL Γ) F_X0_none) {x0 : Nat} {s0 : Nat}
    (h : (C x0).1 = 1 ∧
      F_X0_none [aR (some x0), aR (some s0)] C I J R (fun o C2 I3 J4 R5 =>
      ∃ r6 : Int32, o = .inl (some (aI r6)) ∧
      gK Γ (.inl (some (aI r6))) C2 I3 J4 R5)) :
    AW Γ 0 0 C I J R 88 [(0, aR (some x0))] [aR (some s0)] := by
  have G0 := G.1
  refine aw_astore (lv' := [(4, aR (some s0)), (0, aR (some x0))]) G0 (by decide) rfl dX0_promise_88 ?_
  refine aw_aload_n G0 1 rfl dX0_promise_90 ?_
  refine aw_aload G0 0 rfl dX0_promise_91 ?_
  obtain ⟨k1, h⟩ := h
  refine aw_callV (k1 := 0) (n1 := 0) (k2 := 0) (n2 := 0) (st := []) G0 S_X0_none gi_X0_117 (Or.inl (by rw [k1]; decide)) (by rw [k1]; rfl) md_X0_none (Nat.le_of_ble_eq_true rfl) (by decide) (by rw [G.2.1]; decide) (by rw [G.2.1]; decide) [aR (some s0)] rfl rfl dX0_promise_93 h (fun o C2 I3 J4 R5 h => ?_)
  obtain ⟨r6, rfl, h⟩ := h
  show AW Γ 0 0 C2 I3 J4 R5 (93 + 3) [(4, aR (some s0)), (0, aR (some x0))] [aI r6]
  exact aw_ireturn G0 (Or.inl rfl) (by rw [G.2.2]; decide) (by rw [G.2.1]; decide) dX0_promise_96 h
theorem bX0_promise_97 (G : Gb Γ yX0_promise cX0_promise 7 (some .int) [(5, 87, 88, 53), (5, 87, 97, 13)] rmX0_promise bdX0_promise) {F_X0_great : SPF} (S_X0_great : SpX0_great (gL Γ) F_X0_great) {x0 : Nat} {s0 : Nat}
    (h : (C x0).1 = 1 ∧
      F_X0_great [aR (some x0)] C I J R (fun o C2 I3 J4 R5 =>
      ∃ r6 : Int32, o = .inl (some (aI r6)) ∧
      gK Γ (.inl (some (aI r6))) C2 I3 J4 R5)) :
    AW Γ 1 6 C I J R 97 [(0, aR (some x0))] [aR (some s0)] := by
  have G0 := G.1
  refine aw_astore (lv' := [(4, aR (some s0)), (0, aR (some x0))]) G0 (by decide) rfl dX0_promise_97 ?_
  refine aw_aload_n G0 1 rfl dX0_promise_99 ?_
  obtain ⟨k1, h⟩ := h
  refine aw_callV (k1 := 1) (n1 := 6) (k2 := 1) (n2 := 6) (st := []) G0 S_X0_great gi_X0_222 (Or.inl (by rw [k1]; decide)) (by rw [k1]; rfl) md_X0_great (Nat.le_of_ble_eq_true rfl) (by decide) (by rw [G.2.1]; decide) (by rw [G.2.1]; decide) [] rfl rfl dX0_promise_100 h (fun o C2 I3 J4 R5 h => ?_)
  obtain ⟨r6, rfl, h⟩ := h
  show AW Γ 1 6 C2 I3 J4 R5 (100 + 3) [(4, aR (some s0)), (0, aR (some x0))] [aI r6]
  exact aw_ireturn G0 (Or.inl rfl) (by rw [G.2.2]; decide) (by rw [G.2.1]; decide) dX0_promise_103 h
theorem bX0_isShare_0 (G : Gb Γ yX0_isShare cX0_isShare 2 (some .boolean) [] rmX0_isShare bdX0_isShare) {x0 : Int32} {x1 : Int32}
    (h : ((x1 < (1 : Int32) →
      gK Γ (.inl (some (aI (0 : Int32)))) C I J R) ∧
      (¬ x1 < (1 : Int32) →
      (((1000000 : Int32) < x1 →
      gK Γ (.inl (some (aI (0 : Int32)))) C I J R) ∧
      (¬ (1000000 : Int32) < x1 →
      ((x0 < 0 →
      gK Γ (.inl (some (aI (0 : Int32)))) C I J R) ∧
      (¬ x0 < 0 →
      ((x1 < x0 →
      gK Γ (.inl (some (aI (0 : Int32)))) C I J R) ∧
      (¬ x1 < x0 →
      gK Γ (.inl (some (aI (1 : Int32)))) C I J R))))))))) :
    AW Γ 0 0 C I J R 0 [(0, aI x0), (1, aI x1)] [] := by
  have G0 := G.1
  refine aw_iload_n G0 1 rfl dX0_isShare_0 ?_
  refine aw_iconst (v := (1 : Int32)) G0 dX0_isShare_1 (by decide) ?_
  refine aw_icmp_lt G0 24 dX0_isShare_2 (by decide) (fun c1 => ?_) (fun c1 => ?_)
  · have h := h.1 c1
    refine aw_iconst (v := (0 : Int32)) G0 dX0_isShare_24 (by decide) ?_
    exact aw_ireturn G0 (Or.inr ⟨rfl, by decide⟩) (by rw [G.2.2]; decide) (by rw [G.2.1]; decide) dX0_isShare_25 h
  · have h := h.2 c1
    refine aw_iload_n G0 1 rfl dX0_isShare_5 ?_
    refine aw_ldc (v := (1000000 : Int32)) G0 q769 dX0_isShare_6 ?_
    refine aw_icmp_gt G0 24 dX0_isShare_8 (by decide) (fun c2 => ?_) (fun c2 => ?_)
    · have h := h.1 c2
      refine aw_iconst (v := (0 : Int32)) G0 dX0_isShare_24 (by decide) ?_
      exact aw_ireturn G0 (Or.inr ⟨rfl, by decide⟩) (by rw [G.2.2]; decide) (by rw [G.2.1]; decide) dX0_isShare_25 h
    · have h := h.2 c2
      refine aw_iload_n G0 0 rfl dX0_isShare_11 ?_
      refine aw_if_lt G0 24 dX0_isShare_12 (by decide) (fun c3 => ?_) (fun c3 => ?_)
      · have h := h.1 c3
        refine aw_iconst (v := (0 : Int32)) G0 dX0_isShare_24 (by decide) ?_
        exact aw_ireturn G0 (Or.inr ⟨rfl, by decide⟩) (by rw [G.2.2]; decide) (by rw [G.2.1]; decide) dX0_isShare_25 h
      · have h := h.2 c3
        refine aw_iload_n G0 0 rfl dX0_isShare_15 ?_
        refine aw_iload_n G0 1 rfl dX0_isShare_16 ?_
        refine aw_icmp_gt G0 24 dX0_isShare_17 (by decide) (fun c4 => ?_) (fun c4 => ?_)
        · have h := h.1 c4
          refine aw_iconst (v := (0 : Int32)) G0 dX0_isShare_24 (by decide) ?_
          exact aw_ireturn G0 (Or.inr ⟨rfl, by decide⟩) (by rw [G.2.2]; decide) (by rw [G.2.1]; decide) dX0_isShare_25 h
        · have h := h.2 c4
          refine aw_iconst (v := (1 : Int32)) G0 dX0_isShare_20 (by decide) ?_
          refine aw_goto G0 25 dX0_isShare_21 (by decide) ?_
          exact aw_ireturn G0 (Or.inr ⟨rfl, by decide⟩) (by rw [G.2.2]; decide) (by rw [G.2.1]; decide) dX0_isShare_25 h
theorem bX0_isEnough_0 (G : Gb Γ yX0_isEnough cX0_isEnough 21 (some .boolean) [] rmX0_isEnough bdX0_isEnough)
    {Q17 : Int64 → Int64 → Int64 → Int64 → Int32 → MC → MI → MJ → MR → Prop} (w17 : ∀ (x8 : Int64) (x10 : Int64) (x12 : Int64) (x14 : Int64) (x16 : Int32) (C : MC) (I : MI) (J : MJ) (R : MR), Q17 x8 x10 x12 x14 x16 C I J R → AW Γ 0 0 C I J R 17 [(8, aJ x8), (10, aJ x10), (12, aJ x12), (14, aJ x14), (16, aI x16)] []) {x0 : Int64} {x2 : Int64} {x4 : Int64} {x6 : Int64}
    (h : Q17 x0 x2 x4 x6 (0 : Int32) C I J R) :
    AW Γ 0 0 C I J R 0 [(0, aJ x0), (2, aJ x2), (4, aJ x4), (6, aJ x6)] [] := by
  have G0 := G.1
  refine aw_lload_n G0 0 rfl dX0_isEnough_0 ?_
  refine aw_lstore (lv' := [(8, aJ x0), (0, aJ x0), (2, aJ x2), (4, aJ x4), (6, aJ x6)]) G0 (by decide) rfl dX0_isEnough_1 ?_
  refine aw_lload_n G0 2 rfl dX0_isEnough_3 ?_
  refine aw_lstore (lv' := [(10, aJ x2), (8, aJ x0), (0, aJ x0), (2, aJ x2), (4, aJ x4), (6, aJ x6)]) G0 (by decide) rfl dX0_isEnough_4 ?_
  refine aw_lload G0 4 rfl dX0_isEnough_6 ?_
  refine aw_lstore (lv' := [(12, aJ x4), (10, aJ x2), (8, aJ x0), (0, aJ x0), (2, aJ x2), (4, aJ x4), (6, aJ x6)]) G0 (by decide) rfl dX0_isEnough_8 ?_
  refine aw_lload G0 6 rfl dX0_isEnough_10 ?_
  refine aw_lstore (lv' := [(14, aJ x6), (12, aJ x4), (10, aJ x2), (8, aJ x0), (0, aJ x0), (2, aJ x2), (4, aJ x4), (6, aJ x6)]) G0 (by decide) rfl dX0_isEnough_12 ?_
  refine aw_iconst (v := (0 : Int32)) G0 dX0_isEnough_14 (by decide) ?_
  refine aw_istore (lv' := [(16, aI (0 : Int32)), (14, aJ x6), (12, aJ x4), (10, aJ x2), (8, aJ x0), (0, aJ x0), (2, aJ x2), (4, aJ x4), (6, aJ x6)]) G0 (by decide) rfl dX0_isEnough_15 ?_
  exact (aw_lv [4, 3, 2, 1, 0] rfl (w17 x0 x2 x4 x6 (0 : Int32) C I J R h))
theorem bX0_isEnough_17 (G : Gb Γ yX0_isEnough cX0_isEnough 21 (some .boolean) [] rmX0_isEnough bdX0_isEnough)
    {Q85 : Int64 → Int64 → Int64 → Int64 → Int32 → MC → MI → MJ → MR → Prop} (w85 : ∀ (x8 : Int64) (x10 : Int64) (x12 : Int64) (x14 : Int64) (s0 : Int32) (C : MC) (I : MI) (J : MJ) (R : MR), Q85 x8 x10 x12 x14 s0 C I J R → AW Γ 0 0 C I J R 85 [(8, aJ x8), (10, aJ x10), (12, aJ x12), (14, aJ x14)] [aI s0])
    {Q90 : Int64 → Int64 → Int64 → Int64 → Int32 → MC → MI → MJ → MR → Prop} (w90 : ∀ (x8 : Int64) (x10 : Int64) (x12 : Int64) (x14 : Int64) (x16 : Int32) (C : MC) (I : MI) (J : MJ) (R : MR), Q90 x8 x10 x12 x14 x16 C I J R → AW Γ 0 0 C I J R 90 [(8, aJ x8), (10, aJ x10), (12, aJ x12), (14, aJ x14), (16, aI x16)] []) {x8 : Int64} {x10 : Int64} {x12 : Int64} {x14 : Int64} {x16 : Int32}
    (h : ((x10 = (0 : Int64) →
      Q90 x8 x10 x12 x14 x16 C I J R) ∧
      (¬ x10 = (0 : Int64) →
      ((x14 = (0 : Int64) →
      Q90 x8 x10 x12 x14 x16 C I J R) ∧
      (¬ x14 = (0 : Int64) →
      ¬ x10 = 0 ∧
      ¬ x14 = 0 ∧
      ((¬ (x8 / x10) = (x12 / x14) →
      Q90 x8 x10 x12 x14 x16 C I J R) ∧
      ((x8 / x10) = (x12 / x14) →
      ((¬ x16 = 0 →
      Q85 x10 (x8 - x8 / x10 * x10) x14 (x12 - x12 / x14 * x14) (0 : Int32) C I J R) ∧
      (x16 = 0 →
      Q85 x10 (x8 - x8 / x10 * x10) x14 (x12 - x12 / x14 * x14) (1 : Int32) C I J R))))))))) :
    AW Γ 0 0 C I J R 17 [(8, aJ x8), (10, aJ x10), (12, aJ x12), (14, aJ x14), (16, aI x16)] [] := by
  have G0 := G.1
  refine aw_lload G0 1 rfl dX0_isEnough_17 ?_
  refine aw_lconst (v := (0 : Int64)) G0 dX0_isEnough_19 (by decide) ?_
  refine aw_lif_eq G0 90 dX0_isEnough_20 dX0_isEnough_21 (by decide) (fun c1 => ?_) (fun c1 => ?_)
  · have h := h.1 c1
    exact (w90 x8 x10 x12 x14 x16 C I J R h)
  · have h := h.2 c1
    refine aw_lload G0 3 rfl dX0_isEnough_24 ?_
    refine aw_lconst (v := (0 : Int64)) G0 dX0_isEnough_26 (by decide) ?_
    refine aw_lif_eq G0 90 dX0_isEnough_27 dX0_isEnough_28 (by decide) (fun c2 => ?_) (fun c2 => ?_)
    · have h := h.1 c2
      exact (w90 x8 x10 x12 x14 x16 C I J R h)
    · have h := h.2 c2
      refine aw_lload G0 0 rfl dX0_isEnough_31 ?_
      refine aw_lload G0 1 rfl dX0_isEnough_33 ?_
      obtain ⟨k3, h⟩ := h
      refine aw_ldiv G0 k3 dX0_isEnough_35 ?_
      refine aw_lload G0 2 rfl dX0_isEnough_36 ?_
      refine aw_lload G0 3 rfl dX0_isEnough_38 ?_
      obtain ⟨k4, h⟩ := h
      refine aw_ldiv G0 k4 dX0_isEnough_40 ?_
      refine aw_lif_ne G0 90 dX0_isEnough_41 dX0_isEnough_42 (by decide) (fun c5 => ?_) (fun c5 => ?_)
      · have h := h.1 c5
        exact (w90 x8 x10 x12 x14 x16 C I J R h)
      · have h := h.2 c5
        refine aw_lload G0 0 rfl dX0_isEnough_45 ?_
        refine aw_lload G0 1 rfl dX0_isEnough_47 ?_
        refine aw_lrem G0 k3 dX0_isEnough_49 ?_
        refine aw_lstore (lv' := [(17, aJ (x8 - x8 / x10 * x10)), (8, aJ x8), (10, aJ x10), (12, aJ x12), (14, aJ x14), (16, aI x16)]) G0 (by decide) rfl dX0_isEnough_50 ?_
        refine aw_lload G0 3 rfl dX0_isEnough_52 ?_
        refine aw_lload G0 4 rfl dX0_isEnough_54 ?_
        refine aw_lrem G0 k4 dX0_isEnough_56 ?_
        refine aw_lstore (lv' := [(19, aJ (x12 - x12 / x14 * x14)), (17, aJ (x8 - x8 / x10 * x10)), (8, aJ x8), (10, aJ x10), (12, aJ x12), (14, aJ x14), (16, aI x16)]) G0 (by decide) rfl dX0_isEnough_57 ?_
        refine aw_lload G0 3 rfl dX0_isEnough_59 ?_
        refine aw_lstore (lv' := [(8, aJ x10), (19, aJ (x12 - x12 / x14 * x14)), (17, aJ (x8 - x8 / x10 * x10)), (10, aJ x10), (12, aJ x12), (14, aJ x14), (16, aI x16)]) G0 (by decide) rfl dX0_isEnough_61 ?_
        refine aw_lload G0 2 rfl dX0_isEnough_63 ?_
        refine aw_lstore (lv' := [(10, aJ (x8 - x8 / x10 * x10)), (8, aJ x10), (19, aJ (x12 - x12 / x14 * x14)), (17, aJ (x8 - x8 / x10 * x10)), (12, aJ x12), (14, aJ x14), (16, aI x16)]) G0 (by decide) rfl dX0_isEnough_65 ?_
        refine aw_lload G0 5 rfl dX0_isEnough_67 ?_
        refine aw_lstore (lv' := [(12, aJ x14), (10, aJ (x8 - x8 / x10 * x10)), (8, aJ x10), (19, aJ (x12 - x12 / x14 * x14)), (17, aJ (x8 - x8 / x10 * x10)), (14, aJ x14), (16, aI x16)]) G0 (by decide) rfl dX0_isEnough_69 ?_
        refine aw_lload G0 3 rfl dX0_isEnough_71 ?_
        refine aw_lstore (lv' := [(14, aJ (x12 - x12 / x14 * x14)), (12, aJ x14), (10, aJ (x8 - x8 / x10 * x10)), (8, aJ x10), (19, aJ (x12 - x12 / x14 * x14)), (17, aJ (x8 - x8 / x10 * x10)), (16, aI x16)]) G0 (by decide) rfl dX0_isEnough_73 ?_
        refine aw_iload G0 6 rfl dX0_isEnough_75 ?_
        refine aw_if_ne G0 84 dX0_isEnough_77 (by decide) (fun c6 => ?_) (fun c6 => ?_)
        · have h := h.1 c6
          refine aw_iconst (v := (0 : Int32)) G0 dX0_isEnough_84 (by decide) ?_
          exact (aw_lv [3, 2, 1, 0] rfl (w85 x10 (x8 - x8 / x10 * x10) x14 (x12 - x12 / x14 * x14) (0 : Int32) C I J R h))
        · have h := h.2 c6
          refine aw_iconst (v := (1 : Int32)) G0 dX0_isEnough_80 (by decide) ?_
          refine aw_goto G0 85 dX0_isEnough_81 (by decide) ?_
          exact (aw_lv [3, 2, 1, 0] rfl (w85 x10 (x8 - x8 / x10 * x10) x14 (x12 - x12 / x14 * x14) (1 : Int32) C I J R h))
theorem bX0_isEnough_85 (G : Gb Γ yX0_isEnough cX0_isEnough 21 (some .boolean) [] rmX0_isEnough bdX0_isEnough)
    {Q17 : Int64 → Int64 → Int64 → Int64 → Int32 → MC → MI → MJ → MR → Prop} (w17 : ∀ (x8 : Int64) (x10 : Int64) (x12 : Int64) (x14 : Int64) (x16 : Int32) (C : MC) (I : MI) (J : MJ) (R : MR), Q17 x8 x10 x12 x14 x16 C I J R → AW Γ 0 0 C I J R 17 [(8, aJ x8), (10, aJ x10), (12, aJ x12), (14, aJ x14), (16, aI x16)] []) {x8 : Int64} {x10 : Int64} {x12 : Int64} {x14 : Int64} {s0 : Int32}
    (h : Q17 x8 x10 x12 x14 s0 C I J R) :
    AW Γ 0 0 C I J R 85 [(8, aJ x8), (10, aJ x10), (12, aJ x12), (14, aJ x14)] [aI s0] := by
  have G0 := G.1
  refine aw_istore (lv' := [(16, aI s0), (8, aJ x8), (10, aJ x10), (12, aJ x12), (14, aJ x14)]) G0 (by decide) rfl dX0_isEnough_85 ?_
  refine aw_goto G0 17 dX0_isEnough_87 (by decide) ?_
  exact (aw_lv [1, 2, 3, 4, 0] rfl (w17 x8 x10 x12 x14 s0 C I J R h))
theorem bX0_isEnough_90 (G : Gb Γ yX0_isEnough cX0_isEnough 21 (some .boolean) [] rmX0_isEnough bdX0_isEnough)
    {Q104 : Int64 → Int64 → Int32 → MC → MI → MJ → MR → Prop} (w104 : ∀ (x10 : Int64) (x14 : Int64) (x16 : Int32) (C : MC) (I : MI) (J : MJ) (R : MR), Q104 x10 x14 x16 C I J R → AW Γ 0 0 C I J R 104 [(10, aJ x10), (14, aJ x14), (16, aI x16)] []) {x8 : Int64} {x10 : Int64} {x12 : Int64} {x14 : Int64} {x16 : Int32}
    (h : ((x10 = (0 : Int64) →
      Q104 x10 x14 x16 C I J R) ∧
      (¬ x10 = (0 : Int64) →
      ((¬ x14 = (0 : Int64) →
      ((x16 = 0 →
      ¬ x10 = 0 ∧
      ¬ x14 = 0 ∧
      (((x8 / x10) ≤ (x12 / x14) →
      gK Γ (.inl (some (aI (0 : Int32)))) C I J R) ∧
      (¬ (x8 / x10) ≤ (x12 / x14) →
      gK Γ (.inl (some (aI (1 : Int32)))) C I J R))) ∧
      (¬ x16 = 0 →
      ¬ x10 = 0 ∧
      ¬ x14 = 0 ∧
      (((x12 / x14) ≤ (x8 / x10) →
      gK Γ (.inl (some (aI (0 : Int32)))) C I J R) ∧
      (¬ (x12 / x14) ≤ (x8 / x10) →
      gK Γ (.inl (some (aI (1 : Int32)))) C I J R))))) ∧
      (x14 = (0 : Int64) →
      Q104 x10 x14 x16 C I J R))))) :
    AW Γ 0 0 C I J R 90 [(8, aJ x8), (10, aJ x10), (12, aJ x12), (14, aJ x14), (16, aI x16)] [] := by
  have G0 := G.1
  refine aw_lload G0 1 rfl dX0_isEnough_90 ?_
  refine aw_lconst (v := (0 : Int64)) G0 dX0_isEnough_92 (by decide) ?_
  refine aw_lif_eq G0 104 dX0_isEnough_93 dX0_isEnough_94 (by decide) (fun c1 => ?_) (fun c1 => ?_)
  · have h := h.1 c1
    exact (aw_lv [1, 3, 4] rfl (w104 x10 x14 x16 C I J R h))
  · have h := h.2 c1
    refine aw_lload G0 3 rfl dX0_isEnough_97 ?_
    refine aw_lconst (v := (0 : Int64)) G0 dX0_isEnough_99 (by decide) ?_
    refine aw_lif_ne G0 146 dX0_isEnough_100 dX0_isEnough_101 (by decide) (fun c2 => ?_) (fun c2 => ?_)
    · have h := h.1 c2
      refine aw_iload G0 4 rfl dX0_isEnough_146 ?_
      refine aw_if_eq G0 173 dX0_isEnough_148 (by decide) (fun c3 => ?_) (fun c3 => ?_)
      · have h := h.1 c3
        refine aw_lload G0 0 rfl dX0_isEnough_173 ?_
        refine aw_lload G0 1 rfl dX0_isEnough_175 ?_
        obtain ⟨k4, h⟩ := h
        refine aw_ldiv G0 k4 dX0_isEnough_177 ?_
        refine aw_lload G0 2 rfl dX0_isEnough_178 ?_
        refine aw_lload G0 3 rfl dX0_isEnough_180 ?_
        obtain ⟨k5, h⟩ := h
        refine aw_ldiv G0 k5 dX0_isEnough_182 ?_
        refine aw_lif_le G0 191 dX0_isEnough_183 dX0_isEnough_184 (by decide) (fun c6 => ?_) (fun c6 => ?_)
        · have h := h.1 c6
          refine aw_iconst (v := (0 : Int32)) G0 dX0_isEnough_191 (by decide) ?_
          exact aw_ireturn G0 (Or.inr ⟨rfl, by decide⟩) (by rw [G.2.2]; decide) (by rw [G.2.1]; decide) dX0_isEnough_192 h
        · have h := h.2 c6
          refine aw_iconst (v := (1 : Int32)) G0 dX0_isEnough_187 (by decide) ?_
          refine aw_goto G0 192 dX0_isEnough_188 (by decide) ?_
          exact aw_ireturn G0 (Or.inr ⟨rfl, by decide⟩) (by rw [G.2.2]; decide) (by rw [G.2.1]; decide) dX0_isEnough_192 h
      · have h := h.2 c3
        refine aw_lload G0 0 rfl dX0_isEnough_151 ?_
        refine aw_lload G0 1 rfl dX0_isEnough_153 ?_
        obtain ⟨k7, h⟩ := h
        refine aw_ldiv G0 k7 dX0_isEnough_155 ?_
        refine aw_lload G0 2 rfl dX0_isEnough_156 ?_
        refine aw_lload G0 3 rfl dX0_isEnough_158 ?_
        obtain ⟨k8, h⟩ := h
        refine aw_ldiv G0 k8 dX0_isEnough_160 ?_
        refine aw_lif_ge G0 169 dX0_isEnough_161 dX0_isEnough_162 (by decide) (fun c9 => ?_) (fun c9 => ?_)
        · have h := h.1 c9
          refine aw_iconst (v := (0 : Int32)) G0 dX0_isEnough_169 (by decide) ?_
          refine aw_goto G0 192 dX0_isEnough_170 (by decide) ?_
          exact aw_ireturn G0 (Or.inr ⟨rfl, by decide⟩) (by rw [G.2.2]; decide) (by rw [G.2.1]; decide) dX0_isEnough_192 h
        · have h := h.2 c9
          refine aw_iconst (v := (1 : Int32)) G0 dX0_isEnough_165 (by decide) ?_
          refine aw_goto G0 192 dX0_isEnough_166 (by decide) ?_
          exact aw_ireturn G0 (Or.inr ⟨rfl, by decide⟩) (by rw [G.2.2]; decide) (by rw [G.2.1]; decide) dX0_isEnough_192 h
    · have h := h.2 c2
      exact (aw_lv [1, 3, 4] rfl (w104 x10 x14 x16 C I J R h))
theorem bX0_isEnough_104 (G : Gb Γ yX0_isEnough cX0_isEnough 21 (some .boolean) [] rmX0_isEnough bdX0_isEnough)
    {Q118 : Int64 → Int64 → Int32 → MC → MI → MJ → MR → Prop} (w118 : ∀ (x10 : Int64) (x14 : Int64) (x16 : Int32) (C : MC) (I : MI) (J : MJ) (R : MR), Q118 x10 x14 x16 C I J R → AW Γ 0 0 C I J R 118 [(10, aJ x10), (14, aJ x14), (16, aI x16)] []) {x10 : Int64} {x14 : Int64} {x16 : Int32}
    (h : ((¬ x10 = (0 : Int64) →
      Q118 x10 x14 x16 C I J R) ∧
      (x10 = (0 : Int64) →
      ((x14 = (0 : Int64) →
      gK Γ (.inl (some (aI (1 : Int32)))) C I J R) ∧
      (¬ x14 = (0 : Int64) →
      Q118 x10 x14 x16 C I J R))))) :
    AW Γ 0 0 C I J R 104 [(10, aJ x10), (14, aJ x14), (16, aI x16)] [] := by
  have G0 := G.1
  refine aw_lload G0 0 rfl dX0_isEnough_104 ?_
  refine aw_lconst (v := (0 : Int64)) G0 dX0_isEnough_106 (by decide) ?_
  refine aw_lif_ne G0 118 dX0_isEnough_107 dX0_isEnough_108 (by decide) (fun c1 => ?_) (fun c1 => ?_)
  · have h := h.1 c1
    exact (w118 x10 x14 x16 C I J R h)
  · have h := h.2 c1
    refine aw_lload G0 1 rfl dX0_isEnough_111 ?_
    refine aw_lconst (v := (0 : Int64)) G0 dX0_isEnough_113 (by decide) ?_
    refine aw_lif_eq G0 140 dX0_isEnough_114 dX0_isEnough_115 (by decide) (fun c2 => ?_) (fun c2 => ?_)
    · have h := h.1 c2
      refine aw_iconst (v := (1 : Int32)) G0 dX0_isEnough_140 (by decide) ?_
      refine aw_goto G0 145 dX0_isEnough_141 (by decide) ?_
      exact aw_ireturn G0 (Or.inr ⟨rfl, by decide⟩) (by rw [G.2.2]; decide) (by rw [G.2.1]; decide) dX0_isEnough_145 h
    · have h := h.2 c2
      exact (w118 x10 x14 x16 C I J R h)
theorem bX0_isEnough_118 (G : Gb Γ yX0_isEnough cX0_isEnough 21 (some .boolean) [] rmX0_isEnough bdX0_isEnough) {x10 : Int64} {x14 : Int64} {x16 : Int32}
    (h : ((x16 = 0 →
      ((¬ x10 = (0 : Int64) →
      gK Γ (.inl (some (aI (0 : Int32)))) C I J R) ∧
      (x10 = (0 : Int64) →
      gK Γ (.inl (some (aI (1 : Int32)))) C I J R))) ∧
      (¬ x16 = 0 →
      ((¬ x14 = (0 : Int64) →
      gK Γ (.inl (some (aI (0 : Int32)))) C I J R) ∧
      (x14 = (0 : Int64) →
      gK Γ (.inl (some (aI (1 : Int32)))) C I J R))))) :
    AW Γ 0 0 C I J R 118 [(10, aJ x10), (14, aJ x14), (16, aI x16)] [] := by
  have G0 := G.1
  refine aw_iload G0 2 rfl dX0_isEnough_118 ?_
  refine aw_if_eq G0 133 dX0_isEnough_120 (by decide) (fun c1 => ?_) (fun c1 => ?_)
  · have h := h.1 c1
    refine aw_lload G0 0 rfl dX0_isEnough_133 ?_
    refine aw_lconst (v := (0 : Int64)) G0 dX0_isEnough_135 (by decide) ?_
    refine aw_lif_ne G0 144 dX0_isEnough_136 dX0_isEnough_137 (by decide) (fun c2 => ?_) (fun c2 => ?_)
    · have h := h.1 c2
      refine aw_iconst (v := (0 : Int32)) G0 dX0_isEnough_144 (by decide) ?_
      exact aw_ireturn G0 (Or.inr ⟨rfl, by decide⟩) (by rw [G.2.2]; decide) (by rw [G.2.1]; decide) dX0_isEnough_145 h
    · have h := h.2 c2
      refine aw_iconst (v := (1 : Int32)) G0 dX0_isEnough_140 (by decide) ?_
      refine aw_goto G0 145 dX0_isEnough_141 (by decide) ?_
      exact aw_ireturn G0 (Or.inr ⟨rfl, by decide⟩) (by rw [G.2.2]; decide) (by rw [G.2.1]; decide) dX0_isEnough_145 h
  · have h := h.2 c1
    refine aw_lload G0 1 rfl dX0_isEnough_123 ?_
    refine aw_lconst (v := (0 : Int64)) G0 dX0_isEnough_125 (by decide) ?_
    refine aw_lif_ne G0 144 dX0_isEnough_126 dX0_isEnough_127 (by decide) (fun c3 => ?_) (fun c3 => ?_)
    · have h := h.1 c3
      refine aw_iconst (v := (0 : Int32)) G0 dX0_isEnough_144 (by decide) ?_
      exact aw_ireturn G0 (Or.inr ⟨rfl, by decide⟩) (by rw [G.2.2]; decide) (by rw [G.2.1]; decide) dX0_isEnough_145 h
    · have h := h.2 c3
      refine aw_goto G0 140 dX0_isEnough_130 (by decide) ?_
      refine aw_iconst (v := (1 : Int32)) G0 dX0_isEnough_140 (by decide) ?_
      refine aw_goto G0 145 dX0_isEnough_141 (by decide) ?_
      exact aw_ireturn G0 (Or.inr ⟨rfl, by decide⟩) (by rw [G.2.2]; decide) (by rw [G.2.1]; decide) dX0_isEnough_145 h
theorem bX0_bound_0 (G : Gb Γ yX0_bound cX0_bound 6 (some .int) [(5, 58, 59, 53), (5, 58, 66, 13)] rmX0_bound bdX0_bound) {F_X0_thing : SPF} (S_X0_thing : SpX0_thing (gL Γ) F_X0_thing)
    {Q26 : Nat → Int32 → Nat → Nat → MC → MI → MJ → MR → Prop} (w26 : ∀ (x0 : Nat) (x2 : Int32) (x3 : Nat) (s0 : Nat) (C : MC) (I : MI) (J : MJ) (R : MR), Q26 x0 x2 x3 s0 C I J R → AW Γ 0 0 C I J R 26 [(0, aR (some x0)), (2, aI x2), (3, aR (some x3))] [aR (some s0)])
    {Q27 : Nat → Int32 → Nat → Nat → Int32 → MC → MI → MJ → MR → Prop} (w27 : ∀ (x0 : Nat) (x2 : Int32) (x3 : Nat) (s0 : Nat) (s1 : Int32) (C : MC) (I : MI) (J : MJ) (R : MR), Q27 x0 x2 x3 s0 s1 C I J R → AW Γ 0 0 C I J R 27 [(0, aR (some x0)), (2, aI x2), (3, aR (some x3))] [aI s1, aR (some s0)])
    {Q59 : Nat → Nat → MC → MI → MJ → MR → Prop} (w59 : ∀ (x0 : Nat) (s0 : Nat) (C : MC) (I : MI) (J : MJ) (R : MR), Q59 x0 s0 C I J R → AW Γ 0 0 C I J R 59 [(0, aR (some x0))] [aR (some s0)]) {x0 : Nat} {x1 : Int32} {x2 : Int32}
    (h : (C x0).1 = 1 ∧
      ∀ I2 : MI, I2 = va_up I x0 (va_up (I x0) 5 (0 : Int32)) →
      F_X0_thing [aR (some x0), aI x1] C I2 J R (fun o C3 I4 J5 R6 =>
      (∃ r7 : Nat, o = .inl (some (aR (some r7))) ∧
      ((x2 < 0 →
      Q26 x0 x2 r7 x0 C3 I4 J5 R6) ∧
      (¬ x2 < 0 →
      (((120 : Int32) < x2 →
      Q26 x0 x2 r7 x0 C3 I4 J5 R6) ∧
      (¬ (120 : Int32) < x2 →
      Q27 x0 x2 r7 x0 (1 : Int32) C3 I4 J5 R6))))) ∨
      (∃ q10 : Nat, o = .inr q10 ∧
      ((C3 q10).1 = 2 ∧
      Q59 x0 q10 C3 I4 J5 R6)))) :
    AW Γ 0 0 C I J R 0 [(0, aR (some x0)), (1, aI x1), (2, aI x2)] [] := by
  have G0 := G.1
  refine aw_aload_n G0 0 rfl dX0_bound_0 ?_
  refine aw_iconst (v := (0 : Int32)) G0 dX0_bound_1 (by decide) ?_
  obtain ⟨k1, h⟩ := h
  refine aw_putI (f := 5) G0 (by rw [k1]; exact fp_X0_63 _) dX0_bound_2 ?_
  generalize gI2 : va_up I x0 (va_up (I x0) 5 (0 : Int32)) = I2
  have h := h I2 gI2.symm
  refine aw_aload_n G0 0 rfl dX0_bound_5 ?_
  refine aw_iload_n G0 1 rfl dX0_bound_6 ?_
  refine aw_callV (k1 := 0) (n1 := 0) (k2 := 0) (n2 := 0) (st := []) G0 S_X0_thing gi_X0_163 (Or.inl (by rw [k1]; decide)) (by rw [k1]; rfl) md_X0_thing (Nat.le_of_ble_eq_true rfl) (by decide) (by rw [G.2.1]; decide) (by rw [G.2.1]; decide) [aI x1] rfl rfl dX0_bound_7 h (fun o C3 I4 J5 R6 h => ?_)
  rcases h with ⟨r7, rfl, h⟩ | ⟨q10, rfl, h⟩
  · show AW Γ 0 0 C3 I4 J5 R6 (7 + 3) [(0, aR (some x0)), (1, aI x1), (2, aI x2)] [aR (some r7)]
    refine aw_astore_n (lv' := [(3, aR (some r7)), (0, aR (some x0)), (1, aI x1), (2, aI x2)]) G0 (by decide) rfl dX0_bound_10 ?_
    refine aw_aload_n G0 1 rfl dX0_bound_11 ?_
    refine aw_iload_n G0 3 rfl dX0_bound_12 ?_
    refine aw_if_lt G0 26 dX0_bound_13 (by decide) (fun c8 => ?_) (fun c8 => ?_)
    · have h := h.1 c8
      exact (aw_lv [1, 3, 0] rfl (w26 x0 x2 r7 x0 C3 I4 J5 R6 h))
    · have h := h.2 c8
      refine aw_iload_n G0 3 rfl dX0_bound_16 ?_
      refine aw_bipush (v := (120 : Int32)) G0 dX0_bound_17 (by decide) ?_
      refine aw_icmp_gt G0 26 dX0_bound_19 (by decide) (fun c9 => ?_) (fun c9 => ?_)
      · have h := h.1 c9
        exact (aw_lv [1, 3, 0] rfl (w26 x0 x2 r7 x0 C3 I4 J5 R6 h))
      · have h := h.2 c9
        refine aw_iconst (v := (1 : Int32)) G0 dX0_bound_22 (by decide) ?_
        refine aw_goto G0 27 dX0_bound_23 (by decide) ?_
        exact (aw_lv [1, 3, 0] rfl (w27 x0 x2 r7 x0 (1 : Int32) C3 I4 J5 R6 h))
  · show AX Γ 0 0 C3 I4 J5 R6 7 [(0, aR (some x0)), (1, aI x1), (2, aI x2)] q10
    obtain ⟨k11, h⟩ := h
    refine ax_catch G0 0 rfl (fun j hj _ _ _ _ _ => absurd hj (Nat.not_lt_zero j)) rfl (by decide) q84 (Or.inl k11) (by rw [k11]; exact q86) ?_
    exact (aw_lv [0] rfl (w59 x0 q10 C3 I4 J5 R6 h))
theorem bX0_bound_26 (G : Gb Γ yX0_bound cX0_bound 6 (some .int) [(5, 58, 59, 53), (5, 58, 66, 13)] rmX0_bound bdX0_bound)
    {Q27 : Nat → Int32 → Nat → Nat → Int32 → MC → MI → MJ → MR → Prop} (w27 : ∀ (x0 : Nat) (x2 : Int32) (x3 : Nat) (s0 : Nat) (s1 : Int32) (C : MC) (I : MI) (J : MJ) (R : MR), Q27 x0 x2 x3 s0 s1 C I J R → AW Γ 0 0 C I J R 27 [(0, aR (some x0)), (2, aI x2), (3, aR (some x3))] [aI s1, aR (some s0)]) {x0 : Nat} {x2 : Int32} {x3 : Nat} {s0 : Nat}
    (h : Q27 x0 x2 x3 s0 (0 : Int32) C I J R) :
    AW Γ 0 0 C I J R 26 [(0, aR (some x0)), (2, aI x2), (3, aR (some x3))] [aR (some s0)] := by
  have G0 := G.1
  refine aw_iconst (v := (0 : Int32)) G0 dX0_bound_26 (by decide) ?_
  exact (w27 x0 x2 x3 s0 (0 : Int32) C I J R h)
theorem bX0_bound_27 (G : Gb Γ yX0_bound cX0_bound 6 (some .int) [(5, 58, 59, 53), (5, 58, 66, 13)] rmX0_bound bdX0_bound) {F_X0_want : SPF} (S_X0_want : SpX0_want (gL Γ) F_X0_want) {F_Vtable : SPF} (S_Vtable : SpVtable (gL Γ) 20 F_Vtable) {F_Vbounds : SPF} (S_Vbounds : SpVbounds (gL Γ) 20 F_Vbounds) {F_X0_tells : SPF} (S_X0_tells : SpX0_tells (gL Γ) F_X0_tells)
    {Q59 : Nat → Nat → MC → MI → MJ → MR → Prop} (w59 : ∀ (x0 : Nat) (s0 : Nat) (C : MC) (I : MI) (J : MJ) (R : MR), Q59 x0 s0 C I J R → AW Γ 0 0 C I J R 59 [(0, aR (some x0))] [aR (some s0)])
    {Q66 : Nat → Nat → MC → MI → MJ → MR → Prop} (w66 : ∀ (x0 : Nat) (s0 : Nat) (C : MC) (I : MI) (J : MJ) (R : MR), Q66 x0 s0 C I J R → AW Γ 1 6 C I J R 66 [(0, aR (some x0))] [aR (some s0)]) {x0 : Nat} {x2 : Int32} {x3 : Nat} {s0 : Nat} {s1 : Int32}
    (h : (C s0).1 = 1 ∧
      F_X0_want [aR (some s0), aI s1, aI (1 : Int32)] C I J R (fun o C2 I3 J4 R5 =>
      (o = .inl none ∧
      kTh (C2 x3).1 ∧
      F_Vtable [aR (some x3)] C2 I3 J4 R5 (fun o C8 I9 J10 R11 =>
      (∃ r12 : Nat, o = .inl (some (aR (some r12))) ∧
      (C8 x0).1 = 1 ∧
      kTh (C8 x3).1 ∧
      F_Vbounds [aR (some x3), aR (R11 x0 1)] C8 I9 J10 R11 (fun o C15 I16 J17 R18 =>
      (∃ r19 : Int64, o = .inl (some (aJ r19)) ∧
      (C15 x0).1 = 1 ∧
      ∃ q21 : Nat, R18 x0 1 = some q21 ∧
      (C15 q21).1 = 21 ∧
      vp_in x2 (C15 q21).2 ∧
      F_X0_tells [aR (some x0), aJ (J17 q21 x2.toNatClampNeg), aJ r19] C15 I16 J17 R18 (fun o C24 I25 J26 R27 =>
      ∃ r28 : Int32, o = .inl (some (aI r28)) ∧
      gK Γ (.inl (some (aI r28))) C24 I25 J26 R27)) ∨
      (∃ q29 : Nat, o = .inr q29 ∧
      ((C15 q29).1 = 11 ∧
      Q66 x0 q29 C15 I16 J17 R18)))) ∨
      (∃ q31 : Nat, o = .inr q31 ∧
      ((C8 q31).1 = 11 ∧
      Q66 x0 q31 C8 I9 J10 R11)))) ∨
      (∃ q33 : Nat, o = .inr q33 ∧
      ((C2 q33).1 = 2 ∧
      Q59 x0 q33 C2 I3 J4 R5)))) :
    AW Γ 0 0 C I J R 27 [(0, aR (some x0)), (2, aI x2), (3, aR (some x3))] [aI s1, aR (some s0)] := by
  have G0 := G.1
  refine aw_iconst (v := (1 : Int32)) G0 dX0_bound_27 (by decide) ?_
  obtain ⟨k1, h⟩ := h
  refine aw_callV (k1 := 0) (n1 := 0) (k2 := 0) (n2 := 0) (st := []) G0 S_X0_want gi_X0_87 (Or.inl (by rw [k1]; decide)) (by rw [k1]; rfl) md_X0_want (Nat.le_of_ble_eq_true rfl) (by decide) (by rw [G.2.1]; decide) (by rw [G.2.1]; decide) [aI s1, aI (1 : Int32)] rfl rfl dX0_bound_28 h (fun o C2 I3 J4 R5 h => ?_)
  rcases h with ⟨rfl, h⟩ | ⟨q33, rfl, h⟩
  · show AW Γ 0 0 C2 I3 J4 R5 (28 + 3) [(0, aR (some x0)), (2, aI x2), (3, aR (some x3))] []
    refine aw_aload_n G0 2 rfl dX0_bound_31 ?_
    obtain ⟨k7, h⟩ := h
    refine vc_X0_216 (k1 := 0) (n1 := 0) (k2 := 1) (n2 := 6) (st := []) G0 S_Vtable k7 (Nat.le_of_ble_eq_true rfl) (by decide) (by rw [G.2.1]; decide) (by rw [G.2.1]; decide) [] rfl rfl dX0_bound_32 h (fun o C8 I9 J10 R11 h => ?_)
    rcases h with ⟨r12, rfl, h⟩ | ⟨q31, rfl, h⟩
    · show AW Γ 0 0 C8 I9 J10 R11 (32 + 3) [(0, aR (some x0)), (2, aI x2), (3, aR (some x3))] [aR (some r12)]
      refine aw_popR G0 dX0_bound_35 ?_
      refine aw_aload_n G0 2 rfl dX0_bound_36 ?_
      refine aw_aload_n G0 0 rfl dX0_bound_37 ?_
      obtain ⟨k13, h⟩ := h
      refine aw_getR (f := 1) G0 (by rw [k13]; exact fb_X0_44) dX0_bound_38 ?_
      obtain ⟨k14, h⟩ := h
      refine vc_X0_245 (k1 := 0) (n1 := 0) (k2 := 1) (n2 := 6) (st := []) G0 S_Vbounds k14 (Nat.le_of_ble_eq_true rfl) (by decide) (by rw [G.2.1]; decide) (by rw [G.2.1]; decide) [aR (R11 x0 1)] rfl rfl dX0_bound_41 h (fun o C15 I16 J17 R18 h => ?_)
      rcases h with ⟨r19, rfl, h⟩ | ⟨q29, rfl, h⟩
      · show AW Γ 0 0 C15 I16 J17 R18 (41 + 3) [(0, aR (some x0)), (2, aI x2), (3, aR (some x3))] [aJ r19]
        refine aw_lstore (lv' := [(4, aJ r19), (0, aR (some x0)), (2, aI x2), (3, aR (some x3))]) G0 (by decide) rfl dX0_bound_44 ?_
        refine aw_aload_n G0 1 rfl dX0_bound_46 ?_
        refine aw_aload_n G0 1 rfl dX0_bound_47 ?_
        obtain ⟨k20, h⟩ := h
        refine aw_getR (f := 1) G0 (by rw [k20]; exact fb_X0_44) dX0_bound_48 ?_
        refine aw_iload_n G0 2 rfl dX0_bound_51 ?_
        obtain ⟨q21, e21, h⟩ := h
        refine aw_dr1 e21 ?_
        obtain ⟨k22, h⟩ := h
        obtain ⟨k23, h⟩ := h
        refine aw_lald G0 k22 k23 dX0_bound_52 ?_
        refine aw_lload G0 0 rfl dX0_bound_53 ?_
        refine aw_callV (k1 := 0) (n1 := 0) (k2 := 0) (n2 := 0) (st := []) G0 S_X0_tells gi_X0_228 (Or.inl (by rw [k20]; decide)) (by rw [k20]; rfl) md_X0_tells (Nat.le_of_ble_eq_true rfl) (by decide) (by rw [G.2.1]; decide) (by rw [G.2.1]; decide) [aJ (J17 q21 x2.toNatClampNeg), aJ r19] rfl rfl dX0_bound_55 h (fun o C24 I25 J26 R27 h => ?_)
        obtain ⟨r28, rfl, h⟩ := h
        show AW Γ 0 0 C24 I25 J26 R27 (55 + 3) [(4, aJ r19), (0, aR (some x0)), (2, aI x2), (3, aR (some x3))] [aI r28]
        exact aw_ireturn G0 (Or.inl rfl) (by rw [G.2.2]; decide) (by rw [G.2.1]; decide) dX0_bound_58 h
      · show AX Γ 1 6 C15 I16 J17 R18 41 [(0, aR (some x0)), (2, aI x2), (3, aR (some x3))] q29
        obtain ⟨k30, h⟩ := h
        refine ax_catch G0 1 rfl (fun j hj a9 b9 h9 t9 ee => by
            match j, hj, ee with
            | 0, _, ee => cases ee; exact Or.inr ⟨by decide, _, q84, by rw [k30]; decide⟩
            | j + 1, hj, _ => exact absurd hj (by omega)) rfl (by decide) q593 (Or.inr (Or.inl k30)) (by rw [k30]; exact q662) ?_
        exact (aw_lv [0] rfl (w66 x0 q29 C15 I16 J17 R18 h))
    · show AX Γ 1 6 C8 I9 J10 R11 32 [(0, aR (some x0)), (2, aI x2), (3, aR (some x3))] q31
      obtain ⟨k32, h⟩ := h
      refine ax_catch G0 1 rfl (fun j hj a9 b9 h9 t9 ee => by
          match j, hj, ee with
          | 0, _, ee => cases ee; exact Or.inr ⟨by decide, _, q84, by rw [k32]; decide⟩
          | j + 1, hj, _ => exact absurd hj (by omega)) rfl (by decide) q593 (Or.inr (Or.inl k32)) (by rw [k32]; exact q662) ?_
      exact (aw_lv [0] rfl (w66 x0 q31 C8 I9 J10 R11 h))
  · show AX Γ 0 0 C2 I3 J4 R5 28 [(0, aR (some x0)), (2, aI x2), (3, aR (some x3))] q33
    obtain ⟨k34, h⟩ := h
    refine ax_catch G0 0 rfl (fun j hj _ _ _ _ _ => absurd hj (Nat.not_lt_zero j)) rfl (by decide) q84 (Or.inl k34) (by rw [k34]; exact q86) ?_
    exact (aw_lv [0] rfl (w59 x0 q33 C2 I3 J4 R5 h))
theorem bX0_bound_59 (G : Gb Γ yX0_bound cX0_bound 6 (some .int) [(5, 58, 59, 53), (5, 58, 66, 13)] rmX0_bound bdX0_bound) {F_X0_none : SPF} (S_X0_none : SpX0_none (gL Γ) F_X0_none) {x0 : Nat} {s0 : Nat}
    (h : (C x0).1 = 1 ∧
      F_X0_none [aR (some x0), aR (some s0)] C I J R (fun o C2 I3 J4 R5 =>
      ∃ r6 : Int32, o = .inl (some (aI r6)) ∧
      gK Γ (.inl (some (aI r6))) C2 I3 J4 R5)) :
    AW Γ 0 0 C I J R 59 [(0, aR (some x0))] [aR (some s0)] := by
  have G0 := G.1
  refine aw_astore_n (lv' := [(3, aR (some s0)), (0, aR (some x0))]) G0 (by decide) rfl dX0_bound_59 ?_
  refine aw_aload_n G0 1 rfl dX0_bound_60 ?_
  refine aw_aload_n G0 0 rfl dX0_bound_61 ?_
  obtain ⟨k1, h⟩ := h
  refine aw_callV (k1 := 0) (n1 := 0) (k2 := 0) (n2 := 0) (st := []) G0 S_X0_none gi_X0_117 (Or.inl (by rw [k1]; decide)) (by rw [k1]; rfl) md_X0_none (Nat.le_of_ble_eq_true rfl) (by decide) (by rw [G.2.1]; decide) (by rw [G.2.1]; decide) [aR (some s0)] rfl rfl dX0_bound_62 h (fun o C2 I3 J4 R5 h => ?_)
  obtain ⟨r6, rfl, h⟩ := h
  show AW Γ 0 0 C2 I3 J4 R5 (62 + 3) [(3, aR (some s0)), (0, aR (some x0))] [aI r6]
  exact aw_ireturn G0 (Or.inl rfl) (by rw [G.2.2]; decide) (by rw [G.2.1]; decide) dX0_bound_65 h
theorem bX0_bound_66 (G : Gb Γ yX0_bound cX0_bound 6 (some .int) [(5, 58, 59, 53), (5, 58, 66, 13)] rmX0_bound bdX0_bound) {F_X0_great : SPF} (S_X0_great : SpX0_great (gL Γ) F_X0_great) {x0 : Nat} {s0 : Nat}
    (h : (C x0).1 = 1 ∧
      F_X0_great [aR (some x0)] C I J R (fun o C2 I3 J4 R5 =>
      ∃ r6 : Int32, o = .inl (some (aI r6)) ∧
      gK Γ (.inl (some (aI r6))) C2 I3 J4 R5)) :
    AW Γ 1 6 C I J R 66 [(0, aR (some x0))] [aR (some s0)] := by
  have G0 := G.1
  refine aw_astore_n (lv' := [(3, aR (some s0)), (0, aR (some x0))]) G0 (by decide) rfl dX0_bound_66 ?_
  refine aw_aload_n G0 1 rfl dX0_bound_67 ?_
  obtain ⟨k1, h⟩ := h
  refine aw_callV (k1 := 1) (n1 := 6) (k2 := 1) (n2 := 6) (st := []) G0 S_X0_great gi_X0_222 (Or.inl (by rw [k1]; decide)) (by rw [k1]; rfl) md_X0_great (Nat.le_of_ble_eq_true rfl) (by decide) (by rw [G.2.1]; decide) (by rw [G.2.1]; decide) [] rfl rfl dX0_bound_68 h (fun o C2 I3 J4 R5 h => ?_)
  obtain ⟨r6, rfl, h⟩ := h
  show AW Γ 1 6 C2 I3 J4 R5 (68 + 3) [(3, aR (some s0)), (0, aR (some x0))] [aI r6]
  exact aw_ireturn G0 (Or.inl rfl) (by rw [G.2.2]; decide) (by rw [G.2.1]; decide) dX0_bound_71 h
theorem bX0_asks_0 (G : Gb Γ yX0_asks cX0_asks 7 (some .int) [(5, 64, 65, 53)] rmX0_asks bdX0_asks) {F_X0_thing : SPF} (S_X0_thing : SpX0_thing (gL Γ) F_X0_thing) {F_X0_leafOf : SPF} (S_X0_leafOf : SpX0_leafOf (gL Γ) F_X0_leafOf) {F_X0_isIn : SPF} (S_X0_isIn : SpX0_isIn (gL Γ) F_X0_isIn) {F_X0_want : SPF} (S_X0_want : SpX0_want (gL Γ) F_X0_want)
    {Q36 : Nat → Int32 → Option Nat → MC → MI → MJ → MR → Prop} (w36 : ∀ (x3 : Nat) (x5 : Int32) (x6 : Option Nat) (C : MC) (I : MI) (J : MJ) (R : MR), Q36 x3 x5 x6 C I J R → AW Γ 0 0 C I J R 36 [(3, aR (some x3)), (5, aI x5), (6, aR x6)] [])
    {Q65 : Nat → Nat → MC → MI → MJ → MR → Prop} (w65 : ∀ (x0 : Nat) (s0 : Nat) (C : MC) (I : MI) (J : MJ) (R : MR), Q65 x0 s0 C I J R → AW Γ 0 0 C I J R 65 [(0, aR (some x0))] [aR (some s0)]) {x0 : Nat} {x1 : Int32} {x2 : Int32}
    (h : (C x0).1 = 1 ∧
      ∀ I2 : MI, I2 = va_up I x0 (va_up (I x0) 5 (0 : Int32)) →
      F_X0_thing [aR (some x0), aI x1] C I2 J R (fun o C3 I4 J5 R6 =>
      (∃ r7 : Nat, o = .inl (some (aR (some r7))) ∧
      (C3 x0).1 = 1 ∧
      F_X0_leafOf [aR (some x0), aI x2] C3 I4 J5 R6 (fun o C9 I10 J11 R12 =>
      (∃ r13 : Nat, o = .inl (some (aR (some r13))) ∧
      F_X0_isIn [aR (some r13), aR (some r7)] C9 I10 J11 R12 (fun o C14 I15 J16 R17 =>
      ∃ r18 : Int32, o = .inl (some (aI r18)) ∧
      (C14 x0).1 = 1 ∧
      F_X0_want [aR (some x0), aI r18, aI (1 : Int32)] C14 I15 J16 R17 (fun o C20 I21 J22 R23 =>
      (o = .inl none ∧
      Q36 r7 (1 : Int32) (some r13) C20 I21 J22 R23) ∨
      (∃ q25 : Nat, o = .inr q25 ∧
      ((C20 q25).1 = 2 ∧
      Q65 x0 q25 C20 I21 J22 R23))))) ∨
      (∃ q27 : Nat, o = .inr q27 ∧
      ((C9 q27).1 = 2 ∧
      Q65 x0 q27 C9 I10 J11 R12)))) ∨
      (∃ q29 : Nat, o = .inr q29 ∧
      ((C3 q29).1 = 2 ∧
      Q65 x0 q29 C3 I4 J5 R6)))) :
    AW Γ 0 0 C I J R 0 [(0, aR (some x0)), (1, aI x1), (2, aI x2)] [] := by
  have G0 := G.1
  refine aw_aload_n G0 0 rfl dX0_asks_0 ?_
  refine aw_iconst (v := (0 : Int32)) G0 dX0_asks_1 (by decide) ?_
  obtain ⟨k1, h⟩ := h
  refine aw_putI (f := 5) G0 (by rw [k1]; exact fp_X0_63 _) dX0_asks_2 ?_
  generalize gI2 : va_up I x0 (va_up (I x0) 5 (0 : Int32)) = I2
  have h := h I2 gI2.symm
  refine aw_aload_n G0 0 rfl dX0_asks_5 ?_
  refine aw_iload_n G0 1 rfl dX0_asks_6 ?_
  refine aw_callV (k1 := 0) (n1 := 0) (k2 := 0) (n2 := 0) (st := []) G0 S_X0_thing gi_X0_163 (Or.inl (by rw [k1]; decide)) (by rw [k1]; rfl) md_X0_thing (Nat.le_of_ble_eq_true rfl) (by decide) (by rw [G.2.1]; decide) (by rw [G.2.1]; decide) [aI x1] rfl rfl dX0_asks_7 h (fun o C3 I4 J5 R6 h => ?_)
  rcases h with ⟨r7, rfl, h⟩ | ⟨q29, rfl, h⟩
  · show AW Γ 0 0 C3 I4 J5 R6 (7 + 3) [(0, aR (some x0)), (1, aI x1), (2, aI x2)] [aR (some r7)]
    refine aw_astore_n (lv' := [(3, aR (some r7)), (0, aR (some x0)), (1, aI x1), (2, aI x2)]) G0 (by decide) rfl dX0_asks_10 ?_
    refine aw_aload_n G0 1 rfl dX0_asks_11 ?_
    refine aw_iload_n G0 3 rfl dX0_asks_12 ?_
    obtain ⟨k8, h⟩ := h
    refine aw_callV (k1 := 0) (n1 := 0) (k2 := 0) (n2 := 0) (st := []) G0 S_X0_leafOf gi_X0_249 (Or.inl (by rw [k8]; decide)) (by rw [k8]; rfl) md_X0_leafOf (Nat.le_of_ble_eq_true rfl) (by decide) (by rw [G.2.1]; decide) (by rw [G.2.1]; decide) [aI x2] rfl rfl dX0_asks_13 h (fun o C9 I10 J11 R12 h => ?_)
    rcases h with ⟨r13, rfl, h⟩ | ⟨q27, rfl, h⟩
    · show AW Γ 0 0 C9 I10 J11 R12 (13 + 3) [(3, aR (some r7)), (0, aR (some x0)), (1, aI x1), (2, aI x2)] [aR (some r13)]
      refine aw_astore (lv' := [(4, aR (some r13)), (3, aR (some r7)), (0, aR (some x0)), (1, aI x1), (2, aI x2)]) G0 (by decide) rfl dX0_asks_16 ?_
      refine aw_aload_n G0 2 rfl dX0_asks_18 ?_
      refine aw_aload G0 0 rfl dX0_asks_19 ?_
      refine aw_aload_n G0 1 rfl dX0_asks_21 ?_
      refine aw_callS (k1 := 0) (n1 := 0) (k2 := 0) (n2 := 0) (st := [aR (some x0)]) G0 S_X0_isIn gi_X0_253 md_X0_isIn (Nat.le_of_ble_eq_true rfl) (by decide) (by rw [G.2.1]; decide) (by rw [G.2.1]; decide) [aR (some r13), aR (some r7)] rfl rfl dX0_asks_22 h (fun o C14 I15 J16 R17 h => ?_)
      obtain ⟨r18, rfl, h⟩ := h
      show AW Γ 0 0 C14 I15 J16 R17 (22 + 3) [(4, aR (some r13)), (3, aR (some r7)), (0, aR (some x0)), (1, aI x1), (2, aI x2)] [aI r18, aR (some x0)]
      refine aw_iconst (v := (1 : Int32)) G0 dX0_asks_25 (by decide) ?_
      obtain ⟨k19, h⟩ := h
      refine aw_callV (k1 := 0) (n1 := 0) (k2 := 0) (n2 := 0) (st := []) G0 S_X0_want gi_X0_87 (Or.inl (by rw [k19]; decide)) (by rw [k19]; rfl) md_X0_want (Nat.le_of_ble_eq_true rfl) (by decide) (by rw [G.2.1]; decide) (by rw [G.2.1]; decide) [aI r18, aI (1 : Int32)] rfl rfl dX0_asks_26 h (fun o C20 I21 J22 R23 h => ?_)
      rcases h with ⟨rfl, h⟩ | ⟨q25, rfl, h⟩
      · show AW Γ 0 0 C20 I21 J22 R23 (26 + 3) [(4, aR (some r13)), (3, aR (some r7)), (0, aR (some x0)), (1, aI x1), (2, aI x2)] []
        refine aw_iconst (v := (1 : Int32)) G0 dX0_asks_29 (by decide) ?_
        refine aw_istore (lv' := [(5, aI (1 : Int32)), (4, aR (some r13)), (3, aR (some r7)), (0, aR (some x0)), (1, aI x1), (2, aI x2)]) G0 (by decide) rfl dX0_asks_30 ?_
        refine aw_aload G0 1 rfl dX0_asks_32 ?_
        refine aw_astore (lv' := [(6, aR (some r13)), (5, aI (1 : Int32)), (4, aR (some r13)), (3, aR (some r7)), (0, aR (some x0)), (1, aI x1), (2, aI x2)]) G0 (by decide) rfl dX0_asks_34 ?_
        exact (aw_lv [3, 1, 0] rfl (w36 r7 (1 : Int32) (some r13) C20 I21 J22 R23 h))
      · show AX Γ 0 0 C20 I21 J22 R23 26 [(4, aR (some r13)), (3, aR (some r7)), (0, aR (some x0)), (1, aI x1), (2, aI x2)] q25
        obtain ⟨k26, h⟩ := h
        refine ax_catch G0 0 rfl (fun j hj _ _ _ _ _ => absurd hj (Nat.not_lt_zero j)) rfl (by decide) q84 (Or.inl k26) (by rw [k26]; exact q86) ?_
        exact (aw_lv [2] rfl (w65 x0 q25 C20 I21 J22 R23 h))
    · show AX Γ 0 0 C9 I10 J11 R12 13 [(3, aR (some r7)), (0, aR (some x0)), (1, aI x1), (2, aI x2)] q27
      obtain ⟨k28, h⟩ := h
      refine ax_catch G0 0 rfl (fun j hj _ _ _ _ _ => absurd hj (Nat.not_lt_zero j)) rfl (by decide) q84 (Or.inl k28) (by rw [k28]; exact q86) ?_
      exact (aw_lv [1] rfl (w65 x0 q27 C9 I10 J11 R12 h))
  · show AX Γ 0 0 C3 I4 J5 R6 7 [(0, aR (some x0)), (1, aI x1), (2, aI x2)] q29
    obtain ⟨k30, h⟩ := h
    refine ax_catch G0 0 rfl (fun j hj _ _ _ _ _ => absurd hj (Nat.not_lt_zero j)) rfl (by decide) q84 (Or.inl k30) (by rw [k30]; exact q86) ?_
    exact (aw_lv [0] rfl (w65 x0 q29 C3 I4 J5 R6 h))
theorem bX0_asks_36 (G : Gb Γ yX0_asks cX0_asks 7 (some .int) [(5, 64, 65, 53)] rmX0_asks bdX0_asks) {F_Vasks : SPF} (S_Vasks : SpVasks (gL Γ) F_Vasks)
    {Q36 : Nat → Int32 → Option Nat → MC → MI → MJ → MR → Prop} (w36 : ∀ (x3 : Nat) (x5 : Int32) (x6 : Option Nat) (C : MC) (I : MI) (J : MJ) (R : MR), Q36 x3 x5 x6 C I J R → AW Γ 0 0 C I J R 36 [(3, aR (some x3)), (5, aI x5), (6, aR x6)] []) {x3 : Nat} {x5 : Int32} {x6 : Option Nat}
    (h : ((x6 = some x3 →
      gK Γ (.inl (some (aI x5))) C I J R) ∧
      (¬ x6 = some x3 →
      ∃ q2 : Nat, x6 = some q2 ∧
      kTh (C q2).1 ∧
      ∃ q4 : Nat, R q2 3 = some q4 ∧
      kTh (C q4).1 ∧
      F_Vasks [aR (some q4)] C I J R (fun o C6 I7 J8 R9 =>
      ∃ r10 : Int32, o = .inl (some (aI r10)) ∧
      Q36 x3 (x5 * r10) (R q2 3) C6 I7 J8 R9)))) :
    AW Γ 0 0 C I J R 36 [(3, aR (some x3)), (5, aI x5), (6, aR x6)] [] := by
  have G0 := G.1
  refine aw_aload G0 2 rfl dX0_asks_36 ?_
  refine aw_aload_n G0 0 rfl dX0_asks_38 ?_
  refine aw_acmp_eq G0 62 dX0_asks_39 (by decide) (fun c1 => ?_) (fun c1 => ?_)
  · have h := h.1 c1
    refine aw_iload G0 1 rfl dX0_asks_62 ?_
    exact aw_ireturn G0 (Or.inl rfl) (by rw [G.2.2]; decide) (by rw [G.2.1]; decide) dX0_asks_64 h
  · have h := h.2 c1
    refine aw_aload G0 2 rfl dX0_asks_42 ?_
    obtain ⟨q2, e2, h⟩ := h
    refine aw_dr0 e2 ?_
    obtain ⟨k3, h⟩ := h
    refine aw_getR (f := 3) G0 (fb_X0_167 _ k3) dX0_asks_44 ?_
    refine aw_astore (lv' := [(6, aR (R q2 3)), (3, aR (some x3)), (5, aI x5)]) G0 (by decide) rfl dX0_asks_47 ?_
    refine aw_iload G0 2 rfl dX0_asks_49 ?_
    refine aw_aload G0 0 rfl dX0_asks_51 ?_
    obtain ⟨q4, e4, h⟩ := h
    refine aw_dr0 e4 ?_
    obtain ⟨k5, h⟩ := h
    refine vc_X0_257 (k1 := 0) (n1 := 0) (k2 := 0) (n2 := 0) (st := [aI x5]) G0 S_Vasks k5 (Nat.le_of_ble_eq_true rfl) (by decide) (by rw [G.2.1]; decide) (by rw [G.2.1]; decide) [] rfl rfl dX0_asks_53 h (fun o C6 I7 J8 R9 h => ?_)
    obtain ⟨r10, rfl, h⟩ := h
    show AW Γ 0 0 C6 I7 J8 R9 (53 + 3) [(6, aR (R q2 3)), (3, aR (some x3)), (5, aI x5)] [aI r10, aI x5]
    refine aw_imul G0 dX0_asks_56 ?_
    refine aw_istore (lv' := [(5, aI (x5 * r10)), (6, aR (R q2 3)), (3, aR (some x3))]) G0 (by decide) rfl dX0_asks_57 ?_
    refine aw_goto G0 36 dX0_asks_59 (by decide) ?_
    exact (aw_lv [2, 0, 1] rfl (w36 x3 (x5 * r10) (R q2 3) C6 I7 J8 R9 h))
theorem bX0_asks_65 (G : Gb Γ yX0_asks cX0_asks 7 (some .int) [(5, 64, 65, 53)] rmX0_asks bdX0_asks) {F_X0_none : SPF} (S_X0_none : SpX0_none (gL Γ) F_X0_none) {x0 : Nat} {s0 : Nat}
    (h : (C x0).1 = 1 ∧
      F_X0_none [aR (some x0), aR (some s0)] C I J R (fun o C2 I3 J4 R5 =>
      ∃ r6 : Int32, o = .inl (some (aI r6)) ∧
      gK Γ (.inl (some (aI r6))) C2 I3 J4 R5)) :
    AW Γ 0 0 C I J R 65 [(0, aR (some x0))] [aR (some s0)] := by
  have G0 := G.1
  refine aw_astore_n (lv' := [(3, aR (some s0)), (0, aR (some x0))]) G0 (by decide) rfl dX0_asks_65 ?_
  refine aw_aload_n G0 1 rfl dX0_asks_66 ?_
  refine aw_aload_n G0 0 rfl dX0_asks_67 ?_
  obtain ⟨k1, h⟩ := h
  refine aw_callV (k1 := 0) (n1 := 0) (k2 := 0) (n2 := 0) (st := []) G0 S_X0_none gi_X0_117 (Or.inl (by rw [k1]; decide)) (by rw [k1]; rfl) md_X0_none (Nat.le_of_ble_eq_true rfl) (by decide) (by rw [G.2.1]; decide) (by rw [G.2.1]; decide) [aR (some s0)] rfl rfl dX0_asks_68 h (fun o C2 I3 J4 R5 h => ?_)
  obtain ⟨r6, rfl, h⟩ := h
  show AW Γ 0 0 C2 I3 J4 R5 (68 + 3) [(3, aR (some s0)), (0, aR (some x0))] [aI r6]
  exact aw_ireturn G0 (Or.inl rfl) (by rw [G.2.2]; decide) (by rw [G.2.1]; decide) dX0_asks_71 h
theorem bX0_leafOf_0 (G : Gb Γ yX0_leafOf cX0_leafOf 2 (some (.object "TickShare$Leaf")) [] rmX0_leafOf bdX0_leafOf)
    {Q29 : Nat → Int32 → Nat → MC → MI → MJ → MR → Prop} (w29 : ∀ (x0 : Nat) (x1 : Int32) (s0 : Nat) (C : MC) (I : MI) (J : MJ) (R : MR), Q29 x0 x1 s0 C I J R → AW Γ 0 0 C I J R 29 [(0, aR (some x0)), (1, aI x1)] [aR (some s0)])
    {Q30 : Nat → Int32 → Nat → Int32 → MC → MI → MJ → MR → Prop} (w30 : ∀ (x0 : Nat) (x1 : Int32) (s0 : Nat) (s1 : Int32) (C : MC) (I : MI) (J : MJ) (R : MR), Q30 x0 x1 s0 s1 C I J R → AW Γ 0 0 C I J R 30 [(0, aR (some x0)), (1, aI x1)] [aI s1, aR (some s0)]) {x0 : Nat} {x1 : Int32}
    (h : ((x1 < 0 →
      Q29 x0 x1 x0 C I J R) ∧
      (¬ x1 < 0 →
      (C x0).1 = 1 ∧
      (((I x0 3) ≤ x1 →
      Q29 x0 x1 x0 C I J R) ∧
      (¬ (I x0 3) ≤ x1 →
      ∃ q4 : Nat, R x0 2 = some q4 ∧
      (25 ≤ (C q4).1 ∧ (C q4).1 < 30) ∧
      vp_in x1 (C q4).2 ∧
      ∃ q7 : Nat, R q4 x1.toNatClampNeg = some q7 ∧
      kTh (C q7).1 ∧
      (((C q7).1 = 5 →
      Q30 x0 x1 x0 (1 : Int32) C I J R) ∧
      (¬ (C q7).1 = 5 →
      Q29 x0 x1 x0 C I J R))))))) :
    AW Γ 0 0 C I J R 0 [(0, aR (some x0)), (1, aI x1)] [] := by
  have G0 := G.1
  refine aw_aload_n G0 0 rfl dX0_leafOf_0 ?_
  refine aw_iload_n G0 1 rfl dX0_leafOf_1 ?_
  refine aw_if_lt G0 29 dX0_leafOf_2 (by decide) (fun c1 => ?_) (fun c1 => ?_)
  · have h := h.1 c1
    exact (w29 x0 x1 x0 C I J R h)
  · have h := h.2 c1
    refine aw_iload_n G0 1 rfl dX0_leafOf_5 ?_
    refine aw_aload_n G0 0 rfl dX0_leafOf_6 ?_
    obtain ⟨k2, h⟩ := h
    refine aw_getI (f := 3) G0 (by rw [k2]; exact fb_X0_133) dX0_leafOf_7 ?_
    refine aw_icmp_ge G0 29 dX0_leafOf_10 (by decide) (fun c3 => ?_) (fun c3 => ?_)
    · have h := h.1 c3
      exact (w29 x0 x1 x0 C I J R h)
    · have h := h.2 c3
      refine aw_aload_n G0 0 rfl dX0_leafOf_13 ?_
      refine aw_getR (f := 2) G0 (by rw [k2]; exact fb_X0_49) dX0_leafOf_14 ?_
      refine aw_iload_n G0 1 rfl dX0_leafOf_17 ?_
      obtain ⟨q4, e4, h⟩ := h
      refine aw_dr1 e4 ?_
      obtain ⟨k5, h⟩ := h
      obtain ⟨k6, h⟩ := h
      refine aw_aald G0 k5 k6 dX0_leafOf_18 ?_
      obtain ⟨q7, e7, h⟩ := h
      refine aw_dr0 e7 ?_
      obtain ⟨k8, h⟩ := h
      by_cases c9 : (C q7).1 = 5
      · have h := h.1 c9
        refine aw_inst1 G0 q355 (ki_thr k8) (by rw [c9]; rfl) dX0_leafOf_19 ?_
        refine aw_if_eq G0 29 dX0_leafOf_22 (by decide) (fun z => absurd z (by decide)) (fun _ => ?_)
        refine aw_iconst (v := (1 : Int32)) G0 dX0_leafOf_25 (by decide) ?_
        refine aw_goto G0 30 dX0_leafOf_26 (by decide) ?_
        exact (w30 x0 x1 x0 (1 : Int32) C I J R h)
      · have h := h.2 c9
        refine aw_inst0 G0 q355 (ki_thr k8) (ki_thn k8 c9) dX0_leafOf_19 ?_
        refine aw_if_eq G0 29 dX0_leafOf_22 (by decide) (fun _ => ?_) (fun z => absurd z (by decide))
        exact (w29 x0 x1 x0 C I J R h)
theorem bX0_leafOf_29 (G : Gb Γ yX0_leafOf cX0_leafOf 2 (some (.object "TickShare$Leaf")) [] rmX0_leafOf bdX0_leafOf)
    {Q30 : Nat → Int32 → Nat → Int32 → MC → MI → MJ → MR → Prop} (w30 : ∀ (x0 : Nat) (x1 : Int32) (s0 : Nat) (s1 : Int32) (C : MC) (I : MI) (J : MJ) (R : MR), Q30 x0 x1 s0 s1 C I J R → AW Γ 0 0 C I J R 30 [(0, aR (some x0)), (1, aI x1)] [aI s1, aR (some s0)]) {x0 : Nat} {x1 : Int32} {s0 : Nat}
    (h : Q30 x0 x1 s0 (0 : Int32) C I J R) :
    AW Γ 0 0 C I J R 29 [(0, aR (some x0)), (1, aI x1)] [aR (some s0)] := by
  have G0 := G.1
  refine aw_iconst (v := (0 : Int32)) G0 dX0_leafOf_29 (by decide) ?_
  exact (w30 x0 x1 s0 (0 : Int32) C I J R h)
theorem bX0_leafOf_30 (G : Gb Γ yX0_leafOf cX0_leafOf 2 (some (.object "TickShare$Leaf")) [] rmX0_leafOf bdX0_leafOf) {F_X0_want : SPF} (S_X0_want : SpX0_want (gL Γ) F_X0_want) {x0 : Nat} {x1 : Int32} {s0 : Nat} {s1 : Int32}
    (h : (C s0).1 = 1 ∧
      F_X0_want [aR (some s0), aI s1, aI (1 : Int32)] C I J R (fun o C2 I3 J4 R5 =>
      (o = .inl none ∧
      (C2 x0).1 = 1 ∧
      ∃ q8 : Nat, R5 x0 2 = some q8 ∧
      (25 ≤ (C2 q8).1 ∧ (C2 q8).1 < 30) ∧
      vp_in x1 (C2 q8).2 ∧
      ∃ q11 : Nat, R5 q8 x1.toNatClampNeg = some q11 ∧
      (C2 q11).1 = 5 ∧
      gK Γ (.inl (some (aR (some q11)))) C2 I3 J4 R5) ∨
      (∃ q13 : Nat, o = .inr q13 ∧
      ((C2 q13).1 = 2 ∧
      gK Γ (.inr q13) C2 I3 J4 R5)))) :
    AW Γ 0 0 C I J R 30 [(0, aR (some x0)), (1, aI x1)] [aI s1, aR (some s0)] := by
  have G0 := G.1
  refine aw_iconst (v := (1 : Int32)) G0 dX0_leafOf_30 (by decide) ?_
  obtain ⟨k1, h⟩ := h
  refine aw_callV (k1 := 0) (n1 := 0) (k2 := 0) (n2 := 0) (st := []) G0 S_X0_want gi_X0_87 (Or.inl (by rw [k1]; decide)) (by rw [k1]; rfl) md_X0_want (Nat.le_of_ble_eq_true rfl) (by decide) (by rw [G.2.1]; decide) (by rw [G.2.1]; decide) [aI s1, aI (1 : Int32)] rfl rfl dX0_leafOf_31 h (fun o C2 I3 J4 R5 h => ?_)
  rcases h with ⟨rfl, h⟩ | ⟨q13, rfl, h⟩
  · show AW Γ 0 0 C2 I3 J4 R5 (31 + 3) [(0, aR (some x0)), (1, aI x1)] []
    refine aw_aload_n G0 0 rfl dX0_leafOf_34 ?_
    obtain ⟨k7, h⟩ := h
    refine aw_getR (f := 2) G0 (by rw [k7]; exact fb_X0_49) dX0_leafOf_35 ?_
    refine aw_iload_n G0 1 rfl dX0_leafOf_38 ?_
    obtain ⟨q8, e8, h⟩ := h
    refine aw_dr1 e8 ?_
    obtain ⟨k9, h⟩ := h
    obtain ⟨k10, h⟩ := h
    refine aw_aald G0 k9 k10 dX0_leafOf_39 ?_
    obtain ⟨q11, e11, h⟩ := h
    refine aw_dr0 e11 ?_
    obtain ⟨k12, h⟩ := h
    refine aw_cast G0 q355 (Or.inl (by rw [k12]; decide)) (by rw [k12]; rfl) dX0_leafOf_40 ?_
    exact aw_areturn G0 ⟨_, rfl, rfl⟩ (by rw [G.2.2]; decide) (by rw [G.2.1]; decide) dX0_leafOf_43 h
  · show AX Γ 0 0 C2 I3 J4 R5 31 [(0, aR (some x0)), (1, aI x1)] q13
    obtain ⟨k14, h⟩ := h
    exact ax_out G0 rfl (Or.inl k14) (by rw [G.2.2]; decide) (by rw [G.2.1]; decide) h
theorem bX0_isIn_0 (G : Gb Γ yX0_isIn cX0_isIn 3 (some .boolean) [] rmX0_isIn bdX0_isIn)
    {Q2 : Nat → Option Nat → MC → MI → MJ → MR → Prop} (w2 : ∀ (x1 : Nat) (x2 : Option Nat) (C : MC) (I : MI) (J : MJ) (R : MR), Q2 x1 x2 C I J R → AW Γ 0 0 C I J R 2 [(1, aR (some x1)), (2, aR x2)] []) {x0 : Nat} {x1 : Nat}
    (h : Q2 x1 (some x0) C I J R) :
    AW Γ 0 0 C I J R 0 [(0, aR (some x0)), (1, aR (some x1))] [] := by
  have G0 := G.1
  refine aw_aload_n G0 0 rfl dX0_isIn_0 ?_
  refine aw_astore_n (lv' := [(2, aR (some x0)), (0, aR (some x0)), (1, aR (some x1))]) G0 (by decide) rfl dX0_isIn_1 ?_
  exact (aw_lv [2, 0] rfl (w2 x1 (some x0) C I J R h))
theorem bX0_isIn_2 (G : Gb Γ yX0_isIn cX0_isIn 3 (some .boolean) [] rmX0_isIn bdX0_isIn)
    {Q2 : Nat → Option Nat → MC → MI → MJ → MR → Prop} (w2 : ∀ (x1 : Nat) (x2 : Option Nat) (C : MC) (I : MI) (J : MJ) (R : MR), Q2 x1 x2 C I J R → AW Γ 0 0 C I J R 2 [(1, aR (some x1)), (2, aR x2)] [])
    {Q19 : Nat → Option Nat → MC → MI → MJ → MR → Prop} (w19 : ∀ (x1 : Nat) (x2 : Option Nat) (C : MC) (I : MI) (J : MJ) (R : MR), Q19 x1 x2 C I J R → AW Γ 0 0 C I J R 19 [(1, aR (some x1)), (2, aR x2)] []) {x1 : Nat} {x2 : Option Nat}
    (h : ((x2 = none →
      Q19 x1 x2 C I J R) ∧
      (¬ x2 = none →
      ((x2 = some x1 →
      Q19 x1 x2 C I J R) ∧
      (¬ x2 = some x1 →
      ∃ q3 : Nat, x2 = some q3 ∧
      kTh (C q3).1 ∧
      Q2 x1 (R q3 3) C I J R))))) :
    AW Γ 0 0 C I J R 2 [(1, aR (some x1)), (2, aR x2)] [] := by
  have G0 := G.1
  refine aw_aload_n G0 1 rfl dX0_isIn_2 ?_
  refine aw_ifnull G0 19 dX0_isIn_3 (by decide) (fun c1 => ?_) (fun c1 => ?_)
  · have h := h.1 c1
    exact (w19 x1 x2 C I J R h)
  · have h := h.2 c1
    refine aw_aload_n G0 1 rfl dX0_isIn_6 ?_
    refine aw_aload_n G0 0 rfl dX0_isIn_7 ?_
    refine aw_acmp_eq G0 19 dX0_isIn_8 (by decide) (fun c2 => ?_) (fun c2 => ?_)
    · have h := h.1 c2
      exact (w19 x1 x2 C I J R h)
    · have h := h.2 c2
      refine aw_aload_n G0 1 rfl dX0_isIn_11 ?_
      obtain ⟨q3, e3, h⟩ := h
      refine aw_dr0 e3 ?_
      obtain ⟨k4, h⟩ := h
      refine aw_getR (f := 3) G0 (fb_X0_167 _ k4) dX0_isIn_12 ?_
      refine aw_astore_n (lv' := [(2, aR (R q3 3)), (1, aR (some x1))]) G0 (by decide) rfl dX0_isIn_15 ?_
      refine aw_goto G0 2 dX0_isIn_16 (by decide) ?_
      exact (aw_lv [1, 0] rfl (w2 x1 (R q3 3) C I J R h))
theorem bX0_isIn_19 (G : Gb Γ yX0_isIn cX0_isIn 3 (some .boolean) [] rmX0_isIn bdX0_isIn) {x1 : Nat} {x2 : Option Nat}
    (h : ((¬ x2 = some x1 →
      gK Γ (.inl (some (aI (0 : Int32)))) C I J R) ∧
      (x2 = some x1 →
      gK Γ (.inl (some (aI (1 : Int32)))) C I J R))) :
    AW Γ 0 0 C I J R 19 [(1, aR (some x1)), (2, aR x2)] [] := by
  have G0 := G.1
  refine aw_aload_n G0 1 rfl dX0_isIn_19 ?_
  refine aw_aload_n G0 0 rfl dX0_isIn_20 ?_
  refine aw_acmp_ne G0 28 dX0_isIn_21 (by decide) (fun c1 => ?_) (fun c1 => ?_)
  · have h := h.1 c1
    refine aw_iconst (v := (0 : Int32)) G0 dX0_isIn_28 (by decide) ?_
    exact aw_ireturn G0 (Or.inr ⟨rfl, by decide⟩) (by rw [G.2.2]; decide) (by rw [G.2.1]; decide) dX0_isIn_29 h
  · have h := h.2 c1
    refine aw_iconst (v := (1 : Int32)) G0 dX0_isIn_24 (by decide) ?_
    refine aw_goto G0 29 dX0_isIn_25 (by decide) ?_
    exact aw_ireturn G0 (Or.inr ⟨rfl, by decide⟩) (by rw [G.2.2]; decide) (by rw [G.2.1]; decide) dX0_isIn_29 h
theorem bX0_change_0 (G : Gb Γ yX0_change cX0_change 5 (some .boolean) [(5, 50, 51, 53)] rmX0_change bdX0_change) {F_X0_leafOf : SPF} (S_X0_leafOf : SpX0_leafOf (gL Γ) F_X0_leafOf)
    {Q26 : Nat → Int32 → Int32 → Nat → Nat → MC → MI → MJ → MR → Prop} (w26 : ∀ (x0 : Nat) (x2 : Int32) (x3 : Int32) (x4 : Nat) (s0 : Nat) (C : MC) (I : MI) (J : MJ) (R : MR), Q26 x0 x2 x3 x4 s0 C I J R → AW Γ 0 0 C I J R 26 [(0, aR (some x0)), (2, aI x2), (3, aI x3), (4, aR (some x4))] [aR (some s0)])
    {Q27 : Nat → Int32 → Int32 → Nat → Nat → Int32 → MC → MI → MJ → MR → Prop} (w27 : ∀ (x0 : Nat) (x2 : Int32) (x3 : Int32) (x4 : Nat) (s0 : Nat) (s1 : Int32) (C : MC) (I : MI) (J : MJ) (R : MR), Q27 x0 x2 x3 x4 s0 s1 C I J R → AW Γ 0 0 C I J R 27 [(0, aR (some x0)), (2, aI x2), (3, aI x3), (4, aR (some x4))] [aI s1, aR (some s0)])
    {Q51 : Nat → Nat → MC → MI → MJ → MR → Prop} (w51 : ∀ (x0 : Nat) (s0 : Nat) (C : MC) (I : MI) (J : MJ) (R : MR), Q51 x0 s0 C I J R → AW Γ 3 245 C I J R 51 [(0, aR (some x0))] [aR (some s0)]) {x0 : Nat} {x1 : Int32} {x2 : Int32} {x3 : Int32}
    (h : (C x0).1 = 1 ∧
      ∀ I2 : MI, I2 = va_up I x0 (va_up (I x0) 5 (0 : Int32)) →
      F_X0_leafOf [aR (some x0), aI x1] C I2 J R (fun o C3 I4 J5 R6 =>
      (∃ r7 : Nat, o = .inl (some (aR (some r7))) ∧
      ((x2 < 0 →
      Q26 x0 x2 x3 r7 x0 C3 I4 J5 R6) ∧
      (¬ x2 < 0 →
      (((4 : Int32) ≤ x2 →
      Q26 x0 x2 x3 r7 x0 C3 I4 J5 R6) ∧
      (¬ (4 : Int32) ≤ x2 →
      Q27 x0 x2 x3 r7 x0 (1 : Int32) C3 I4 J5 R6))))) ∨
      (∃ q10 : Nat, o = .inr q10 ∧
      ((C3 q10).1 = 2 ∧
      Q51 x0 q10 C3 I4 J5 R6)))) :
    AW Γ 0 0 C I J R 0 [(0, aR (some x0)), (1, aI x1), (2, aI x2), (3, aI x3)] [] := by
  have G0 := G.1
  refine aw_aload_n G0 0 rfl dX0_change_0 ?_
  refine aw_iconst (v := (0 : Int32)) G0 dX0_change_1 (by decide) ?_
  obtain ⟨k1, h⟩ := h
  refine aw_putI (f := 5) G0 (by rw [k1]; exact fp_X0_63 _) dX0_change_2 ?_
  generalize gI2 : va_up I x0 (va_up (I x0) 5 (0 : Int32)) = I2
  have h := h I2 gI2.symm
  refine aw_aload_n G0 0 rfl dX0_change_5 ?_
  refine aw_iload_n G0 1 rfl dX0_change_6 ?_
  refine aw_callV (k1 := 0) (n1 := 0) (k2 := 0) (n2 := 0) (st := []) G0 S_X0_leafOf gi_X0_249 (Or.inl (by rw [k1]; decide)) (by rw [k1]; rfl) md_X0_leafOf (Nat.le_of_ble_eq_true rfl) (by decide) (by rw [G.2.1]; decide) (by rw [G.2.1]; decide) [aI x1] rfl rfl dX0_change_7 h (fun o C3 I4 J5 R6 h => ?_)
  rcases h with ⟨r7, rfl, h⟩ | ⟨q10, rfl, h⟩
  · show AW Γ 0 0 C3 I4 J5 R6 (7 + 3) [(0, aR (some x0)), (1, aI x1), (2, aI x2), (3, aI x3)] [aR (some r7)]
    refine aw_astore (lv' := [(4, aR (some r7)), (0, aR (some x0)), (1, aI x1), (2, aI x2), (3, aI x3)]) G0 (by decide) rfl dX0_change_10 ?_
    refine aw_aload_n G0 1 rfl dX0_change_12 ?_
    refine aw_iload_n G0 3 rfl dX0_change_13 ?_
    refine aw_if_lt G0 26 dX0_change_14 (by decide) (fun c8 => ?_) (fun c8 => ?_)
    · have h := h.1 c8
      exact (aw_lv [1, 3, 4, 0] rfl (w26 x0 x2 x3 r7 x0 C3 I4 J5 R6 h))
    · have h := h.2 c8
      refine aw_iload_n G0 3 rfl dX0_change_17 ?_
      refine aw_iconst (v := (4 : Int32)) G0 dX0_change_18 (by decide) ?_
      refine aw_icmp_ge G0 26 dX0_change_19 (by decide) (fun c9 => ?_) (fun c9 => ?_)
      · have h := h.1 c9
        exact (aw_lv [1, 3, 4, 0] rfl (w26 x0 x2 x3 r7 x0 C3 I4 J5 R6 h))
      · have h := h.2 c9
        refine aw_iconst (v := (1 : Int32)) G0 dX0_change_22 (by decide) ?_
        refine aw_goto G0 27 dX0_change_23 (by decide) ?_
        exact (aw_lv [1, 3, 4, 0] rfl (w27 x0 x2 x3 r7 x0 (1 : Int32) C3 I4 J5 R6 h))
  · show AX Γ 0 0 C3 I4 J5 R6 7 [(0, aR (some x0)), (1, aI x1), (2, aI x2), (3, aI x3)] q10
    obtain ⟨k11, h⟩ := h
    refine ax_catch G0 0 rfl (fun j hj _ _ _ _ _ => absurd hj (Nat.not_lt_zero j)) rfl (by decide) q84 (Or.inl k11) (by rw [k11]; exact q86) ?_
    exact (aw_wide (by decide) (by decide) (aw_lv [0] rfl (w51 x0 q10 C3 I4 J5 R6 h)))
theorem bX0_change_26 (G : Gb Γ yX0_change cX0_change 5 (some .boolean) [(5, 50, 51, 53)] rmX0_change bdX0_change)
    {Q27 : Nat → Int32 → Int32 → Nat → Nat → Int32 → MC → MI → MJ → MR → Prop} (w27 : ∀ (x0 : Nat) (x2 : Int32) (x3 : Int32) (x4 : Nat) (s0 : Nat) (s1 : Int32) (C : MC) (I : MI) (J : MJ) (R : MR), Q27 x0 x2 x3 x4 s0 s1 C I J R → AW Γ 0 0 C I J R 27 [(0, aR (some x0)), (2, aI x2), (3, aI x3), (4, aR (some x4))] [aI s1, aR (some s0)]) {x0 : Nat} {x2 : Int32} {x3 : Int32} {x4 : Nat} {s0 : Nat}
    (h : Q27 x0 x2 x3 x4 s0 (0 : Int32) C I J R) :
    AW Γ 0 0 C I J R 26 [(0, aR (some x0)), (2, aI x2), (3, aI x3), (4, aR (some x4))] [aR (some s0)] := by
  have G0 := G.1
  refine aw_iconst (v := (0 : Int32)) G0 dX0_change_26 (by decide) ?_
  exact (w27 x0 x2 x3 x4 s0 (0 : Int32) C I J R h)
theorem bX0_change_27 (G : Gb Γ yX0_change cX0_change 5 (some .boolean) [(5, 50, 51, 53)] rmX0_change bdX0_change) {F_X0_want : SPF} (S_X0_want : SpX0_want (gL Γ) F_X0_want) {F_X0_wantMany : SPF} (S_X0_wantMany : SpX0_wantMany (gL Γ) F_X0_wantMany) {F_X0_weights : SPF} (S_X0_weights : SpX0_weights (gL Γ) F_X0_weights)
    {Q51 : Nat → Nat → MC → MI → MJ → MR → Prop} (w51 : ∀ (x0 : Nat) (s0 : Nat) (C : MC) (I : MI) (J : MJ) (R : MR), Q51 x0 s0 C I J R → AW Γ 3 245 C I J R 51 [(0, aR (some x0))] [aR (some s0)]) {x0 : Nat} {x2 : Int32} {x3 : Int32} {x4 : Nat} {s0 : Nat} {s1 : Int32}
    (h : (C s0).1 = 1 ∧
      F_X0_want [aR (some s0), aI s1, aI (1 : Int32)] C I J R (fun o C2 I3 J4 R5 =>
      (o = .inl none ∧
      (C2 x0).1 = 1 ∧
      F_X0_wantMany [aR (some x0), aI x3] C2 I3 J4 R5 (fun o C8 I9 J10 R11 =>
      (o = .inl none ∧
      (C8 x4).1 = 5 ∧
      (C8 x0).1 = 1 ∧
      F_X0_weights [aR (some x0), aI x2, aI x3] C8 I9 J10 R11 (fun o C15 I16 J17 R18 =>
      (∃ r19 : Nat, o = .inl (some (aR (some r19))) ∧
      ∃ q20 : Nat, R11 x4 6 = some q20 ∧
      (25 ≤ (C15 q20).1 ∧ (C15 q20).1 < 29) ∧
      kFit (C15 q20).1 (C15 r19).1 ∧
      vp_in (0 : Int32) (C15 q20).2 ∧
      ∀ R24 : MR, R24 = va_up R18 q20 (va_up (R18 q20) (0 : Int32).toNatClampNeg (some r19)) →
      gK Γ (.inl (some (aI (1 : Int32)))) C15 I16 J17 R24) ∨
      (∃ q25 : Nat, o = .inr q25 ∧
      ((C15 q25).1 = 2 ∧
      Q51 x0 q25 C15 I16 J17 R18)))) ∨
      (∃ q27 : Nat, o = .inr q27 ∧
      ((C8 q27).1 = 2 ∧
      Q51 x0 q27 C8 I9 J10 R11)))) ∨
      (∃ q29 : Nat, o = .inr q29 ∧
      ((C2 q29).1 = 2 ∧
      Q51 x0 q29 C2 I3 J4 R5)))) :
    AW Γ 0 0 C I J R 27 [(0, aR (some x0)), (2, aI x2), (3, aI x3), (4, aR (some x4))] [aI s1, aR (some s0)] := by
  have G0 := G.1
  refine aw_iconst (v := (1 : Int32)) G0 dX0_change_27 (by decide) ?_
  obtain ⟨k1, h⟩ := h
  refine aw_callV (k1 := 0) (n1 := 0) (k2 := 0) (n2 := 0) (st := []) G0 S_X0_want gi_X0_87 (Or.inl (by rw [k1]; decide)) (by rw [k1]; rfl) md_X0_want (Nat.le_of_ble_eq_true rfl) (by decide) (by rw [G.2.1]; decide) (by rw [G.2.1]; decide) [aI s1, aI (1 : Int32)] rfl rfl dX0_change_28 h (fun o C2 I3 J4 R5 h => ?_)
  rcases h with ⟨rfl, h⟩ | ⟨q29, rfl, h⟩
  · show AW Γ 0 0 C2 I3 J4 R5 (28 + 3) [(0, aR (some x0)), (2, aI x2), (3, aI x3), (4, aR (some x4))] []
    refine aw_aload_n G0 0 rfl dX0_change_31 ?_
    refine aw_iload_n G0 2 rfl dX0_change_32 ?_
    obtain ⟨k7, h⟩ := h
    refine aw_callV (k1 := 0) (n1 := 0) (k2 := 0) (n2 := 0) (st := []) G0 S_X0_wantMany gi_X0_148 (Or.inl (by rw [k7]; decide)) (by rw [k7]; rfl) md_X0_wantMany (Nat.le_of_ble_eq_true rfl) (by decide) (by rw [G.2.1]; decide) (by rw [G.2.1]; decide) [aI x3] rfl rfl dX0_change_33 h (fun o C8 I9 J10 R11 h => ?_)
    rcases h with ⟨rfl, h⟩ | ⟨q27, rfl, h⟩
    · show AW Γ 0 0 C8 I9 J10 R11 (33 + 3) [(0, aR (some x0)), (2, aI x2), (3, aI x3), (4, aR (some x4))] []
      refine aw_aload G0 3 rfl dX0_change_36 ?_
      obtain ⟨k13, h⟩ := h
      refine aw_getR (f := 6) G0 (by rw [k13]; exact fb_X0_260) dX0_change_38 ?_
      refine aw_iconst (v := (0 : Int32)) G0 dX0_change_41 (by decide) ?_
      refine aw_aload_n G0 0 rfl dX0_change_42 ?_
      refine aw_iload_n G0 1 rfl dX0_change_43 ?_
      refine aw_iload_n G0 2 rfl dX0_change_44 ?_
      obtain ⟨k14, h⟩ := h
      refine aw_callV (k1 := 3) (n1 := 245) (k2 := 3) (n2 := 245) (st := [aI (0 : Int32), aR (R11 x4 6)]) G0 S_X0_weights gi_X0_152 (Or.inl (by rw [k14]; decide)) (by rw [k14]; rfl) md_X0_weights (Nat.le_of_ble_eq_true rfl) (by decide) (by rw [G.2.1]; decide) (by rw [G.2.1]; decide) [aI x2, aI x3] rfl rfl dX0_change_45 h (fun o C15 I16 J17 R18 h => ?_)
      rcases h with ⟨r19, rfl, h⟩ | ⟨q25, rfl, h⟩
      · show AW Γ 3 245 C15 I16 J17 R18 (45 + 3) [(0, aR (some x0)), (2, aI x2), (3, aI x3), (4, aR (some x4))] [aR (some r19), aI (0 : Int32), aR (R11 x4 6)]
        obtain ⟨q20, e20, h⟩ := h
        refine aw_dr2 e20 ?_
        obtain ⟨k21, h⟩ := h
        obtain ⟨k22, h⟩ := h
        obtain ⟨k23, h⟩ := h
        refine aw_aast G0 k21 (kFit_1 k22) (kFit_2 k22) k23 dX0_change_48 ?_
        generalize gR24 : va_up R18 q20 (va_up (R18 q20) (0 : Int32).toNatClampNeg (some r19)) = R24
        have h := h R24 gR24.symm
        refine aw_iconst (v := (1 : Int32)) G0 dX0_change_49 (by decide) ?_
        exact aw_ireturn G0 (Or.inr ⟨rfl, by decide⟩) (by rw [G.2.2]; decide) (by rw [G.2.1]; decide) dX0_change_50 h
      · show AX Γ 3 245 C15 I16 J17 R18 45 [(0, aR (some x0)), (2, aI x2), (3, aI x3), (4, aR (some x4))] q25
        obtain ⟨k26, h⟩ := h
        refine ax_catch G0 0 rfl (fun j hj _ _ _ _ _ => absurd hj (Nat.not_lt_zero j)) rfl (by decide) q84 (Or.inl k26) (by rw [k26]; exact q86) ?_
        exact (aw_lv [0] rfl (w51 x0 q25 C15 I16 J17 R18 h))
    · show AX Γ 0 0 C8 I9 J10 R11 33 [(0, aR (some x0)), (2, aI x2), (3, aI x3), (4, aR (some x4))] q27
      obtain ⟨k28, h⟩ := h
      refine ax_catch G0 0 rfl (fun j hj _ _ _ _ _ => absurd hj (Nat.not_lt_zero j)) rfl (by decide) q84 (Or.inl k28) (by rw [k28]; exact q86) ?_
      exact (aw_wide (by decide) (by decide) (aw_lv [0] rfl (w51 x0 q27 C8 I9 J10 R11 h)))
  · show AX Γ 0 0 C2 I3 J4 R5 28 [(0, aR (some x0)), (2, aI x2), (3, aI x3), (4, aR (some x4))] q29
    obtain ⟨k30, h⟩ := h
    refine ax_catch G0 0 rfl (fun j hj _ _ _ _ _ => absurd hj (Nat.not_lt_zero j)) rfl (by decide) q84 (Or.inl k30) (by rw [k30]; exact q86) ?_
    exact (aw_wide (by decide) (by decide) (aw_lv [0] rfl (w51 x0 q29 C2 I3 J4 R5 h)))
theorem bX0_change_51 (G : Gb Γ yX0_change cX0_change 5 (some .boolean) [(5, 50, 51, 53)] rmX0_change bdX0_change) {F_X0_no : SPF} (S_X0_no : SpX0_no (gL Γ) F_X0_no) {x0 : Nat} {s0 : Nat}
    (h : (C x0).1 = 1 ∧
      F_X0_no [aR (some x0), aR (some s0)] C I J R (fun o C2 I3 J4 R5 =>
      ∃ r6 : Int32, o = .inl (some (aI r6)) ∧
      (r6 = 0 ∨ r6 = 1) ∧ gK Γ (.inl (some (aI r6))) C2 I3 J4 R5)) :
    AW Γ 3 245 C I J R 51 [(0, aR (some x0))] [aR (some s0)] := by
  have G0 := G.1
  refine aw_astore (lv' := [(4, aR (some s0)), (0, aR (some x0))]) G0 (by decide) rfl dX0_change_51 ?_
  refine aw_aload_n G0 1 rfl dX0_change_53 ?_
  refine aw_aload G0 0 rfl dX0_change_54 ?_
  obtain ⟨k1, h⟩ := h
  refine aw_callV (k1 := 3) (n1 := 245) (k2 := 3) (n2 := 245) (st := []) G0 S_X0_no gi_X0_97 (Or.inl (by rw [k1]; decide)) (by rw [k1]; rfl) md_X0_no (Nat.le_of_ble_eq_true rfl) (by decide) (by rw [G.2.1]; decide) (by rw [G.2.1]; decide) [aR (some s0)] rfl rfl dX0_change_56 h (fun o C2 I3 J4 R5 h => ?_)
  obtain ⟨r6, rfl, h⟩ := h
  show AW Γ 3 245 C2 I3 J4 R5 (56 + 3) [(4, aR (some s0)), (0, aR (some x0))] [aI r6]
  obtain ⟨k7, h⟩ := h
  exact aw_ireturn G0 (Or.inr ⟨rfl, k7⟩) (by rw [G.2.2]; decide) (by rw [G.2.1]; decide) dX0_change_59 h
theorem bX0_price_0 (G : Gb Γ yX0_price cX0_price 4 (some .boolean) [(5, 40, 41, 53)] rmX0_price bdX0_price) {F_X0_leafOf : SPF} (S_X0_leafOf : SpX0_leafOf (gL Γ) F_X0_leafOf)
    {Q27 : Nat → Int32 → Nat → Nat → MC → MI → MJ → MR → Prop} (w27 : ∀ (x0 : Nat) (x2 : Int32) (x3 : Nat) (s0 : Nat) (C : MC) (I : MI) (J : MJ) (R : MR), Q27 x0 x2 x3 s0 C I J R → AW Γ 0 0 C I J R 27 [(0, aR (some x0)), (2, aI x2), (3, aR (some x3))] [aR (some s0)])
    {Q28 : Nat → Int32 → Nat → Nat → Int32 → MC → MI → MJ → MR → Prop} (w28 : ∀ (x0 : Nat) (x2 : Int32) (x3 : Nat) (s0 : Nat) (s1 : Int32) (C : MC) (I : MI) (J : MJ) (R : MR), Q28 x0 x2 x3 s0 s1 C I J R → AW Γ 0 0 C I J R 28 [(0, aR (some x0)), (2, aI x2), (3, aR (some x3))] [aI s1, aR (some s0)])
    {Q41 : Nat → Nat → MC → MI → MJ → MR → Prop} (w41 : ∀ (x0 : Nat) (s0 : Nat) (C : MC) (I : MI) (J : MJ) (R : MR), Q41 x0 s0 C I J R → AW Γ 0 0 C I J R 41 [(0, aR (some x0))] [aR (some s0)]) {x0 : Nat} {x1 : Int32} {x2 : Int32}
    (h : (C x0).1 = 1 ∧
      ∀ I2 : MI, I2 = va_up I x0 (va_up (I x0) 5 (0 : Int32)) →
      F_X0_leafOf [aR (some x0), aI x1] C I2 J R (fun o C3 I4 J5 R6 =>
      (∃ r7 : Nat, o = .inl (some (aR (some r7))) ∧
      ((x2 < 0 →
      Q27 x0 x2 r7 x0 C3 I4 J5 R6) ∧
      (¬ x2 < 0 →
      (((10000 : Int32) < x2 →
      Q27 x0 x2 r7 x0 C3 I4 J5 R6) ∧
      (¬ (10000 : Int32) < x2 →
      Q28 x0 x2 r7 x0 (1 : Int32) C3 I4 J5 R6))))) ∨
      (∃ q10 : Nat, o = .inr q10 ∧
      ((C3 q10).1 = 2 ∧
      Q41 x0 q10 C3 I4 J5 R6)))) :
    AW Γ 0 0 C I J R 0 [(0, aR (some x0)), (1, aI x1), (2, aI x2)] [] := by
  have G0 := G.1
  refine aw_aload_n G0 0 rfl dX0_price_0 ?_
  refine aw_iconst (v := (0 : Int32)) G0 dX0_price_1 (by decide) ?_
  obtain ⟨k1, h⟩ := h
  refine aw_putI (f := 5) G0 (by rw [k1]; exact fp_X0_63 _) dX0_price_2 ?_
  generalize gI2 : va_up I x0 (va_up (I x0) 5 (0 : Int32)) = I2
  have h := h I2 gI2.symm
  refine aw_aload_n G0 0 rfl dX0_price_5 ?_
  refine aw_iload_n G0 1 rfl dX0_price_6 ?_
  refine aw_callV (k1 := 0) (n1 := 0) (k2 := 0) (n2 := 0) (st := []) G0 S_X0_leafOf gi_X0_249 (Or.inl (by rw [k1]; decide)) (by rw [k1]; rfl) md_X0_leafOf (Nat.le_of_ble_eq_true rfl) (by decide) (by rw [G.2.1]; decide) (by rw [G.2.1]; decide) [aI x1] rfl rfl dX0_price_7 h (fun o C3 I4 J5 R6 h => ?_)
  rcases h with ⟨r7, rfl, h⟩ | ⟨q10, rfl, h⟩
  · show AW Γ 0 0 C3 I4 J5 R6 (7 + 3) [(0, aR (some x0)), (1, aI x1), (2, aI x2)] [aR (some r7)]
    refine aw_astore_n (lv' := [(3, aR (some r7)), (0, aR (some x0)), (1, aI x1), (2, aI x2)]) G0 (by decide) rfl dX0_price_10 ?_
    refine aw_aload_n G0 1 rfl dX0_price_11 ?_
    refine aw_iload_n G0 3 rfl dX0_price_12 ?_
    refine aw_if_lt G0 27 dX0_price_13 (by decide) (fun c8 => ?_) (fun c8 => ?_)
    · have h := h.1 c8
      exact (aw_lv [1, 3, 0] rfl (w27 x0 x2 r7 x0 C3 I4 J5 R6 h))
    · have h := h.2 c8
      refine aw_iload_n G0 3 rfl dX0_price_16 ?_
      refine aw_sipush (v := (10000 : Int32)) G0 dX0_price_17 (by decide) ?_
      refine aw_icmp_gt G0 27 dX0_price_20 (by decide) (fun c9 => ?_) (fun c9 => ?_)
      · have h := h.1 c9
        exact (aw_lv [1, 3, 0] rfl (w27 x0 x2 r7 x0 C3 I4 J5 R6 h))
      · have h := h.2 c9
        refine aw_iconst (v := (1 : Int32)) G0 dX0_price_23 (by decide) ?_
        refine aw_goto G0 28 dX0_price_24 (by decide) ?_
        exact (aw_lv [1, 3, 0] rfl (w28 x0 x2 r7 x0 (1 : Int32) C3 I4 J5 R6 h))
  · show AX Γ 0 0 C3 I4 J5 R6 7 [(0, aR (some x0)), (1, aI x1), (2, aI x2)] q10
    obtain ⟨k11, h⟩ := h
    refine ax_catch G0 0 rfl (fun j hj _ _ _ _ _ => absurd hj (Nat.not_lt_zero j)) rfl (by decide) q84 (Or.inl k11) (by rw [k11]; exact q86) ?_
    exact (aw_lv [0] rfl (w41 x0 q10 C3 I4 J5 R6 h))
theorem bX0_price_27 (G : Gb Γ yX0_price cX0_price 4 (some .boolean) [(5, 40, 41, 53)] rmX0_price bdX0_price)
    {Q28 : Nat → Int32 → Nat → Nat → Int32 → MC → MI → MJ → MR → Prop} (w28 : ∀ (x0 : Nat) (x2 : Int32) (x3 : Nat) (s0 : Nat) (s1 : Int32) (C : MC) (I : MI) (J : MJ) (R : MR), Q28 x0 x2 x3 s0 s1 C I J R → AW Γ 0 0 C I J R 28 [(0, aR (some x0)), (2, aI x2), (3, aR (some x3))] [aI s1, aR (some s0)]) {x0 : Nat} {x2 : Int32} {x3 : Nat} {s0 : Nat}
    (h : Q28 x0 x2 x3 s0 (0 : Int32) C I J R) :
    AW Γ 0 0 C I J R 27 [(0, aR (some x0)), (2, aI x2), (3, aR (some x3))] [aR (some s0)] := by
  have G0 := G.1
  refine aw_iconst (v := (0 : Int32)) G0 dX0_price_27 (by decide) ?_
  exact (w28 x0 x2 x3 s0 (0 : Int32) C I J R h)
theorem bX0_price_28 (G : Gb Γ yX0_price cX0_price 4 (some .boolean) [(5, 40, 41, 53)] rmX0_price bdX0_price) {F_X0_want : SPF} (S_X0_want : SpX0_want (gL Γ) F_X0_want)
    {Q41 : Nat → Nat → MC → MI → MJ → MR → Prop} (w41 : ∀ (x0 : Nat) (s0 : Nat) (C : MC) (I : MI) (J : MJ) (R : MR), Q41 x0 s0 C I J R → AW Γ 0 0 C I J R 41 [(0, aR (some x0))] [aR (some s0)]) {x0 : Nat} {x2 : Int32} {x3 : Nat} {s0 : Nat} {s1 : Int32}
    (h : (C s0).1 = 1 ∧
      F_X0_want [aR (some s0), aI s1, aI (1 : Int32)] C I J R (fun o C2 I3 J4 R5 =>
      (o = .inl none ∧
      (C2 x3).1 = 5 ∧
      ∃ q8 : Nat, R5 x3 7 = some q8 ∧
      (C2 q8).1 = 20 ∧
      vp_in (0 : Int32) (C2 q8).2 ∧
      ∀ I11 : MI, I11 = va_up I3 q8 (va_up (I3 q8) (0 : Int32).toNatClampNeg x2) →
      gK Γ (.inl (some (aI (1 : Int32)))) C2 I11 J4 R5) ∨
      (∃ q12 : Nat, o = .inr q12 ∧
      ((C2 q12).1 = 2 ∧
      Q41 x0 q12 C2 I3 J4 R5)))) :
    AW Γ 0 0 C I J R 28 [(0, aR (some x0)), (2, aI x2), (3, aR (some x3))] [aI s1, aR (some s0)] := by
  have G0 := G.1
  refine aw_iconst (v := (1 : Int32)) G0 dX0_price_28 (by decide) ?_
  obtain ⟨k1, h⟩ := h
  refine aw_callV (k1 := 0) (n1 := 0) (k2 := 0) (n2 := 0) (st := []) G0 S_X0_want gi_X0_87 (Or.inl (by rw [k1]; decide)) (by rw [k1]; rfl) md_X0_want (Nat.le_of_ble_eq_true rfl) (by decide) (by rw [G.2.1]; decide) (by rw [G.2.1]; decide) [aI s1, aI (1 : Int32)] rfl rfl dX0_price_29 h (fun o C2 I3 J4 R5 h => ?_)
  rcases h with ⟨rfl, h⟩ | ⟨q12, rfl, h⟩
  · show AW Γ 0 0 C2 I3 J4 R5 (29 + 3) [(0, aR (some x0)), (2, aI x2), (3, aR (some x3))] []
    refine aw_aload_n G0 2 rfl dX0_price_32 ?_
    obtain ⟨k7, h⟩ := h
    refine aw_getR (f := 7) G0 (by rw [k7]; exact fb_X0_264) dX0_price_33 ?_
    refine aw_iconst (v := (0 : Int32)) G0 dX0_price_36 (by decide) ?_
    refine aw_iload_n G0 1 rfl dX0_price_37 ?_
    obtain ⟨q8, e8, h⟩ := h
    refine aw_dr2 e8 ?_
    obtain ⟨k9, h⟩ := h
    obtain ⟨k10, h⟩ := h
    refine aw_iast G0 k9 k10 dX0_price_38 ?_
    generalize gI11 : va_up I3 q8 (va_up (I3 q8) (0 : Int32).toNatClampNeg x2) = I11
    have h := h I11 gI11.symm
    refine aw_iconst (v := (1 : Int32)) G0 dX0_price_39 (by decide) ?_
    exact aw_ireturn G0 (Or.inr ⟨rfl, by decide⟩) (by rw [G.2.2]; decide) (by rw [G.2.1]; decide) dX0_price_40 h
  · show AX Γ 0 0 C2 I3 J4 R5 29 [(0, aR (some x0)), (2, aI x2), (3, aR (some x3))] q12
    obtain ⟨k13, h⟩ := h
    refine ax_catch G0 0 rfl (fun j hj _ _ _ _ _ => absurd hj (Nat.not_lt_zero j)) rfl (by decide) q84 (Or.inl k13) (by rw [k13]; exact q86) ?_
    exact (aw_lv [0] rfl (w41 x0 q12 C2 I3 J4 R5 h))
theorem bX0_price_41 (G : Gb Γ yX0_price cX0_price 4 (some .boolean) [(5, 40, 41, 53)] rmX0_price bdX0_price) {F_X0_no : SPF} (S_X0_no : SpX0_no (gL Γ) F_X0_no) {x0 : Nat} {s0 : Nat}
    (h : (C x0).1 = 1 ∧
      F_X0_no [aR (some x0), aR (some s0)] C I J R (fun o C2 I3 J4 R5 =>
      ∃ r6 : Int32, o = .inl (some (aI r6)) ∧
      (r6 = 0 ∨ r6 = 1) ∧ gK Γ (.inl (some (aI r6))) C2 I3 J4 R5)) :
    AW Γ 0 0 C I J R 41 [(0, aR (some x0))] [aR (some s0)] := by
  have G0 := G.1
  refine aw_astore_n (lv' := [(3, aR (some s0)), (0, aR (some x0))]) G0 (by decide) rfl dX0_price_41 ?_
  refine aw_aload_n G0 1 rfl dX0_price_42 ?_
  refine aw_aload_n G0 0 rfl dX0_price_43 ?_
  obtain ⟨k1, h⟩ := h
  refine aw_callV (k1 := 0) (n1 := 0) (k2 := 0) (n2 := 0) (st := []) G0 S_X0_no gi_X0_97 (Or.inl (by rw [k1]; decide)) (by rw [k1]; rfl) md_X0_no (Nat.le_of_ble_eq_true rfl) (by decide) (by rw [G.2.1]; decide) (by rw [G.2.1]; decide) [aR (some s0)] rfl rfl dX0_price_44 h (fun o C2 I3 J4 R5 h => ?_)
  obtain ⟨r6, rfl, h⟩ := h
  show AW Γ 0 0 C2 I3 J4 R5 (44 + 3) [(3, aR (some s0)), (0, aR (some x0))] [aI r6]
  obtain ⟨k7, h⟩ := h
  exact aw_ireturn G0 (Or.inr ⟨rfl, k7⟩) (by rw [G.2.2]; decide) (by rw [G.2.1]; decide) dX0_price_47 h
theorem bX0_grade_0 (G : Gb Γ yX0_grade cX0_grade 7 (some .int) [(5, 137, 138, 53)] rmX0_grade bdX0_grade) {F_X0_leafOf : SPF} (S_X0_leafOf : SpX0_leafOf (gL Γ) F_X0_leafOf)
    {Q39 : Nat → Int32 → Int32 → Int32 → Nat → Nat → MC → MI → MJ → MR → Prop} (w39 : ∀ (x0 : Nat) (x2 : Int32) (x3 : Int32) (x4 : Int32) (x5 : Nat) (s0 : Nat) (C : MC) (I : MI) (J : MJ) (R : MR), Q39 x0 x2 x3 x4 x5 s0 C I J R → AW Γ 0 0 C I J R 39 [(0, aR (some x0)), (2, aI x2), (3, aI x3), (4, aI x4), (5, aR (some x5))] [aR (some s0)])
    {Q40 : Nat → Int32 → Int32 → Int32 → Nat → Nat → Int32 → MC → MI → MJ → MR → Prop} (w40 : ∀ (x0 : Nat) (x2 : Int32) (x3 : Int32) (x4 : Int32) (x5 : Nat) (s0 : Nat) (s1 : Int32) (C : MC) (I : MI) (J : MJ) (R : MR), Q40 x0 x2 x3 x4 x5 s0 s1 C I J R → AW Γ 0 0 C I J R 40 [(0, aR (some x0)), (2, aI x2), (3, aI x3), (4, aI x4), (5, aR (some x5))] [aI s1, aR (some s0)])
    {Q138 : Nat → Nat → MC → MI → MJ → MR → Prop} (w138 : ∀ (x0 : Nat) (s0 : Nat) (C : MC) (I : MI) (J : MJ) (R : MR), Q138 x0 s0 C I J R → AW Γ 3 245 C I J R 138 [(0, aR (some x0))] [aR (some s0)]) {x0 : Nat} {x1 : Int32} {x2 : Int32} {x3 : Int32} {x4 : Int32}
    (h : (C x0).1 = 1 ∧
      ∀ I2 : MI, I2 = va_up I x0 (va_up (I x0) 5 (0 : Int32)) →
      F_X0_leafOf [aR (some x0), aI x1] C I2 J R (fun o C3 I4 J5 R6 =>
      (∃ r7 : Nat, o = .inl (some (aR (some r7))) ∧
      ((x2 < 0 →
      Q39 x0 x2 x3 x4 r7 x0 C3 I4 J5 R6) ∧
      (¬ x2 < 0 →
      (((4 : Int32) ≤ x2 →
      Q39 x0 x2 x3 x4 r7 x0 C3 I4 J5 R6) ∧
      (¬ (4 : Int32) ≤ x2 →
      ((x4 < 0 →
      Q39 x0 x2 x3 x4 r7 x0 C3 I4 J5 R6) ∧
      (¬ x4 < 0 →
      (((10000 : Int32) < x4 →
      Q39 x0 x2 x3 x4 r7 x0 C3 I4 J5 R6) ∧
      (¬ (10000 : Int32) < x4 →
      Q40 x0 x2 x3 x4 r7 x0 (1 : Int32) C3 I4 J5 R6))))))))) ∨
      (∃ q12 : Nat, o = .inr q12 ∧
      ((C3 q12).1 = 2 ∧
      Q138 x0 q12 C3 I4 J5 R6)))) :
    AW Γ 0 0 C I J R 0 [(0, aR (some x0)), (1, aI x1), (2, aI x2), (3, aI x3), (4, aI x4)] [] := by
  have G0 := G.1
  refine aw_aload_n G0 0 rfl dX0_grade_0 ?_
  refine aw_iconst (v := (0 : Int32)) G0 dX0_grade_1 (by decide) ?_
  obtain ⟨k1, h⟩ := h
  refine aw_putI (f := 5) G0 (by rw [k1]; exact fp_X0_63 _) dX0_grade_2 ?_
  generalize gI2 : va_up I x0 (va_up (I x0) 5 (0 : Int32)) = I2
  have h := h I2 gI2.symm
  refine aw_aload_n G0 0 rfl dX0_grade_5 ?_
  refine aw_iload_n G0 1 rfl dX0_grade_6 ?_
  refine aw_callV (k1 := 0) (n1 := 0) (k2 := 0) (n2 := 0) (st := []) G0 S_X0_leafOf gi_X0_249 (Or.inl (by rw [k1]; decide)) (by rw [k1]; rfl) md_X0_leafOf (Nat.le_of_ble_eq_true rfl) (by decide) (by rw [G.2.1]; decide) (by rw [G.2.1]; decide) [aI x1] rfl rfl dX0_grade_7 h (fun o C3 I4 J5 R6 h => ?_)
  rcases h with ⟨r7, rfl, h⟩ | ⟨q12, rfl, h⟩
  · show AW Γ 0 0 C3 I4 J5 R6 (7 + 3) [(0, aR (some x0)), (1, aI x1), (2, aI x2), (3, aI x3), (4, aI x4)] [aR (some r7)]
    refine aw_astore (lv' := [(5, aR (some r7)), (0, aR (some x0)), (1, aI x1), (2, aI x2), (3, aI x3), (4, aI x4)]) G0 (by decide) rfl dX0_grade_10 ?_
    refine aw_aload_n G0 1 rfl dX0_grade_12 ?_
    refine aw_iload_n G0 3 rfl dX0_grade_13 ?_
    refine aw_if_lt G0 39 dX0_grade_14 (by decide) (fun c8 => ?_) (fun c8 => ?_)
    · have h := h.1 c8
      exact (aw_lv [1, 3, 4, 5, 0] rfl (w39 x0 x2 x3 x4 r7 x0 C3 I4 J5 R6 h))
    · have h := h.2 c8
      refine aw_iload_n G0 3 rfl dX0_grade_17 ?_
      refine aw_iconst (v := (4 : Int32)) G0 dX0_grade_18 (by decide) ?_
      refine aw_icmp_ge G0 39 dX0_grade_19 (by decide) (fun c9 => ?_) (fun c9 => ?_)
      · have h := h.1 c9
        exact (aw_lv [1, 3, 4, 5, 0] rfl (w39 x0 x2 x3 x4 r7 x0 C3 I4 J5 R6 h))
      · have h := h.2 c9
        refine aw_iload G0 5 rfl dX0_grade_22 ?_
        refine aw_if_lt G0 39 dX0_grade_24 (by decide) (fun c10 => ?_) (fun c10 => ?_)
        · have h := h.1 c10
          exact (aw_lv [1, 3, 4, 5, 0] rfl (w39 x0 x2 x3 x4 r7 x0 C3 I4 J5 R6 h))
        · have h := h.2 c10
          refine aw_iload G0 5 rfl dX0_grade_27 ?_
          refine aw_sipush (v := (10000 : Int32)) G0 dX0_grade_29 (by decide) ?_
          refine aw_icmp_gt G0 39 dX0_grade_32 (by decide) (fun c11 => ?_) (fun c11 => ?_)
          · have h := h.1 c11
            exact (aw_lv [1, 3, 4, 5, 0] rfl (w39 x0 x2 x3 x4 r7 x0 C3 I4 J5 R6 h))
          · have h := h.2 c11
            refine aw_iconst (v := (1 : Int32)) G0 dX0_grade_35 (by decide) ?_
            refine aw_goto G0 40 dX0_grade_36 (by decide) ?_
            exact (aw_lv [1, 3, 4, 5, 0] rfl (w40 x0 x2 x3 x4 r7 x0 (1 : Int32) C3 I4 J5 R6 h))
  · show AX Γ 0 0 C3 I4 J5 R6 7 [(0, aR (some x0)), (1, aI x1), (2, aI x2), (3, aI x3), (4, aI x4)] q12
    obtain ⟨k13, h⟩ := h
    refine ax_catch G0 0 rfl (fun j hj _ _ _ _ _ => absurd hj (Nat.not_lt_zero j)) rfl (by decide) q84 (Or.inl k13) (by rw [k13]; exact q86) ?_
    exact (aw_wide (by decide) (by decide) (aw_lv [0] rfl (w138 x0 q12 C3 I4 J5 R6 h)))
theorem bX0_grade_39 (G : Gb Γ yX0_grade cX0_grade 7 (some .int) [(5, 137, 138, 53)] rmX0_grade bdX0_grade)
    {Q40 : Nat → Int32 → Int32 → Int32 → Nat → Nat → Int32 → MC → MI → MJ → MR → Prop} (w40 : ∀ (x0 : Nat) (x2 : Int32) (x3 : Int32) (x4 : Int32) (x5 : Nat) (s0 : Nat) (s1 : Int32) (C : MC) (I : MI) (J : MJ) (R : MR), Q40 x0 x2 x3 x4 x5 s0 s1 C I J R → AW Γ 0 0 C I J R 40 [(0, aR (some x0)), (2, aI x2), (3, aI x3), (4, aI x4), (5, aR (some x5))] [aI s1, aR (some s0)]) {x0 : Nat} {x2 : Int32} {x3 : Int32} {x4 : Int32} {x5 : Nat} {s0 : Nat}
    (h : Q40 x0 x2 x3 x4 x5 s0 (0 : Int32) C I J R) :
    AW Γ 0 0 C I J R 39 [(0, aR (some x0)), (2, aI x2), (3, aI x3), (4, aI x4), (5, aR (some x5))] [aR (some s0)] := by
  have G0 := G.1
  refine aw_iconst (v := (0 : Int32)) G0 dX0_grade_39 (by decide) ?_
  exact (w40 x0 x2 x3 x4 x5 s0 (0 : Int32) C I J R h)
theorem bX0_grade_40 (G : Gb Γ yX0_grade cX0_grade 7 (some .int) [(5, 137, 138, 53)] rmX0_grade bdX0_grade) {F_X0_want : SPF} (S_X0_want : SpX0_want (gL Γ) F_X0_want) {F_X0_wantMany : SPF} (S_X0_wantMany : SpX0_wantMany (gL Γ) F_X0_wantMany) {F_X0_weights : SPF} (S_X0_weights : SpX0_weights (gL Γ) F_X0_weights) {F_X0_choosers : SPF} (S_X0_choosers : SpX0_choosers (gL Γ) F_X0_choosers)
    {Q84 : Nat → Int32 → Nat → Nat → Nat → MC → MI → MJ → MR → Prop} (w84 : ∀ (x0 : Nat) (x4 : Int32) (x5 : Nat) (x6 : Nat) (s0 : Nat) (C : MC) (I : MI) (J : MJ) (R : MR), Q84 x0 x4 x5 x6 s0 C I J R → AW Γ 3 245 C I J R 84 [(0, aR (some x0)), (4, aI x4), (5, aR (some x5)), (6, aR (some x6))] [aR (some s0)])
    {Q88 : Nat → Int32 → Nat → Nat → Nat → MC → MI → MJ → MR → Prop} (w88 : ∀ (x0 : Nat) (x4 : Int32) (x5 : Nat) (x6 : Nat) (s0 : Nat) (C : MC) (I : MI) (J : MJ) (R : MR), Q88 x0 x4 x5 x6 s0 C I J R → AW Γ 3 245 C I J R 88 [(0, aR (some x0)), (4, aI x4), (5, aR (some x5)), (6, aR (some x6))] [aR (some s0)])
    {Q138 : Nat → Nat → MC → MI → MJ → MR → Prop} (w138 : ∀ (x0 : Nat) (s0 : Nat) (C : MC) (I : MI) (J : MJ) (R : MR), Q138 x0 s0 C I J R → AW Γ 3 245 C I J R 138 [(0, aR (some x0))] [aR (some s0)]) {x0 : Nat} {x2 : Int32} {x3 : Int32} {x4 : Int32} {x5 : Nat} {s0 : Nat} {s1 : Int32}
    (h : (C s0).1 = 1 ∧
      F_X0_want [aR (some s0), aI s1, aI (1 : Int32)] C I J R (fun o C2 I3 J4 R5 =>
      (o = .inl none ∧
      (C2 x0).1 = 1 ∧
      F_X0_wantMany [aR (some x0), aI x3] C2 I3 J4 R5 (fun o C8 I9 J10 R11 =>
      (o = .inl none ∧
      (C8 x0).1 = 1 ∧
      F_X0_weights [aR (some x0), aI x2, aI x3] C8 I9 J10 R11 (fun o C14 I15 J16 R17 =>
      (∃ r18 : Nat, o = .inl (some (aR (some r18))) ∧
      (C14 x5).1 = 5 ∧
      (((3 : Int32) ≤ (I15 x5 8) →
      Q88 x0 x4 x5 r18 x0 C14 I15 J16 R17) ∧
      (¬ (3 : Int32) ≤ (I15 x5 8) →
      (((1 : Int32) < (I15 x5 8) →
      Q84 x0 x4 x5 r18 x0 C14 I15 J16 R17) ∧
      (¬ (1 : Int32) < (I15 x5 8) →
      (C14 x0).1 = 1 ∧
      F_X0_choosers [aR (some x0)] C14 I15 J16 R17 (fun o C23 I24 J25 R26 =>
      ∃ r27 : Int32, o = .inl (some (aI r27)) ∧
      (((4 : Int32) ≤ r27 →
      Q88 x0 x4 x5 r18 x0 C23 I24 J25 R26) ∧
      (¬ (4 : Int32) ≤ r27 →
      Q84 x0 x4 x5 r18 x0 C23 I24 J25 R26)))))))) ∨
      (∃ q29 : Nat, o = .inr q29 ∧
      ((C14 q29).1 = 2 ∧
      Q138 x0 q29 C14 I15 J16 R17)))) ∨
      (∃ q31 : Nat, o = .inr q31 ∧
      ((C8 q31).1 = 2 ∧
      Q138 x0 q31 C8 I9 J10 R11)))) ∨
      (∃ q33 : Nat, o = .inr q33 ∧
      ((C2 q33).1 = 2 ∧
      Q138 x0 q33 C2 I3 J4 R5)))) :
    AW Γ 0 0 C I J R 40 [(0, aR (some x0)), (2, aI x2), (3, aI x3), (4, aI x4), (5, aR (some x5))] [aI s1, aR (some s0)] := by
  have G0 := G.1
  refine aw_iconst (v := (1 : Int32)) G0 dX0_grade_40 (by decide) ?_
  obtain ⟨k1, h⟩ := h
  refine aw_callV (k1 := 0) (n1 := 0) (k2 := 0) (n2 := 0) (st := []) G0 S_X0_want gi_X0_87 (Or.inl (by rw [k1]; decide)) (by rw [k1]; rfl) md_X0_want (Nat.le_of_ble_eq_true rfl) (by decide) (by rw [G.2.1]; decide) (by rw [G.2.1]; decide) [aI s1, aI (1 : Int32)] rfl rfl dX0_grade_41 h (fun o C2 I3 J4 R5 h => ?_)
  rcases h with ⟨rfl, h⟩ | ⟨q33, rfl, h⟩
  · show AW Γ 0 0 C2 I3 J4 R5 (41 + 3) [(0, aR (some x0)), (2, aI x2), (3, aI x3), (4, aI x4), (5, aR (some x5))] []
    refine aw_aload_n G0 0 rfl dX0_grade_44 ?_
    refine aw_iload_n G0 2 rfl dX0_grade_45 ?_
    obtain ⟨k7, h⟩ := h
    refine aw_callV (k1 := 0) (n1 := 0) (k2 := 0) (n2 := 0) (st := []) G0 S_X0_wantMany gi_X0_148 (Or.inl (by rw [k7]; decide)) (by rw [k7]; rfl) md_X0_wantMany (Nat.le_of_ble_eq_true rfl) (by decide) (by rw [G.2.1]; decide) (by rw [G.2.1]; decide) [aI x3] rfl rfl dX0_grade_46 h (fun o C8 I9 J10 R11 h => ?_)
    rcases h with ⟨rfl, h⟩ | ⟨q31, rfl, h⟩
    · show AW Γ 0 0 C8 I9 J10 R11 (46 + 3) [(0, aR (some x0)), (2, aI x2), (3, aI x3), (4, aI x4), (5, aR (some x5))] []
      refine aw_aload_n G0 0 rfl dX0_grade_49 ?_
      refine aw_iload_n G0 1 rfl dX0_grade_50 ?_
      refine aw_iload_n G0 2 rfl dX0_grade_51 ?_
      obtain ⟨k13, h⟩ := h
      refine aw_callV (k1 := 3) (n1 := 245) (k2 := 3) (n2 := 245) (st := []) G0 S_X0_weights gi_X0_152 (Or.inl (by rw [k13]; decide)) (by rw [k13]; rfl) md_X0_weights (Nat.le_of_ble_eq_true rfl) (by decide) (by rw [G.2.1]; decide) (by rw [G.2.1]; decide) [aI x2, aI x3] rfl rfl dX0_grade_52 h (fun o C14 I15 J16 R17 h => ?_)
      rcases h with ⟨r18, rfl, h⟩ | ⟨q29, rfl, h⟩
      · show AW Γ 3 245 C14 I15 J16 R17 (52 + 3) [(0, aR (some x0)), (2, aI x2), (3, aI x3), (4, aI x4), (5, aR (some x5))] [aR (some r18)]
        refine aw_astore (lv' := [(6, aR (some r18)), (0, aR (some x0)), (2, aI x2), (3, aI x3), (4, aI x4), (5, aR (some x5))]) G0 (by decide) rfl dX0_grade_55 ?_
        refine aw_aload_n G0 1 rfl dX0_grade_57 ?_
        refine aw_aload G0 5 rfl dX0_grade_58 ?_
        obtain ⟨k19, h⟩ := h
        refine aw_getI (f := 8) G0 (by rw [k19]; exact fb_X0_267) dX0_grade_60 ?_
        refine aw_iconst (v := (3 : Int32)) G0 dX0_grade_63 (by decide) ?_
        refine aw_icmp_ge G0 88 dX0_grade_64 (by decide) (fun c20 => ?_) (fun c20 => ?_)
        · have h := h.1 c20
          exact (aw_lv [1, 4, 5, 0] rfl (w88 x0 x4 x5 r18 x0 C14 I15 J16 R17 h))
        · have h := h.2 c20
          refine aw_aload G0 5 rfl dX0_grade_67 ?_
          refine aw_getI (f := 8) G0 (by rw [k19]; exact fb_X0_267) dX0_grade_69 ?_
          refine aw_iconst (v := (1 : Int32)) G0 dX0_grade_72 (by decide) ?_
          refine aw_icmp_gt G0 84 dX0_grade_73 (by decide) (fun c21 => ?_) (fun c21 => ?_)
          · have h := h.1 c21
            exact (aw_lv [1, 4, 5, 0] rfl (w84 x0 x4 x5 r18 x0 C14 I15 J16 R17 h))
          · have h := h.2 c21
            refine aw_aload_n G0 1 rfl dX0_grade_76 ?_
            obtain ⟨k22, h⟩ := h
            refine aw_callV (k1 := 3) (n1 := 245) (k2 := 3) (n2 := 245) (st := [aR (some x0)]) G0 S_X0_choosers gi_X0_270 (Or.inl (by rw [k22]; decide)) (by rw [k22]; rfl) md_X0_choosers (Nat.le_of_ble_eq_true rfl) (by decide) (by rw [G.2.1]; decide) (by rw [G.2.1]; decide) [] rfl rfl dX0_grade_77 h (fun o C23 I24 J25 R26 h => ?_)
            obtain ⟨r27, rfl, h⟩ := h
            show AW Γ 3 245 C23 I24 J25 R26 (77 + 3) [(6, aR (some r18)), (0, aR (some x0)), (2, aI x2), (3, aI x3), (4, aI x4), (5, aR (some x5))] [aI r27, aR (some x0)]
            refine aw_iconst (v := (4 : Int32)) G0 dX0_grade_80 (by decide) ?_
            refine aw_icmp_ge G0 88 dX0_grade_81 (by decide) (fun c28 => ?_) (fun c28 => ?_)
            · have h := h.1 c28
              exact (aw_lv [1, 4, 5, 0] rfl (w88 x0 x4 x5 r18 x0 C23 I24 J25 R26 h))
            · have h := h.2 c28
              exact (aw_lv [1, 4, 5, 0] rfl (w84 x0 x4 x5 r18 x0 C23 I24 J25 R26 h))
      · show AX Γ 3 245 C14 I15 J16 R17 52 [(0, aR (some x0)), (2, aI x2), (3, aI x3), (4, aI x4), (5, aR (some x5))] q29
        obtain ⟨k30, h⟩ := h
        refine ax_catch G0 0 rfl (fun j hj _ _ _ _ _ => absurd hj (Nat.not_lt_zero j)) rfl (by decide) q84 (Or.inl k30) (by rw [k30]; exact q86) ?_
        exact (aw_lv [0] rfl (w138 x0 q29 C14 I15 J16 R17 h))
    · show AX Γ 0 0 C8 I9 J10 R11 46 [(0, aR (some x0)), (2, aI x2), (3, aI x3), (4, aI x4), (5, aR (some x5))] q31
      obtain ⟨k32, h⟩ := h
      refine ax_catch G0 0 rfl (fun j hj _ _ _ _ _ => absurd hj (Nat.not_lt_zero j)) rfl (by decide) q84 (Or.inl k32) (by rw [k32]; exact q86) ?_
      exact (aw_wide (by decide) (by decide) (aw_lv [0] rfl (w138 x0 q31 C8 I9 J10 R11 h)))
  · show AX Γ 0 0 C2 I3 J4 R5 41 [(0, aR (some x0)), (2, aI x2), (3, aI x3), (4, aI x4), (5, aR (some x5))] q33
    obtain ⟨k34, h⟩ := h
    refine ax_catch G0 0 rfl (fun j hj _ _ _ _ _ => absurd hj (Nat.not_lt_zero j)) rfl (by decide) q84 (Or.inl k34) (by rw [k34]; exact q86) ?_
    exact (aw_wide (by decide) (by decide) (aw_lv [0] rfl (w138 x0 q33 C2 I3 J4 R5 h)))
theorem bX0_grade_84 (G : Gb Γ yX0_grade cX0_grade 7 (some .int) [(5, 137, 138, 53)] rmX0_grade bdX0_grade)
    {Q89 : Nat → Int32 → Nat → Nat → Nat → Int32 → MC → MI → MJ → MR → Prop} (w89 : ∀ (x0 : Nat) (x4 : Int32) (x5 : Nat) (x6 : Nat) (s0 : Nat) (s1 : Int32) (C : MC) (I : MI) (J : MJ) (R : MR), Q89 x0 x4 x5 x6 s0 s1 C I J R → AW Γ 3 245 C I J R 89 [(0, aR (some x0)), (4, aI x4), (5, aR (some x5)), (6, aR (some x6))] [aI s1, aR (some s0)]) {x0 : Nat} {x4 : Int32} {x5 : Nat} {x6 : Nat} {s0 : Nat}
    (h : Q89 x0 x4 x5 x6 s0 (1 : Int32) C I J R) :
    AW Γ 3 245 C I J R 84 [(0, aR (some x0)), (4, aI x4), (5, aR (some x5)), (6, aR (some x6))] [aR (some s0)] := by
  have G0 := G.1
  refine aw_iconst (v := (1 : Int32)) G0 dX0_grade_84 (by decide) ?_
  refine aw_goto G0 89 dX0_grade_85 (by decide) ?_
  exact (w89 x0 x4 x5 x6 s0 (1 : Int32) C I J R h)
theorem bX0_grade_88 (G : Gb Γ yX0_grade cX0_grade 7 (some .int) [(5, 137, 138, 53)] rmX0_grade bdX0_grade)
    {Q89 : Nat → Int32 → Nat → Nat → Nat → Int32 → MC → MI → MJ → MR → Prop} (w89 : ∀ (x0 : Nat) (x4 : Int32) (x5 : Nat) (x6 : Nat) (s0 : Nat) (s1 : Int32) (C : MC) (I : MI) (J : MJ) (R : MR), Q89 x0 x4 x5 x6 s0 s1 C I J R → AW Γ 3 245 C I J R 89 [(0, aR (some x0)), (4, aI x4), (5, aR (some x5)), (6, aR (some x6))] [aI s1, aR (some s0)]) {x0 : Nat} {x4 : Int32} {x5 : Nat} {x6 : Nat} {s0 : Nat}
    (h : Q89 x0 x4 x5 x6 s0 (0 : Int32) C I J R) :
    AW Γ 3 245 C I J R 88 [(0, aR (some x0)), (4, aI x4), (5, aR (some x5)), (6, aR (some x6))] [aR (some s0)] := by
  have G0 := G.1
  refine aw_iconst (v := (0 : Int32)) G0 dX0_grade_88 (by decide) ?_
  exact (w89 x0 x4 x5 x6 s0 (0 : Int32) C I J R h)
theorem bX0_grade_89 (G : Gb Γ yX0_grade cX0_grade 7 (some .int) [(5, 137, 138, 53)] rmX0_grade bdX0_grade) {F_X0_want : SPF} (S_X0_want : SpX0_want (gL Γ) F_X0_want)
    {Q138 : Nat → Nat → MC → MI → MJ → MR → Prop} (w138 : ∀ (x0 : Nat) (s0 : Nat) (C : MC) (I : MI) (J : MJ) (R : MR), Q138 x0 s0 C I J R → AW Γ 3 245 C I J R 138 [(0, aR (some x0))] [aR (some s0)]) {x0 : Nat} {x4 : Int32} {x5 : Nat} {x6 : Nat} {s0 : Nat} {s1 : Int32}
    (h : (C s0).1 = 1 ∧
      F_X0_want [aR (some s0), aI s1, aI (4 : Int32)] C I J R (fun o C2 I3 J4 R5 =>
      (o = .inl none ∧
      (C2 x5).1 = 5 ∧
      ∃ q8 : Nat, R5 x5 6 = some q8 ∧
      (25 ≤ (C2 q8).1 ∧ (C2 q8).1 < 29) ∧
      kFit (C2 q8).1 (C2 x6).1 ∧
      vp_in (I3 x5 8) (C2 q8).2 ∧
      ∀ R12 : MR, R12 = va_up R5 q8 (va_up (R5 q8) (I3 x5 8).toNatClampNeg (some x6)) →
      ∃ q13 : Nat, R12 x5 7 = some q13 ∧
      (C2 q13).1 = 20 ∧
      vp_in (I3 x5 8) (C2 q13).2 ∧
      ∀ I16 : MI, I16 = va_up I3 q13 (va_up (I3 q13) (I3 x5 8).toNatClampNeg x4) →
      ∀ I17 : MI, I17 = va_up I16 x5 (va_up (I16 x5) 8 ((I16 x5 8) + (1 : Int32))) →
      gK Γ (.inl (some (aI ((I17 x5 8) - (1 : Int32))))) C2 I17 J4 R12) ∨
      (∃ q18 : Nat, o = .inr q18 ∧
      ((C2 q18).1 = 2 ∧
      Q138 x0 q18 C2 I3 J4 R5)))) :
    AW Γ 3 245 C I J R 89 [(0, aR (some x0)), (4, aI x4), (5, aR (some x5)), (6, aR (some x6))] [aI s1, aR (some s0)] := by
  have G0 := G.1
  refine aw_iconst (v := (4 : Int32)) G0 dX0_grade_89 (by decide) ?_
  obtain ⟨k1, h⟩ := h
  refine aw_callV (k1 := 3) (n1 := 245) (k2 := 3) (n2 := 245) (st := []) G0 S_X0_want gi_X0_87 (Or.inl (by rw [k1]; decide)) (by rw [k1]; rfl) md_X0_want (Nat.le_of_ble_eq_true rfl) (by decide) (by rw [G.2.1]; decide) (by rw [G.2.1]; decide) [aI s1, aI (4 : Int32)] rfl rfl dX0_grade_90 h (fun o C2 I3 J4 R5 h => ?_)
  rcases h with ⟨rfl, h⟩ | ⟨q18, rfl, h⟩
  · show AW Γ 3 245 C2 I3 J4 R5 (90 + 3) [(0, aR (some x0)), (4, aI x4), (5, aR (some x5)), (6, aR (some x6))] []
    refine aw_aload G0 2 rfl dX0_grade_93 ?_
    obtain ⟨k7, h⟩ := h
    refine aw_getR (f := 6) G0 (by rw [k7]; exact fb_X0_260) dX0_grade_95 ?_
    refine aw_aload G0 2 rfl dX0_grade_98 ?_
    refine aw_getI (f := 8) G0 (by rw [k7]; exact fb_X0_267) dX0_grade_100 ?_
    refine aw_aload G0 3 rfl dX0_grade_103 ?_
    obtain ⟨q8, e8, h⟩ := h
    refine aw_dr2 e8 ?_
    obtain ⟨k9, h⟩ := h
    obtain ⟨k10, h⟩ := h
    obtain ⟨k11, h⟩ := h
    refine aw_aast G0 k9 (kFit_1 k10) (kFit_2 k10) k11 dX0_grade_105 ?_
    generalize gR12 : va_up R5 q8 (va_up (R5 q8) (I3 x5 8).toNatClampNeg (some x6)) = R12
    have h := h R12 gR12.symm
    refine aw_aload G0 2 rfl dX0_grade_106 ?_
    refine aw_getR (f := 7) G0 (by rw [k7]; exact fb_X0_264) dX0_grade_108 ?_
    refine aw_aload G0 2 rfl dX0_grade_111 ?_
    refine aw_getI (f := 8) G0 (by rw [k7]; exact fb_X0_267) dX0_grade_113 ?_
    refine aw_iload G0 1 rfl dX0_grade_116 ?_
    obtain ⟨q13, e13, h⟩ := h
    refine aw_dr2 e13 ?_
    obtain ⟨k14, h⟩ := h
    obtain ⟨k15, h⟩ := h
    refine aw_iast G0 k14 k15 dX0_grade_118 ?_
    generalize gI16 : va_up I3 q13 (va_up (I3 q13) (I3 x5 8).toNatClampNeg x4) = I16
    have h := h I16 gI16.symm
    refine aw_aload G0 2 rfl dX0_grade_119 ?_
    refine aw_dupR G0 dX0_grade_121 ?_
    refine aw_getI (f := 8) G0 (by rw [k7]; exact fb_X0_267) dX0_grade_122 ?_
    refine aw_iconst (v := (1 : Int32)) G0 dX0_grade_125 (by decide) ?_
    refine aw_iadd G0 dX0_grade_126 ?_
    refine aw_putI (f := 8) G0 (by rw [k7]; exact fp_X0_267 _) dX0_grade_127 ?_
    generalize gI17 : va_up I16 x5 (va_up (I16 x5) 8 ((I16 x5 8) + (1 : Int32))) = I17
    have h := h I17 gI17.symm
    refine aw_aload G0 2 rfl dX0_grade_130 ?_
    refine aw_getI (f := 8) G0 (by rw [k7]; exact fb_X0_267) dX0_grade_132 ?_
    refine aw_iconst (v := (1 : Int32)) G0 dX0_grade_135 (by decide) ?_
    refine aw_isub G0 dX0_grade_136 ?_
    exact aw_ireturn G0 (Or.inl rfl) (by rw [G.2.2]; decide) (by rw [G.2.1]; decide) dX0_grade_137 h
  · show AX Γ 3 245 C2 I3 J4 R5 90 [(0, aR (some x0)), (4, aI x4), (5, aR (some x5)), (6, aR (some x6))] q18
    obtain ⟨k19, h⟩ := h
    refine ax_catch G0 0 rfl (fun j hj _ _ _ _ _ => absurd hj (Nat.not_lt_zero j)) rfl (by decide) q84 (Or.inl k19) (by rw [k19]; exact q86) ?_
    exact (aw_lv [0] rfl (w138 x0 q18 C2 I3 J4 R5 h))
theorem bX0_grade_138 (G : Gb Γ yX0_grade cX0_grade 7 (some .int) [(5, 137, 138, 53)] rmX0_grade bdX0_grade) {F_X0_none : SPF} (S_X0_none : SpX0_none (gL Γ) F_X0_none) {x0 : Nat} {s0 : Nat}
    (h : (C x0).1 = 1 ∧
      F_X0_none [aR (some x0), aR (some s0)] C I J R (fun o C2 I3 J4 R5 =>
      ∃ r6 : Int32, o = .inl (some (aI r6)) ∧
      gK Γ (.inl (some (aI r6))) C2 I3 J4 R5)) :
    AW Γ 3 245 C I J R 138 [(0, aR (some x0))] [aR (some s0)] := by
  have G0 := G.1
  refine aw_astore (lv' := [(5, aR (some s0)), (0, aR (some x0))]) G0 (by decide) rfl dX0_grade_138 ?_
  refine aw_aload_n G0 1 rfl dX0_grade_140 ?_
  refine aw_aload G0 0 rfl dX0_grade_141 ?_
  obtain ⟨k1, h⟩ := h
  refine aw_callV (k1 := 3) (n1 := 245) (k2 := 3) (n2 := 245) (st := []) G0 S_X0_none gi_X0_117 (Or.inl (by rw [k1]; decide)) (by rw [k1]; rfl) md_X0_none (Nat.le_of_ble_eq_true rfl) (by decide) (by rw [G.2.1]; decide) (by rw [G.2.1]; decide) [aR (some s0)] rfl rfl dX0_grade_143 h (fun o C2 I3 J4 R5 h => ?_)
  obtain ⟨r6, rfl, h⟩ := h
  show AW Γ 3 245 C2 I3 J4 R5 (143 + 3) [(5, aR (some s0)), (0, aR (some x0))] [aI r6]
  exact aw_ireturn G0 (Or.inl rfl) (by rw [G.2.2]; decide) (by rw [G.2.1]; decide) dX0_grade_146 h
theorem bX0_choosers_0 (G : Gb Γ yX0_choosers cX0_choosers 5 (some .int) [] rmX0_choosers bdX0_choosers)
    {Q4 : Nat → Int32 → Int32 → MC → MI → MJ → MR → Prop} (w4 : ∀ (x0 : Nat) (x1 : Int32) (x3 : Int32) (C : MC) (I : MI) (J : MJ) (R : MR), Q4 x0 x1 x3 C I J R → AW Γ 0 0 C I J R 4 [(0, aR (some x0)), (1, aI x1), (3, aI x3)] []) {x0 : Nat}
    (h : Q4 x0 (0 : Int32) (0 : Int32) C I J R) :
    AW Γ 0 0 C I J R 0 [(0, aR (some x0))] [] := by
  have G0 := G.1
  refine aw_iconst (v := (0 : Int32)) G0 dX0_choosers_0 (by decide) ?_
  refine aw_istore_n (lv' := [(1, aI (0 : Int32)), (0, aR (some x0))]) G0 (by decide) rfl dX0_choosers_1 ?_
  refine aw_iconst (v := (0 : Int32)) G0 dX0_choosers_2 (by decide) ?_
  refine aw_istore_n (lv' := [(3, aI (0 : Int32)), (1, aI (0 : Int32)), (0, aR (some x0))]) G0 (by decide) rfl dX0_choosers_3 ?_
  exact (aw_lv [2, 1, 0] rfl (w4 x0 (0 : Int32) (0 : Int32) C I J R h))
theorem bX0_choosers_4 (G : Gb Γ yX0_choosers cX0_choosers 5 (some .int) [] rmX0_choosers bdX0_choosers)
    {Q47 : Nat → Int32 → Int32 → MC → MI → MJ → MR → Prop} (w47 : ∀ (x0 : Nat) (x3 : Int32) (s0 : Int32) (C : MC) (I : MI) (J : MJ) (R : MR), Q47 x0 x3 s0 C I J R → AW Γ 0 0 C I J R 47 [(0, aR (some x0)), (3, aI x3)] [aI s0])
    {Q48 : Nat → Int32 → Int32 → Int32 → MC → MI → MJ → MR → Prop} (w48 : ∀ (x0 : Nat) (x3 : Int32) (s0 : Int32) (s1 : Int32) (C : MC) (I : MI) (J : MJ) (R : MR), Q48 x0 x3 s0 s1 C I J R → AW Γ 0 0 C I J R 48 [(0, aR (some x0)), (3, aI x3)] [aI s1, aI s0]) {x0 : Nat} {x1 : Int32} {x3 : Int32}
    (h : (C x0).1 = 1 ∧
      (((I x0 3) ≤ x3 →
      gK Γ (.inl (some (aI x1))) C I J R) ∧
      (¬ (I x0 3) ≤ x3 →
      ∃ q3 : Nat, R x0 2 = some q3 ∧
      (25 ≤ (C q3).1 ∧ (C q3).1 < 30) ∧
      vp_in x3 (C q3).2 ∧
      ∃ q6 : Nat, R q3 x3.toNatClampNeg = some q6 ∧
      kTh (C q6).1 ∧
      (((C q6).1 = 5 →
      (((I q6 8) ≤ (1 : Int32) →
      Q47 x0 x3 x1 C I J R) ∧
      (¬ (I q6 8) ≤ (1 : Int32) →
      Q48 x0 x3 x1 (1 : Int32) C I J R))) ∧
      (¬ (C q6).1 = 5 →
      Q47 x0 x3 x1 C I J R))))) :
    AW Γ 0 0 C I J R 4 [(0, aR (some x0)), (1, aI x1), (3, aI x3)] [] := by
  have G0 := G.1
  refine aw_iload_n G0 2 rfl dX0_choosers_4 ?_
  refine aw_aload_n G0 0 rfl dX0_choosers_5 ?_
  obtain ⟨k1, h⟩ := h
  refine aw_getI (f := 3) G0 (by rw [k1]; exact fb_X0_133) dX0_choosers_6 ?_
  refine aw_icmp_ge G0 56 dX0_choosers_9 (by decide) (fun c2 => ?_) (fun c2 => ?_)
  · have h := h.1 c2
    refine aw_iload_n G0 1 rfl dX0_choosers_56 ?_
    exact aw_ireturn G0 (Or.inl rfl) (by rw [G.2.2]; decide) (by rw [G.2.1]; decide) dX0_choosers_57 h
  · have h := h.2 c2
    refine aw_iload_n G0 1 rfl dX0_choosers_12 ?_
    refine aw_aload_n G0 0 rfl dX0_choosers_13 ?_
    refine aw_getR (f := 2) G0 (by rw [k1]; exact fb_X0_49) dX0_choosers_14 ?_
    refine aw_iload_n G0 2 rfl dX0_choosers_17 ?_
    obtain ⟨q3, e3, h⟩ := h
    refine aw_dr1 e3 ?_
    obtain ⟨k4, h⟩ := h
    obtain ⟨k5, h⟩ := h
    refine aw_aald G0 k4 k5 dX0_choosers_18 ?_
    refine aw_astore (lv' := [(4, aR (R q3 x3.toNatClampNeg)), (0, aR (some x0)), (1, aI x1), (3, aI x3)]) G0 (by decide) rfl dX0_choosers_19 ?_
    refine aw_aload G0 0 rfl dX0_choosers_21 ?_
    obtain ⟨q6, e6, h⟩ := h
    refine aw_dr0 e6 ?_
    obtain ⟨k7, h⟩ := h
    by_cases c8 : (C q6).1 = 5
    · have h := h.1 c8
      refine aw_inst1 G0 q355 (ki_thr k7) (by rw [c8]; rfl) dX0_choosers_23 ?_
      refine aw_if_eq G0 47 dX0_choosers_26 (by decide) (fun z => absurd z (by decide)) (fun _ => ?_)
      refine aw_aload G0 0 rfl dX0_choosers_29 ?_
      refine aw_dr0 e6 ?_
      refine aw_cast G0 q355 (Or.inl (by rw [c8]; decide)) (by rw [c8]; rfl) dX0_choosers_31 ?_
      refine aw_astore_n (lv' := [(2, aR (some q6)), (4, aR (R q3 x3.toNatClampNeg)), (0, aR (some x0)), (1, aI x1), (3, aI x3)]) G0 (by decide) rfl dX0_choosers_34 ?_
      refine aw_aload_n G0 0 rfl dX0_choosers_35 ?_
      refine aw_getI (f := 8) G0 (by rw [c8]; exact fb_X0_267) dX0_choosers_36 ?_
      refine aw_iconst (v := (1 : Int32)) G0 dX0_choosers_39 (by decide) ?_
      refine aw_icmp_le G0 47 dX0_choosers_40 (by decide) (fun c9 => ?_) (fun c9 => ?_)
      · have h := h.1 c9
        exact (aw_lv [2, 4] rfl (w47 x0 x3 x1 C I J R h))
      · have h := h.2 c9
        refine aw_iconst (v := (1 : Int32)) G0 dX0_choosers_43 (by decide) ?_
        refine aw_goto G0 48 dX0_choosers_44 (by decide) ?_
        exact (aw_lv [2, 4] rfl (w48 x0 x3 x1 (1 : Int32) C I J R h))
    · have h := h.2 c8
      refine aw_inst0 G0 q355 (ki_thr k7) (ki_thn k7 c8) dX0_choosers_23 ?_
      refine aw_if_eq G0 47 dX0_choosers_26 (by decide) (fun _ => ?_) (fun z => absurd z (by decide))
      exact (aw_lv [1, 3] rfl (w47 x0 x3 x1 C I J R h))
theorem bX0_choosers_47 (G : Gb Γ yX0_choosers cX0_choosers 5 (some .int) [] rmX0_choosers bdX0_choosers)
    {Q48 : Nat → Int32 → Int32 → Int32 → MC → MI → MJ → MR → Prop} (w48 : ∀ (x0 : Nat) (x3 : Int32) (s0 : Int32) (s1 : Int32) (C : MC) (I : MI) (J : MJ) (R : MR), Q48 x0 x3 s0 s1 C I J R → AW Γ 0 0 C I J R 48 [(0, aR (some x0)), (3, aI x3)] [aI s1, aI s0]) {x0 : Nat} {x3 : Int32} {s0 : Int32}
    (h : Q48 x0 x3 s0 (0 : Int32) C I J R) :
    AW Γ 0 0 C I J R 47 [(0, aR (some x0)), (3, aI x3)] [aI s0] := by
  have G0 := G.1
  refine aw_iconst (v := (0 : Int32)) G0 dX0_choosers_47 (by decide) ?_
  exact (w48 x0 x3 s0 (0 : Int32) C I J R h)
theorem bX0_choosers_48 (G : Gb Γ yX0_choosers cX0_choosers 5 (some .int) [] rmX0_choosers bdX0_choosers)
    {Q4 : Nat → Int32 → Int32 → MC → MI → MJ → MR → Prop} (w4 : ∀ (x0 : Nat) (x1 : Int32) (x3 : Int32) (C : MC) (I : MI) (J : MJ) (R : MR), Q4 x0 x1 x3 C I J R → AW Γ 0 0 C I J R 4 [(0, aR (some x0)), (1, aI x1), (3, aI x3)] []) {x0 : Nat} {x3 : Int32} {s0 : Int32} {s1 : Int32}
    (h : Q4 x0 (s0 + s1) (x3 + 1) C I J R) :
    AW Γ 0 0 C I J R 48 [(0, aR (some x0)), (3, aI x3)] [aI s1, aI s0] := by
  have G0 := G.1
  refine aw_iadd G0 dX0_choosers_48 ?_
  refine aw_istore_n (lv' := [(1, aI (s0 + s1)), (0, aR (some x0)), (3, aI x3)]) G0 (by decide) rfl dX0_choosers_49 ?_
  refine aw_iinc (v := x3 + 1) (lv' := [(3, aI (x3 + 1)), (1, aI (s0 + s1)), (0, aR (some x0))]) G0 2 rfl rfl (by decide) rfl dX0_choosers_50 ?_
  refine aw_goto G0 4 dX0_choosers_53 (by decide) ?_
  exact (aw_lv [2, 1, 0] rfl (w4 x0 (s0 + s1) (x3 + 1) C I J R h))
theorem bX0_best_0 (G : Gb Γ yX0_best cX0_best 21 (some .int) [(11, 307, 348, 53), (11, 307, 399, 13), (11, 307, 448, 0), (348, 358, 448, 0), (399, 407, 448, 0), (448, 450, 448, 0)] rmX0_best bdX0_best) {F_X0_thing : SPF} (S_X0_thing : SpX0_thing (gL Γ) F_X0_thing) {F_X0_isShare : SPF} (S_X0_isShare : SpX0_isShare (gL Γ) F_X0_isShare)
    {Q42 : Nat → Int32 → Int32 → Int32 → Nat → Nat → Nat → MC → MI → MJ → MR → Prop} (w42 : ∀ (x0 : Nat) (x2 : Int32) (x3 : Int32) (x4 : Int32) (x5 : Nat) (x6 : Nat) (s0 : Nat) (C : MC) (I : MI) (J : MJ) (R : MR), Q42 x0 x2 x3 x4 x5 x6 s0 C I J R → AW Γ 1 0 C I J R 42 [(0, aR (some x0)), (2, aI x2), (3, aI x3), (4, aI x4), (5, aR (some x5)), (6, aR (some x6))] [aR (some s0)])
    {Q43 : Nat → Int32 → Int32 → Int32 → Nat → Nat → Nat → Int32 → MC → MI → MJ → MR → Prop} (w43 : ∀ (x0 : Nat) (x2 : Int32) (x3 : Int32) (x4 : Int32) (x5 : Nat) (x6 : Nat) (s0 : Nat) (s1 : Int32) (C : MC) (I : MI) (J : MJ) (R : MR), Q43 x0 x2 x3 x4 x5 x6 s0 s1 C I J R → AW Γ 1 0 C I J R 43 [(0, aR (some x0)), (2, aI x2), (3, aI x3), (4, aI x4), (5, aR (some x5)), (6, aR (some x6))] [aI s1, aR (some s0)])
    {Q348 : Nat → Nat → Nat → MC → MI → MJ → MR → Prop} (w348 : ∀ (x0 : Nat) (x5 : Nat) (s0 : Nat) (C : MC) (I : MI) (J : MJ) (R : MR), Q348 x0 x5 s0 C I J R → AW Γ 3 40 C I J R 348 [(0, aR (some x0)), (5, aR (some x5))] [aR (some s0)]) {x0 : Nat} {x1 : Int32} {x2 : Int32} {x3 : Int32} {x4 : Int32}
    (h : (C x0).1 = 1 ∧
      ∀ I2 : MI, I2 = va_up I x0 (va_up (I x0) 5 (0 : Int32)) →
      ∃ q3 : Nat, (C q3).1 = 0 ∧
      ∀ (C5 : MC) (I6 : MI) (J7 : MJ) (R8 : MR), C5 = va_up C q3 (28, 0) → I6 = va_up I2 q3 (fun _ => 0) → J7 = va_up J q3 (fun _ => 0) → R8 = va_up R q3 (fun _ => none) → 
      (C5 x0).1 = 1 ∧
      F_X0_thing [aR (some x0), aI x1] C5 I6 J7 R8 (fun o C10 I11 J12 R13 =>
      (∃ r14 : Nat, o = .inl (some (aR (some r14))) ∧
      ((x2 < 0 →
      Q42 x0 x2 x3 x4 q3 r14 x0 C10 I11 J12 R13) ∧
      (¬ x2 < 0 →
      (((120 : Int32) < x2 →
      Q42 x0 x2 x3 x4 q3 r14 x0 C10 I11 J12 R13) ∧
      (¬ (120 : Int32) < x2 →
      F_X0_isShare [aI x3, aI x4] C10 I11 J12 R13 (fun o C17 I18 J19 R20 =>
      ∃ r21 : Int32, o = .inl (some (aI r21)) ∧
      ((r21 = 0 →
      Q42 x0 x2 x3 x4 q3 r14 x0 C17 I18 J19 R20) ∧
      (¬ r21 = 0 →
      Q43 x0 x2 x3 x4 q3 r14 x0 (1 : Int32) C17 I18 J19 R20)))))))) ∨
      (∃ q23 : Nat, o = .inr q23 ∧
      ((C10 q23).1 = 2 ∧
      Q348 x0 q3 q23 C10 I11 J12 R13)))) :
    AW Γ 0 0 C I J R 0 [(0, aR (some x0)), (1, aI x1), (2, aI x2), (3, aI x3), (4, aI x4)] [] := by
  have G0 := G.1
  refine aw_aload_n G0 0 rfl dX0_best_0 ?_
  refine aw_iconst (v := (0 : Int32)) G0 dX0_best_1 (by decide) ?_
  obtain ⟨k1, h⟩ := h
  refine aw_putI (f := 5) G0 (by rw [k1]; exact fp_X0_63 _) dX0_best_2 ?_
  generalize gI2 : va_up I x0 (va_up (I x0) 5 (0 : Int32)) = I2
  have h := h I2 gI2.symm
  refine aw_iconst (v := (0 : Int32)) G0 dX0_best_5 (by decide) ?_
  obtain ⟨q3, z4, h⟩ := h
  refine aw_newqL (q := q3) (k' := 1) (n' := 0) (N := 0) G0 q355 (by decide) (by decide) (by decide) (by decide) (by decide) (by rw [G.2.1]; decide) (by rw [G.2.1]; decide) z4 dX0_best_6 ?_
  generalize gC5 : va_up C q3 (28, 0) = C5
  generalize gI6 : va_up I2 q3 (fun _ => 0) = I6
  generalize gJ7 : va_up J q3 (fun _ => 0) = J7
  generalize gR8 : va_up R q3 (fun _ => none) = R8
  have h := h C5 I6 J7 R8 gC5.symm gI6.symm gJ7.symm gR8.symm
  refine aw_astore (lv' := [(5, aR (some q3)), (0, aR (some x0)), (1, aI x1), (2, aI x2), (3, aI x3), (4, aI x4)]) G0 (by decide) rfl dX0_best_9 ?_
  refine aw_aload_n G0 1 rfl dX0_best_11 ?_
  refine aw_iload_n G0 2 rfl dX0_best_12 ?_
  obtain ⟨k9, h⟩ := h
  refine aw_callV (k1 := 1) (n1 := 0) (k2 := 1) (n2 := 0) (st := []) G0 S_X0_thing gi_X0_163 (Or.inl (by rw [k9]; decide)) (by rw [k9]; rfl) md_X0_thing (Nat.le_of_ble_eq_true rfl) (by decide) (by rw [G.2.1]; decide) (by rw [G.2.1]; decide) [aI x1] rfl rfl dX0_best_13 h (fun o C10 I11 J12 R13 h => ?_)
  rcases h with ⟨r14, rfl, h⟩ | ⟨q23, rfl, h⟩
  · show AW Γ 1 0 C10 I11 J12 R13 (13 + 3) [(5, aR (some q3)), (0, aR (some x0)), (1, aI x1), (2, aI x2), (3, aI x3), (4, aI x4)] [aR (some r14)]
    refine aw_astore (lv' := [(6, aR (some r14)), (5, aR (some q3)), (0, aR (some x0)), (1, aI x1), (2, aI x2), (3, aI x3), (4, aI x4)]) G0 (by decide) rfl dX0_best_16 ?_
    refine aw_aload_n G0 2 rfl dX0_best_18 ?_
    refine aw_iload_n G0 4 rfl dX0_best_19 ?_
    refine aw_if_lt G0 42 dX0_best_20 (by decide) (fun c15 => ?_) (fun c15 => ?_)
    · have h := h.1 c15
      exact (aw_lv [2, 4, 5, 6, 1, 0] rfl (w42 x0 x2 x3 x4 q3 r14 x0 C10 I11 J12 R13 h))
    · have h := h.2 c15
      refine aw_iload_n G0 4 rfl dX0_best_23 ?_
      refine aw_bipush (v := (120 : Int32)) G0 dX0_best_24 (by decide) ?_
      refine aw_icmp_gt G0 42 dX0_best_26 (by decide) (fun c16 => ?_) (fun c16 => ?_)
      · have h := h.1 c16
        exact (aw_lv [2, 4, 5, 6, 1, 0] rfl (w42 x0 x2 x3 x4 q3 r14 x0 C10 I11 J12 R13 h))
      · have h := h.2 c16
        refine aw_iload_n G0 5 rfl dX0_best_29 ?_
        refine aw_iload G0 6 rfl dX0_best_30 ?_
        refine aw_callS (k1 := 1) (n1 := 0) (k2 := 1) (n2 := 0) (st := [aR (some x0)]) G0 S_X0_isShare gi_X0_237 md_X0_isShare (Nat.le_of_ble_eq_true rfl) (by decide) (by rw [G.2.1]; decide) (by rw [G.2.1]; decide) [aI x3, aI x4] rfl rfl dX0_best_32 h (fun o C17 I18 J19 R20 h => ?_)
        obtain ⟨r21, rfl, h⟩ := h
        show AW Γ 1 0 C17 I18 J19 R20 (32 + 3) [(6, aR (some r14)), (5, aR (some q3)), (0, aR (some x0)), (1, aI x1), (2, aI x2), (3, aI x3), (4, aI x4)] [aI r21, aR (some x0)]
        refine aw_if_eq G0 42 dX0_best_35 (by decide) (fun c22 => ?_) (fun c22 => ?_)
        · have h := h.1 c22
          exact (aw_lv [2, 4, 5, 6, 1, 0] rfl (w42 x0 x2 x3 x4 q3 r14 x0 C17 I18 J19 R20 h))
        · have h := h.2 c22
          refine aw_iconst (v := (1 : Int32)) G0 dX0_best_38 (by decide) ?_
          refine aw_goto G0 43 dX0_best_39 (by decide) ?_
          exact (aw_lv [2, 4, 5, 6, 1, 0] rfl (w43 x0 x2 x3 x4 q3 r14 x0 (1 : Int32) C17 I18 J19 R20 h))
  · show AX Γ 1 0 C10 I11 J12 R13 13 [(5, aR (some q3)), (0, aR (some x0)), (1, aI x1), (2, aI x2), (3, aI x3), (4, aI x4)] q23
    obtain ⟨k24, h⟩ := h
    refine ax_catch G0 0 rfl (fun j hj _ _ _ _ _ => absurd hj (Nat.not_lt_zero j)) rfl (by decide) q84 (Or.inl k24) (by rw [k24]; exact q86) ?_
    exact (aw_wide (by decide) (by decide) (aw_lv [1, 0] rfl (w348 x0 q3 q23 C10 I11 J12 R13 h)))
theorem bX0_best_42 (G : Gb Γ yX0_best cX0_best 21 (some .int) [(11, 307, 348, 53), (11, 307, 399, 13), (11, 307, 448, 0), (348, 358, 448, 0), (399, 407, 448, 0), (448, 450, 448, 0)] rmX0_best bdX0_best)
    {Q43 : Nat → Int32 → Int32 → Int32 → Nat → Nat → Nat → Int32 → MC → MI → MJ → MR → Prop} (w43 : ∀ (x0 : Nat) (x2 : Int32) (x3 : Int32) (x4 : Int32) (x5 : Nat) (x6 : Nat) (s0 : Nat) (s1 : Int32) (C : MC) (I : MI) (J : MJ) (R : MR), Q43 x0 x2 x3 x4 x5 x6 s0 s1 C I J R → AW Γ 1 0 C I J R 43 [(0, aR (some x0)), (2, aI x2), (3, aI x3), (4, aI x4), (5, aR (some x5)), (6, aR (some x6))] [aI s1, aR (some s0)]) {x0 : Nat} {x2 : Int32} {x3 : Int32} {x4 : Int32} {x5 : Nat} {x6 : Nat} {s0 : Nat}
    (h : Q43 x0 x2 x3 x4 x5 x6 s0 (0 : Int32) C I J R) :
    AW Γ 1 0 C I J R 42 [(0, aR (some x0)), (2, aI x2), (3, aI x3), (4, aI x4), (5, aR (some x5)), (6, aR (some x6))] [aR (some s0)] := by
  have G0 := G.1
  refine aw_iconst (v := (0 : Int32)) G0 dX0_best_42 (by decide) ?_
  exact (w43 x0 x2 x3 x4 x5 x6 s0 (0 : Int32) C I J R h)
theorem bX0_best_43 (G : Gb Γ yX0_best cX0_best 21 (some .int) [(11, 307, 348, 53), (11, 307, 399, 13), (11, 307, 448, 0), (348, 358, 448, 0), (399, 407, 448, 0), (448, 450, 448, 0)] rmX0_best bdX0_best) {F_X0_want : SPF} (S_X0_want : SpX0_want (gL Γ) F_X0_want) {F_X0_leaves : SPF} (S_X0_leaves : SpX0_leaves (gL Γ) F_X0_leaves)
    {Q68 : Nat → Int32 → Int32 → Int32 → Nat → Nat → Nat → Int32 → Int32 → MC → MI → MJ → MR → Prop} (w68 : ∀ (x0 : Nat) (x2 : Int32) (x3 : Int32) (x4 : Int32) (x5 : Nat) (x6 : Nat) (x7 : Nat) (x8 : Int32) (x9 : Int32) (C : MC) (I : MI) (J : MJ) (R : MR), Q68 x0 x2 x3 x4 x5 x6 x7 x8 x9 C I J R → AW Γ 3 40 C I J R 68 [(0, aR (some x0)), (2, aI x2), (3, aI x3), (4, aI x4), (5, aR (some x5)), (6, aR (some x6)), (7, aR (some x7)), (8, aI x8), (9, aI x9)] [])
    {Q348 : Nat → Nat → Nat → MC → MI → MJ → MR → Prop} (w348 : ∀ (x0 : Nat) (x5 : Nat) (s0 : Nat) (C : MC) (I : MI) (J : MJ) (R : MR), Q348 x0 x5 s0 C I J R → AW Γ 3 40 C I J R 348 [(0, aR (some x0)), (5, aR (some x5))] [aR (some s0)]) {x0 : Nat} {x2 : Int32} {x3 : Int32} {x4 : Int32} {x5 : Nat} {x6 : Nat} {s0 : Nat} {s1 : Int32}
    (h : (C s0).1 = 1 ∧
      F_X0_want [aR (some s0), aI s1, aI (1 : Int32)] C I J R (fun o C2 I3 J4 R5 =>
      (o = .inl none ∧
      (C2 x0).1 = 1 ∧
      F_X0_leaves [aR (some x0), aR (some x6)] C2 I3 J4 R5 (fun o C8 I9 J10 R11 =>
      ∃ r12 : Nat, o = .inl (some (aR (some r12))) ∧
      (20 ≤ (C8 r12).1 ∧ (C8 r12).1 ≤ 30) ∧
      ¬ (nI (C8 r12).2) < 0 ∧
      (nI (C8 r12).2).toNatClampNeg ≤ 20 ∧
      ∃ q14 : Nat, (C8 q14).1 = 0 ∧
      ∀ (C18 : MC) (I19 : MI) (J20 : MJ) (R21 : MR), C18 = va_up C8 q14 (20, (nI (C8 r12).2).toNatClampNeg) → I19 = va_up I9 q14 (fun _ => 0) → J20 = va_up J10 q14 (fun _ => 0) → R21 = va_up R11 q14 (fun _ => none) → 
      Q68 x0 x2 x3 x4 r12 x6 q14 (-1 : Int32) (1 : Int32) C18 I19 J20 R21)) ∨
      (∃ q22 : Nat, o = .inr q22 ∧
      ((C2 q22).1 = 2 ∧
      Q348 x0 x5 q22 C2 I3 J4 R5)))) :
    AW Γ 1 0 C I J R 43 [(0, aR (some x0)), (2, aI x2), (3, aI x3), (4, aI x4), (5, aR (some x5)), (6, aR (some x6))] [aI s1, aR (some s0)] := by
  have G0 := G.1
  refine aw_iconst (v := (1 : Int32)) G0 dX0_best_43 (by decide) ?_
  obtain ⟨k1, h⟩ := h
  refine aw_callV (k1 := 1) (n1 := 0) (k2 := 1) (n2 := 0) (st := []) G0 S_X0_want gi_X0_87 (Or.inl (by rw [k1]; decide)) (by rw [k1]; rfl) md_X0_want (Nat.le_of_ble_eq_true rfl) (by decide) (by rw [G.2.1]; decide) (by rw [G.2.1]; decide) [aI s1, aI (1 : Int32)] rfl rfl dX0_best_44 h (fun o C2 I3 J4 R5 h => ?_)
  rcases h with ⟨rfl, h⟩ | ⟨q22, rfl, h⟩
  · show AW Γ 1 0 C2 I3 J4 R5 (44 + 3) [(0, aR (some x0)), (2, aI x2), (3, aI x3), (4, aI x4), (5, aR (some x5)), (6, aR (some x6))] []
    refine aw_aload_n G0 0 rfl dX0_best_47 ?_
    refine aw_aload G0 5 rfl dX0_best_48 ?_
    obtain ⟨k7, h⟩ := h
    refine aw_callV (k1 := 2) (n1 := 20) (k2 := 1) (n2 := 0) (st := []) G0 S_X0_leaves gi_X0_276 (Or.inl (by rw [k7]; decide)) (by rw [k7]; rfl) md_X0_leaves (Nat.le_of_ble_eq_true rfl) (by decide) (by rw [G.2.1]; decide) (by rw [G.2.1]; decide) [aR (some x6)] rfl rfl dX0_best_50 h (fun o C8 I9 J10 R11 h => ?_)
    obtain ⟨r12, rfl, h⟩ := h
    show AW Γ 2 20 C8 I9 J10 R11 (50 + 3) [(0, aR (some x0)), (2, aI x2), (3, aI x3), (4, aI x4), (5, aR (some x5)), (6, aR (some x6))] [aR (some r12)]
    refine aw_astore (lv' := [(5, aR (some r12)), (0, aR (some x0)), (2, aI x2), (3, aI x3), (4, aI x4), (6, aR (some x6))]) G0 (by decide) rfl dX0_best_53 ?_
    refine aw_aload G0 0 rfl dX0_best_55 ?_
    obtain ⟨k13, h⟩ := h
    refine aw_alen (v := nI (C8 r12).2) G0 k13 rfl dX0_best_57 ?_
    obtain ⟨k16, h⟩ := h
    obtain ⟨k17, h⟩ := h
    obtain ⟨q14, z15, h⟩ := h
    refine aw_newaI (q := q14) (k' := 3) (n' := 40) (N := (nI (C8 r12).2).toNatClampNeg) G0 k16 rfl (Nat.le_trans k17 (by decide)) (by decide) (by omega) (by rw [G.2.1]; decide) (by rw [G.2.1]; decide) z15 dX0_best_58 ?_
    generalize gC18 : va_up C8 q14 (20, (nI (C8 r12).2).toNatClampNeg) = C18
    generalize gI19 : va_up I9 q14 (fun _ => 0) = I19
    generalize gJ20 : va_up J10 q14 (fun _ => 0) = J20
    generalize gR21 : va_up R11 q14 (fun _ => none) = R21
    have h := h C18 I19 J20 R21 gC18.symm gI19.symm gJ20.symm gR21.symm
    refine aw_astore (lv' := [(7, aR (some q14)), (5, aR (some r12)), (0, aR (some x0)), (2, aI x2), (3, aI x3), (4, aI x4), (6, aR (some x6))]) G0 (by decide) rfl dX0_best_60 ?_
    refine aw_iconst (v := (-1 : Int32)) G0 dX0_best_62 (by decide) ?_
    refine aw_istore (lv' := [(8, aI (-1 : Int32)), (7, aR (some q14)), (5, aR (some r12)), (0, aR (some x0)), (2, aI x2), (3, aI x3), (4, aI x4), (6, aR (some x6))]) G0 (by decide) rfl dX0_best_63 ?_
    refine aw_iconst (v := (1 : Int32)) G0 dX0_best_65 (by decide) ?_
    refine aw_istore (lv' := [(9, aI (1 : Int32)), (8, aI (-1 : Int32)), (7, aR (some q14)), (5, aR (some r12)), (0, aR (some x0)), (2, aI x2), (3, aI x3), (4, aI x4), (6, aR (some x6))]) G0 (by decide) rfl dX0_best_66 ?_
    exact (aw_lv [4, 5, 6, 7, 3, 8, 2, 1, 0] rfl (w68 x0 x2 x3 x4 r12 x6 q14 (-1 : Int32) (1 : Int32) C18 I19 J20 R21 h))
  · show AX Γ 1 0 C2 I3 J4 R5 44 [(0, aR (some x0)), (2, aI x2), (3, aI x3), (4, aI x4), (5, aR (some x5)), (6, aR (some x6))] q22
    obtain ⟨k23, h⟩ := h
    refine ax_catch G0 0 rfl (fun j hj _ _ _ _ _ => absurd hj (Nat.not_lt_zero j)) rfl (by decide) q84 (Or.inl k23) (by rw [k23]; exact q86) ?_
    exact (aw_wide (by decide) (by decide) (aw_lv [0, 4] rfl (w348 x0 x5 q22 C2 I3 J4 R5 h)))
theorem bX0_best_68 (G : Gb Γ yX0_best cX0_best 21 (some .int) [(11, 307, 348, 53), (11, 307, 399, 13), (11, 307, 448, 0), (348, 358, 448, 0), (399, 407, 448, 0), (448, 450, 448, 0)] rmX0_best bdX0_best) {F_Vtable : SPF} (S_Vtable : SpVtable (gL Γ) 20 F_Vtable)
    {Q95 : Nat → Int32 → Int32 → Int32 → Nat → Nat → Nat → Int32 → Nat → Int32 → Nat → Int32 → Int32 → MC → MI → MJ → MR → Prop} (w95 : ∀ (x0 : Nat) (x2 : Int32) (x3 : Int32) (x4 : Int32) (x5 : Nat) (x6 : Nat) (x7 : Nat) (x8 : Int32) (x10 : Nat) (x11 : Int32) (x12 : Nat) (x13 : Int32) (x14 : Int32) (C : MC) (I : MI) (J : MJ) (R : MR), Q95 x0 x2 x3 x4 x5 x6 x7 x8 x10 x11 x12 x13 x14 C I J R → AW Γ 3 40 C I J R 95 [(0, aR (some x0)), (2, aI x2), (3, aI x3), (4, aI x4), (5, aR (some x5)), (6, aR (some x6)), (7, aR (some x7)), (8, aI x8), (10, aR (some x10)), (11, aI x11), (12, aR (some x12)), (13, aI x13), (14, aI x14)] [])
    {Q220 : Nat → Nat → Nat → Int32 → Nat → Int32 → MC → MI → MJ → MR → Prop} (w220 : ∀ (x0 : Nat) (x5 : Nat) (x7 : Nat) (x8 : Int32) (s0 : Nat) (s1 : Int32) (C : MC) (I : MI) (J : MJ) (R : MR), Q220 x0 x5 x7 x8 s0 s1 C I J R → AW Γ 3 40 C I J R 220 [(0, aR (some x0)), (5, aR (some x5)), (7, aR (some x7)), (8, aI x8)] [aI s1, aR (some s0)])
    {Q399 : Nat → Nat → Nat → MC → MI → MJ → MR → Prop} (w399 : ∀ (x0 : Nat) (x5 : Nat) (s0 : Nat) (C : MC) (I : MI) (J : MJ) (R : MR), Q399 x0 x5 s0 C I J R → AW Γ 4 46 C I J R 399 [(0, aR (some x0)), (5, aR (some x5))] [aR (some s0)]) {x0 : Nat} {x2 : Int32} {x3 : Int32} {x4 : Int32} {x5 : Nat} {x6 : Nat} {x7 : Nat} {x8 : Int32} {x9 : Int32}
    (h : ((x9 = 0 →
      ((x8 < 0 →
      Q220 x0 x5 x7 x8 x0 (0 : Int32) C I J R) ∧
      (¬ x8 < 0 →
      Q220 x0 x5 x7 x8 x0 (1 : Int32) C I J R))) ∧
      (¬ x9 = 0 →
      kTh (C x6).1 ∧
      F_Vtable [aR (some x6)] C I J R (fun o C4 I5 J6 R7 =>
      (∃ r8 : Nat, o = .inl (some (aR (some r8))) ∧
      (20 ≤ (C4 x5).1 ∧ (C4 x5).1 ≤ 30) ∧
      Q95 x0 x2 x3 x4 x5 x6 x7 x8 r8 (0 : Int32) x5 (nI (C4 x5).2) (0 : Int32) C4 I5 J6 R7) ∨
      (∃ q10 : Nat, o = .inr q10 ∧
      ((C4 q10).1 = 11 ∧
      Q399 x0 x5 q10 C4 I5 J6 R7)))))) :
    AW Γ 3 40 C I J R 68 [(0, aR (some x0)), (2, aI x2), (3, aI x3), (4, aI x4), (5, aR (some x5)), (6, aR (some x6)), (7, aR (some x7)), (8, aI x8), (9, aI x9)] [] := by
  have G0 := G.1
  refine aw_iload G0 8 rfl dX0_best_68 ?_
  refine aw_if_eq G0 209 dX0_best_70 (by decide) (fun c1 => ?_) (fun c1 => ?_)
  · have h := h.1 c1
    refine aw_aload_n G0 0 rfl dX0_best_209 ?_
    refine aw_iload G0 7 rfl dX0_best_210 ?_
    refine aw_if_lt G0 219 dX0_best_212 (by decide) (fun c2 => ?_) (fun c2 => ?_)
    · have h := h.1 c2
      refine aw_iconst (v := (0 : Int32)) G0 dX0_best_219 (by decide) ?_
      exact (aw_lv [0, 4, 6, 7] rfl (w220 x0 x5 x7 x8 x0 (0 : Int32) C I J R h))
    · have h := h.2 c2
      refine aw_iconst (v := (1 : Int32)) G0 dX0_best_215 (by decide) ?_
      refine aw_goto G0 220 dX0_best_216 (by decide) ?_
      exact (aw_lv [0, 4, 6, 7] rfl (w220 x0 x5 x7 x8 x0 (1 : Int32) C I J R h))
  · have h := h.2 c1
    refine aw_aload G0 5 rfl dX0_best_73 ?_
    obtain ⟨k3, h⟩ := h
    refine vc_X0_216 (k1 := 3) (n1 := 40) (k2 := 4) (n2 := 46) (st := []) G0 S_Vtable k3 (Nat.le_of_ble_eq_true rfl) (by decide) (by rw [G.2.1]; decide) (by rw [G.2.1]; decide) [] rfl rfl dX0_best_75 h (fun o C4 I5 J6 R7 h => ?_)
    rcases h with ⟨r8, rfl, h⟩ | ⟨q10, rfl, h⟩
    · show AW Γ 3 40 C4 I5 J6 R7 (75 + 3) [(0, aR (some x0)), (2, aI x2), (3, aI x3), (4, aI x4), (5, aR (some x5)), (6, aR (some x6)), (7, aR (some x7)), (8, aI x8), (9, aI x9)] [aR (some r8)]
      refine aw_astore (lv' := [(10, aR (some r8)), (0, aR (some x0)), (2, aI x2), (3, aI x3), (4, aI x4), (5, aR (some x5)), (6, aR (some x6)), (7, aR (some x7)), (8, aI x8), (9, aI x9)]) G0 (by decide) rfl dX0_best_78 ?_
      refine aw_iconst (v := (0 : Int32)) G0 dX0_best_80 (by decide) ?_
      refine aw_istore (lv' := [(11, aI (0 : Int32)), (10, aR (some r8)), (0, aR (some x0)), (2, aI x2), (3, aI x3), (4, aI x4), (5, aR (some x5)), (6, aR (some x6)), (7, aR (some x7)), (8, aI x8), (9, aI x9)]) G0 (by decide) rfl dX0_best_81 ?_
      refine aw_aload G0 6 rfl dX0_best_83 ?_
      refine aw_astore (lv' := [(12, aR (some x5)), (11, aI (0 : Int32)), (10, aR (some r8)), (0, aR (some x0)), (2, aI x2), (3, aI x3), (4, aI x4), (5, aR (some x5)), (6, aR (some x6)), (7, aR (some x7)), (8, aI x8), (9, aI x9)]) G0 (by decide) rfl dX0_best_85 ?_
      refine aw_aload G0 0 rfl dX0_best_87 ?_
      obtain ⟨k9, h⟩ := h
      refine aw_alen (v := nI (C4 x5).2) G0 k9 rfl dX0_best_89 ?_
      refine aw_istore (lv' := [(13, aI (nI (C4 x5).2)), (12, aR (some x5)), (11, aI (0 : Int32)), (10, aR (some r8)), (0, aR (some x0)), (2, aI x2), (3, aI x3), (4, aI x4), (5, aR (some x5)), (6, aR (some x6)), (7, aR (some x7)), (8, aI x8), (9, aI x9)]) G0 (by decide) rfl dX0_best_90 ?_
      refine aw_iconst (v := (0 : Int32)) G0 dX0_best_92 (by decide) ?_
      refine aw_istore (lv' := [(14, aI (0 : Int32)), (13, aI (nI (C4 x5).2)), (12, aR (some x5)), (11, aI (0 : Int32)), (10, aR (some r8)), (0, aR (some x0)), (2, aI x2), (3, aI x3), (4, aI x4), (5, aR (some x5)), (6, aR (some x6)), (7, aR (some x7)), (8, aI x8), (9, aI x9)]) G0 (by decide) rfl dX0_best_93 ?_
      exact (aw_lv [5, 6, 7, 8, 9, 10, 11, 12, 4, 3, 2, 1, 0] rfl (w95 x0 x2 x3 x4 x5 x6 x7 x8 r8 (0 : Int32) x5 (nI (C4 x5).2) (0 : Int32) C4 I5 J6 R7 h))
    · show AX Γ 4 46 C4 I5 J6 R7 75 [(0, aR (some x0)), (2, aI x2), (3, aI x3), (4, aI x4), (5, aR (some x5)), (6, aR (some x6)), (7, aR (some x7)), (8, aI x8), (9, aI x9)] q10
      obtain ⟨k11, h⟩ := h
      refine ax_catch G0 1 rfl (fun j hj a9 b9 h9 t9 ee => by
          match j, hj, ee with
          | 0, _, ee => cases ee; exact Or.inr ⟨by decide, _, q84, by rw [k11]; decide⟩
          | j + 1, hj, _ => exact absurd hj (by omega)) rfl (by decide) q593 (Or.inr (Or.inl k11)) (by rw [k11]; exact q662) ?_
      exact (aw_lv [0, 4] rfl (w399 x0 x5 q10 C4 I5 J6 R7 h))
theorem bX0_best_95 (G : Gb Γ yX0_best cX0_best 21 (some .int) [(11, 307, 348, 53), (11, 307, 399, 13), (11, 307, 448, 0), (348, 358, 448, 0), (399, 407, 448, 0), (448, 450, 448, 0)] rmX0_best bdX0_best)
    {Q95 : Nat → Int32 → Int32 → Int32 → Nat → Nat → Nat → Int32 → Nat → Int32 → Nat → Int32 → Int32 → MC → MI → MJ → MR → Prop} (w95 : ∀ (x0 : Nat) (x2 : Int32) (x3 : Int32) (x4 : Int32) (x5 : Nat) (x6 : Nat) (x7 : Nat) (x8 : Int32) (x10 : Nat) (x11 : Int32) (x12 : Nat) (x13 : Int32) (x14 : Int32) (C : MC) (I : MI) (J : MJ) (R : MR), Q95 x0 x2 x3 x4 x5 x6 x7 x8 x10 x11 x12 x13 x14 C I J R → AW Γ 3 40 C I J R 95 [(0, aR (some x0)), (2, aI x2), (3, aI x3), (4, aI x4), (5, aR (some x5)), (6, aR (some x6)), (7, aR (some x7)), (8, aI x8), (10, aR (some x10)), (11, aI x11), (12, aR (some x12)), (13, aI x13), (14, aI x14)] [])
    {Q143 : Nat → Int32 → Int32 → Int32 → Nat → Nat → Nat → Int32 → Nat → Int32 → MC → MI → MJ → MR → Prop} (w143 : ∀ (x0 : Nat) (x2 : Int32) (x3 : Int32) (x4 : Int32) (x5 : Nat) (x6 : Nat) (x7 : Nat) (x8 : Int32) (x10 : Nat) (x11 : Int32) (C : MC) (I : MI) (J : MJ) (R : MR), Q143 x0 x2 x3 x4 x5 x6 x7 x8 x10 x11 C I J R → AW Γ 3 40 C I J R 143 [(0, aR (some x0)), (2, aI x2), (3, aI x3), (4, aI x4), (5, aR (some x5)), (6, aR (some x6)), (7, aR (some x7)), (8, aI x8), (10, aR (some x10)), (11, aI x11)] [])
    {Q199 : Nat → Int32 → Int32 → Int32 → Nat → Nat → Nat → Int32 → MC → MI → MJ → MR → Prop} (w199 : ∀ (x0 : Nat) (x2 : Int32) (x3 : Int32) (x4 : Int32) (x5 : Nat) (x6 : Nat) (x7 : Nat) (x8 : Int32) (C : MC) (I : MI) (J : MJ) (R : MR), Q199 x0 x2 x3 x4 x5 x6 x7 x8 C I J R → AW Γ 3 40 C I J R 199 [(0, aR (some x0)), (2, aI x2), (3, aI x3), (4, aI x4), (5, aR (some x5)), (6, aR (some x6)), (7, aR (some x7)), (8, aI x8)] []) {x0 : Nat} {x2 : Int32} {x3 : Int32} {x4 : Int32} {x5 : Nat} {x6 : Nat} {x7 : Nat} {x8 : Int32} {x10 : Nat} {x11 : Int32} {x12 : Nat} {x13 : Int32} {x14 : Int32}
    (h : ((x13 ≤ x14 →
      ((x8 < 0 →
      Q143 x0 x2 x3 x4 x5 x6 x7 x8 x10 x11 C I J R) ∧
      (¬ x8 < 0 →
      ((x8 ≤ x11 →
      Q199 x0 x2 x3 x4 x5 x6 x7 x8 C I J R) ∧
      (¬ x8 ≤ x11 →
      Q143 x0 x2 x3 x4 x5 x6 x7 x8 x10 x11 C I J R))))) ∧
      (¬ x13 ≤ x14 →
      (25 ≤ (C x12).1 ∧ (C x12).1 < 30) ∧
      vp_in x14 (C x12).2 ∧
      ∃ q6 : Nat, R x12 x14.toNatClampNeg = some q6 ∧
      (C q6).1 = 5 ∧
      ∃ q8 : Nat, R q6 7 = some q8 ∧
      (C q8).1 = 20 ∧
      vp_in (I q6 9) (C q8).2 ∧
      Q95 x0 x2 x3 x4 x5 x6 x7 x8 x10 (x11 + (I q8 (I q6 9).toNatClampNeg)) x12 x13 (x14 + 1) C I J R))) :
    AW Γ 3 40 C I J R 95 [(0, aR (some x0)), (2, aI x2), (3, aI x3), (4, aI x4), (5, aR (some x5)), (6, aR (some x6)), (7, aR (some x7)), (8, aI x8), (10, aR (some x10)), (11, aI x11), (12, aR (some x12)), (13, aI x13), (14, aI x14)] [] := by
  have G0 := G.1
  refine aw_iload G0 12 rfl dX0_best_95 ?_
  refine aw_iload G0 11 rfl dX0_best_97 ?_
  refine aw_icmp_ge G0 131 dX0_best_99 (by decide) (fun c1 => ?_) (fun c1 => ?_)
  · have h := h.1 c1
    refine aw_iload G0 7 rfl dX0_best_131 ?_
    refine aw_if_lt G0 143 dX0_best_133 (by decide) (fun c2 => ?_) (fun c2 => ?_)
    · have h := h.1 c2
      exact (aw_lv [0, 1, 2, 3, 4, 5, 6, 7, 8, 9] rfl (w143 x0 x2 x3 x4 x5 x6 x7 x8 x10 x11 C I J R h))
    · have h := h.2 c2
      refine aw_iload G0 9 rfl dX0_best_136 ?_
      refine aw_iload G0 7 rfl dX0_best_138 ?_
      refine aw_icmp_ge G0 199 dX0_best_140 (by decide) (fun c3 => ?_) (fun c3 => ?_)
      · have h := h.1 c3
        exact (aw_lv [0, 1, 2, 3, 4, 5, 6, 7] rfl (w199 x0 x2 x3 x4 x5 x6 x7 x8 C I J R h))
      · have h := h.2 c3
        exact (aw_lv [0, 1, 2, 3, 4, 5, 6, 7, 8, 9] rfl (w143 x0 x2 x3 x4 x5 x6 x7 x8 x10 x11 C I J R h))
  · have h := h.2 c1
    refine aw_aload G0 10 rfl dX0_best_102 ?_
    refine aw_iload G0 12 rfl dX0_best_104 ?_
    obtain ⟨k4, h⟩ := h
    obtain ⟨k5, h⟩ := h
    refine aw_aald G0 k4 k5 dX0_best_106 ?_
    refine aw_astore (lv' := [(15, aR (R x12 x14.toNatClampNeg)), (0, aR (some x0)), (2, aI x2), (3, aI x3), (4, aI x4), (5, aR (some x5)), (6, aR (some x6)), (7, aR (some x7)), (8, aI x8), (10, aR (some x10)), (11, aI x11), (12, aR (some x12)), (13, aI x13), (14, aI x14)]) G0 (by decide) rfl dX0_best_107 ?_
    refine aw_iload G0 10 rfl dX0_best_109 ?_
    refine aw_aload G0 0 rfl dX0_best_111 ?_
    obtain ⟨q6, e6, h⟩ := h
    refine aw_dr0 e6 ?_
    obtain ⟨k7, h⟩ := h
    refine aw_getR (f := 7) G0 (by rw [k7]; exact fb_X0_264) dX0_best_113 ?_
    refine aw_aload G0 0 rfl dX0_best_116 ?_
    refine aw_dr0 e6 ?_
    refine aw_getI (f := 9) G0 (by rw [k7]; exact fb_X0_273) dX0_best_118 ?_
    obtain ⟨q8, e8, h⟩ := h
    refine aw_dr1 e8 ?_
    obtain ⟨k9, h⟩ := h
    obtain ⟨k10, h⟩ := h
    refine aw_iald G0 (Or.inl k9) k10 dX0_best_121 ?_
    refine aw_iadd G0 dX0_best_122 ?_
    refine aw_istore (lv' := [(11, aI (x11 + (I q8 (I q6 9).toNatClampNeg))), (15, aR (R x12 x14.toNatClampNeg)), (0, aR (some x0)), (2, aI x2), (3, aI x3), (4, aI x4), (5, aR (some x5)), (6, aR (some x6)), (7, aR (some x7)), (8, aI x8), (10, aR (some x10)), (12, aR (some x12)), (13, aI x13), (14, aI x14)]) G0 (by decide) rfl dX0_best_123 ?_
    refine aw_iinc (v := x14 + 1) (lv' := [(14, aI (x14 + 1)), (11, aI (x11 + (I q8 (I q6 9).toNatClampNeg))), (15, aR (R x12 x14.toNatClampNeg)), (0, aR (some x0)), (2, aI x2), (3, aI x3), (4, aI x4), (5, aR (some x5)), (6, aR (some x6)), (7, aR (some x7)), (8, aI x8), (10, aR (some x10)), (12, aR (some x12)), (13, aI x13)]) G0 13 rfl rfl (by decide) rfl dX0_best_125 ?_
    refine aw_goto G0 95 dX0_best_128 (by decide) ?_
    exact (aw_lv [3, 4, 5, 6, 7, 8, 9, 10, 11, 1, 12, 13, 0] rfl (w95 x0 x2 x3 x4 x5 x6 x7 x8 x10 (x11 + (I q8 (I q6 9).toNatClampNeg)) x12 x13 (x14 + 1) C I J R h))
theorem bX0_best_143 (G : Gb Γ yX0_best cX0_best 21 (some .int) [(11, 307, 348, 53), (11, 307, 399, 13), (11, 307, 448, 0), (348, 358, 448, 0), (399, 407, 448, 0), (448, 450, 448, 0)] rmX0_best bdX0_best) {F_X3_by : SPF} (S_X3_by : SpX3_by (gL Γ) F_X3_by) {F_X0_isEnough : SPF} (S_X0_isEnough : SpX0_isEnough (gL Γ) F_X0_isEnough)
    {Q172 : Nat → Int32 → Int32 → Int32 → Nat → Nat → Nat → Int32 → Int32 → MC → MI → MJ → MR → Prop} (w172 : ∀ (x0 : Nat) (x2 : Int32) (x3 : Int32) (x4 : Int32) (x5 : Nat) (x6 : Nat) (x7 : Nat) (x8 : Int32) (x12 : Int32) (C : MC) (I : MI) (J : MJ) (R : MR), Q172 x0 x2 x3 x4 x5 x6 x7 x8 x12 C I J R → AW Γ 3 40 C I J R 172 [(0, aR (some x0)), (2, aI x2), (3, aI x3), (4, aI x4), (5, aR (some x5)), (6, aR (some x6)), (7, aR (some x7)), (8, aI x8), (12, aI x12)] [])
    {Q199 : Nat → Int32 → Int32 → Int32 → Nat → Nat → Nat → Int32 → MC → MI → MJ → MR → Prop} (w199 : ∀ (x0 : Nat) (x2 : Int32) (x3 : Int32) (x4 : Int32) (x5 : Nat) (x6 : Nat) (x7 : Nat) (x8 : Int32) (C : MC) (I : MI) (J : MJ) (R : MR), Q199 x0 x2 x3 x4 x5 x6 x7 x8 C I J R → AW Γ 3 40 C I J R 199 [(0, aR (some x0)), (2, aI x2), (3, aI x3), (4, aI x4), (5, aR (some x5)), (6, aR (some x6)), (7, aR (some x7)), (8, aI x8)] []) {x0 : Nat} {x2 : Int32} {x3 : Int32} {x4 : Int32} {x5 : Nat} {x6 : Nat} {x7 : Nat} {x8 : Int32} {x10 : Nat} {x11 : Int32}
    (h : (C x10).1 = 4 ∧
      F_X3_by [aR (some x10), aI x2] C I J R (fun o C2 I3 J4 R5 =>
      ∃ r6 : Int64, o = .inl (some (aJ r6)) ∧
      (C2 x10).1 = 4 ∧
      F_X0_isEnough [aJ r6, aJ (J4 x10 2), aJ x3.toInt64, aJ x4.toInt64] C2 I3 J4 R5 (fun o C8 I9 J10 R11 =>
      ∃ r12 : Int32, o = .inl (some (aI r12)) ∧
      ((r12 = 0 →
      Q199 x0 x2 x3 x4 x5 x6 x7 x8 C8 I9 J10 R11) ∧
      (¬ r12 = 0 →
      Q172 x0 x2 x3 x4 x5 x6 x7 x11 (0 : Int32) C8 I9 J10 R11))))) :
    AW Γ 3 40 C I J R 143 [(0, aR (some x0)), (2, aI x2), (3, aI x3), (4, aI x4), (5, aR (some x5)), (6, aR (some x6)), (7, aR (some x7)), (8, aI x8), (10, aR (some x10)), (11, aI x11)] [] := by
  have G0 := G.1
  refine aw_aload G0 8 rfl dX0_best_143 ?_
  refine aw_iload_n G0 1 rfl dX0_best_145 ?_
  obtain ⟨k1, h⟩ := h
  refine aw_callV (k1 := 3) (n1 := 40) (k2 := 3) (n2 := 40) (st := []) G0 S_X3_by gi_X0_225 (Or.inl (by rw [k1]; decide)) (by rw [k1]; rfl) md_X3_by (Nat.le_of_ble_eq_true rfl) (by decide) (by rw [G.2.1]; decide) (by rw [G.2.1]; decide) [aI x2] rfl rfl dX0_best_146 h (fun o C2 I3 J4 R5 h => ?_)
  obtain ⟨r6, rfl, h⟩ := h
  show AW Γ 3 40 C2 I3 J4 R5 (146 + 3) [(0, aR (some x0)), (2, aI x2), (3, aI x3), (4, aI x4), (5, aR (some x5)), (6, aR (some x6)), (7, aR (some x7)), (8, aI x8), (10, aR (some x10)), (11, aI x11)] [aJ r6]
  refine aw_aload G0 8 rfl dX0_best_149 ?_
  obtain ⟨k7, h⟩ := h
  refine aw_getJ (f := 2) G0 (by rw [k7]; exact fb_X0_24) dX0_best_151 ?_
  refine aw_iload_n G0 2 rfl dX0_best_154 ?_
  refine aw_i2l G0 dX0_best_155 ?_
  refine aw_iload G0 3 rfl dX0_best_156 ?_
  refine aw_i2l G0 dX0_best_158 ?_
  refine aw_callS (k1 := 3) (n1 := 40) (k2 := 3) (n2 := 40) (st := []) G0 S_X0_isEnough gi_X0_241 md_X0_isEnough (Nat.le_of_ble_eq_true rfl) (by decide) (by rw [G.2.1]; decide) (by rw [G.2.1]; decide) [aJ r6, aJ (J4 x10 2), aJ x3.toInt64, aJ x4.toInt64] rfl rfl dX0_best_159 h (fun o C8 I9 J10 R11 h => ?_)
  obtain ⟨r12, rfl, h⟩ := h
  show AW Γ 3 40 C8 I9 J10 R11 (159 + 3) [(0, aR (some x0)), (2, aI x2), (3, aI x3), (4, aI x4), (5, aR (some x5)), (6, aR (some x6)), (7, aR (some x7)), (8, aI x8), (10, aR (some x10)), (11, aI x11)] [aI r12]
  refine aw_if_eq G0 199 dX0_best_162 (by decide) (fun c13 => ?_) (fun c13 => ?_)
  · have h := h.1 c13
    exact (aw_lv [0, 1, 2, 3, 4, 5, 6, 7] rfl (w199 x0 x2 x3 x4 x5 x6 x7 x8 C8 I9 J10 R11 h))
  · have h := h.2 c13
    refine aw_iload G0 9 rfl dX0_best_165 ?_
    refine aw_istore (lv' := [(8, aI x11), (0, aR (some x0)), (2, aI x2), (3, aI x3), (4, aI x4), (5, aR (some x5)), (6, aR (some x6)), (7, aR (some x7)), (10, aR (some x10)), (11, aI x11)]) G0 (by decide) rfl dX0_best_167 ?_
    refine aw_iconst (v := (0 : Int32)) G0 dX0_best_169 (by decide) ?_
    refine aw_istore (lv' := [(12, aI (0 : Int32)), (8, aI x11), (0, aR (some x0)), (2, aI x2), (3, aI x3), (4, aI x4), (5, aR (some x5)), (6, aR (some x6)), (7, aR (some x7)), (10, aR (some x10)), (11, aI x11)]) G0 (by decide) rfl dX0_best_170 ?_
    exact (aw_lv [2, 3, 4, 5, 6, 7, 8, 1, 0] rfl (w172 x0 x2 x3 x4 x5 x6 x7 x11 (0 : Int32) C8 I9 J10 R11 h))
theorem bX0_best_172 (G : Gb Γ yX0_best cX0_best 21 (some .int) [(11, 307, 348, 53), (11, 307, 399, 13), (11, 307, 448, 0), (348, 358, 448, 0), (399, 407, 448, 0), (448, 450, 448, 0)] rmX0_best bdX0_best)
    {Q172 : Nat → Int32 → Int32 → Int32 → Nat → Nat → Nat → Int32 → Int32 → MC → MI → MJ → MR → Prop} (w172 : ∀ (x0 : Nat) (x2 : Int32) (x3 : Int32) (x4 : Int32) (x5 : Nat) (x6 : Nat) (x7 : Nat) (x8 : Int32) (x12 : Int32) (C : MC) (I : MI) (J : MJ) (R : MR), Q172 x0 x2 x3 x4 x5 x6 x7 x8 x12 C I J R → AW Γ 3 40 C I J R 172 [(0, aR (some x0)), (2, aI x2), (3, aI x3), (4, aI x4), (5, aR (some x5)), (6, aR (some x6)), (7, aR (some x7)), (8, aI x8), (12, aI x12)] [])
    {Q199 : Nat → Int32 → Int32 → Int32 → Nat → Nat → Nat → Int32 → MC → MI → MJ → MR → Prop} (w199 : ∀ (x0 : Nat) (x2 : Int32) (x3 : Int32) (x4 : Int32) (x5 : Nat) (x6 : Nat) (x7 : Nat) (x8 : Int32) (C : MC) (I : MI) (J : MJ) (R : MR), Q199 x0 x2 x3 x4 x5 x6 x7 x8 C I J R → AW Γ 3 40 C I J R 199 [(0, aR (some x0)), (2, aI x2), (3, aI x3), (4, aI x4), (5, aR (some x5)), (6, aR (some x6)), (7, aR (some x7)), (8, aI x8)] []) {x0 : Nat} {x2 : Int32} {x3 : Int32} {x4 : Int32} {x5 : Nat} {x6 : Nat} {x7 : Nat} {x8 : Int32} {x12 : Int32}
    (h : (20 ≤ (C x5).1 ∧ (C x5).1 ≤ 30) ∧
      (((nI (C x5).2) ≤ x12 →
      Q199 x0 x2 x3 x4 x5 x6 x7 x8 C I J R) ∧
      (¬ (nI (C x5).2) ≤ x12 →
      (25 ≤ (C x5).1 ∧ (C x5).1 < 30) ∧
      vp_in x12 (C x5).2 ∧
      ∃ q5 : Nat, R x5 x12.toNatClampNeg = some q5 ∧
      (C q5).1 = 5 ∧
      (C x7).1 = 20 ∧
      vp_in x12 (C x7).2 ∧
      ∀ I9 : MI, I9 = va_up I x7 (va_up (I x7) x12.toNatClampNeg (I q5 9)) →
      Q172 x0 x2 x3 x4 x5 x6 x7 x8 (x12 + 1) C I9 J R))) :
    AW Γ 3 40 C I J R 172 [(0, aR (some x0)), (2, aI x2), (3, aI x3), (4, aI x4), (5, aR (some x5)), (6, aR (some x6)), (7, aR (some x7)), (8, aI x8), (12, aI x12)] [] := by
  have G0 := G.1
  refine aw_iload G0 8 rfl dX0_best_172 ?_
  refine aw_aload G0 4 rfl dX0_best_174 ?_
  obtain ⟨k1, h⟩ := h
  refine aw_alen (v := nI (C x5).2) G0 k1 rfl dX0_best_176 ?_
  refine aw_icmp_ge G0 199 dX0_best_177 (by decide) (fun c2 => ?_) (fun c2 => ?_)
  · have h := h.1 c2
    exact (aw_lv [0, 1, 2, 3, 4, 5, 6, 7] rfl (w199 x0 x2 x3 x4 x5 x6 x7 x8 C I J R h))
  · have h := h.2 c2
    refine aw_aload G0 6 rfl dX0_best_180 ?_
    refine aw_iload G0 8 rfl dX0_best_182 ?_
    refine aw_aload G0 4 rfl dX0_best_184 ?_
    refine aw_iload G0 8 rfl dX0_best_186 ?_
    obtain ⟨k3, h⟩ := h
    obtain ⟨k4, h⟩ := h
    refine aw_aald G0 k3 k4 dX0_best_188 ?_
    obtain ⟨q5, e5, h⟩ := h
    refine aw_dr0 e5 ?_
    obtain ⟨k6, h⟩ := h
    refine aw_getI (f := 9) G0 (by rw [k6]; exact fb_X0_273) dX0_best_189 ?_
    obtain ⟨k7, h⟩ := h
    obtain ⟨k8, h⟩ := h
    refine aw_iast G0 k7 k8 dX0_best_192 ?_
    generalize gI9 : va_up I x7 (va_up (I x7) x12.toNatClampNeg (I q5 9)) = I9
    have h := h I9 gI9.symm
    refine aw_iinc (v := x12 + 1) (lv' := [(12, aI (x12 + 1)), (0, aR (some x0)), (2, aI x2), (3, aI x3), (4, aI x4), (5, aR (some x5)), (6, aR (some x6)), (7, aR (some x7)), (8, aI x8)]) G0 8 rfl rfl (by decide) rfl dX0_best_193 ?_
    refine aw_goto G0 172 dX0_best_196 (by decide) ?_
    exact (aw_lv [1, 2, 3, 4, 5, 6, 7, 8, 0] rfl (w172 x0 x2 x3 x4 x5 x6 x7 x8 (x12 + 1) C I9 J R h))
theorem bX0_best_199 (G : Gb Γ yX0_best cX0_best 21 (some .int) [(11, 307, 348, 53), (11, 307, 399, 13), (11, 307, 448, 0), (348, 358, 448, 0), (399, 407, 448, 0), (448, 450, 448, 0)] rmX0_best bdX0_best) {F_X0_next : SPF} (S_X0_next : SpX0_next (gL Γ) F_X0_next)
    {Q68 : Nat → Int32 → Int32 → Int32 → Nat → Nat → Nat → Int32 → Int32 → MC → MI → MJ → MR → Prop} (w68 : ∀ (x0 : Nat) (x2 : Int32) (x3 : Int32) (x4 : Int32) (x5 : Nat) (x6 : Nat) (x7 : Nat) (x8 : Int32) (x9 : Int32) (C : MC) (I : MI) (J : MJ) (R : MR), Q68 x0 x2 x3 x4 x5 x6 x7 x8 x9 C I J R → AW Γ 3 40 C I J R 68 [(0, aR (some x0)), (2, aI x2), (3, aI x3), (4, aI x4), (5, aR (some x5)), (6, aR (some x6)), (7, aR (some x7)), (8, aI x8), (9, aI x9)] []) {x0 : Nat} {x2 : Int32} {x3 : Int32} {x4 : Int32} {x5 : Nat} {x6 : Nat} {x7 : Nat} {x8 : Int32}
    (h : F_X0_next [aR (some x5)] C I J R (fun o C1 I2 J3 R4 =>
      ∃ r5 : Int32, o = .inl (some (aI r5)) ∧
      Q68 x0 x2 x3 x4 x5 x6 x7 x8 r5 C1 I2 J3 R4)) :
    AW Γ 3 40 C I J R 199 [(0, aR (some x0)), (2, aI x2), (3, aI x3), (4, aI x4), (5, aR (some x5)), (6, aR (some x6)), (7, aR (some x7)), (8, aI x8)] [] := by
  have G0 := G.1
  refine aw_aload G0 4 rfl dX0_best_199 ?_
  refine aw_callS (k1 := 3) (n1 := 40) (k2 := 3) (n2 := 40) (st := []) G0 S_X0_next gi_X0_279 md_X0_next (Nat.le_of_ble_eq_true rfl) (by decide) (by rw [G.2.1]; decide) (by rw [G.2.1]; decide) [aR (some x5)] rfl rfl dX0_best_201 h (fun o C1 I2 J3 R4 h => ?_)
  obtain ⟨r5, rfl, h⟩ := h
  show AW Γ 3 40 C1 I2 J3 R4 (201 + 3) [(0, aR (some x0)), (2, aI x2), (3, aI x3), (4, aI x4), (5, aR (some x5)), (6, aR (some x6)), (7, aR (some x7)), (8, aI x8)] [aI r5]
  refine aw_istore (lv' := [(9, aI r5), (0, aR (some x0)), (2, aI x2), (3, aI x3), (4, aI x4), (5, aR (some x5)), (6, aR (some x6)), (7, aR (some x7)), (8, aI x8)]) G0 (by decide) rfl dX0_best_204 ?_
  refine aw_goto G0 68 dX0_best_206 (by decide) ?_
  exact (aw_lv [1, 2, 3, 4, 5, 6, 7, 8, 0] rfl (w68 x0 x2 x3 x4 x5 x6 x7 x8 r5 C1 I2 J3 R4 h))
theorem bX0_best_220 (G : Gb Γ yX0_best cX0_best 21 (some .int) [(11, 307, 348, 53), (11, 307, 399, 13), (11, 307, 448, 0), (348, 358, 448, 0), (399, 407, 448, 0), (448, 450, 448, 0)] rmX0_best bdX0_best) {F_X0_want : SPF} (S_X0_want : SpX0_want (gL Γ) F_X0_want)
    {Q228 : Nat → Nat → Nat → Int32 → Int32 → MC → MI → MJ → MR → Prop} (w228 : ∀ (x0 : Nat) (x5 : Nat) (x7 : Nat) (x8 : Int32) (x11 : Int32) (C : MC) (I : MI) (J : MJ) (R : MR), Q228 x0 x5 x7 x8 x11 C I J R → AW Γ 3 40 C I J R 228 [(0, aR (some x0)), (5, aR (some x5)), (7, aR (some x7)), (8, aI x8), (11, aI x11)] [])
    {Q348 : Nat → Nat → Nat → MC → MI → MJ → MR → Prop} (w348 : ∀ (x0 : Nat) (x5 : Nat) (s0 : Nat) (C : MC) (I : MI) (J : MJ) (R : MR), Q348 x0 x5 s0 C I J R → AW Γ 3 40 C I J R 348 [(0, aR (some x0)), (5, aR (some x5))] [aR (some s0)]) {x0 : Nat} {x5 : Nat} {x7 : Nat} {x8 : Int32} {s0 : Nat} {s1 : Int32}
    (h : (C s0).1 = 1 ∧
      F_X0_want [aR (some s0), aI s1, aI (6 : Int32)] C I J R (fun o C2 I3 J4 R5 =>
      (o = .inl none ∧
      Q228 x0 x5 x7 x8 (0 : Int32) C2 I3 J4 R5) ∨
      (∃ q7 : Nat, o = .inr q7 ∧
      ((C2 q7).1 = 2 ∧
      Q348 x0 x5 q7 C2 I3 J4 R5)))) :
    AW Γ 3 40 C I J R 220 [(0, aR (some x0)), (5, aR (some x5)), (7, aR (some x7)), (8, aI x8)] [aI s1, aR (some s0)] := by
  have G0 := G.1
  refine aw_bipush (v := (6 : Int32)) G0 dX0_best_220 (by decide) ?_
  obtain ⟨k1, h⟩ := h
  refine aw_callV (k1 := 3) (n1 := 40) (k2 := 3) (n2 := 40) (st := []) G0 S_X0_want gi_X0_87 (Or.inl (by rw [k1]; decide)) (by rw [k1]; rfl) md_X0_want (Nat.le_of_ble_eq_true rfl) (by decide) (by rw [G.2.1]; decide) (by rw [G.2.1]; decide) [aI s1, aI (6 : Int32)] rfl rfl dX0_best_222 h (fun o C2 I3 J4 R5 h => ?_)
  rcases h with ⟨rfl, h⟩ | ⟨q7, rfl, h⟩
  · show AW Γ 3 40 C2 I3 J4 R5 (222 + 3) [(0, aR (some x0)), (5, aR (some x5)), (7, aR (some x7)), (8, aI x8)] []
    refine aw_iconst (v := (0 : Int32)) G0 dX0_best_225 (by decide) ?_
    refine aw_istore (lv' := [(11, aI (0 : Int32)), (0, aR (some x0)), (5, aR (some x5)), (7, aR (some x7)), (8, aI x8)]) G0 (by decide) rfl dX0_best_226 ?_
    exact (aw_lv [1, 2, 3, 4, 0] rfl (w228 x0 x5 x7 x8 (0 : Int32) C2 I3 J4 R5 h))
  · show AX Γ 3 40 C2 I3 J4 R5 222 [(0, aR (some x0)), (5, aR (some x5)), (7, aR (some x7)), (8, aI x8)] q7
    obtain ⟨k8, h⟩ := h
    refine ax_catch G0 0 rfl (fun j hj _ _ _ _ _ => absurd hj (Nat.not_lt_zero j)) rfl (by decide) q84 (Or.inl k8) (by rw [k8]; exact q86) ?_
    exact (aw_lv [0, 1] rfl (w348 x0 x5 q7 C2 I3 J4 R5 h))
theorem bX0_best_228 (G : Gb Γ yX0_best cX0_best 21 (some .int) [(11, 307, 348, 53), (11, 307, 399, 13), (11, 307, 448, 0), (348, 358, 448, 0), (399, 407, 448, 0), (448, 450, 448, 0)] rmX0_best bdX0_best)
    {Q267 : Nat → Nat → Nat → Int32 → Int32 → MC → MI → MJ → MR → Prop} (w267 : ∀ (x0 : Nat) (x5 : Nat) (x7 : Nat) (x8 : Int32) (x11 : Int32) (C : MC) (I : MI) (J : MJ) (R : MR), Q267 x0 x5 x7 x8 x11 C I J R → AW Γ 3 40 C I J R 267 [(0, aR (some x0)), (5, aR (some x5)), (7, aR (some x7)), (8, aI x8), (11, aI x11)] [])
    {Q276 : Nat → Nat → Int32 → Int32 → MC → MI → MJ → MR → Prop} (w276 : ∀ (x5 : Nat) (x7 : Nat) (x8 : Int32) (x10 : Int32) (C : MC) (I : MI) (J : MJ) (R : MR), Q276 x5 x7 x8 x10 C I J R → AW Γ 3 40 C I J R 276 [(5, aR (some x5)), (7, aR (some x7)), (8, aI x8), (10, aI x10)] []) {x0 : Nat} {x5 : Nat} {x7 : Nat} {x8 : Int32} {x11 : Int32}
    (h : (C x0).1 = 1 ∧
      (((I x0 3) ≤ x11 →
      Q276 x5 x7 x8 (0 : Int32) C I J R) ∧
      (¬ (I x0 3) ≤ x11 →
      ∃ q3 : Nat, R x0 2 = some q3 ∧
      (25 ≤ (C q3).1 ∧ (C q3).1 < 30) ∧
      vp_in x11 (C q3).2 ∧
      ∃ q6 : Nat, R q3 x11.toNatClampNeg = some q6 ∧
      kTh (C q6).1 ∧
      (((C q6).1 = 5 →
      ∀ I9 : MI, I9 = va_up I q6 (va_up (I q6) 10 (-1 : Int32)) →
      Q267 x0 x5 x7 x8 x11 C I9 J R) ∧
      (¬ (C q6).1 = 5 →
      Q267 x0 x5 x7 x8 x11 C I J R))))) :
    AW Γ 3 40 C I J R 228 [(0, aR (some x0)), (5, aR (some x5)), (7, aR (some x7)), (8, aI x8), (11, aI x11)] [] := by
  have G0 := G.1
  refine aw_iload G0 4 rfl dX0_best_228 ?_
  refine aw_aload_n G0 0 rfl dX0_best_230 ?_
  obtain ⟨k1, h⟩ := h
  refine aw_getI (f := 3) G0 (by rw [k1]; exact fb_X0_133) dX0_best_231 ?_
  refine aw_icmp_ge G0 273 dX0_best_234 (by decide) (fun c2 => ?_) (fun c2 => ?_)
  · have h := h.1 c2
    refine aw_iconst (v := (0 : Int32)) G0 dX0_best_273 (by decide) ?_
    refine aw_istore (lv' := [(10, aI (0 : Int32)), (0, aR (some x0)), (5, aR (some x5)), (7, aR (some x7)), (8, aI x8), (11, aI x11)]) G0 (by decide) rfl dX0_best_274 ?_
    exact (aw_lv [2, 3, 4, 0] rfl (w276 x5 x7 x8 (0 : Int32) C I J R h))
  · have h := h.2 c2
    refine aw_aload_n G0 0 rfl dX0_best_237 ?_
    refine aw_getR (f := 2) G0 (by rw [k1]; exact fb_X0_49) dX0_best_238 ?_
    refine aw_iload G0 4 rfl dX0_best_241 ?_
    obtain ⟨q3, e3, h⟩ := h
    refine aw_dr1 e3 ?_
    obtain ⟨k4, h⟩ := h
    obtain ⟨k5, h⟩ := h
    refine aw_aald G0 k4 k5 dX0_best_243 ?_
    refine aw_astore (lv' := [(12, aR (R q3 x11.toNatClampNeg)), (0, aR (some x0)), (5, aR (some x5)), (7, aR (some x7)), (8, aI x8), (11, aI x11)]) G0 (by decide) rfl dX0_best_244 ?_
    refine aw_aload G0 0 rfl dX0_best_246 ?_
    obtain ⟨q6, e6, h⟩ := h
    refine aw_dr0 e6 ?_
    obtain ⟨k7, h⟩ := h
    by_cases c8 : (C q6).1 = 5
    · have h := h.1 c8
      refine aw_inst1 G0 q355 (ki_thr k7) (by rw [c8]; rfl) dX0_best_248 ?_
      refine aw_if_eq G0 267 dX0_best_251 (by decide) (fun z => absurd z (by decide)) (fun _ => ?_)
      refine aw_aload G0 0 rfl dX0_best_254 ?_
      refine aw_dr0 e6 ?_
      refine aw_cast G0 q355 (Or.inl (by rw [c8]; decide)) (by rw [c8]; rfl) dX0_best_256 ?_
      refine aw_astore (lv' := [(10, aR (some q6)), (12, aR (R q3 x11.toNatClampNeg)), (0, aR (some x0)), (5, aR (some x5)), (7, aR (some x7)), (8, aI x8), (11, aI x11)]) G0 (by decide) rfl dX0_best_259 ?_
      refine aw_aload G0 0 rfl dX0_best_261 ?_
      refine aw_iconst (v := (-1 : Int32)) G0 dX0_best_263 (by decide) ?_
      refine aw_putI (f := 10) G0 (by rw [c8]; exact fp_X0_283 _) dX0_best_264 ?_
      generalize gI9 : va_up I q6 (va_up (I q6) 10 (-1 : Int32)) = I9
      have h := h I9 gI9.symm
      exact (aw_lv [2, 3, 4, 5, 6] rfl (w267 x0 x5 x7 x8 x11 C I9 J R h))
    · have h := h.2 c8
      refine aw_inst0 G0 q355 (ki_thr k7) (ki_thn k7 c8) dX0_best_248 ?_
      refine aw_if_eq G0 267 dX0_best_251 (by decide) (fun _ => ?_) (fun z => absurd z (by decide))
      exact (aw_lv [1, 2, 3, 4, 5] rfl (w267 x0 x5 x7 x8 x11 C I J R h))
theorem bX0_best_267 (G : Gb Γ yX0_best cX0_best 21 (some .int) [(11, 307, 348, 53), (11, 307, 399, 13), (11, 307, 448, 0), (348, 358, 448, 0), (399, 407, 448, 0), (448, 450, 448, 0)] rmX0_best bdX0_best)
    {Q228 : Nat → Nat → Nat → Int32 → Int32 → MC → MI → MJ → MR → Prop} (w228 : ∀ (x0 : Nat) (x5 : Nat) (x7 : Nat) (x8 : Int32) (x11 : Int32) (C : MC) (I : MI) (J : MJ) (R : MR), Q228 x0 x5 x7 x8 x11 C I J R → AW Γ 3 40 C I J R 228 [(0, aR (some x0)), (5, aR (some x5)), (7, aR (some x7)), (8, aI x8), (11, aI x11)] []) {x0 : Nat} {x5 : Nat} {x7 : Nat} {x8 : Int32} {x11 : Int32}
    (h : Q228 x0 x5 x7 x8 (x11 + 1) C I J R) :
    AW Γ 3 40 C I J R 267 [(0, aR (some x0)), (5, aR (some x5)), (7, aR (some x7)), (8, aI x8), (11, aI x11)] [] := by
  have G0 := G.1
  refine aw_iinc (v := x11 + 1) (lv' := [(11, aI (x11 + 1)), (0, aR (some x0)), (5, aR (some x5)), (7, aR (some x7)), (8, aI x8)]) G0 4 rfl rfl (by decide) rfl dX0_best_267 ?_
  refine aw_goto G0 228 dX0_best_270 (by decide) ?_
  exact (aw_lv [1, 2, 3, 4, 0] rfl (w228 x0 x5 x7 x8 (x11 + 1) C I J R h))
theorem bX0_best_276 (G : Gb Γ yX0_best cX0_best 21 (some .int) [(11, 307, 348, 53), (11, 307, 399, 13), (11, 307, 448, 0), (348, 358, 448, 0), (399, 407, 448, 0), (448, 450, 448, 0)] rmX0_best bdX0_best)
    {Q276 : Nat → Nat → Int32 → Int32 → MC → MI → MJ → MR → Prop} (w276 : ∀ (x5 : Nat) (x7 : Nat) (x8 : Int32) (x10 : Int32) (C : MC) (I : MI) (J : MJ) (R : MR), Q276 x5 x7 x8 x10 C I J R → AW Γ 3 40 C I J R 276 [(5, aR (some x5)), (7, aR (some x7)), (8, aI x8), (10, aI x10)] [])
    {Q319 : Int32 → Nat → Int32 → Int32 → MC → MI → MJ → MR → Prop} (w319 : ∀ (x10 : Int32) (x11 : Nat) (x12 : Int32) (x13 : Int32) (C : MC) (I : MI) (J : MJ) (R : MR), Q319 x10 x11 x12 x13 C I J R → AW Γ 3 40 C I J R 319 [(10, aI x10), (11, aR (some x11)), (12, aI x12), (13, aI x13)] []) {x5 : Nat} {x7 : Nat} {x8 : Int32} {x10 : Int32}
    (h : (20 ≤ (C x5).1 ∧ (C x5).1 ≤ 30) ∧
      (((nI (C x5).2) ≤ x10 →
      Q319 x8 x5 (nI (C x5).2) (0 : Int32) C I J R) ∧
      (¬ (nI (C x5).2) ≤ x10 →
      (25 ≤ (C x5).1 ∧ (C x5).1 < 30) ∧
      vp_in x10 (C x5).2 ∧
      (C x7).1 = 20 ∧
      vp_in x10 (C x7).2 ∧
      ∃ q7 : Nat, R x5 x10.toNatClampNeg = some q7 ∧
      (C q7).1 = 5 ∧
      ∀ I9 : MI, I9 = va_up I q7 (va_up (I q7) 10 (I x7 x10.toNatClampNeg)) →
      Q276 x5 x7 x8 (x10 + 1) C I9 J R))) :
    AW Γ 3 40 C I J R 276 [(5, aR (some x5)), (7, aR (some x7)), (8, aI x8), (10, aI x10)] [] := by
  have G0 := G.1
  refine aw_iload G0 3 rfl dX0_best_276 ?_
  refine aw_aload G0 0 rfl dX0_best_278 ?_
  obtain ⟨k1, h⟩ := h
  refine aw_alen (v := nI (C x5).2) G0 k1 rfl dX0_best_280 ?_
  refine aw_icmp_ge G0 303 dX0_best_281 (by decide) (fun c2 => ?_) (fun c2 => ?_)
  · have h := h.1 c2
    refine aw_iload G0 2 rfl dX0_best_303 ?_
    refine aw_istore (lv' := [(10, aI x8), (5, aR (some x5)), (7, aR (some x7)), (8, aI x8)]) G0 (by decide) rfl dX0_best_305 ?_
    refine aw_aload G0 1 rfl dX0_best_307 ?_
    refine aw_astore (lv' := [(11, aR (some x5)), (10, aI x8), (5, aR (some x5)), (7, aR (some x7)), (8, aI x8)]) G0 (by decide) rfl dX0_best_309 ?_
    refine aw_aload G0 0 rfl dX0_best_311 ?_
    refine aw_alen (v := nI (C x5).2) G0 k1 rfl dX0_best_313 ?_
    refine aw_istore (lv' := [(12, aI (nI (C x5).2)), (11, aR (some x5)), (10, aI x8), (5, aR (some x5)), (7, aR (some x7)), (8, aI x8)]) G0 (by decide) rfl dX0_best_314 ?_
    refine aw_iconst (v := (0 : Int32)) G0 dX0_best_316 (by decide) ?_
    refine aw_istore (lv' := [(13, aI (0 : Int32)), (12, aI (nI (C x5).2)), (11, aR (some x5)), (10, aI x8), (5, aR (some x5)), (7, aR (some x7)), (8, aI x8)]) G0 (by decide) rfl dX0_best_317 ?_
    exact (aw_lv [3, 2, 1, 0] rfl (w319 x8 x5 (nI (C x5).2) (0 : Int32) C I J R h))
  · have h := h.2 c2
    refine aw_aload G0 0 rfl dX0_best_284 ?_
    refine aw_iload G0 3 rfl dX0_best_286 ?_
    obtain ⟨k3, h⟩ := h
    obtain ⟨k4, h⟩ := h
    refine aw_aald G0 k3 k4 dX0_best_288 ?_
    refine aw_aload G0 1 rfl dX0_best_289 ?_
    refine aw_iload G0 3 rfl dX0_best_291 ?_
    obtain ⟨k5, h⟩ := h
    obtain ⟨k6, h⟩ := h
    refine aw_iald G0 (Or.inl k5) k6 dX0_best_293 ?_
    obtain ⟨q7, e7, h⟩ := h
    refine aw_dr1 e7 ?_
    obtain ⟨k8, h⟩ := h
    refine aw_putI (f := 10) G0 (by rw [k8]; exact fp_X0_283 _) dX0_best_294 ?_
    generalize gI9 : va_up I q7 (va_up (I q7) 10 (I x7 x10.toNatClampNeg)) = I9
    have h := h I9 gI9.symm
    refine aw_iinc (v := x10 + 1) (lv' := [(10, aI (x10 + 1)), (5, aR (some x5)), (7, aR (some x7)), (8, aI x8)]) G0 3 rfl rfl (by decide) rfl dX0_best_297 ?_
    refine aw_goto G0 276 dX0_best_300 (by decide) ?_
    exact (aw_lv [1, 2, 3, 0] rfl (w276 x5 x7 x8 (x10 + 1) C I9 J R h))
theorem bX0_best_319 (G : Gb Γ yX0_best cX0_best 21 (some .int) [(11, 307, 348, 53), (11, 307, 399, 13), (11, 307, 448, 0), (348, 358, 448, 0), (399, 407, 448, 0), (448, 450, 448, 0)] rmX0_best bdX0_best)
    {Q319 : Int32 → Nat → Int32 → Int32 → MC → MI → MJ → MR → Prop} (w319 : ∀ (x10 : Int32) (x11 : Nat) (x12 : Int32) (x13 : Int32) (C : MC) (I : MI) (J : MJ) (R : MR), Q319 x10 x11 x12 x13 C I J R → AW Γ 3 40 C I J R 319 [(10, aI x10), (11, aR (some x11)), (12, aI x12), (13, aI x13)] []) {x10 : Int32} {x11 : Nat} {x12 : Int32} {x13 : Int32}
    (h : ((x12 ≤ x13 →
      gK Γ (.inl (some (aI x10))) C I J R) ∧
      (¬ x12 ≤ x13 →
      (25 ≤ (C x11).1 ∧ (C x11).1 < 30) ∧
      vp_in x13 (C x11).2 ∧
      ∃ q4 : Nat, R x11 x13.toNatClampNeg = some q4 ∧
      (C q4).1 = 5 ∧
      ∀ I6 : MI, I6 = va_up I q4 (va_up (I q4) 9 (0 : Int32)) →
      Q319 x10 x11 x12 (x13 + 1) C I6 J R))) :
    AW Γ 3 40 C I J R 319 [(10, aI x10), (11, aR (some x11)), (12, aI x12), (13, aI x13)] [] := by
  have G0 := G.1
  refine aw_iload G0 3 rfl dX0_best_319 ?_
  refine aw_iload G0 2 rfl dX0_best_321 ?_
  refine aw_icmp_ge G0 345 dX0_best_323 (by decide) (fun c1 => ?_) (fun c1 => ?_)
  · have h := h.1 c1
    refine aw_iload G0 0 rfl dX0_best_345 ?_
    exact aw_ireturn G0 (Or.inl rfl) (by rw [G.2.2]; decide) (by rw [G.2.1]; decide) dX0_best_347 h
  · have h := h.2 c1
    refine aw_aload G0 1 rfl dX0_best_326 ?_
    refine aw_iload G0 3 rfl dX0_best_328 ?_
    obtain ⟨k2, h⟩ := h
    obtain ⟨k3, h⟩ := h
    refine aw_aald G0 k2 k3 dX0_best_330 ?_
    refine aw_astore (lv' := [(14, aR (R x11 x13.toNatClampNeg)), (10, aI x10), (11, aR (some x11)), (12, aI x12), (13, aI x13)]) G0 (by decide) rfl dX0_best_331 ?_
    refine aw_aload G0 0 rfl dX0_best_333 ?_
    refine aw_iconst (v := (0 : Int32)) G0 dX0_best_335 (by decide) ?_
    obtain ⟨q4, e4, h⟩ := h
    refine aw_dr1 e4 ?_
    obtain ⟨k5, h⟩ := h
    refine aw_putI (f := 9) G0 (by rw [k5]; exact fp_X0_273 _) dX0_best_336 ?_
    generalize gI6 : va_up I q4 (va_up (I q4) 9 (0 : Int32)) = I6
    have h := h I6 gI6.symm
    refine aw_iinc (v := x13 + 1) (lv' := [(13, aI (x13 + 1)), (14, aR (R x11 x13.toNatClampNeg)), (10, aI x10), (11, aR (some x11)), (12, aI x12)]) G0 4 rfl rfl (by decide) rfl dX0_best_339 ?_
    refine aw_goto G0 319 dX0_best_342 (by decide) ?_
    exact (aw_lv [2, 3, 4, 0] rfl (w319 x10 x11 x12 (x13 + 1) C I6 J R h))
theorem bX0_best_348 (G : Gb Γ yX0_best cX0_best 21 (some .int) [(11, 307, 348, 53), (11, 307, 399, 13), (11, 307, 448, 0), (348, 358, 448, 0), (399, 407, 448, 0), (448, 450, 448, 0)] rmX0_best bdX0_best) {F_X0_none : SPF} (S_X0_none : SpX0_none (gL Γ) F_X0_none)
    {Q370 : Int32 → Nat → Int32 → Int32 → MC → MI → MJ → MR → Prop} (w370 : ∀ (x7 : Int32) (x8 : Nat) (x9 : Int32) (x10 : Int32) (C : MC) (I : MI) (J : MJ) (R : MR), Q370 x7 x8 x9 x10 C I J R → AW Γ 3 40 C I J R 370 [(7, aI x7), (8, aR (some x8)), (9, aI x9), (10, aI x10)] []) {x0 : Nat} {x5 : Nat} {s0 : Nat}
    (h : (C x0).1 = 1 ∧
      F_X0_none [aR (some x0), aR (some s0)] C I J R (fun o C2 I3 J4 R5 =>
      ∃ r6 : Int32, o = .inl (some (aI r6)) ∧
      (20 ≤ (C2 x5).1 ∧ (C2 x5).1 ≤ 30) ∧
      Q370 r6 x5 (nI (C2 x5).2) (0 : Int32) C2 I3 J4 R5)) :
    AW Γ 3 40 C I J R 348 [(0, aR (some x0)), (5, aR (some x5))] [aR (some s0)] := by
  have G0 := G.1
  refine aw_astore (lv' := [(6, aR (some s0)), (0, aR (some x0)), (5, aR (some x5))]) G0 (by decide) rfl dX0_best_348 ?_
  refine aw_aload_n G0 1 rfl dX0_best_350 ?_
  refine aw_aload G0 0 rfl dX0_best_351 ?_
  obtain ⟨k1, h⟩ := h
  refine aw_callV (k1 := 3) (n1 := 40) (k2 := 3) (n2 := 40) (st := []) G0 S_X0_none gi_X0_117 (Or.inl (by rw [k1]; decide)) (by rw [k1]; rfl) md_X0_none (Nat.le_of_ble_eq_true rfl) (by decide) (by rw [G.2.1]; decide) (by rw [G.2.1]; decide) [aR (some s0)] rfl rfl dX0_best_353 h (fun o C2 I3 J4 R5 h => ?_)
  obtain ⟨r6, rfl, h⟩ := h
  show AW Γ 3 40 C2 I3 J4 R5 (353 + 3) [(6, aR (some s0)), (0, aR (some x0)), (5, aR (some x5))] [aI r6]
  refine aw_istore (lv' := [(7, aI r6), (6, aR (some s0)), (0, aR (some x0)), (5, aR (some x5))]) G0 (by decide) rfl dX0_best_356 ?_
  refine aw_aload G0 3 rfl dX0_best_358 ?_
  refine aw_astore (lv' := [(8, aR (some x5)), (7, aI r6), (6, aR (some s0)), (0, aR (some x0)), (5, aR (some x5))]) G0 (by decide) rfl dX0_best_360 ?_
  refine aw_aload G0 0 rfl dX0_best_362 ?_
  obtain ⟨k7, h⟩ := h
  refine aw_alen (v := nI (C2 x5).2) G0 k7 rfl dX0_best_364 ?_
  refine aw_istore (lv' := [(9, aI (nI (C2 x5).2)), (8, aR (some x5)), (7, aI r6), (6, aR (some s0)), (0, aR (some x0)), (5, aR (some x5))]) G0 (by decide) rfl dX0_best_365 ?_
  refine aw_iconst (v := (0 : Int32)) G0 dX0_best_367 (by decide) ?_
  refine aw_istore (lv' := [(10, aI (0 : Int32)), (9, aI (nI (C2 x5).2)), (8, aR (some x5)), (7, aI r6), (6, aR (some s0)), (0, aR (some x0)), (5, aR (some x5))]) G0 (by decide) rfl dX0_best_368 ?_
  exact (aw_lv [3, 2, 1, 0] rfl (w370 r6 x5 (nI (C2 x5).2) (0 : Int32) C2 I3 J4 R5 h))
theorem bX0_best_370 (G : Gb Γ yX0_best cX0_best 21 (some .int) [(11, 307, 348, 53), (11, 307, 399, 13), (11, 307, 448, 0), (348, 358, 448, 0), (399, 407, 448, 0), (448, 450, 448, 0)] rmX0_best bdX0_best)
    {Q370 : Int32 → Nat → Int32 → Int32 → MC → MI → MJ → MR → Prop} (w370 : ∀ (x7 : Int32) (x8 : Nat) (x9 : Int32) (x10 : Int32) (C : MC) (I : MI) (J : MJ) (R : MR), Q370 x7 x8 x9 x10 C I J R → AW Γ 3 40 C I J R 370 [(7, aI x7), (8, aR (some x8)), (9, aI x9), (10, aI x10)] []) {x7 : Int32} {x8 : Nat} {x9 : Int32} {x10 : Int32}
    (h : ((x9 ≤ x10 →
      gK Γ (.inl (some (aI x7))) C I J R) ∧
      (¬ x9 ≤ x10 →
      (25 ≤ (C x8).1 ∧ (C x8).1 < 30) ∧
      vp_in x10 (C x8).2 ∧
      ∃ q4 : Nat, R x8 x10.toNatClampNeg = some q4 ∧
      (C q4).1 = 5 ∧
      ∀ I6 : MI, I6 = va_up I q4 (va_up (I q4) 9 (0 : Int32)) →
      Q370 x7 x8 x9 (x10 + 1) C I6 J R))) :
    AW Γ 3 40 C I J R 370 [(7, aI x7), (8, aR (some x8)), (9, aI x9), (10, aI x10)] [] := by
  have G0 := G.1
  refine aw_iload G0 3 rfl dX0_best_370 ?_
  refine aw_iload G0 2 rfl dX0_best_372 ?_
  refine aw_icmp_ge G0 396 dX0_best_374 (by decide) (fun c1 => ?_) (fun c1 => ?_)
  · have h := h.1 c1
    refine aw_iload G0 0 rfl dX0_best_396 ?_
    exact aw_ireturn G0 (Or.inl rfl) (by rw [G.2.2]; decide) (by rw [G.2.1]; decide) dX0_best_398 h
  · have h := h.2 c1
    refine aw_aload G0 1 rfl dX0_best_377 ?_
    refine aw_iload G0 3 rfl dX0_best_379 ?_
    obtain ⟨k2, h⟩ := h
    obtain ⟨k3, h⟩ := h
    refine aw_aald G0 k2 k3 dX0_best_381 ?_
    refine aw_astore (lv' := [(11, aR (R x8 x10.toNatClampNeg)), (7, aI x7), (8, aR (some x8)), (9, aI x9), (10, aI x10)]) G0 (by decide) rfl dX0_best_382 ?_
    refine aw_aload G0 0 rfl dX0_best_384 ?_
    refine aw_iconst (v := (0 : Int32)) G0 dX0_best_386 (by decide) ?_
    obtain ⟨q4, e4, h⟩ := h
    refine aw_dr1 e4 ?_
    obtain ⟨k5, h⟩ := h
    refine aw_putI (f := 9) G0 (by rw [k5]; exact fp_X0_273 _) dX0_best_387 ?_
    generalize gI6 : va_up I q4 (va_up (I q4) 9 (0 : Int32)) = I6
    have h := h I6 gI6.symm
    refine aw_iinc (v := x10 + 1) (lv' := [(10, aI (x10 + 1)), (11, aR (R x8 x10.toNatClampNeg)), (7, aI x7), (8, aR (some x8)), (9, aI x9)]) G0 4 rfl rfl (by decide) rfl dX0_best_390 ?_
    refine aw_goto G0 370 dX0_best_393 (by decide) ?_
    exact (aw_lv [2, 3, 4, 0] rfl (w370 x7 x8 x9 (x10 + 1) C I6 J R h))
theorem bX0_best_399 (G : Gb Γ yX0_best cX0_best 21 (some .int) [(11, 307, 348, 53), (11, 307, 399, 13), (11, 307, 448, 0), (348, 358, 448, 0), (399, 407, 448, 0), (448, 450, 448, 0)] rmX0_best bdX0_best) {F_X0_great : SPF} (S_X0_great : SpX0_great (gL Γ) F_X0_great)
    {Q419 : Int32 → Nat → Int32 → Int32 → MC → MI → MJ → MR → Prop} (w419 : ∀ (x7 : Int32) (x8 : Nat) (x9 : Int32) (x10 : Int32) (C : MC) (I : MI) (J : MJ) (R : MR), Q419 x7 x8 x9 x10 C I J R → AW Γ 4 46 C I J R 419 [(7, aI x7), (8, aR (some x8)), (9, aI x9), (10, aI x10)] []) {x0 : Nat} {x5 : Nat} {s0 : Nat}
    (h : (C x0).1 = 1 ∧
      F_X0_great [aR (some x0)] C I J R (fun o C2 I3 J4 R5 =>
      ∃ r6 : Int32, o = .inl (some (aI r6)) ∧
      (20 ≤ (C2 x5).1 ∧ (C2 x5).1 ≤ 30) ∧
      Q419 r6 x5 (nI (C2 x5).2) (0 : Int32) C2 I3 J4 R5)) :
    AW Γ 4 46 C I J R 399 [(0, aR (some x0)), (5, aR (some x5))] [aR (some s0)] := by
  have G0 := G.1
  refine aw_astore (lv' := [(6, aR (some s0)), (0, aR (some x0)), (5, aR (some x5))]) G0 (by decide) rfl dX0_best_399 ?_
  refine aw_aload_n G0 1 rfl dX0_best_401 ?_
  obtain ⟨k1, h⟩ := h
  refine aw_callV (k1 := 4) (n1 := 46) (k2 := 4) (n2 := 46) (st := []) G0 S_X0_great gi_X0_222 (Or.inl (by rw [k1]; decide)) (by rw [k1]; rfl) md_X0_great (Nat.le_of_ble_eq_true rfl) (by decide) (by rw [G.2.1]; decide) (by rw [G.2.1]; decide) [] rfl rfl dX0_best_402 h (fun o C2 I3 J4 R5 h => ?_)
  obtain ⟨r6, rfl, h⟩ := h
  show AW Γ 4 46 C2 I3 J4 R5 (402 + 3) [(6, aR (some s0)), (0, aR (some x0)), (5, aR (some x5))] [aI r6]
  refine aw_istore (lv' := [(7, aI r6), (6, aR (some s0)), (0, aR (some x0)), (5, aR (some x5))]) G0 (by decide) rfl dX0_best_405 ?_
  refine aw_aload G0 3 rfl dX0_best_407 ?_
  refine aw_astore (lv' := [(8, aR (some x5)), (7, aI r6), (6, aR (some s0)), (0, aR (some x0)), (5, aR (some x5))]) G0 (by decide) rfl dX0_best_409 ?_
  refine aw_aload G0 0 rfl dX0_best_411 ?_
  obtain ⟨k7, h⟩ := h
  refine aw_alen (v := nI (C2 x5).2) G0 k7 rfl dX0_best_413 ?_
  refine aw_istore (lv' := [(9, aI (nI (C2 x5).2)), (8, aR (some x5)), (7, aI r6), (6, aR (some s0)), (0, aR (some x0)), (5, aR (some x5))]) G0 (by decide) rfl dX0_best_414 ?_
  refine aw_iconst (v := (0 : Int32)) G0 dX0_best_416 (by decide) ?_
  refine aw_istore (lv' := [(10, aI (0 : Int32)), (9, aI (nI (C2 x5).2)), (8, aR (some x5)), (7, aI r6), (6, aR (some s0)), (0, aR (some x0)), (5, aR (some x5))]) G0 (by decide) rfl dX0_best_417 ?_
  exact (aw_lv [3, 2, 1, 0] rfl (w419 r6 x5 (nI (C2 x5).2) (0 : Int32) C2 I3 J4 R5 h))
theorem bX0_best_419 (G : Gb Γ yX0_best cX0_best 21 (some .int) [(11, 307, 348, 53), (11, 307, 399, 13), (11, 307, 448, 0), (348, 358, 448, 0), (399, 407, 448, 0), (448, 450, 448, 0)] rmX0_best bdX0_best)
    {Q419 : Int32 → Nat → Int32 → Int32 → MC → MI → MJ → MR → Prop} (w419 : ∀ (x7 : Int32) (x8 : Nat) (x9 : Int32) (x10 : Int32) (C : MC) (I : MI) (J : MJ) (R : MR), Q419 x7 x8 x9 x10 C I J R → AW Γ 4 46 C I J R 419 [(7, aI x7), (8, aR (some x8)), (9, aI x9), (10, aI x10)] []) {x7 : Int32} {x8 : Nat} {x9 : Int32} {x10 : Int32}
    (h : ((x9 ≤ x10 →
      gK Γ (.inl (some (aI x7))) C I J R) ∧
      (¬ x9 ≤ x10 →
      (25 ≤ (C x8).1 ∧ (C x8).1 < 30) ∧
      vp_in x10 (C x8).2 ∧
      ∃ q4 : Nat, R x8 x10.toNatClampNeg = some q4 ∧
      (C q4).1 = 5 ∧
      ∀ I6 : MI, I6 = va_up I q4 (va_up (I q4) 9 (0 : Int32)) →
      Q419 x7 x8 x9 (x10 + 1) C I6 J R))) :
    AW Γ 4 46 C I J R 419 [(7, aI x7), (8, aR (some x8)), (9, aI x9), (10, aI x10)] [] := by
  have G0 := G.1
  refine aw_iload G0 3 rfl dX0_best_419 ?_
  refine aw_iload G0 2 rfl dX0_best_421 ?_
  refine aw_icmp_ge G0 445 dX0_best_423 (by decide) (fun c1 => ?_) (fun c1 => ?_)
  · have h := h.1 c1
    refine aw_iload G0 0 rfl dX0_best_445 ?_
    exact aw_ireturn G0 (Or.inl rfl) (by rw [G.2.2]; decide) (by rw [G.2.1]; decide) dX0_best_447 h
  · have h := h.2 c1
    refine aw_aload G0 1 rfl dX0_best_426 ?_
    refine aw_iload G0 3 rfl dX0_best_428 ?_
    obtain ⟨k2, h⟩ := h
    obtain ⟨k3, h⟩ := h
    refine aw_aald G0 k2 k3 dX0_best_430 ?_
    refine aw_astore (lv' := [(11, aR (R x8 x10.toNatClampNeg)), (7, aI x7), (8, aR (some x8)), (9, aI x9), (10, aI x10)]) G0 (by decide) rfl dX0_best_431 ?_
    refine aw_aload G0 0 rfl dX0_best_433 ?_
    refine aw_iconst (v := (0 : Int32)) G0 dX0_best_435 (by decide) ?_
    obtain ⟨q4, e4, h⟩ := h
    refine aw_dr1 e4 ?_
    obtain ⟨k5, h⟩ := h
    refine aw_putI (f := 9) G0 (by rw [k5]; exact fp_X0_273 _) dX0_best_436 ?_
    generalize gI6 : va_up I q4 (va_up (I q4) 9 (0 : Int32)) = I6
    have h := h I6 gI6.symm
    refine aw_iinc (v := x10 + 1) (lv' := [(10, aI (x10 + 1)), (11, aR (R x8 x10.toNatClampNeg)), (7, aI x7), (8, aR (some x8)), (9, aI x9)]) G0 4 rfl rfl (by decide) rfl dX0_best_439 ?_
    refine aw_goto G0 419 dX0_best_442 (by decide) ?_
    exact (aw_lv [2, 3, 4, 0] rfl (w419 x7 x8 x9 (x10 + 1) C I6 J R h))
theorem bX0_leaves_0 (G : Gb Γ yX0_leaves cX0_leaves 7 (some (.array (.object "TickShare$Leaf"))) [] rmX0_leaves bdX0_leaves) {F_Vleaves : SPF} (S_Vleaves : SpVleaves (gL Γ) 20 F_Vleaves)
    {Q13 : Nat → Nat → Nat → Int32 → Int32 → MC → MI → MJ → MR → Prop} (w13 : ∀ (x0 : Nat) (x1 : Nat) (x2 : Nat) (x3 : Int32) (x4 : Int32) (C : MC) (I : MI) (J : MJ) (R : MR), Q13 x0 x1 x2 x3 x4 C I J R → AW Γ 1 20 C I J R 13 [(0, aR (some x0)), (1, aR (some x1)), (2, aR (some x2)), (3, aI x3), (4, aI x4)] []) {x0 : Nat} {x1 : Nat}
    (h : kTh (C x1).1 ∧
      F_Vleaves [aR (some x1)] C I J R (fun o C2 I3 J4 R5 =>
      ∃ r6 : Int32, o = .inl (some (aI r6)) ∧
      ¬ r6 < 0 ∧
      r6.toNatClampNeg ≤ 20 ∧
      ∃ q7 : Nat, (C2 q7).1 = 0 ∧
      ∀ (C11 : MC) (I12 : MI) (J13 : MJ) (R14 : MR), C11 = va_up C2 q7 (28, r6.toNatClampNeg) → I12 = va_up I3 q7 (fun _ => 0) → J13 = va_up J4 q7 (fun _ => 0) → R14 = va_up R5 q7 (fun _ => none) → 
      Q13 x0 x1 q7 (0 : Int32) (0 : Int32) C11 I12 J13 R14)) :
    AW Γ 0 0 C I J R 0 [(0, aR (some x0)), (1, aR (some x1))] [] := by
  have G0 := G.1
  refine aw_aload_n G0 1 rfl dX0_leaves_0 ?_
  obtain ⟨k1, h⟩ := h
  refine vc_X0_213 (k1 := 0) (n1 := 0) (k2 := 0) (n2 := 0) (st := []) G0 S_Vleaves k1 (Nat.le_of_ble_eq_true rfl) (by decide) (by rw [G.2.1]; decide) (by rw [G.2.1]; decide) [] rfl rfl dX0_leaves_1 h (fun o C2 I3 J4 R5 h => ?_)
  obtain ⟨r6, rfl, h⟩ := h
  show AW Γ 0 0 C2 I3 J4 R5 (1 + 3) [(0, aR (some x0)), (1, aR (some x1))] [aI r6]
  obtain ⟨k9, h⟩ := h
  obtain ⟨k10, h⟩ := h
  obtain ⟨q7, z8, h⟩ := h
  refine aw_newqL (q := q7) (k' := 1) (n' := 20) (N := r6.toNatClampNeg) G0 q355 k9 rfl (Nat.le_trans k10 (by decide)) (by decide) (by omega) (by rw [G.2.1]; decide) (by rw [G.2.1]; decide) z8 dX0_leaves_4 ?_
  generalize gC11 : va_up C2 q7 (28, r6.toNatClampNeg) = C11
  generalize gI12 : va_up I3 q7 (fun _ => 0) = I12
  generalize gJ13 : va_up J4 q7 (fun _ => 0) = J13
  generalize gR14 : va_up R5 q7 (fun _ => none) = R14
  have h := h C11 I12 J13 R14 gC11.symm gI12.symm gJ13.symm gR14.symm
  refine aw_astore_n (lv' := [(2, aR (some q7)), (0, aR (some x0)), (1, aR (some x1))]) G0 (by decide) rfl dX0_leaves_7 ?_
  refine aw_iconst (v := (0 : Int32)) G0 dX0_leaves_8 (by decide) ?_
  refine aw_istore_n (lv' := [(3, aI (0 : Int32)), (2, aR (some q7)), (0, aR (some x0)), (1, aR (some x1))]) G0 (by decide) rfl dX0_leaves_9 ?_
  refine aw_iconst (v := (0 : Int32)) G0 dX0_leaves_10 (by decide) ?_
  refine aw_istore (lv' := [(4, aI (0 : Int32)), (3, aI (0 : Int32)), (2, aR (some q7)), (0, aR (some x0)), (1, aR (some x1))]) G0 (by decide) rfl dX0_leaves_11 ?_
  exact (aw_lv [3, 4, 2, 1, 0] rfl (w13 x0 x1 q7 (0 : Int32) (0 : Int32) C11 I12 J13 R14 h))
theorem bX0_leaves_13 (G : Gb Γ yX0_leaves cX0_leaves 7 (some (.array (.object "TickShare$Leaf"))) [] rmX0_leaves bdX0_leaves) {F_X0_isIn : SPF} (S_X0_isIn : SpX0_isIn (gL Γ) F_X0_isIn)
    {Q66 : Nat → Nat → Nat → Int32 → Int32 → MC → MI → MJ → MR → Prop} (w66 : ∀ (x0 : Nat) (x1 : Nat) (x2 : Nat) (x3 : Int32) (x4 : Int32) (C : MC) (I : MI) (J : MJ) (R : MR), Q66 x0 x1 x2 x3 x4 C I J R → AW Γ 1 20 C I J R 66 [(0, aR (some x0)), (1, aR (some x1)), (2, aR (some x2)), (3, aI x3), (4, aI x4)] []) {x0 : Nat} {x1 : Nat} {x2 : Nat} {x3 : Int32} {x4 : Int32}
    (h : (C x0).1 = 1 ∧
      (((I x0 3) ≤ x4 →
      gK Γ (.inl (some (aR (some x2)))) C I J R) ∧
      (¬ (I x0 3) ≤ x4 →
      ∃ q3 : Nat, R x0 2 = some q3 ∧
      (25 ≤ (C q3).1 ∧ (C q3).1 < 30) ∧
      vp_in x4 (C q3).2 ∧
      ∃ q6 : Nat, R q3 x4.toNatClampNeg = some q6 ∧
      kTh (C q6).1 ∧
      (((C q6).1 = 5 →
      F_X0_isIn [aR (some q6), aR (some x1)] C I J R (fun o C9 I10 J11 R12 =>
      ∃ r13 : Int32, o = .inl (some (aI r13)) ∧
      ((¬ r13 = 0 →
      (25 ≤ (C9 x2).1 ∧ (C9 x2).1 < 29) ∧
      kFit (C9 x2).1 (C9 q6).1 ∧
      vp_in x3 (C9 x2).2 ∧
      ∀ R18 : MR, R18 = va_up R12 x2 (va_up (R12 x2) x3.toNatClampNeg (some q6)) →
      Q66 x0 x1 x2 (x3 + 1) x4 C9 I10 J11 R18) ∧
      (r13 = 0 →
      Q66 x0 x1 x2 x3 x4 C9 I10 J11 R12)))) ∧
      (¬ (C q6).1 = 5 →
      Q66 x0 x1 x2 x3 x4 C I J R))))) :
    AW Γ 1 20 C I J R 13 [(0, aR (some x0)), (1, aR (some x1)), (2, aR (some x2)), (3, aI x3), (4, aI x4)] [] := by
  have G0 := G.1
  refine aw_iload G0 4 rfl dX0_leaves_13 ?_
  refine aw_aload_n G0 0 rfl dX0_leaves_15 ?_
  obtain ⟨k1, h⟩ := h
  refine aw_getI (f := 3) G0 (by rw [k1]; exact fb_X0_133) dX0_leaves_16 ?_
  refine aw_icmp_ge G0 72 dX0_leaves_19 (by decide) (fun c2 => ?_) (fun c2 => ?_)
  · have h := h.1 c2
    refine aw_aload_n G0 2 rfl dX0_leaves_72 ?_
    exact aw_areturn G0 ⟨_, rfl, rfl⟩ (by rw [G.2.2]; decide) (by rw [G.2.1]; decide) dX0_leaves_73 h
  · have h := h.2 c2
    refine aw_aload_n G0 0 rfl dX0_leaves_22 ?_
    refine aw_getR (f := 2) G0 (by rw [k1]; exact fb_X0_49) dX0_leaves_23 ?_
    refine aw_iload G0 4 rfl dX0_leaves_26 ?_
    obtain ⟨q3, e3, h⟩ := h
    refine aw_dr1 e3 ?_
    obtain ⟨k4, h⟩ := h
    obtain ⟨k5, h⟩ := h
    refine aw_aald G0 k4 k5 dX0_leaves_28 ?_
    refine aw_astore (lv' := [(6, aR (R q3 x4.toNatClampNeg)), (0, aR (some x0)), (1, aR (some x1)), (2, aR (some x2)), (3, aI x3), (4, aI x4)]) G0 (by decide) rfl dX0_leaves_29 ?_
    refine aw_aload G0 0 rfl dX0_leaves_31 ?_
    obtain ⟨q6, e6, h⟩ := h
    refine aw_dr0 e6 ?_
    obtain ⟨k7, h⟩ := h
    by_cases c8 : (C q6).1 = 5
    · have h := h.1 c8
      refine aw_inst1 G0 q355 (ki_thr k7) (by rw [c8]; rfl) dX0_leaves_33 ?_
      refine aw_if_eq G0 66 dX0_leaves_36 (by decide) (fun z => absurd z (by decide)) (fun _ => ?_)
      refine aw_aload G0 0 rfl dX0_leaves_39 ?_
      refine aw_dr0 e6 ?_
      refine aw_cast G0 q355 (Or.inl (by rw [c8]; decide)) (by rw [c8]; rfl) dX0_leaves_41 ?_
      refine aw_astore (lv' := [(5, aR (some q6)), (6, aR (R q3 x4.toNatClampNeg)), (0, aR (some x0)), (1, aR (some x1)), (2, aR (some x2)), (3, aI x3), (4, aI x4)]) G0 (by decide) rfl dX0_leaves_44 ?_
      refine aw_aload G0 0 rfl dX0_leaves_46 ?_
      refine aw_aload_n G0 3 rfl dX0_leaves_48 ?_
      refine aw_callS (k1 := 1) (n1 := 20) (k2 := 1) (n2 := 20) (st := []) G0 S_X0_isIn gi_X0_253 md_X0_isIn (Nat.le_of_ble_eq_true rfl) (by decide) (by rw [G.2.1]; decide) (by rw [G.2.1]; decide) [aR (some q6), aR (some x1)] rfl rfl dX0_leaves_49 h (fun o C9 I10 J11 R12 h => ?_)
      obtain ⟨r13, rfl, h⟩ := h
      show AW Γ 1 20 C9 I10 J11 R12 (49 + 3) [(5, aR (some q6)), (6, aR (R q3 x4.toNatClampNeg)), (0, aR (some x0)), (1, aR (some x1)), (2, aR (some x2)), (3, aI x3), (4, aI x4)] [aI r13]
      refine aw_if_ne G0 58 dX0_leaves_52 (by decide) (fun c14 => ?_) (fun c14 => ?_)
      · have h := h.1 c14
        refine aw_aload_n G0 4 rfl dX0_leaves_58 ?_
        refine aw_iload_n G0 5 rfl dX0_leaves_59 ?_
        refine aw_aload G0 0 rfl dX0_leaves_60 ?_
        obtain ⟨k15, h⟩ := h
        obtain ⟨k16, h⟩ := h
        obtain ⟨k17, h⟩ := h
        refine aw_aast G0 k15 (kFit_1 k16) (kFit_2 k16) k17 dX0_leaves_62 ?_
        generalize gR18 : va_up R12 x2 (va_up (R12 x2) x3.toNatClampNeg (some q6)) = R18
        have h := h R18 gR18.symm
        refine aw_iinc (v := x3 + 1) (lv' := [(3, aI (x3 + 1)), (5, aR (some q6)), (6, aR (R q3 x4.toNatClampNeg)), (0, aR (some x0)), (1, aR (some x1)), (2, aR (some x2)), (4, aI x4)]) G0 5 rfl rfl (by decide) rfl dX0_leaves_63 ?_
        exact (aw_lv [3, 4, 5, 0, 6] rfl (w66 x0 x1 x2 (x3 + 1) x4 C9 I10 J11 R18 h))
      · have h := h.2 c14
        refine aw_goto G0 66 dX0_leaves_55 (by decide) ?_
        exact (aw_lv [2, 3, 4, 5, 6] rfl (w66 x0 x1 x2 x3 x4 C9 I10 J11 R12 h))
    · have h := h.2 c8
      refine aw_inst0 G0 q355 (ki_thr k7) (ki_thn k7 c8) dX0_leaves_33 ?_
      refine aw_if_eq G0 66 dX0_leaves_36 (by decide) (fun _ => ?_) (fun z => absurd z (by decide))
      exact (aw_lv [1, 2, 3, 4, 5] rfl (w66 x0 x1 x2 x3 x4 C I J R h))
theorem bX0_leaves_66 (G : Gb Γ yX0_leaves cX0_leaves 7 (some (.array (.object "TickShare$Leaf"))) [] rmX0_leaves bdX0_leaves)
    {Q13 : Nat → Nat → Nat → Int32 → Int32 → MC → MI → MJ → MR → Prop} (w13 : ∀ (x0 : Nat) (x1 : Nat) (x2 : Nat) (x3 : Int32) (x4 : Int32) (C : MC) (I : MI) (J : MJ) (R : MR), Q13 x0 x1 x2 x3 x4 C I J R → AW Γ 1 20 C I J R 13 [(0, aR (some x0)), (1, aR (some x1)), (2, aR (some x2)), (3, aI x3), (4, aI x4)] []) {x0 : Nat} {x1 : Nat} {x2 : Nat} {x3 : Int32} {x4 : Int32}
    (h : Q13 x0 x1 x2 x3 (x4 + 1) C I J R) :
    AW Γ 1 20 C I J R 66 [(0, aR (some x0)), (1, aR (some x1)), (2, aR (some x2)), (3, aI x3), (4, aI x4)] [] := by
  have G0 := G.1
  refine aw_iinc (v := x4 + 1) (lv' := [(4, aI (x4 + 1)), (0, aR (some x0)), (1, aR (some x1)), (2, aR (some x2)), (3, aI x3)]) G0 4 rfl rfl (by decide) rfl dX0_leaves_66 ?_
  refine aw_goto G0 13 dX0_leaves_69 (by decide) ?_
  exact (aw_lv [1, 2, 3, 4, 0] rfl (w13 x0 x1 x2 x3 (x4 + 1) C I J R h))
theorem bX0_next_0 (G : Gb Γ yX0_next cX0_next 2 (some .boolean) [] rmX0_next bdX0_next)
    {Q5 : Nat → Int32 → MC → MI → MJ → MR → Prop} (w5 : ∀ (x0 : Nat) (x1 : Int32) (C : MC) (I : MI) (J : MJ) (R : MR), Q5 x0 x1 C I J R → AW Γ 0 0 C I J R 5 [(0, aR (some x0)), (1, aI x1)] []) {x0 : Nat}
    (h : (20 ≤ (C x0).1 ∧ (C x0).1 ≤ 30) ∧
      Q5 x0 ((nI (C x0).2) - (1 : Int32)) C I J R) :
    AW Γ 0 0 C I J R 0 [(0, aR (some x0))] [] := by
  have G0 := G.1
  refine aw_aload_n G0 0 rfl dX0_next_0 ?_
  obtain ⟨k1, h⟩ := h
  refine aw_alen (v := nI (C x0).2) G0 k1 rfl dX0_next_1 ?_
  refine aw_iconst (v := (1 : Int32)) G0 dX0_next_2 (by decide) ?_
  refine aw_isub G0 dX0_next_3 ?_
  refine aw_istore_n (lv' := [(1, aI ((nI (C x0).2) - (1 : Int32))), (0, aR (some x0))]) G0 (by decide) rfl dX0_next_4 ?_
  exact (aw_lv [1, 0] rfl (w5 x0 ((nI (C x0).2) - (1 : Int32)) C I J R h))
theorem bX0_next_5 (G : Gb Γ yX0_next cX0_next 2 (some .boolean) [] rmX0_next bdX0_next)
    {Q5 : Nat → Int32 → MC → MI → MJ → MR → Prop} (w5 : ∀ (x0 : Nat) (x1 : Int32) (C : MC) (I : MI) (J : MJ) (R : MR), Q5 x0 x1 C I J R → AW Γ 0 0 C I J R 5 [(0, aR (some x0)), (1, aI x1)] []) {x0 : Nat} {x1 : Int32}
    (h : ((x1 < 0 →
      gK Γ (.inl (some (aI (0 : Int32)))) C I J R) ∧
      (¬ x1 < 0 →
      (25 ≤ (C x0).1 ∧ (C x0).1 < 30) ∧
      vp_in x1 (C x0).2 ∧
      ∃ q4 : Nat, R x0 x1.toNatClampNeg = some q4 ∧
      (C q4).1 = 5 ∧
      ∀ I6 : MI, I6 = va_up I q4 (va_up (I q4) 9 ((I q4 9) + (1 : Int32))) →
      (((I6 q4 8) ≤ (I6 q4 9) →
      ∀ I8 : MI, I8 = va_up I6 q4 (va_up (I6 q4) 9 (0 : Int32)) →
      Q5 x0 (x1 + (-1)) C I8 J R) ∧
      (¬ (I6 q4 8) ≤ (I6 q4 9) →
      gK Γ (.inl (some (aI (1 : Int32)))) C I6 J R))))) :
    AW Γ 0 0 C I J R 5 [(0, aR (some x0)), (1, aI x1)] [] := by
  have G0 := G.1
  refine aw_iload_n G0 1 rfl dX0_next_5 ?_
  refine aw_if_lt G0 51 dX0_next_6 (by decide) (fun c1 => ?_) (fun c1 => ?_)
  · have h := h.1 c1
    refine aw_iconst (v := (0 : Int32)) G0 dX0_next_51 (by decide) ?_
    exact aw_ireturn G0 (Or.inr ⟨rfl, by decide⟩) (by rw [G.2.2]; decide) (by rw [G.2.1]; decide) dX0_next_52 h
  · have h := h.2 c1
    refine aw_aload_n G0 0 rfl dX0_next_9 ?_
    refine aw_iload_n G0 1 rfl dX0_next_10 ?_
    obtain ⟨k2, h⟩ := h
    obtain ⟨k3, h⟩ := h
    refine aw_aald G0 k2 k3 dX0_next_11 ?_
    refine aw_dupR G0 dX0_next_12 ?_
    obtain ⟨q4, e4, h⟩ := h
    refine aw_dr0 e4 ?_
    obtain ⟨k5, h⟩ := h
    refine aw_getI (f := 9) G0 (by rw [k5]; exact fb_X0_273) dX0_next_13 ?_
    refine aw_iconst (v := (1 : Int32)) G0 dX0_next_16 (by decide) ?_
    refine aw_iadd G0 dX0_next_17 ?_
    refine aw_dr1 e4 ?_
    refine aw_putI (f := 9) G0 (by rw [k5]; exact fp_X0_273 _) dX0_next_18 ?_
    generalize gI6 : va_up I q4 (va_up (I q4) 9 ((I q4 9) + (1 : Int32))) = I6
    have h := h I6 gI6.symm
    refine aw_aload_n G0 0 rfl dX0_next_21 ?_
    refine aw_iload_n G0 1 rfl dX0_next_22 ?_
    refine aw_aald G0 k2 k3 dX0_next_23 ?_
    refine aw_dr0 e4 ?_
    refine aw_getI (f := 9) G0 (by rw [k5]; exact fb_X0_273) dX0_next_24 ?_
    refine aw_aload_n G0 0 rfl dX0_next_27 ?_
    refine aw_iload_n G0 1 rfl dX0_next_28 ?_
    refine aw_aald G0 k2 k3 dX0_next_29 ?_
    refine aw_dr0 e4 ?_
    refine aw_getI (f := 8) G0 (by rw [k5]; exact fb_X0_267) dX0_next_30 ?_
    refine aw_icmp_ge G0 38 dX0_next_33 (by decide) (fun c7 => ?_) (fun c7 => ?_)
    · have h := h.1 c7
      refine aw_aload_n G0 0 rfl dX0_next_38 ?_
      refine aw_iload_n G0 1 rfl dX0_next_39 ?_
      refine aw_aald G0 k2 k3 dX0_next_40 ?_
      refine aw_iconst (v := (0 : Int32)) G0 dX0_next_41 (by decide) ?_
      refine aw_dr1 e4 ?_
      refine aw_putI (f := 9) G0 (by rw [k5]; exact fp_X0_273 _) dX0_next_42 ?_
      generalize gI8 : va_up I6 q4 (va_up (I6 q4) 9 (0 : Int32)) = I8
      have h := h I8 gI8.symm
      refine aw_iinc (v := x1 + (-1)) (lv' := [(1, aI (x1 + (-1))), (0, aR (some x0))]) G0 1 rfl (congrArg (fun w9 => x1 + w9) (show Int32.ofInt (-1) = (-1) by decide)) (by decide) rfl dX0_next_45 ?_
      refine aw_goto G0 5 dX0_next_48 (by decide) ?_
      exact (aw_lv [1, 0] rfl (w5 x0 (x1 + (-1)) C I8 J R h))
    · have h := h.2 c7
      refine aw_iconst (v := (1 : Int32)) G0 dX0_next_36 (by decide) ?_
      exact aw_ireturn G0 (Or.inr ⟨rfl, by decide⟩) (by rw [G.2.2]; decide) (by rw [G.2.1]; decide) dX0_next_37 h
theorem bX0_chosen_0 (G : Gb Γ yX0_chosen cX0_chosen 3 (some .int) [(5, 33, 34, 53)] rmX0_chosen bdX0_chosen) {F_X0_leafOf : SPF} (S_X0_leafOf : SpX0_leafOf (gL Γ) F_X0_leafOf)
    {Q24 : Nat → Nat → Nat → Int32 → MC → MI → MJ → MR → Prop} (w24 : ∀ (x0 : Nat) (x2 : Nat) (s0 : Nat) (s1 : Int32) (C : MC) (I : MI) (J : MJ) (R : MR), Q24 x0 x2 s0 s1 C I J R → AW Γ 0 0 C I J R 24 [(0, aR (some x0)), (2, aR (some x2))] [aI s1, aR (some s0)])
    {Q34 : Nat → Nat → MC → MI → MJ → MR → Prop} (w34 : ∀ (x0 : Nat) (s0 : Nat) (C : MC) (I : MI) (J : MJ) (R : MR), Q34 x0 s0 C I J R → AW Γ 0 0 C I J R 34 [(0, aR (some x0))] [aR (some s0)]) {x0 : Nat} {x1 : Int32}
    (h : (C x0).1 = 1 ∧
      ∀ I2 : MI, I2 = va_up I x0 (va_up (I x0) 5 (0 : Int32)) →
      F_X0_leafOf [aR (some x0), aI x1] C I2 J R (fun o C3 I4 J5 R6 =>
      (∃ r7 : Nat, o = .inl (some (aR (some r7))) ∧
      (C3 r7).1 = 5 ∧
      (((I4 r7 10) < 0 →
      Q24 x0 r7 x0 (0 : Int32) C3 I4 J5 R6) ∧
      (¬ (I4 r7 10) < 0 →
      Q24 x0 r7 x0 (1 : Int32) C3 I4 J5 R6))) ∨
      (∃ q10 : Nat, o = .inr q10 ∧
      ((C3 q10).1 = 2 ∧
      Q34 x0 q10 C3 I4 J5 R6)))) :
    AW Γ 0 0 C I J R 0 [(0, aR (some x0)), (1, aI x1)] [] := by
  have G0 := G.1
  refine aw_aload_n G0 0 rfl dX0_chosen_0 ?_
  refine aw_iconst (v := (0 : Int32)) G0 dX0_chosen_1 (by decide) ?_
  obtain ⟨k1, h⟩ := h
  refine aw_putI (f := 5) G0 (by rw [k1]; exact fp_X0_63 _) dX0_chosen_2 ?_
  generalize gI2 : va_up I x0 (va_up (I x0) 5 (0 : Int32)) = I2
  have h := h I2 gI2.symm
  refine aw_aload_n G0 0 rfl dX0_chosen_5 ?_
  refine aw_iload_n G0 1 rfl dX0_chosen_6 ?_
  refine aw_callV (k1 := 0) (n1 := 0) (k2 := 0) (n2 := 0) (st := []) G0 S_X0_leafOf gi_X0_249 (Or.inl (by rw [k1]; decide)) (by rw [k1]; rfl) md_X0_leafOf (Nat.le_of_ble_eq_true rfl) (by decide) (by rw [G.2.1]; decide) (by rw [G.2.1]; decide) [aI x1] rfl rfl dX0_chosen_7 h (fun o C3 I4 J5 R6 h => ?_)
  rcases h with ⟨r7, rfl, h⟩ | ⟨q10, rfl, h⟩
  · show AW Γ 0 0 C3 I4 J5 R6 (7 + 3) [(0, aR (some x0)), (1, aI x1)] [aR (some r7)]
    refine aw_astore_n (lv' := [(2, aR (some r7)), (0, aR (some x0)), (1, aI x1)]) G0 (by decide) rfl dX0_chosen_10 ?_
    refine aw_aload_n G0 1 rfl dX0_chosen_11 ?_
    refine aw_aload_n G0 0 rfl dX0_chosen_12 ?_
    obtain ⟨k8, h⟩ := h
    refine aw_getI (f := 10) G0 (by rw [k8]; exact fb_X0_283) dX0_chosen_13 ?_
    refine aw_if_lt G0 23 dX0_chosen_16 (by decide) (fun c9 => ?_) (fun c9 => ?_)
    · have h := h.1 c9
      refine aw_iconst (v := (0 : Int32)) G0 dX0_chosen_23 (by decide) ?_
      exact (aw_lv [1, 0] rfl (w24 x0 r7 x0 (0 : Int32) C3 I4 J5 R6 h))
    · have h := h.2 c9
      refine aw_iconst (v := (1 : Int32)) G0 dX0_chosen_19 (by decide) ?_
      refine aw_goto G0 24 dX0_chosen_20 (by decide) ?_
      exact (aw_lv [1, 0] rfl (w24 x0 r7 x0 (1 : Int32) C3 I4 J5 R6 h))
  · show AX Γ 0 0 C3 I4 J5 R6 7 [(0, aR (some x0)), (1, aI x1)] q10
    obtain ⟨k11, h⟩ := h
    refine ax_catch G0 0 rfl (fun j hj _ _ _ _ _ => absurd hj (Nat.not_lt_zero j)) rfl (by decide) q84 (Or.inl k11) (by rw [k11]; exact q86) ?_
    exact (aw_lv [0] rfl (w34 x0 q10 C3 I4 J5 R6 h))
theorem bX0_chosen_24 (G : Gb Γ yX0_chosen cX0_chosen 3 (some .int) [(5, 33, 34, 53)] rmX0_chosen bdX0_chosen) {F_X0_want : SPF} (S_X0_want : SpX0_want (gL Γ) F_X0_want)
    {Q34 : Nat → Nat → MC → MI → MJ → MR → Prop} (w34 : ∀ (x0 : Nat) (s0 : Nat) (C : MC) (I : MI) (J : MJ) (R : MR), Q34 x0 s0 C I J R → AW Γ 0 0 C I J R 34 [(0, aR (some x0))] [aR (some s0)]) {x0 : Nat} {x2 : Nat} {s0 : Nat} {s1 : Int32}
    (h : (C s0).1 = 1 ∧
      F_X0_want [aR (some s0), aI s1, aI (6 : Int32)] C I J R (fun o C2 I3 J4 R5 =>
      (o = .inl none ∧
      (C2 x2).1 = 5 ∧
      gK Γ (.inl (some (aI (I3 x2 10)))) C2 I3 J4 R5) ∨
      (∃ q8 : Nat, o = .inr q8 ∧
      ((C2 q8).1 = 2 ∧
      Q34 x0 q8 C2 I3 J4 R5)))) :
    AW Γ 0 0 C I J R 24 [(0, aR (some x0)), (2, aR (some x2))] [aI s1, aR (some s0)] := by
  have G0 := G.1
  refine aw_bipush (v := (6 : Int32)) G0 dX0_chosen_24 (by decide) ?_
  obtain ⟨k1, h⟩ := h
  refine aw_callV (k1 := 0) (n1 := 0) (k2 := 0) (n2 := 0) (st := []) G0 S_X0_want gi_X0_87 (Or.inl (by rw [k1]; decide)) (by rw [k1]; rfl) md_X0_want (Nat.le_of_ble_eq_true rfl) (by decide) (by rw [G.2.1]; decide) (by rw [G.2.1]; decide) [aI s1, aI (6 : Int32)] rfl rfl dX0_chosen_26 h (fun o C2 I3 J4 R5 h => ?_)
  rcases h with ⟨rfl, h⟩ | ⟨q8, rfl, h⟩
  · show AW Γ 0 0 C2 I3 J4 R5 (26 + 3) [(0, aR (some x0)), (2, aR (some x2))] []
    refine aw_aload_n G0 1 rfl dX0_chosen_29 ?_
    obtain ⟨k7, h⟩ := h
    refine aw_getI (f := 10) G0 (by rw [k7]; exact fb_X0_283) dX0_chosen_30 ?_
    exact aw_ireturn G0 (Or.inl rfl) (by rw [G.2.2]; decide) (by rw [G.2.1]; decide) dX0_chosen_33 h
  · show AX Γ 0 0 C2 I3 J4 R5 26 [(0, aR (some x0)), (2, aR (some x2))] q8
    obtain ⟨k9, h⟩ := h
    refine ax_catch G0 0 rfl (fun j hj _ _ _ _ _ => absurd hj (Nat.not_lt_zero j)) rfl (by decide) q84 (Or.inl k9) (by rw [k9]; exact q86) ?_
    exact (aw_lv [0] rfl (w34 x0 q8 C2 I3 J4 R5 h))
theorem bX0_chosen_34 (G : Gb Γ yX0_chosen cX0_chosen 3 (some .int) [(5, 33, 34, 53)] rmX0_chosen bdX0_chosen) {F_X0_none : SPF} (S_X0_none : SpX0_none (gL Γ) F_X0_none) {x0 : Nat} {s0 : Nat}
    (h : (C x0).1 = 1 ∧
      F_X0_none [aR (some x0), aR (some s0)] C I J R (fun o C2 I3 J4 R5 =>
      ∃ r6 : Int32, o = .inl (some (aI r6)) ∧
      gK Γ (.inl (some (aI r6))) C2 I3 J4 R5)) :
    AW Γ 0 0 C I J R 34 [(0, aR (some x0))] [aR (some s0)] := by
  have G0 := G.1
  refine aw_astore_n (lv' := [(2, aR (some s0)), (0, aR (some x0))]) G0 (by decide) rfl dX0_chosen_34 ?_
  refine aw_aload_n G0 1 rfl dX0_chosen_35 ?_
  refine aw_aload_n G0 0 rfl dX0_chosen_36 ?_
  obtain ⟨k1, h⟩ := h
  refine aw_callV (k1 := 0) (n1 := 0) (k2 := 0) (n2 := 0) (st := []) G0 S_X0_none gi_X0_117 (Or.inl (by rw [k1]; decide)) (by rw [k1]; rfl) md_X0_none (Nat.le_of_ble_eq_true rfl) (by decide) (by rw [G.2.1]; decide) (by rw [G.2.1]; decide) [aR (some s0)] rfl rfl dX0_chosen_37 h (fun o C2 I3 J4 R5 h => ?_)
  obtain ⟨r6, rfl, h⟩ := h
  show AW Γ 0 0 C2 I3 J4 R5 (37 + 3) [(2, aR (some s0)), (0, aR (some x0))] [aI r6]
  exact aw_ireturn G0 (Or.inl rfl) (by rw [G.2.2]; decide) (by rw [G.2.1]; decide) dX0_chosen_40 h
theorem bX0_part_0 (G : Gb Γ yX0_part cX0_part 4 (some .boolean) [(5, 38, 39, 53)] rmX0_part bdX0_part) {F_X0_leafOf : SPF} (S_X0_leafOf : SpX0_leafOf (gL Γ) F_X0_leafOf)
    {Q27 : Nat → Int32 → Nat → Nat → MC → MI → MJ → MR → Prop} (w27 : ∀ (x0 : Nat) (x2 : Int32) (x3 : Nat) (s0 : Nat) (C : MC) (I : MI) (J : MJ) (R : MR), Q27 x0 x2 x3 s0 C I J R → AW Γ 0 0 C I J R 27 [(0, aR (some x0)), (2, aI x2), (3, aR (some x3))] [aR (some s0)])
    {Q28 : Nat → Int32 → Nat → Nat → Int32 → MC → MI → MJ → MR → Prop} (w28 : ∀ (x0 : Nat) (x2 : Int32) (x3 : Nat) (s0 : Nat) (s1 : Int32) (C : MC) (I : MI) (J : MJ) (R : MR), Q28 x0 x2 x3 s0 s1 C I J R → AW Γ 0 0 C I J R 28 [(0, aR (some x0)), (2, aI x2), (3, aR (some x3))] [aI s1, aR (some s0)])
    {Q39 : Nat → Nat → MC → MI → MJ → MR → Prop} (w39 : ∀ (x0 : Nat) (s0 : Nat) (C : MC) (I : MI) (J : MJ) (R : MR), Q39 x0 s0 C I J R → AW Γ 0 0 C I J R 39 [(0, aR (some x0))] [aR (some s0)]) {x0 : Nat} {x1 : Int32} {x2 : Int32}
    (h : (C x0).1 = 1 ∧
      ∀ I2 : MI, I2 = va_up I x0 (va_up (I x0) 5 (0 : Int32)) →
      F_X0_leafOf [aR (some x0), aI x1] C I2 J R (fun o C3 I4 J5 R6 =>
      (∃ r7 : Nat, o = .inl (some (aR (some r7))) ∧
      ((x2 < (-1 : Int32) →
      Q27 x0 x2 r7 x0 C3 I4 J5 R6) ∧
      (¬ x2 < (-1 : Int32) →
      (((120 : Int32) < x2 →
      Q27 x0 x2 r7 x0 C3 I4 J5 R6) ∧
      (¬ (120 : Int32) < x2 →
      Q28 x0 x2 r7 x0 (1 : Int32) C3 I4 J5 R6))))) ∨
      (∃ q10 : Nat, o = .inr q10 ∧
      ((C3 q10).1 = 2 ∧
      Q39 x0 q10 C3 I4 J5 R6)))) :
    AW Γ 0 0 C I J R 0 [(0, aR (some x0)), (1, aI x1), (2, aI x2)] [] := by
  have G0 := G.1
  refine aw_aload_n G0 0 rfl dX0_part_0 ?_
  refine aw_iconst (v := (0 : Int32)) G0 dX0_part_1 (by decide) ?_
  obtain ⟨k1, h⟩ := h
  refine aw_putI (f := 5) G0 (by rw [k1]; exact fp_X0_63 _) dX0_part_2 ?_
  generalize gI2 : va_up I x0 (va_up (I x0) 5 (0 : Int32)) = I2
  have h := h I2 gI2.symm
  refine aw_aload_n G0 0 rfl dX0_part_5 ?_
  refine aw_iload_n G0 1 rfl dX0_part_6 ?_
  refine aw_callV (k1 := 0) (n1 := 0) (k2 := 0) (n2 := 0) (st := []) G0 S_X0_leafOf gi_X0_249 (Or.inl (by rw [k1]; decide)) (by rw [k1]; rfl) md_X0_leafOf (Nat.le_of_ble_eq_true rfl) (by decide) (by rw [G.2.1]; decide) (by rw [G.2.1]; decide) [aI x1] rfl rfl dX0_part_7 h (fun o C3 I4 J5 R6 h => ?_)
  rcases h with ⟨r7, rfl, h⟩ | ⟨q10, rfl, h⟩
  · show AW Γ 0 0 C3 I4 J5 R6 (7 + 3) [(0, aR (some x0)), (1, aI x1), (2, aI x2)] [aR (some r7)]
    refine aw_astore_n (lv' := [(3, aR (some r7)), (0, aR (some x0)), (1, aI x1), (2, aI x2)]) G0 (by decide) rfl dX0_part_10 ?_
    refine aw_aload_n G0 1 rfl dX0_part_11 ?_
    refine aw_iload_n G0 3 rfl dX0_part_12 ?_
    refine aw_iconst (v := (-1 : Int32)) G0 dX0_part_13 (by decide) ?_
    refine aw_icmp_lt G0 27 dX0_part_14 (by decide) (fun c8 => ?_) (fun c8 => ?_)
    · have h := h.1 c8
      exact (aw_lv [1, 3, 0] rfl (w27 x0 x2 r7 x0 C3 I4 J5 R6 h))
    · have h := h.2 c8
      refine aw_iload_n G0 3 rfl dX0_part_17 ?_
      refine aw_bipush (v := (120 : Int32)) G0 dX0_part_18 (by decide) ?_
      refine aw_icmp_gt G0 27 dX0_part_20 (by decide) (fun c9 => ?_) (fun c9 => ?_)
      · have h := h.1 c9
        exact (aw_lv [1, 3, 0] rfl (w27 x0 x2 r7 x0 C3 I4 J5 R6 h))
      · have h := h.2 c9
        refine aw_iconst (v := (1 : Int32)) G0 dX0_part_23 (by decide) ?_
        refine aw_goto G0 28 dX0_part_24 (by decide) ?_
        exact (aw_lv [1, 3, 0] rfl (w28 x0 x2 r7 x0 (1 : Int32) C3 I4 J5 R6 h))
  · show AX Γ 0 0 C3 I4 J5 R6 7 [(0, aR (some x0)), (1, aI x1), (2, aI x2)] q10
    obtain ⟨k11, h⟩ := h
    refine ax_catch G0 0 rfl (fun j hj _ _ _ _ _ => absurd hj (Nat.not_lt_zero j)) rfl (by decide) q84 (Or.inl k11) (by rw [k11]; exact q86) ?_
    exact (aw_lv [0] rfl (w39 x0 q10 C3 I4 J5 R6 h))
theorem bX0_part_27 (G : Gb Γ yX0_part cX0_part 4 (some .boolean) [(5, 38, 39, 53)] rmX0_part bdX0_part)
    {Q28 : Nat → Int32 → Nat → Nat → Int32 → MC → MI → MJ → MR → Prop} (w28 : ∀ (x0 : Nat) (x2 : Int32) (x3 : Nat) (s0 : Nat) (s1 : Int32) (C : MC) (I : MI) (J : MJ) (R : MR), Q28 x0 x2 x3 s0 s1 C I J R → AW Γ 0 0 C I J R 28 [(0, aR (some x0)), (2, aI x2), (3, aR (some x3))] [aI s1, aR (some s0)]) {x0 : Nat} {x2 : Int32} {x3 : Nat} {s0 : Nat}
    (h : Q28 x0 x2 x3 s0 (0 : Int32) C I J R) :
    AW Γ 0 0 C I J R 27 [(0, aR (some x0)), (2, aI x2), (3, aR (some x3))] [aR (some s0)] := by
  have G0 := G.1
  refine aw_iconst (v := (0 : Int32)) G0 dX0_part_27 (by decide) ?_
  exact (w28 x0 x2 x3 s0 (0 : Int32) C I J R h)
theorem bX0_part_28 (G : Gb Γ yX0_part cX0_part 4 (some .boolean) [(5, 38, 39, 53)] rmX0_part bdX0_part) {F_X0_want : SPF} (S_X0_want : SpX0_want (gL Γ) F_X0_want)
    {Q39 : Nat → Nat → MC → MI → MJ → MR → Prop} (w39 : ∀ (x0 : Nat) (s0 : Nat) (C : MC) (I : MI) (J : MJ) (R : MR), Q39 x0 s0 C I J R → AW Γ 0 0 C I J R 39 [(0, aR (some x0))] [aR (some s0)]) {x0 : Nat} {x2 : Int32} {x3 : Nat} {s0 : Nat} {s1 : Int32}
    (h : (C s0).1 = 1 ∧
      F_X0_want [aR (some s0), aI s1, aI (1 : Int32)] C I J R (fun o C2 I3 J4 R5 =>
      (o = .inl none ∧
      (C2 x3).1 = 5 ∧
      ∀ I8 : MI, I8 = va_up I3 x3 (va_up (I3 x3) 11 x2) →
      gK Γ (.inl (some (aI (1 : Int32)))) C2 I8 J4 R5) ∨
      (∃ q9 : Nat, o = .inr q9 ∧
      ((C2 q9).1 = 2 ∧
      Q39 x0 q9 C2 I3 J4 R5)))) :
    AW Γ 0 0 C I J R 28 [(0, aR (some x0)), (2, aI x2), (3, aR (some x3))] [aI s1, aR (some s0)] := by
  have G0 := G.1
  refine aw_iconst (v := (1 : Int32)) G0 dX0_part_28 (by decide) ?_
  obtain ⟨k1, h⟩ := h
  refine aw_callV (k1 := 0) (n1 := 0) (k2 := 0) (n2 := 0) (st := []) G0 S_X0_want gi_X0_87 (Or.inl (by rw [k1]; decide)) (by rw [k1]; rfl) md_X0_want (Nat.le_of_ble_eq_true rfl) (by decide) (by rw [G.2.1]; decide) (by rw [G.2.1]; decide) [aI s1, aI (1 : Int32)] rfl rfl dX0_part_29 h (fun o C2 I3 J4 R5 h => ?_)
  rcases h with ⟨rfl, h⟩ | ⟨q9, rfl, h⟩
  · show AW Γ 0 0 C2 I3 J4 R5 (29 + 3) [(0, aR (some x0)), (2, aI x2), (3, aR (some x3))] []
    refine aw_aload_n G0 2 rfl dX0_part_32 ?_
    refine aw_iload_n G0 1 rfl dX0_part_33 ?_
    obtain ⟨k7, h⟩ := h
    refine aw_putI (f := 11) G0 (by rw [k7]; exact fp_X0_286 _) dX0_part_34 ?_
    generalize gI8 : va_up I3 x3 (va_up (I3 x3) 11 x2) = I8
    have h := h I8 gI8.symm
    refine aw_iconst (v := (1 : Int32)) G0 dX0_part_37 (by decide) ?_
    exact aw_ireturn G0 (Or.inr ⟨rfl, by decide⟩) (by rw [G.2.2]; decide) (by rw [G.2.1]; decide) dX0_part_38 h
  · show AX Γ 0 0 C2 I3 J4 R5 29 [(0, aR (some x0)), (2, aI x2), (3, aR (some x3))] q9
    obtain ⟨k10, h⟩ := h
    refine ax_catch G0 0 rfl (fun j hj _ _ _ _ _ => absurd hj (Nat.not_lt_zero j)) rfl (by decide) q84 (Or.inl k10) (by rw [k10]; exact q86) ?_
    exact (aw_lv [0] rfl (w39 x0 q9 C2 I3 J4 R5 h))
theorem bX0_part_39 (G : Gb Γ yX0_part cX0_part 4 (some .boolean) [(5, 38, 39, 53)] rmX0_part bdX0_part) {F_X0_no : SPF} (S_X0_no : SpX0_no (gL Γ) F_X0_no) {x0 : Nat} {s0 : Nat}
    (h : (C x0).1 = 1 ∧
      F_X0_no [aR (some x0), aR (some s0)] C I J R (fun o C2 I3 J4 R5 =>
      ∃ r6 : Int32, o = .inl (some (aI r6)) ∧
      (r6 = 0 ∨ r6 = 1) ∧ gK Γ (.inl (some (aI r6))) C2 I3 J4 R5)) :
    AW Γ 0 0 C I J R 39 [(0, aR (some x0))] [aR (some s0)] := by
  have G0 := G.1
  refine aw_astore_n (lv' := [(3, aR (some s0)), (0, aR (some x0))]) G0 (by decide) rfl dX0_part_39 ?_
  refine aw_aload_n G0 1 rfl dX0_part_40 ?_
  refine aw_aload_n G0 0 rfl dX0_part_41 ?_
  obtain ⟨k1, h⟩ := h
  refine aw_callV (k1 := 0) (n1 := 0) (k2 := 0) (n2 := 0) (st := []) G0 S_X0_no gi_X0_97 (Or.inl (by rw [k1]; decide)) (by rw [k1]; rfl) md_X0_no (Nat.le_of_ble_eq_true rfl) (by decide) (by rw [G.2.1]; decide) (by rw [G.2.1]; decide) [aR (some s0)] rfl rfl dX0_part_42 h (fun o C2 I3 J4 R5 h => ?_)
  obtain ⟨r6, rfl, h⟩ := h
  show AW Γ 0 0 C2 I3 J4 R5 (42 + 3) [(3, aR (some s0)), (0, aR (some x0))] [aI r6]
  obtain ⟨k7, h⟩ := h
  exact aw_ireturn G0 (Or.inr ⟨rfl, k7⟩) (by rw [G.2.2]; decide) (by rw [G.2.1]; decide) dX0_part_45 h
theorem bX0_trace_0 (G : Gb Γ yX0_trace cX0_trace 9 (some .int) [(5, 146, 218, 53), (147, 217, 218, 53)] rmX0_trace bdX0_trace) {F_X0_thing : SPF} (S_X0_thing : SpX0_thing (gL Γ) F_X0_thing) {F_X0_on : SPF} (S_X0_on : SpX0_on (gL Γ) F_X0_on) {F_X0_leaves : SPF} (S_X0_leaves : SpX0_leaves (gL Γ) F_X0_leaves) {F_X0_sizeOf : SPF} (S_X0_sizeOf : SpX0_sizeOf (gL Γ) F_X0_sizeOf)
    {Q42 : Nat → Nat → Nat → Nat → Nat → Int32 → MC → MI → MJ → MR → Prop} (w42 : ∀ (x0 : Nat) (x3 : Nat) (x4 : Nat) (x5 : Nat) (s0 : Nat) (s1 : Int32) (C : MC) (I : MI) (J : MJ) (R : MR), Q42 x0 x3 x4 x5 s0 s1 C I J R → AW Γ 1 20 C I J R 42 [(0, aR (some x0)), (3, aR (some x3)), (4, aR (some x4)), (5, aR (some x5))] [aI s1, aR (some s0)])
    {Q218 : Nat → Nat → MC → MI → MJ → MR → Prop} (w218 : ∀ (x0 : Nat) (s0 : Nat) (C : MC) (I : MI) (J : MJ) (R : MR), Q218 x0 s0 C I J R → AW Γ 1 20 C I J R 218 [(0, aR (some x0))] [aR (some s0)]) {x0 : Nat} {x1 : Int32} {x2 : Int32}
    (h : (C x0).1 = 1 ∧
      ∀ I2 : MI, I2 = va_up I x0 (va_up (I x0) 5 (0 : Int32)) →
      F_X0_thing [aR (some x0), aI x1] C I2 J R (fun o C3 I4 J5 R6 =>
      (∃ r7 : Nat, o = .inl (some (aR (some r7))) ∧
      (C3 x0).1 = 1 ∧
      F_X0_on [aR (some x0), aI x2] C3 I4 J5 R6 (fun o C9 I10 J11 R12 =>
      (∃ r13 : Nat, o = .inl (some (aR (some r13))) ∧
      (C9 x0).1 = 1 ∧
      F_X0_leaves [aR (some x0), aR (some r7)] C9 I10 J11 R12 (fun o C15 I16 J17 R18 =>
      ∃ r19 : Nat, o = .inl (some (aR (some r19))) ∧
      (20 ≤ (C15 r19).1 ∧ (C15 r19).1 ≤ 30) ∧
      F_X0_sizeOf [aR (some r13)] C15 I16 J17 R18 (fun o C21 I22 J23 R24 =>
      ∃ r25 : Int32, o = .inl (some (aI r25)) ∧
      ((r25 < (nI (C15 r19).2) →
      Q42 x0 r7 r13 r19 x0 (0 : Int32) C21 I22 J23 R24) ∧
      (¬ r25 < (nI (C15 r19).2) →
      Q42 x0 r7 r13 r19 x0 (1 : Int32) C21 I22 J23 R24))))) ∨
      (∃ q27 : Nat, o = .inr q27 ∧
      ((C9 q27).1 = 2 ∧
      Q218 x0 q27 C9 I10 J11 R12)))) ∨
      (∃ q29 : Nat, o = .inr q29 ∧
      ((C3 q29).1 = 2 ∧
      Q218 x0 q29 C3 I4 J5 R6)))) :
    AW Γ 0 0 C I J R 0 [(0, aR (some x0)), (1, aI x1), (2, aI x2)] [] := by
  have G0 := G.1
  refine aw_aload_n G0 0 rfl dX0_trace_0 ?_
  refine aw_iconst (v := (0 : Int32)) G0 dX0_trace_1 (by decide) ?_
  obtain ⟨k1, h⟩ := h
  refine aw_putI (f := 5) G0 (by rw [k1]; exact fp_X0_63 _) dX0_trace_2 ?_
  generalize gI2 : va_up I x0 (va_up (I x0) 5 (0 : Int32)) = I2
  have h := h I2 gI2.symm
  refine aw_aload_n G0 0 rfl dX0_trace_5 ?_
  refine aw_iload_n G0 1 rfl dX0_trace_6 ?_
  refine aw_callV (k1 := 0) (n1 := 0) (k2 := 0) (n2 := 0) (st := []) G0 S_X0_thing gi_X0_163 (Or.inl (by rw [k1]; decide)) (by rw [k1]; rfl) md_X0_thing (Nat.le_of_ble_eq_true rfl) (by decide) (by rw [G.2.1]; decide) (by rw [G.2.1]; decide) [aI x1] rfl rfl dX0_trace_7 h (fun o C3 I4 J5 R6 h => ?_)
  rcases h with ⟨r7, rfl, h⟩ | ⟨q29, rfl, h⟩
  · show AW Γ 0 0 C3 I4 J5 R6 (7 + 3) [(0, aR (some x0)), (1, aI x1), (2, aI x2)] [aR (some r7)]
    refine aw_astore_n (lv' := [(3, aR (some r7)), (0, aR (some x0)), (1, aI x1), (2, aI x2)]) G0 (by decide) rfl dX0_trace_10 ?_
    refine aw_aload_n G0 1 rfl dX0_trace_11 ?_
    refine aw_iload_n G0 3 rfl dX0_trace_12 ?_
    obtain ⟨k8, h⟩ := h
    refine aw_callV (k1 := 0) (n1 := 0) (k2 := 0) (n2 := 0) (st := []) G0 S_X0_on gi_X0_101 (Or.inl (by rw [k8]; decide)) (by rw [k8]; rfl) md_X0_on (Nat.le_of_ble_eq_true rfl) (by decide) (by rw [G.2.1]; decide) (by rw [G.2.1]; decide) [aI x2] rfl rfl dX0_trace_13 h (fun o C9 I10 J11 R12 h => ?_)
    rcases h with ⟨r13, rfl, h⟩ | ⟨q27, rfl, h⟩
    · show AW Γ 0 0 C9 I10 J11 R12 (13 + 3) [(3, aR (some r7)), (0, aR (some x0)), (1, aI x1), (2, aI x2)] [aR (some r13)]
      refine aw_astore (lv' := [(4, aR (some r13)), (3, aR (some r7)), (0, aR (some x0)), (1, aI x1), (2, aI x2)]) G0 (by decide) rfl dX0_trace_16 ?_
      refine aw_aload_n G0 2 rfl dX0_trace_18 ?_
      refine aw_aload_n G0 1 rfl dX0_trace_19 ?_
      obtain ⟨k14, h⟩ := h
      refine aw_callV (k1 := 1) (n1 := 20) (k2 := 0) (n2 := 0) (st := []) G0 S_X0_leaves gi_X0_276 (Or.inl (by rw [k14]; decide)) (by rw [k14]; rfl) md_X0_leaves (Nat.le_of_ble_eq_true rfl) (by decide) (by rw [G.2.1]; decide) (by rw [G.2.1]; decide) [aR (some r7)] rfl rfl dX0_trace_20 h (fun o C15 I16 J17 R18 h => ?_)
      obtain ⟨r19, rfl, h⟩ := h
      show AW Γ 1 20 C15 I16 J17 R18 (20 + 3) [(4, aR (some r13)), (3, aR (some r7)), (0, aR (some x0)), (1, aI x1), (2, aI x2)] [aR (some r19)]
      refine aw_astore (lv' := [(5, aR (some r19)), (4, aR (some r13)), (3, aR (some r7)), (0, aR (some x0)), (1, aI x1), (2, aI x2)]) G0 (by decide) rfl dX0_trace_23 ?_
      refine aw_aload_n G0 3 rfl dX0_trace_25 ?_
      refine aw_aload G0 0 rfl dX0_trace_26 ?_
      obtain ⟨k20, h⟩ := h
      refine aw_alen (v := nI (C15 r19).2) G0 k20 rfl dX0_trace_28 ?_
      refine aw_aload G0 1 rfl dX0_trace_29 ?_
      refine aw_callS (k1 := 1) (n1 := 20) (k2 := 1) (n2 := 20) (st := [aI (nI (C15 r19).2), aR (some x0)]) G0 S_X0_sizeOf gi_X0_138 md_X0_sizeOf (Nat.le_of_ble_eq_true rfl) (by decide) (by rw [G.2.1]; decide) (by rw [G.2.1]; decide) [aR (some r13)] rfl rfl dX0_trace_31 h (fun o C21 I22 J23 R24 h => ?_)
      obtain ⟨r25, rfl, h⟩ := h
      show AW Γ 1 20 C21 I22 J23 R24 (31 + 3) [(5, aR (some r19)), (4, aR (some r13)), (3, aR (some r7)), (0, aR (some x0)), (1, aI x1), (2, aI x2)] [aI r25, aI (nI (C15 r19).2), aR (some x0)]
      refine aw_icmp_gt G0 41 dX0_trace_34 (by decide) (fun c26 => ?_) (fun c26 => ?_)
      · have h := h.1 c26
        refine aw_iconst (v := (0 : Int32)) G0 dX0_trace_41 (by decide) ?_
        exact (aw_lv [3, 2, 1, 0] rfl (w42 x0 r7 r13 r19 x0 (0 : Int32) C21 I22 J23 R24 h))
      · have h := h.2 c26
        refine aw_iconst (v := (1 : Int32)) G0 dX0_trace_37 (by decide) ?_
        refine aw_goto G0 42 dX0_trace_38 (by decide) ?_
        exact (aw_lv [3, 2, 1, 0] rfl (w42 x0 r7 r13 r19 x0 (1 : Int32) C21 I22 J23 R24 h))
    · show AX Γ 0 0 C9 I10 J11 R12 13 [(3, aR (some r7)), (0, aR (some x0)), (1, aI x1), (2, aI x2)] q27
      obtain ⟨k28, h⟩ := h
      refine ax_catch G0 0 rfl (fun j hj _ _ _ _ _ => absurd hj (Nat.not_lt_zero j)) rfl (by decide) q84 (Or.inl k28) (by rw [k28]; exact q86) ?_
      exact (aw_wide (by decide) (by decide) (aw_lv [1] rfl (w218 x0 q27 C9 I10 J11 R12 h)))
  · show AX Γ 0 0 C3 I4 J5 R6 7 [(0, aR (some x0)), (1, aI x1), (2, aI x2)] q29
    obtain ⟨k30, h⟩ := h
    refine ax_catch G0 0 rfl (fun j hj _ _ _ _ _ => absurd hj (Nat.not_lt_zero j)) rfl (by decide) q84 (Or.inl k30) (by rw [k30]; exact q86) ?_
    exact (aw_wide (by decide) (by decide) (aw_lv [0] rfl (w218 x0 q29 C3 I4 J5 R6 h)))
theorem bX0_trace_42 (G : Gb Γ yX0_trace cX0_trace 9 (some .int) [(5, 146, 218, 53), (147, 217, 218, 53)] rmX0_trace bdX0_trace) {F_X0_want : SPF} (S_X0_want : SpX0_want (gL Γ) F_X0_want)
    {Q52 : Nat → Nat → Nat → Nat → Int64 → Int32 → MC → MI → MJ → MR → Prop} (w52 : ∀ (x0 : Nat) (x3 : Nat) (x4 : Nat) (x5 : Nat) (x6 : Int64) (x8 : Int32) (C : MC) (I : MI) (J : MJ) (R : MR), Q52 x0 x3 x4 x5 x6 x8 C I J R → AW Γ 1 20 C I J R 52 [(0, aR (some x0)), (3, aR (some x3)), (4, aR (some x4)), (5, aR (some x5)), (6, aJ x6), (8, aI x8)] [])
    {Q218 : Nat → Nat → MC → MI → MJ → MR → Prop} (w218 : ∀ (x0 : Nat) (s0 : Nat) (C : MC) (I : MI) (J : MJ) (R : MR), Q218 x0 s0 C I J R → AW Γ 1 20 C I J R 218 [(0, aR (some x0))] [aR (some s0)]) {x0 : Nat} {x3 : Nat} {x4 : Nat} {x5 : Nat} {s0 : Nat} {s1 : Int32}
    (h : (C s0).1 = 1 ∧
      F_X0_want [aR (some s0), aI s1, aI (3 : Int32)] C I J R (fun o C2 I3 J4 R5 =>
      (o = .inl none ∧
      Q52 x0 x3 x4 x5 (0 : Int64) (0 : Int32) C2 I3 J4 R5) ∨
      (∃ q7 : Nat, o = .inr q7 ∧
      ((C2 q7).1 = 2 ∧
      Q218 x0 q7 C2 I3 J4 R5)))) :
    AW Γ 1 20 C I J R 42 [(0, aR (some x0)), (3, aR (some x3)), (4, aR (some x4)), (5, aR (some x5))] [aI s1, aR (some s0)] := by
  have G0 := G.1
  refine aw_iconst (v := (3 : Int32)) G0 dX0_trace_42 (by decide) ?_
  obtain ⟨k1, h⟩ := h
  refine aw_callV (k1 := 1) (n1 := 20) (k2 := 1) (n2 := 20) (st := []) G0 S_X0_want gi_X0_87 (Or.inl (by rw [k1]; decide)) (by rw [k1]; rfl) md_X0_want (Nat.le_of_ble_eq_true rfl) (by decide) (by rw [G.2.1]; decide) (by rw [G.2.1]; decide) [aI s1, aI (3 : Int32)] rfl rfl dX0_trace_43 h (fun o C2 I3 J4 R5 h => ?_)
  rcases h with ⟨rfl, h⟩ | ⟨q7, rfl, h⟩
  · show AW Γ 1 20 C2 I3 J4 R5 (43 + 3) [(0, aR (some x0)), (3, aR (some x3)), (4, aR (some x4)), (5, aR (some x5))] []
    refine aw_lconst (v := (0 : Int64)) G0 dX0_trace_46 (by decide) ?_
    refine aw_lstore (lv' := [(6, aJ (0 : Int64)), (0, aR (some x0)), (3, aR (some x3)), (4, aR (some x4)), (5, aR (some x5))]) G0 (by decide) rfl dX0_trace_47 ?_
    refine aw_iconst (v := (0 : Int32)) G0 dX0_trace_49 (by decide) ?_
    refine aw_istore (lv' := [(8, aI (0 : Int32)), (6, aJ (0 : Int64)), (0, aR (some x0)), (3, aR (some x3)), (4, aR (some x4)), (5, aR (some x5))]) G0 (by decide) rfl dX0_trace_50 ?_
    exact (aw_lv [2, 3, 4, 5, 1, 0] rfl (w52 x0 x3 x4 x5 (0 : Int64) (0 : Int32) C2 I3 J4 R5 h))
  · show AX Γ 1 20 C2 I3 J4 R5 43 [(0, aR (some x0)), (3, aR (some x3)), (4, aR (some x4)), (5, aR (some x5))] q7
    obtain ⟨k8, h⟩ := h
    refine ax_catch G0 0 rfl (fun j hj _ _ _ _ _ => absurd hj (Nat.not_lt_zero j)) rfl (by decide) q84 (Or.inl k8) (by rw [k8]; exact q86) ?_
    exact (aw_lv [0] rfl (w218 x0 q7 C2 I3 J4 R5 h))
theorem bX0_trace_52 (G : Gb Γ yX0_trace cX0_trace 9 (some .int) [(5, 146, 218, 53), (147, 217, 218, 53)] rmX0_trace bdX0_trace) {F_X0_number : SPF} (S_X0_number : SpX0_number (gL Γ) F_X0_number)
    {Q91 : Nat → Nat → Nat → Nat → Int64 → Int32 → Nat → MC → MI → MJ → MR → Prop} (w91 : ∀ (x0 : Nat) (x3 : Nat) (x4 : Nat) (x5 : Nat) (x6 : Int64) (x8 : Int32) (s0 : Nat) (C : MC) (I : MI) (J : MJ) (R : MR), Q91 x0 x3 x4 x5 x6 x8 s0 C I J R → AW Γ 1 20 C I J R 91 [(0, aR (some x0)), (3, aR (some x3)), (4, aR (some x4)), (5, aR (some x5)), (6, aJ x6), (8, aI x8)] [aR (some s0)])
    {Q92 : Nat → Nat → Nat → Nat → Int64 → Int32 → Nat → Int32 → MC → MI → MJ → MR → Prop} (w92 : ∀ (x0 : Nat) (x3 : Nat) (x4 : Nat) (x5 : Nat) (x6 : Int64) (x8 : Int32) (s0 : Nat) (s1 : Int32) (C : MC) (I : MI) (J : MJ) (R : MR), Q92 x0 x3 x4 x5 x6 x8 s0 s1 C I J R → AW Γ 1 20 C I J R 92 [(0, aR (some x0)), (3, aR (some x3)), (4, aR (some x4)), (5, aR (some x5)), (6, aJ x6), (8, aI x8)] [aI s1, aR (some s0)])
    {Q160 : Nat → Nat → Int32 → MC → MI → MJ → MR → Prop} (w160 : ∀ (x4 : Nat) (x5 : Nat) (x8 : Int32) (C : MC) (I : MI) (J : MJ) (R : MR), Q160 x4 x5 x8 C I J R → AW Γ 1 20 C I J R 160 [(4, aR (some x4)), (5, aR (some x5)), (8, aI x8)] []) {x0 : Nat} {x3 : Nat} {x4 : Nat} {x5 : Nat} {x6 : Int64} {x8 : Int32}
    (h : (20 ≤ (C x5).1 ∧ (C x5).1 ≤ 30) ∧
      (((nI (C x5).2) ≤ x8 →
      kTh (C x3).1 ∧
      ∀ I4 : MI, I4 = va_up I x3 (va_up (I x3) 4 ((I x3 4) + (1 : Int32))) →
      (((0 : Int64) < x6 →
      ∀ I6 : MI, I6 = va_up I4 x3 (va_up (I4 x3) 5 ((I4 x3 5) + (1 : Int32))) →
      Q160 x4 x5 (0 : Int32) C I6 J R) ∧
      (¬ (0 : Int64) < x6 →
      gK Γ (.inl (some (aI (0 : Int32)))) C I4 J R))) ∧
      (¬ (nI (C x5).2) ≤ x8 →
      F_X0_number [aR (some x4), aI x8] C I J R (fun o C7 I8 J9 R10 =>
      ∃ r11 : Int64, o = .inl (some (aJ r11)) ∧
      ((r11 < (0 : Int64) →
      Q91 x0 x3 x4 x5 x6 x8 x0 C7 I8 J9 R10) ∧
      (¬ r11 < (0 : Int64) →
      F_X0_number [aR (some x4), aI x8] C7 I8 J9 R10 (fun o C13 I14 J15 R16 =>
      ∃ r17 : Int64, o = .inl (some (aJ r17)) ∧
      (((1000 : Int64) < r17 →
      Q91 x0 x3 x4 x5 x6 x8 x0 C13 I14 J15 R16) ∧
      (¬ (1000 : Int64) < r17 →
      Q92 x0 x3 x4 x5 x6 x8 x0 (1 : Int32) C13 I14 J15 R16))))))))) :
    AW Γ 1 20 C I J R 52 [(0, aR (some x0)), (3, aR (some x3)), (4, aR (some x4)), (5, aR (some x5)), (6, aJ x6), (8, aI x8)] [] := by
  have G0 := G.1
  refine aw_iload G0 5 rfl dX0_trace_52 ?_
  refine aw_aload G0 3 rfl dX0_trace_54 ?_
  obtain ⟨k1, h⟩ := h
  refine aw_alen (v := nI (C x5).2) G0 k1 rfl dX0_trace_56 ?_
  refine aw_icmp_ge G0 128 dX0_trace_57 (by decide) (fun c2 => ?_) (fun c2 => ?_)
  · have h := h.1 c2
    refine aw_aload_n G0 1 rfl dX0_trace_128 ?_
    refine aw_dupR G0 dX0_trace_129 ?_
    obtain ⟨k3, h⟩ := h
    refine aw_getI (f := 4) G0 (fb_X0_293 _ k3) dX0_trace_130 ?_
    refine aw_iconst (v := (1 : Int32)) G0 dX0_trace_133 (by decide) ?_
    refine aw_iadd G0 dX0_trace_134 ?_
    refine aw_putI (f := 4) G0 (fp_X0_293 _ _ k3) dX0_trace_135 ?_
    generalize gI4 : va_up I x3 (va_up (I x3) 4 ((I x3 4) + (1 : Int32))) = I4
    have h := h I4 gI4.symm
    refine aw_lload G0 4 rfl dX0_trace_138 ?_
    refine aw_lconst (v := (0 : Int64)) G0 dX0_trace_140 (by decide) ?_
    refine aw_lif_gt G0 147 dX0_trace_141 dX0_trace_142 (by decide) (fun c5 => ?_) (fun c5 => ?_)
    · have h := h.1 c5
      refine aw_aload_n G0 1 rfl dX0_trace_147 ?_
      refine aw_dupR G0 dX0_trace_148 ?_
      refine aw_getI (f := 5) G0 (fb_X0_296 _ k3) dX0_trace_149 ?_
      refine aw_iconst (v := (1 : Int32)) G0 dX0_trace_152 (by decide) ?_
      refine aw_iadd G0 dX0_trace_153 ?_
      refine aw_putI (f := 5) G0 (fp_X0_296 _ _ k3) dX0_trace_154 ?_
      generalize gI6 : va_up I4 x3 (va_up (I4 x3) 5 ((I4 x3 5) + (1 : Int32))) = I6
      have h := h I6 gI6.symm
      refine aw_iconst (v := (0 : Int32)) G0 dX0_trace_157 (by decide) ?_
      refine aw_istore (lv' := [(8, aI (0 : Int32)), (0, aR (some x0)), (3, aR (some x3)), (4, aR (some x4)), (5, aR (some x5)), (6, aJ x6)]) G0 (by decide) rfl dX0_trace_158 ?_
      exact (aw_lv [3, 4, 0] rfl (w160 x4 x5 (0 : Int32) C I6 J R h))
    · have h := h.2 c5
      refine aw_iconst (v := (0 : Int32)) G0 dX0_trace_145 (by decide) ?_
      exact aw_ireturn G0 (Or.inl rfl) (by rw [G.2.2]; decide) (by rw [G.2.1]; decide) dX0_trace_146 h
  · have h := h.2 c2
    refine aw_aload_n G0 0 rfl dX0_trace_60 ?_
    refine aw_aload G0 2 rfl dX0_trace_61 ?_
    refine aw_iload G0 5 rfl dX0_trace_63 ?_
    refine aw_callS (k1 := 1) (n1 := 20) (k2 := 4) (n2 := 242) (st := [aR (some x0)]) G0 S_X0_number gi_X0_111 md_X0_number (Nat.le_of_ble_eq_true rfl) (by decide) (by rw [G.2.1]; decide) (by rw [G.2.1]; decide) [aR (some x4), aI x8] rfl rfl dX0_trace_65 h (fun o C7 I8 J9 R10 h => ?_)
    obtain ⟨r11, rfl, h⟩ := h
    show AW Γ 1 20 C7 I8 J9 R10 (65 + 3) [(0, aR (some x0)), (3, aR (some x3)), (4, aR (some x4)), (5, aR (some x5)), (6, aJ x6), (8, aI x8)] [aJ r11, aR (some x0)]
    refine aw_lconst (v := (0 : Int64)) G0 dX0_trace_68 (by decide) ?_
    refine aw_lif_lt G0 91 dX0_trace_69 dX0_trace_70 (by decide) (fun c12 => ?_) (fun c12 => ?_)
    · have h := h.1 c12
      exact (w91 x0 x3 x4 x5 x6 x8 x0 C7 I8 J9 R10 h)
    · have h := h.2 c12
      refine aw_aload G0 2 rfl dX0_trace_73 ?_
      refine aw_iload G0 5 rfl dX0_trace_75 ?_
      refine aw_callS (k1 := 1) (n1 := 20) (k2 := 4) (n2 := 242) (st := [aR (some x0)]) G0 S_X0_number gi_X0_111 md_X0_number (Nat.le_of_ble_eq_true rfl) (by decide) (by rw [G.2.1]; decide) (by rw [G.2.1]; decide) [aR (some x4), aI x8] rfl rfl dX0_trace_77 h (fun o C13 I14 J15 R16 h => ?_)
      obtain ⟨r17, rfl, h⟩ := h
      show AW Γ 1 20 C13 I14 J15 R16 (77 + 3) [(0, aR (some x0)), (3, aR (some x3)), (4, aR (some x4)), (5, aR (some x5)), (6, aJ x6), (8, aI x8)] [aJ r17, aR (some x0)]
      refine aw_ldc2 (v := (1000 : Int64)) G0 q344 dX0_trace_80 ?_
      refine aw_lif_gt G0 91 dX0_trace_83 dX0_trace_84 (by decide) (fun c18 => ?_) (fun c18 => ?_)
      · have h := h.1 c18
        exact (w91 x0 x3 x4 x5 x6 x8 x0 C13 I14 J15 R16 h)
      · have h := h.2 c18
        refine aw_iconst (v := (1 : Int32)) G0 dX0_trace_87 (by decide) ?_
        refine aw_goto G0 92 dX0_trace_88 (by decide) ?_
        exact (w92 x0 x3 x4 x5 x6 x8 x0 (1 : Int32) C13 I14 J15 R16 h)
theorem bX0_trace_91 (G : Gb Γ yX0_trace cX0_trace 9 (some .int) [(5, 146, 218, 53), (147, 217, 218, 53)] rmX0_trace bdX0_trace)
    {Q92 : Nat → Nat → Nat → Nat → Int64 → Int32 → Nat → Int32 → MC → MI → MJ → MR → Prop} (w92 : ∀ (x0 : Nat) (x3 : Nat) (x4 : Nat) (x5 : Nat) (x6 : Int64) (x8 : Int32) (s0 : Nat) (s1 : Int32) (C : MC) (I : MI) (J : MJ) (R : MR), Q92 x0 x3 x4 x5 x6 x8 s0 s1 C I J R → AW Γ 1 20 C I J R 92 [(0, aR (some x0)), (3, aR (some x3)), (4, aR (some x4)), (5, aR (some x5)), (6, aJ x6), (8, aI x8)] [aI s1, aR (some s0)]) {x0 : Nat} {x3 : Nat} {x4 : Nat} {x5 : Nat} {x6 : Int64} {x8 : Int32} {s0 : Nat}
    (h : Q92 x0 x3 x4 x5 x6 x8 s0 (0 : Int32) C I J R) :
    AW Γ 1 20 C I J R 91 [(0, aR (some x0)), (3, aR (some x3)), (4, aR (some x4)), (5, aR (some x5)), (6, aJ x6), (8, aI x8)] [aR (some s0)] := by
  have G0 := G.1
  refine aw_iconst (v := (0 : Int32)) G0 dX0_trace_91 (by decide) ?_
  exact (w92 x0 x3 x4 x5 x6 x8 s0 (0 : Int32) C I J R h)
theorem bX0_trace_92 (G : Gb Γ yX0_trace cX0_trace 9 (some .int) [(5, 146, 218, 53), (147, 217, 218, 53)] rmX0_trace bdX0_trace) {F_X0_want : SPF} (S_X0_want : SpX0_want (gL Γ) F_X0_want) {F_X0_number : SPF} (S_X0_number : SpX0_number (gL Γ) F_X0_number)
    {Q52 : Nat → Nat → Nat → Nat → Int64 → Int32 → MC → MI → MJ → MR → Prop} (w52 : ∀ (x0 : Nat) (x3 : Nat) (x4 : Nat) (x5 : Nat) (x6 : Int64) (x8 : Int32) (C : MC) (I : MI) (J : MJ) (R : MR), Q52 x0 x3 x4 x5 x6 x8 C I J R → AW Γ 1 20 C I J R 52 [(0, aR (some x0)), (3, aR (some x3)), (4, aR (some x4)), (5, aR (some x5)), (6, aJ x6), (8, aI x8)] [])
    {Q218 : Nat → Nat → MC → MI → MJ → MR → Prop} (w218 : ∀ (x0 : Nat) (s0 : Nat) (C : MC) (I : MI) (J : MJ) (R : MR), Q218 x0 s0 C I J R → AW Γ 1 20 C I J R 218 [(0, aR (some x0))] [aR (some s0)]) {x0 : Nat} {x3 : Nat} {x4 : Nat} {x5 : Nat} {x6 : Int64} {x8 : Int32} {s0 : Nat} {s1 : Int32}
    (h : (C s0).1 = 1 ∧
      F_X0_want [aR (some s0), aI s1, aI (1 : Int32)] C I J R (fun o C2 I3 J4 R5 =>
      (o = .inl none ∧
      F_X0_number [aR (some x4), aI x8] C2 I3 J4 R5 (fun o C7 I8 J9 R10 =>
      ∃ r11 : Int64, o = .inl (some (aJ r11)) ∧
      (25 ≤ (C7 x5).1 ∧ (C7 x5).1 < 30) ∧
      vp_in x8 (C7 x5).2 ∧
      ∃ q14 : Nat, R10 x5 x8.toNatClampNeg = some q14 ∧
      (C7 q14).1 = 5 ∧
      Q52 x0 x3 x4 x5 (x6 + (r11 - ((if (0 : Int32) < (I8 q14 11) then (I8 q14 11) else (0 : Int32)).toInt64))) (x8 + 1) C7 I8 J9 R10)) ∨
      (∃ q16 : Nat, o = .inr q16 ∧
      ((C2 q16).1 = 2 ∧
      Q218 x0 q16 C2 I3 J4 R5)))) :
    AW Γ 1 20 C I J R 92 [(0, aR (some x0)), (3, aR (some x3)), (4, aR (some x4)), (5, aR (some x5)), (6, aJ x6), (8, aI x8)] [aI s1, aR (some s0)] := by
  have G0 := G.1
  refine aw_iconst (v := (1 : Int32)) G0 dX0_trace_92 (by decide) ?_
  obtain ⟨k1, h⟩ := h
  refine aw_callV (k1 := 1) (n1 := 20) (k2 := 1) (n2 := 20) (st := []) G0 S_X0_want gi_X0_87 (Or.inl (by rw [k1]; decide)) (by rw [k1]; rfl) md_X0_want (Nat.le_of_ble_eq_true rfl) (by decide) (by rw [G.2.1]; decide) (by rw [G.2.1]; decide) [aI s1, aI (1 : Int32)] rfl rfl dX0_trace_93 h (fun o C2 I3 J4 R5 h => ?_)
  rcases h with ⟨rfl, h⟩ | ⟨q16, rfl, h⟩
  · show AW Γ 1 20 C2 I3 J4 R5 (93 + 3) [(0, aR (some x0)), (3, aR (some x3)), (4, aR (some x4)), (5, aR (some x5)), (6, aJ x6), (8, aI x8)] []
    refine aw_lload G0 4 rfl dX0_trace_96 ?_
    refine aw_aload G0 2 rfl dX0_trace_98 ?_
    refine aw_iload G0 5 rfl dX0_trace_100 ?_
    refine aw_callS (k1 := 1) (n1 := 20) (k2 := 4) (n2 := 242) (st := [aJ x6]) G0 S_X0_number gi_X0_111 md_X0_number (Nat.le_of_ble_eq_true rfl) (by decide) (by rw [G.2.1]; decide) (by rw [G.2.1]; decide) [aR (some x4), aI x8] rfl rfl dX0_trace_102 h (fun o C7 I8 J9 R10 h => ?_)
    obtain ⟨r11, rfl, h⟩ := h
    show AW Γ 1 20 C7 I8 J9 R10 (102 + 3) [(0, aR (some x0)), (3, aR (some x3)), (4, aR (some x4)), (5, aR (some x5)), (6, aJ x6), (8, aI x8)] [aJ r11, aJ x6]
    refine aw_iconst (v := (0 : Int32)) G0 dX0_trace_105 (by decide) ?_
    refine aw_aload G0 3 rfl dX0_trace_106 ?_
    refine aw_iload G0 5 rfl dX0_trace_108 ?_
    obtain ⟨k12, h⟩ := h
    obtain ⟨k13, h⟩ := h
    refine aw_aald G0 k12 k13 dX0_trace_110 ?_
    obtain ⟨q14, e14, h⟩ := h
    refine aw_dr0 e14 ?_
    obtain ⟨k15, h⟩ := h
    refine aw_getI (f := 11) G0 (by rw [k15]; exact fb_X0_286) dX0_trace_111 ?_
    refine aw_mmax G0 q878 (by rw [G.2.1]; decide) (by rw [G.2.1]; exact Nat.le_of_ble_eq_true rfl) (by rw [G.2.1]; decide) dX0_trace_114 ?_
    refine aw_i2l G0 dX0_trace_117 ?_
    refine aw_lsub G0 dX0_trace_118 ?_
    refine aw_ladd G0 dX0_trace_119 ?_
    refine aw_lstore (lv' := [(6, aJ (x6 + (r11 - ((if (0 : Int32) < (I8 q14 11) then (I8 q14 11) else (0 : Int32)).toInt64)))), (0, aR (some x0)), (3, aR (some x3)), (4, aR (some x4)), (5, aR (some x5)), (8, aI x8)]) G0 (by decide) rfl dX0_trace_120 ?_
    refine aw_iinc (v := x8 + 1) (lv' := [(8, aI (x8 + 1)), (6, aJ (x6 + (r11 - ((if (0 : Int32) < (I8 q14 11) then (I8 q14 11) else (0 : Int32)).toInt64)))), (0, aR (some x0)), (3, aR (some x3)), (4, aR (some x4)), (5, aR (some x5))]) G0 5 rfl rfl (by decide) rfl dX0_trace_122 ?_
    refine aw_goto G0 52 dX0_trace_125 (by decide) ?_
    exact (aw_lv [2, 3, 4, 5, 1, 0] rfl (w52 x0 x3 x4 x5 (x6 + (r11 - ((if (0 : Int32) < (I8 q14 11) then (I8 q14 11) else (0 : Int32)).toInt64))) (x8 + 1) C7 I8 J9 R10 h))
  · show AX Γ 1 20 C2 I3 J4 R5 93 [(0, aR (some x0)), (3, aR (some x3)), (4, aR (some x4)), (5, aR (some x5)), (6, aJ x6), (8, aI x8)] q16
    obtain ⟨k17, h⟩ := h
    refine ax_catch G0 0 rfl (fun j hj _ _ _ _ _ => absurd hj (Nat.not_lt_zero j)) rfl (by decide) q84 (Or.inl k17) (by rw [k17]; exact q86) ?_
    exact (aw_lv [0] rfl (w218 x0 q16 C2 I3 J4 R5 h))
theorem bX0_trace_160 (G : Gb Γ yX0_trace cX0_trace 9 (some .int) [(5, 146, 218, 53), (147, 217, 218, 53)] rmX0_trace bdX0_trace) {F_X0_number : SPF} (S_X0_number : SpX0_number (gL Γ) F_X0_number)
    {Q206 : Nat → Nat → Int32 → Option Nat → Int32 → Int32 → MC → MI → MJ → MR → Prop} (w206 : ∀ (x4 : Nat) (x5 : Nat) (x8 : Int32) (s0 : Option Nat) (s1 : Int32) (s2 : Int32) (C : MC) (I : MI) (J : MJ) (R : MR), Q206 x4 x5 x8 s0 s1 s2 C I J R → AW Γ 1 20 C I J R 206 [(4, aR (some x4)), (5, aR (some x5)), (8, aI x8)] [aI s2, aI s1, aR s0]) {x4 : Nat} {x5 : Nat} {x8 : Int32}
    (h : (20 ≤ (C x5).1 ∧ (C x5).1 ≤ 30) ∧
      (((nI (C x5).2) ≤ x8 →
      gK Γ (.inl (some (aI (1 : Int32)))) C I J R) ∧
      (¬ (nI (C x5).2) ≤ x8 →
      (25 ≤ (C x5).1 ∧ (C x5).1 < 30) ∧
      vp_in x8 (C x5).2 ∧
      ∃ q5 : Nat, R x5 x8.toNatClampNeg = some q5 ∧
      (C q5).1 = 5 ∧
      F_X0_number [aR (some x4), aI x8] C I J R (fun o C7 I8 J9 R10 =>
      ∃ r11 : Int64, o = .inl (some (aJ r11)) ∧
      (25 ≤ (C7 x5).1 ∧ (C7 x5).1 < 30) ∧
      vp_in x8 (C7 x5).2 ∧
      ∃ q14 : Nat, R10 x5 x8.toNatClampNeg = some q14 ∧
      (C7 q14).1 = 5 ∧
      ((r11 ≤ ((if (0 : Int32) < (I8 q14 11) then (I8 q14 11) else (0 : Int32)).toInt64) →
      Q206 x4 x5 x8 (R x5 x8.toNatClampNeg) (I q5 12) (0 : Int32) C7 I8 J9 R10) ∧
      (¬ r11 ≤ ((if (0 : Int32) < (I8 q14 11) then (I8 q14 11) else (0 : Int32)).toInt64) →
      Q206 x4 x5 x8 (R x5 x8.toNatClampNeg) (I q5 12) (1 : Int32) C7 I8 J9 R10)))))) :
    AW Γ 1 20 C I J R 160 [(4, aR (some x4)), (5, aR (some x5)), (8, aI x8)] [] := by
  have G0 := G.1
  refine aw_iload G0 2 rfl dX0_trace_160 ?_
  refine aw_aload G0 1 rfl dX0_trace_162 ?_
  obtain ⟨k1, h⟩ := h
  refine aw_alen (v := nI (C x5).2) G0 k1 rfl dX0_trace_164 ?_
  refine aw_icmp_ge G0 216 dX0_trace_165 (by decide) (fun c2 => ?_) (fun c2 => ?_)
  · have h := h.1 c2
    refine aw_iconst (v := (1 : Int32)) G0 dX0_trace_216 (by decide) ?_
    exact aw_ireturn G0 (Or.inl rfl) (by rw [G.2.2]; decide) (by rw [G.2.1]; decide) dX0_trace_217 h
  · have h := h.2 c2
    refine aw_aload G0 1 rfl dX0_trace_168 ?_
    refine aw_iload G0 2 rfl dX0_trace_170 ?_
    obtain ⟨k3, h⟩ := h
    obtain ⟨k4, h⟩ := h
    refine aw_aald G0 k3 k4 dX0_trace_172 ?_
    refine aw_dupR G0 dX0_trace_173 ?_
    obtain ⟨q5, e5, h⟩ := h
    refine aw_dr0 e5 ?_
    obtain ⟨k6, h⟩ := h
    refine aw_getI (f := 12) G0 (by rw [k6]; exact fb_X0_299) dX0_trace_174 ?_
    refine aw_aload G0 0 rfl dX0_trace_177 ?_
    refine aw_iload G0 2 rfl dX0_trace_179 ?_
    refine aw_callS (k1 := 1) (n1 := 20) (k2 := 4) (n2 := 242) (st := [aI (I q5 12), aR (R x5 x8.toNatClampNeg)]) G0 S_X0_number gi_X0_111 md_X0_number (Nat.le_of_ble_eq_true rfl) (by decide) (by rw [G.2.1]; decide) (by rw [G.2.1]; decide) [aR (some x4), aI x8] rfl rfl dX0_trace_181 h (fun o C7 I8 J9 R10 h => ?_)
    obtain ⟨r11, rfl, h⟩ := h
    show AW Γ 1 20 C7 I8 J9 R10 (181 + 3) [(4, aR (some x4)), (5, aR (some x5)), (8, aI x8)] [aJ r11, aI (I q5 12), aR (R x5 x8.toNatClampNeg)]
    refine aw_iconst (v := (0 : Int32)) G0 dX0_trace_184 (by decide) ?_
    refine aw_aload G0 1 rfl dX0_trace_185 ?_
    refine aw_iload G0 2 rfl dX0_trace_187 ?_
    obtain ⟨k12, h⟩ := h
    obtain ⟨k13, h⟩ := h
    refine aw_aald G0 k12 k13 dX0_trace_189 ?_
    obtain ⟨q14, e14, h⟩ := h
    refine aw_dr0 e14 ?_
    obtain ⟨k15, h⟩ := h
    refine aw_getI (f := 11) G0 (by rw [k15]; exact fb_X0_286) dX0_trace_190 ?_
    refine aw_mmax G0 q878 (by rw [G.2.1]; decide) (by rw [G.2.1]; exact Nat.le_of_ble_eq_true rfl) (by rw [G.2.1]; decide) dX0_trace_193 ?_
    refine aw_i2l G0 dX0_trace_196 ?_
    refine aw_lif_le G0 205 dX0_trace_197 dX0_trace_198 (by decide) (fun c16 => ?_) (fun c16 => ?_)
    · have h := h.1 c16
      refine aw_iconst (v := (0 : Int32)) G0 dX0_trace_205 (by decide) ?_
      exact (w206 x4 x5 x8 (R x5 x8.toNatClampNeg) (I q5 12) (0 : Int32) C7 I8 J9 R10 h)
    · have h := h.2 c16
      refine aw_iconst (v := (1 : Int32)) G0 dX0_trace_201 (by decide) ?_
      refine aw_goto G0 206 dX0_trace_202 (by decide) ?_
      exact (w206 x4 x5 x8 (R x5 x8.toNatClampNeg) (I q5 12) (1 : Int32) C7 I8 J9 R10 h)
theorem bX0_trace_206 (G : Gb Γ yX0_trace cX0_trace 9 (some .int) [(5, 146, 218, 53), (147, 217, 218, 53)] rmX0_trace bdX0_trace)
    {Q160 : Nat → Nat → Int32 → MC → MI → MJ → MR → Prop} (w160 : ∀ (x4 : Nat) (x5 : Nat) (x8 : Int32) (C : MC) (I : MI) (J : MJ) (R : MR), Q160 x4 x5 x8 C I J R → AW Γ 1 20 C I J R 160 [(4, aR (some x4)), (5, aR (some x5)), (8, aI x8)] []) {x4 : Nat} {x5 : Nat} {x8 : Int32} {s0 : Option Nat} {s1 : Int32} {s2 : Int32}
    (h : ∃ q1 : Nat, s0 = some q1 ∧
      (C q1).1 = 5 ∧
      ∀ I3 : MI, I3 = va_up I q1 (va_up (I q1) 12 (s1 + s2)) →
      Q160 x4 x5 (x8 + 1) C I3 J R) :
    AW Γ 1 20 C I J R 206 [(4, aR (some x4)), (5, aR (some x5)), (8, aI x8)] [aI s2, aI s1, aR s0] := by
  have G0 := G.1
  refine aw_iadd G0 dX0_trace_206 ?_
  obtain ⟨q1, e1, h⟩ := h
  refine aw_dr1 e1 ?_
  obtain ⟨k2, h⟩ := h
  refine aw_putI (f := 12) G0 (by rw [k2]; exact fp_X0_299 _) dX0_trace_207 ?_
  generalize gI3 : va_up I q1 (va_up (I q1) 12 (s1 + s2)) = I3
  have h := h I3 gI3.symm
  refine aw_iinc (v := x8 + 1) (lv' := [(8, aI (x8 + 1)), (4, aR (some x4)), (5, aR (some x5))]) G0 2 rfl rfl (by decide) rfl dX0_trace_210 ?_
  refine aw_goto G0 160 dX0_trace_213 (by decide) ?_
  exact (aw_lv [1, 2, 0] rfl (w160 x4 x5 (x8 + 1) C I3 J R h))
theorem bX0_trace_218 (G : Gb Γ yX0_trace cX0_trace 9 (some .int) [(5, 146, 218, 53), (147, 217, 218, 53)] rmX0_trace bdX0_trace) {F_X0_none : SPF} (S_X0_none : SpX0_none (gL Γ) F_X0_none) {x0 : Nat} {s0 : Nat}
    (h : (C x0).1 = 1 ∧
      F_X0_none [aR (some x0), aR (some s0)] C I J R (fun o C2 I3 J4 R5 =>
      ∃ r6 : Int32, o = .inl (some (aI r6)) ∧
      gK Γ (.inl (some (aI r6))) C2 I3 J4 R5)) :
    AW Γ 1 20 C I J R 218 [(0, aR (some x0))] [aR (some s0)] := by
  have G0 := G.1
  refine aw_astore_n (lv' := [(3, aR (some s0)), (0, aR (some x0))]) G0 (by decide) rfl dX0_trace_218 ?_
  refine aw_aload_n G0 1 rfl dX0_trace_219 ?_
  refine aw_aload_n G0 0 rfl dX0_trace_220 ?_
  obtain ⟨k1, h⟩ := h
  refine aw_callV (k1 := 1) (n1 := 20) (k2 := 1) (n2 := 20) (st := []) G0 S_X0_none gi_X0_117 (Or.inl (by rw [k1]; decide)) (by rw [k1]; rfl) md_X0_none (Nat.le_of_ble_eq_true rfl) (by decide) (by rw [G.2.1]; decide) (by rw [G.2.1]; decide) [aR (some s0)] rfl rfl dX0_trace_221 h (fun o C2 I3 J4 R5 h => ?_)
  obtain ⟨r6, rfl, h⟩ := h
  show AW Γ 1 20 C2 I3 J4 R5 (221 + 3) [(3, aR (some s0)), (0, aR (some x0))] [aI r6]
  exact aw_ireturn G0 (Or.inl rfl) (by rw [G.2.2]; decide) (by rw [G.2.1]; decide) dX0_trace_224 h
theorem bX0_traces_0 (G : Gb Γ yX0_traces cX0_traces 4 (some .int) [(5, 45, 46, 53)] rmX0_traces bdX0_traces) {F_X0_thing : SPF} (S_X0_thing : SpX0_thing (gL Γ) F_X0_thing)
    {Q25 : Nat → Int32 → Nat → Nat → MC → MI → MJ → MR → Prop} (w25 : ∀ (x0 : Nat) (x2 : Int32) (x3 : Nat) (s0 : Nat) (C : MC) (I : MI) (J : MJ) (R : MR), Q25 x0 x2 x3 s0 C I J R → AW Γ 0 0 C I J R 25 [(0, aR (some x0)), (2, aI x2), (3, aR (some x3))] [aR (some s0)])
    {Q26 : Nat → Int32 → Nat → Nat → Int32 → MC → MI → MJ → MR → Prop} (w26 : ∀ (x0 : Nat) (x2 : Int32) (x3 : Nat) (s0 : Nat) (s1 : Int32) (C : MC) (I : MI) (J : MJ) (R : MR), Q26 x0 x2 x3 s0 s1 C I J R → AW Γ 0 0 C I J R 26 [(0, aR (some x0)), (2, aI x2), (3, aR (some x3))] [aI s1, aR (some s0)])
    {Q46 : Nat → Nat → MC → MI → MJ → MR → Prop} (w46 : ∀ (x0 : Nat) (s0 : Nat) (C : MC) (I : MI) (J : MJ) (R : MR), Q46 x0 s0 C I J R → AW Γ 0 0 C I J R 46 [(0, aR (some x0))] [aR (some s0)]) {x0 : Nat} {x1 : Int32} {x2 : Int32}
    (h : (C x0).1 = 1 ∧
      ∀ I2 : MI, I2 = va_up I x0 (va_up (I x0) 5 (0 : Int32)) →
      F_X0_thing [aR (some x0), aI x1] C I2 J R (fun o C3 I4 J5 R6 =>
      (∃ r7 : Nat, o = .inl (some (aR (some r7))) ∧
      ((x2 < 0 →
      Q25 x0 x2 r7 x0 C3 I4 J5 R6) ∧
      (¬ x2 < 0 →
      (((1 : Int32) < x2 →
      Q25 x0 x2 r7 x0 C3 I4 J5 R6) ∧
      (¬ (1 : Int32) < x2 →
      Q26 x0 x2 r7 x0 (1 : Int32) C3 I4 J5 R6))))) ∨
      (∃ q10 : Nat, o = .inr q10 ∧
      ((C3 q10).1 = 2 ∧
      Q46 x0 q10 C3 I4 J5 R6)))) :
    AW Γ 0 0 C I J R 0 [(0, aR (some x0)), (1, aI x1), (2, aI x2)] [] := by
  have G0 := G.1
  refine aw_aload_n G0 0 rfl dX0_traces_0 ?_
  refine aw_iconst (v := (0 : Int32)) G0 dX0_traces_1 (by decide) ?_
  obtain ⟨k1, h⟩ := h
  refine aw_putI (f := 5) G0 (by rw [k1]; exact fp_X0_63 _) dX0_traces_2 ?_
  generalize gI2 : va_up I x0 (va_up (I x0) 5 (0 : Int32)) = I2
  have h := h I2 gI2.symm
  refine aw_aload_n G0 0 rfl dX0_traces_5 ?_
  refine aw_iload_n G0 1 rfl dX0_traces_6 ?_
  refine aw_callV (k1 := 0) (n1 := 0) (k2 := 0) (n2 := 0) (st := []) G0 S_X0_thing gi_X0_163 (Or.inl (by rw [k1]; decide)) (by rw [k1]; rfl) md_X0_thing (Nat.le_of_ble_eq_true rfl) (by decide) (by rw [G.2.1]; decide) (by rw [G.2.1]; decide) [aI x1] rfl rfl dX0_traces_7 h (fun o C3 I4 J5 R6 h => ?_)
  rcases h with ⟨r7, rfl, h⟩ | ⟨q10, rfl, h⟩
  · show AW Γ 0 0 C3 I4 J5 R6 (7 + 3) [(0, aR (some x0)), (1, aI x1), (2, aI x2)] [aR (some r7)]
    refine aw_astore_n (lv' := [(3, aR (some r7)), (0, aR (some x0)), (1, aI x1), (2, aI x2)]) G0 (by decide) rfl dX0_traces_10 ?_
    refine aw_aload_n G0 1 rfl dX0_traces_11 ?_
    refine aw_iload_n G0 3 rfl dX0_traces_12 ?_
    refine aw_if_lt G0 25 dX0_traces_13 (by decide) (fun c8 => ?_) (fun c8 => ?_)
    · have h := h.1 c8
      exact (aw_lv [1, 3, 0] rfl (w25 x0 x2 r7 x0 C3 I4 J5 R6 h))
    · have h := h.2 c8
      refine aw_iload_n G0 3 rfl dX0_traces_16 ?_
      refine aw_iconst (v := (1 : Int32)) G0 dX0_traces_17 (by decide) ?_
      refine aw_icmp_gt G0 25 dX0_traces_18 (by decide) (fun c9 => ?_) (fun c9 => ?_)
      · have h := h.1 c9
        exact (aw_lv [1, 3, 0] rfl (w25 x0 x2 r7 x0 C3 I4 J5 R6 h))
      · have h := h.2 c9
        refine aw_iconst (v := (1 : Int32)) G0 dX0_traces_21 (by decide) ?_
        refine aw_goto G0 26 dX0_traces_22 (by decide) ?_
        exact (aw_lv [1, 3, 0] rfl (w26 x0 x2 r7 x0 (1 : Int32) C3 I4 J5 R6 h))
  · show AX Γ 0 0 C3 I4 J5 R6 7 [(0, aR (some x0)), (1, aI x1), (2, aI x2)] q10
    obtain ⟨k11, h⟩ := h
    refine ax_catch G0 0 rfl (fun j hj _ _ _ _ _ => absurd hj (Nat.not_lt_zero j)) rfl (by decide) q84 (Or.inl k11) (by rw [k11]; exact q86) ?_
    exact (aw_lv [0] rfl (w46 x0 q10 C3 I4 J5 R6 h))
theorem bX0_traces_25 (G : Gb Γ yX0_traces cX0_traces 4 (some .int) [(5, 45, 46, 53)] rmX0_traces bdX0_traces)
    {Q26 : Nat → Int32 → Nat → Nat → Int32 → MC → MI → MJ → MR → Prop} (w26 : ∀ (x0 : Nat) (x2 : Int32) (x3 : Nat) (s0 : Nat) (s1 : Int32) (C : MC) (I : MI) (J : MJ) (R : MR), Q26 x0 x2 x3 s0 s1 C I J R → AW Γ 0 0 C I J R 26 [(0, aR (some x0)), (2, aI x2), (3, aR (some x3))] [aI s1, aR (some s0)]) {x0 : Nat} {x2 : Int32} {x3 : Nat} {s0 : Nat}
    (h : Q26 x0 x2 x3 s0 (0 : Int32) C I J R) :
    AW Γ 0 0 C I J R 25 [(0, aR (some x0)), (2, aI x2), (3, aR (some x3))] [aR (some s0)] := by
  have G0 := G.1
  refine aw_iconst (v := (0 : Int32)) G0 dX0_traces_25 (by decide) ?_
  exact (w26 x0 x2 x3 s0 (0 : Int32) C I J R h)
theorem bX0_traces_26 (G : Gb Γ yX0_traces cX0_traces 4 (some .int) [(5, 45, 46, 53)] rmX0_traces bdX0_traces) {F_X0_want : SPF} (S_X0_want : SpX0_want (gL Γ) F_X0_want)
    {Q46 : Nat → Nat → MC → MI → MJ → MR → Prop} (w46 : ∀ (x0 : Nat) (s0 : Nat) (C : MC) (I : MI) (J : MJ) (R : MR), Q46 x0 s0 C I J R → AW Γ 0 0 C I J R 46 [(0, aR (some x0))] [aR (some s0)]) {x0 : Nat} {x2 : Int32} {x3 : Nat} {s0 : Nat} {s1 : Int32}
    (h : (C s0).1 = 1 ∧
      F_X0_want [aR (some s0), aI s1, aI (1 : Int32)] C I J R (fun o C2 I3 J4 R5 =>
      (o = .inl none ∧
      ((¬ x2 = 0 →
      kTh (C2 x3).1 ∧
      gK Γ (.inl (some (aI (I3 x3 5)))) C2 I3 J4 R5) ∧
      (x2 = 0 →
      kTh (C2 x3).1 ∧
      gK Γ (.inl (some (aI (I3 x3 4)))) C2 I3 J4 R5))) ∨
      (∃ q10 : Nat, o = .inr q10 ∧
      ((C2 q10).1 = 2 ∧
      Q46 x0 q10 C2 I3 J4 R5)))) :
    AW Γ 0 0 C I J R 26 [(0, aR (some x0)), (2, aI x2), (3, aR (some x3))] [aI s1, aR (some s0)] := by
  have G0 := G.1
  refine aw_iconst (v := (1 : Int32)) G0 dX0_traces_26 (by decide) ?_
  obtain ⟨k1, h⟩ := h
  refine aw_callV (k1 := 0) (n1 := 0) (k2 := 0) (n2 := 0) (st := []) G0 S_X0_want gi_X0_87 (Or.inl (by rw [k1]; decide)) (by rw [k1]; rfl) md_X0_want (Nat.le_of_ble_eq_true rfl) (by decide) (by rw [G.2.1]; decide) (by rw [G.2.1]; decide) [aI s1, aI (1 : Int32)] rfl rfl dX0_traces_27 h (fun o C2 I3 J4 R5 h => ?_)
  rcases h with ⟨rfl, h⟩ | ⟨q10, rfl, h⟩
  · show AW Γ 0 0 C2 I3 J4 R5 (27 + 3) [(0, aR (some x0)), (2, aI x2), (3, aR (some x3))] []
    refine aw_iload_n G0 1 rfl dX0_traces_30 ?_
    refine aw_if_ne G0 41 dX0_traces_31 (by decide) (fun c7 => ?_) (fun c7 => ?_)
    · have h := h.1 c7
      refine aw_aload_n G0 2 rfl dX0_traces_41 ?_
      obtain ⟨k8, h⟩ := h
      refine aw_getI (f := 5) G0 (fb_X0_296 _ k8) dX0_traces_42 ?_
      exact aw_ireturn G0 (Or.inl rfl) (by rw [G.2.2]; decide) (by rw [G.2.1]; decide) dX0_traces_45 h
    · have h := h.2 c7
      refine aw_aload_n G0 2 rfl dX0_traces_34 ?_
      obtain ⟨k9, h⟩ := h
      refine aw_getI (f := 4) G0 (fb_X0_293 _ k9) dX0_traces_35 ?_
      refine aw_goto G0 45 dX0_traces_38 (by decide) ?_
      exact aw_ireturn G0 (Or.inl rfl) (by rw [G.2.2]; decide) (by rw [G.2.1]; decide) dX0_traces_45 h
  · show AX Γ 0 0 C2 I3 J4 R5 27 [(0, aR (some x0)), (2, aI x2), (3, aR (some x3))] q10
    obtain ⟨k11, h⟩ := h
    refine ax_catch G0 0 rfl (fun j hj _ _ _ _ _ => absurd hj (Nat.not_lt_zero j)) rfl (by decide) q84 (Or.inl k11) (by rw [k11]; exact q86) ?_
    exact (aw_lv [0] rfl (w46 x0 q10 C2 I3 J4 R5 h))
theorem bX0_traces_46 (G : Gb Γ yX0_traces cX0_traces 4 (some .int) [(5, 45, 46, 53)] rmX0_traces bdX0_traces) {F_X0_none : SPF} (S_X0_none : SpX0_none (gL Γ) F_X0_none) {x0 : Nat} {s0 : Nat}
    (h : (C x0).1 = 1 ∧
      F_X0_none [aR (some x0), aR (some s0)] C I J R (fun o C2 I3 J4 R5 =>
      ∃ r6 : Int32, o = .inl (some (aI r6)) ∧
      gK Γ (.inl (some (aI r6))) C2 I3 J4 R5)) :
    AW Γ 0 0 C I J R 46 [(0, aR (some x0))] [aR (some s0)] := by
  have G0 := G.1
  refine aw_astore_n (lv' := [(3, aR (some s0)), (0, aR (some x0))]) G0 (by decide) rfl dX0_traces_46 ?_
  refine aw_aload_n G0 1 rfl dX0_traces_47 ?_
  refine aw_aload_n G0 0 rfl dX0_traces_48 ?_
  obtain ⟨k1, h⟩ := h
  refine aw_callV (k1 := 0) (n1 := 0) (k2 := 0) (n2 := 0) (st := []) G0 S_X0_none gi_X0_117 (Or.inl (by rw [k1]; decide)) (by rw [k1]; rfl) md_X0_none (Nat.le_of_ble_eq_true rfl) (by decide) (by rw [G.2.1]; decide) (by rw [G.2.1]; decide) [aR (some s0)] rfl rfl dX0_traces_49 h (fun o C2 I3 J4 R5 h => ?_)
  obtain ⟨r6, rfl, h⟩ := h
  show AW Γ 0 0 C2 I3 J4 R5 (49 + 3) [(3, aR (some s0)), (0, aR (some x0))] [aI r6]
  exact aw_ireturn G0 (Or.inl rfl) (by rw [G.2.2]; decide) (by rw [G.2.1]; decide) dX0_traces_52 h
theorem bX0_over_0 (G : Gb Γ yX0_over cX0_over 3 (some .int) [(5, 13, 14, 53)] rmX0_over bdX0_over) {F_X0_leafOf : SPF} (S_X0_leafOf : SpX0_leafOf (gL Γ) F_X0_leafOf)
    {Q14 : Nat → Nat → MC → MI → MJ → MR → Prop} (w14 : ∀ (x0 : Nat) (s0 : Nat) (C : MC) (I : MI) (J : MJ) (R : MR), Q14 x0 s0 C I J R → AW Γ 0 0 C I J R 14 [(0, aR (some x0))] [aR (some s0)]) {x0 : Nat} {x1 : Int32}
    (h : (C x0).1 = 1 ∧
      ∀ I2 : MI, I2 = va_up I x0 (va_up (I x0) 5 (0 : Int32)) →
      F_X0_leafOf [aR (some x0), aI x1] C I2 J R (fun o C3 I4 J5 R6 =>
      (∃ r7 : Nat, o = .inl (some (aR (some r7))) ∧
      (C3 r7).1 = 5 ∧
      gK Γ (.inl (some (aI (I4 r7 12)))) C3 I4 J5 R6) ∨
      (∃ q9 : Nat, o = .inr q9 ∧
      ((C3 q9).1 = 2 ∧
      Q14 x0 q9 C3 I4 J5 R6)))) :
    AW Γ 0 0 C I J R 0 [(0, aR (some x0)), (1, aI x1)] [] := by
  have G0 := G.1
  refine aw_aload_n G0 0 rfl dX0_over_0 ?_
  refine aw_iconst (v := (0 : Int32)) G0 dX0_over_1 (by decide) ?_
  obtain ⟨k1, h⟩ := h
  refine aw_putI (f := 5) G0 (by rw [k1]; exact fp_X0_63 _) dX0_over_2 ?_
  generalize gI2 : va_up I x0 (va_up (I x0) 5 (0 : Int32)) = I2
  have h := h I2 gI2.symm
  refine aw_aload_n G0 0 rfl dX0_over_5 ?_
  refine aw_iload_n G0 1 rfl dX0_over_6 ?_
  refine aw_callV (k1 := 0) (n1 := 0) (k2 := 0) (n2 := 0) (st := []) G0 S_X0_leafOf gi_X0_249 (Or.inl (by rw [k1]; decide)) (by rw [k1]; rfl) md_X0_leafOf (Nat.le_of_ble_eq_true rfl) (by decide) (by rw [G.2.1]; decide) (by rw [G.2.1]; decide) [aI x1] rfl rfl dX0_over_7 h (fun o C3 I4 J5 R6 h => ?_)
  rcases h with ⟨r7, rfl, h⟩ | ⟨q9, rfl, h⟩
  · show AW Γ 0 0 C3 I4 J5 R6 (7 + 3) [(0, aR (some x0)), (1, aI x1)] [aR (some r7)]
    obtain ⟨k8, h⟩ := h
    refine aw_getI (f := 12) G0 (by rw [k8]; exact fb_X0_299) dX0_over_10 ?_
    exact aw_ireturn G0 (Or.inl rfl) (by rw [G.2.2]; decide) (by rw [G.2.1]; decide) dX0_over_13 h
  · show AX Γ 0 0 C3 I4 J5 R6 7 [(0, aR (some x0)), (1, aI x1)] q9
    obtain ⟨k10, h⟩ := h
    refine ax_catch G0 0 rfl (fun j hj _ _ _ _ _ => absurd hj (Nat.not_lt_zero j)) rfl (by decide) q84 (Or.inl k10) (by rw [k10]; exact q86) ?_
    exact (aw_lv [0] rfl (w14 x0 q9 C3 I4 J5 R6 h))
theorem bX0_over_14 (G : Gb Γ yX0_over cX0_over 3 (some .int) [(5, 13, 14, 53)] rmX0_over bdX0_over) {F_X0_none : SPF} (S_X0_none : SpX0_none (gL Γ) F_X0_none) {x0 : Nat} {s0 : Nat}
    (h : (C x0).1 = 1 ∧
      F_X0_none [aR (some x0), aR (some s0)] C I J R (fun o C2 I3 J4 R5 =>
      ∃ r6 : Int32, o = .inl (some (aI r6)) ∧
      gK Γ (.inl (some (aI r6))) C2 I3 J4 R5)) :
    AW Γ 0 0 C I J R 14 [(0, aR (some x0))] [aR (some s0)] := by
  have G0 := G.1
  refine aw_astore_n (lv' := [(2, aR (some s0)), (0, aR (some x0))]) G0 (by decide) rfl dX0_over_14 ?_
  refine aw_aload_n G0 1 rfl dX0_over_15 ?_
  refine aw_aload_n G0 0 rfl dX0_over_16 ?_
  obtain ⟨k1, h⟩ := h
  refine aw_callV (k1 := 0) (n1 := 0) (k2 := 0) (n2 := 0) (st := []) G0 S_X0_none gi_X0_117 (Or.inl (by rw [k1]; decide)) (by rw [k1]; rfl) md_X0_none (Nat.le_of_ble_eq_true rfl) (by decide) (by rw [G.2.1]; decide) (by rw [G.2.1]; decide) [aR (some s0)] rfl rfl dX0_over_17 h (fun o C2 I3 J4 R5 h => ?_)
  obtain ⟨r6, rfl, h⟩ := h
  show AW Γ 0 0 C2 I3 J4 R5 (17 + 3) [(2, aR (some s0)), (0, aR (some x0))] [aI r6]
  exact aw_ireturn G0 (Or.inl rfl) (by rw [G.2.2]; decide) (by rw [G.2.1]; decide) dX0_over_20 h
end BL
set_option linter.unusedVariables false
def PX0_told_109 (F_X0_thing : SPF) (F_X0_want : SPF) (F_Vkind : SPF) (F_X0_numberOf : SPF) (F_Vleaves : SPF) (F_Vtable : SPF) (F_X3_last : SPF) (F_X0_none : SPF) (F_X0_great : SPF) (K : AK) (x0 : Nat) (s0 : Nat) (C : MC) (I : MI) (J : MJ) (R : MR) : Prop :=
      (C x0).1 = 1 ∧
      F_X0_great [aR (some x0)] C I J R (fun o C2 I3 J4 R5 =>
      ∃ r6 : Int32, o = .inl (some (aI r6)) ∧
      K (.inl (some (aI r6))) C2 I3 J4 R5)
def PX0_told_102 (F_X0_thing : SPF) (F_X0_want : SPF) (F_Vkind : SPF) (F_X0_numberOf : SPF) (F_Vleaves : SPF) (F_Vtable : SPF) (F_X3_last : SPF) (F_X0_none : SPF) (F_X0_great : SPF) (K : AK) (x0 : Nat) (s0 : Nat) (C : MC) (I : MI) (J : MJ) (R : MR) : Prop :=
      (C x0).1 = 1 ∧
      F_X0_none [aR (some x0), aR (some s0)] C I J R (fun o C2 I3 J4 R5 =>
      ∃ r6 : Int32, o = .inl (some (aI r6)) ∧
      K (.inl (some (aI r6))) C2 I3 J4 R5)
def PX0_told_26 (F_X0_thing : SPF) (F_X0_want : SPF) (F_Vkind : SPF) (F_X0_numberOf : SPF) (F_Vleaves : SPF) (F_Vtable : SPF) (F_X3_last : SPF) (F_X0_none : SPF) (F_X0_great : SPF) (K : AK) (x0 : Nat) (x2 : Int32) (x3 : Nat) (s0 : Nat) (s1 : Int32) (C : MC) (I : MI) (J : MJ) (R : MR) : Prop :=
      (C s0).1 = 1 ∧
      F_X0_want [aR (some s0), aI s1, aI (1 : Int32)] C I J R (fun o C2 I3 J4 R5 =>
      (o = .inl none ∧
      ((x2.toInt = 0 →
      (C2 x0).1 = 1 ∧
      K (.inl (some (aI (I3 x0 3)))) C2 I3 J4 R5) ∧
      (x2.toInt = 1 →
      kTh (C2 x3).1 ∧
      F_Vkind [aR (some x3)] C2 I3 J4 R5 (fun o C10 I11 J12 R13 =>
      ∃ r14 : Int32, o = .inl (some (aI r14)) ∧
      K (.inl (some (aI r14))) C10 I11 J12 R13)) ∧
      (x2.toInt = 2 →
      kTh (C2 x3).1 ∧
      (C2 x0).1 = 1 ∧
      F_X0_numberOf [aR (some x0), aR (R5 x3 3)] C2 I3 J4 R5 (fun o C17 I18 J19 R20 =>
      ∃ r21 : Int32, o = .inl (some (aI r21)) ∧
      K (.inl (some (aI r21))) C17 I18 J19 R20)) ∧
      (x2.toInt = 3 →
      kTh (C2 x3).1 ∧
      ∃ q23 : Nat, R5 x3 0 = some q23 ∧
      (20 ≤ (C2 q23).1 ∧ (C2 q23).1 ≤ 30) ∧
      K (.inl (some (aI (nI (C2 q23).2)))) C2 I3 J4 R5) ∧
      (x2.toInt = 4 →
      kTh (C2 x3).1 ∧
      F_Vleaves [aR (some x3)] C2 I3 J4 R5 (fun o C26 I27 J28 R29 =>
      ∃ r30 : Int32, o = .inl (some (aI r30)) ∧
      K (.inl (some (aI r30))) C26 I27 J28 R29)) ∧
      ((x2.toInt < 0 ∨ 4 < x2.toInt) →
      kTh (C2 x3).1 ∧
      F_Vtable [aR (some x3)] C2 I3 J4 R5 (fun o C32 I33 J34 R35 =>
      (∃ r36 : Nat, o = .inl (some (aR (some r36))) ∧
      (C32 r36).1 = 4 ∧
      F_X3_last [aR (some r36)] C32 I33 J34 R35 (fun o C38 I39 J40 R41 =>
      ∃ r42 : Int32, o = .inl (some (aI r42)) ∧
      K (.inl (some (aI r42))) C38 I39 J40 R41)) ∨
      (∃ q43 : Nat, o = .inr q43 ∧
      ((C32 q43).1 = 11 ∧
      PX0_told_109 F_X0_thing F_X0_want F_Vkind F_X0_numberOf F_Vleaves F_Vtable F_X3_last F_X0_none F_X0_great K x0 q43 C32 I33 J34 R35)))))) ∨
      (∃ q45 : Nat, o = .inr q45 ∧
      ((C2 q45).1 = 2 ∧
      PX0_told_102 F_X0_thing F_X0_want F_Vkind F_X0_numberOf F_Vleaves F_Vtable F_X3_last F_X0_none F_X0_great K x0 q45 C2 I3 J4 R5)))
def PX0_told_25 (F_X0_thing : SPF) (F_X0_want : SPF) (F_Vkind : SPF) (F_X0_numberOf : SPF) (F_Vleaves : SPF) (F_Vtable : SPF) (F_X3_last : SPF) (F_X0_none : SPF) (F_X0_great : SPF) (K : AK) (x0 : Nat) (x2 : Int32) (x3 : Nat) (s0 : Nat) (C : MC) (I : MI) (J : MJ) (R : MR) : Prop :=
      PX0_told_26 F_X0_thing F_X0_want F_Vkind F_X0_numberOf F_Vleaves F_Vtable F_X3_last F_X0_none F_X0_great K x0 x2 x3 s0 (0 : Int32) C I J R
def PX0_told_0 (F_X0_thing : SPF) (F_X0_want : SPF) (F_Vkind : SPF) (F_X0_numberOf : SPF) (F_Vleaves : SPF) (F_Vtable : SPF) (F_X3_last : SPF) (F_X0_none : SPF) (F_X0_great : SPF) (K : AK) (x0 : Nat) (x1 : Int32) (x2 : Int32) (C : MC) (I : MI) (J : MJ) (R : MR) : Prop :=
      (C x0).1 = 1 ∧
      ∀ I2 : MI, I2 = va_up I x0 (va_up (I x0) 5 (0 : Int32)) →
      F_X0_thing [aR (some x0), aI x1] C I2 J R (fun o C3 I4 J5 R6 =>
      (∃ r7 : Nat, o = .inl (some (aR (some r7))) ∧
      ((x2 < 0 →
      PX0_told_25 F_X0_thing F_X0_want F_Vkind F_X0_numberOf F_Vleaves F_Vtable F_X3_last F_X0_none F_X0_great K x0 x2 r7 x0 C3 I4 J5 R6) ∧
      (¬ x2 < 0 →
      (((5 : Int32) < x2 →
      PX0_told_25 F_X0_thing F_X0_want F_Vkind F_X0_numberOf F_Vleaves F_Vtable F_X3_last F_X0_none F_X0_great K x0 x2 r7 x0 C3 I4 J5 R6) ∧
      (¬ (5 : Int32) < x2 →
      PX0_told_26 F_X0_thing F_X0_want F_Vkind F_X0_numberOf F_Vleaves F_Vtable F_X3_last F_X0_none F_X0_great K x0 x2 r7 x0 (1 : Int32) C3 I4 J5 R6))))) ∨
      (∃ q10 : Nat, o = .inr q10 ∧
      ((C3 q10).1 = 2 ∧
      PX0_told_102 F_X0_thing F_X0_want F_Vkind F_X0_numberOf F_Vleaves F_Vtable F_X3_last F_X0_none F_X0_great K x0 q10 C3 I4 J5 R6)))
theorem wX0_told {l : Launch}  {F_X0_thing : SPF} (S_X0_thing : SpX0_thing l F_X0_thing) {F_X0_want : SPF} (S_X0_want : SpX0_want l F_X0_want) {F_Vkind : SPF} (S_Vkind : SpVkind l F_Vkind) {F_X0_numberOf : SPF} (S_X0_numberOf : SpX0_numberOf l F_X0_numberOf) {F_Vleaves : SPF} (S_Vleaves : SpVleaves l 20 F_Vleaves) {F_Vtable : SPF} (S_Vtable : SpVtable l 20 F_Vtable) {F_X3_last : SPF} (S_X3_last : SpX3_last l F_X3_last) {F_X0_none : SPF} (S_X0_none : SpX0_none l F_X0_none) {F_X0_great : SPF} (S_X0_great : SpX0_great l F_X0_great) {F : SPF}
    (h0 : ∀ (As : List AV) (C : MC) (I : MI) (J : MJ) (R : MR) (K : AK), F As C I J R K → ∃ (x0 : Nat) (x1 : Int32) (x2 : Int32), As = [aR (some x0), aI x1, aI x2] ∧ PX0_told_0 F_X0_thing F_X0_want F_Vkind F_X0_numberOf F_Vleaves F_Vtable F_X3_last F_X0_none F_X0_great K x0 x1 x2 C I J R) : SpX0_told l F := by
  refine Spec.ofH (by rfl) ?_
  intro Γ C I J R As Gd gl gr _ _ gb hF
  subst gl
  have G : Gb Γ yX0_told cX0_told 4 (some .int) [(5, 68, 102, 53), (69, 73, 102, 53), (74, 82, 102, 53), (83, 88, 102, 53), (89, 93, 102, 53), (94, 101, 102, 53), (5, 68, 109, 13), (69, 73, 109, 13), (74, 82, 109, 13), (83, 88, 109, 13), (89, 93, 109, 13), (94, 101, 109, 13)] rmX0_told bdX0_told := ⟨Gd, gr, gb⟩
  have w109 : ∀ (x0 : Nat) (s0 : Nat) (C : MC) (I : MI) (J : MJ) (R : MR), PX0_told_109 F_X0_thing F_X0_want F_Vkind F_X0_numberOf F_Vleaves F_Vtable F_X3_last F_X0_none F_X0_great (gK Γ) x0 s0 C I J R → AW Γ 1 6 C I J R 109 [(0, aR (some x0))] [aR (some s0)] := fun x0 s0 C I J R h => bX0_told_109 G S_X0_great h
  have w102 : ∀ (x0 : Nat) (s0 : Nat) (C : MC) (I : MI) (J : MJ) (R : MR), PX0_told_102 F_X0_thing F_X0_want F_Vkind F_X0_numberOf F_Vleaves F_Vtable F_X3_last F_X0_none F_X0_great (gK Γ) x0 s0 C I J R → AW Γ 0 0 C I J R 102 [(0, aR (some x0))] [aR (some s0)] := fun x0 s0 C I J R h => bX0_told_102 G S_X0_none h
  have w26 : ∀ (x0 : Nat) (x2 : Int32) (x3 : Nat) (s0 : Nat) (s1 : Int32) (C : MC) (I : MI) (J : MJ) (R : MR), PX0_told_26 F_X0_thing F_X0_want F_Vkind F_X0_numberOf F_Vleaves F_Vtable F_X3_last F_X0_none F_X0_great (gK Γ) x0 x2 x3 s0 s1 C I J R → AW Γ 0 0 C I J R 26 [(0, aR (some x0)), (2, aI x2), (3, aR (some x3))] [aI s1, aR (some s0)] := fun x0 x2 x3 s0 s1 C I J R h => bX0_told_26 G S_X0_want S_Vkind S_X0_numberOf S_Vleaves S_Vtable S_X3_last w102 w109 h
  have w25 : ∀ (x0 : Nat) (x2 : Int32) (x3 : Nat) (s0 : Nat) (C : MC) (I : MI) (J : MJ) (R : MR), PX0_told_25 F_X0_thing F_X0_want F_Vkind F_X0_numberOf F_Vleaves F_Vtable F_X3_last F_X0_none F_X0_great (gK Γ) x0 x2 x3 s0 C I J R → AW Γ 0 0 C I J R 25 [(0, aR (some x0)), (2, aI x2), (3, aR (some x3))] [aR (some s0)] := fun x0 x2 x3 s0 C I J R h => bX0_told_25 G w26 h
  obtain ⟨x0, x1, x2, rfl, h⟩ := h0 As C I J R (gK Γ) hF
  exact ⟨Nat.le_of_ble_eq_true rfl, bX0_told_0 G S_X0_thing w25 w26 w102 h⟩
def PX0_numberOf_26 (Q2 : Nat → Option Nat → Int32 → MC → MI → MJ → MR → Prop) (K : AK) (x0 : Nat) (x2 : Int32) (C : MC) (I : MI) (J : MJ) (R : MR) : Prop :=
      (C x0).1 = 1 ∧
      (((I x0 3) ≤ x2 →
      K (.inl (some (aI (-1 : Int32)))) C I J R) ∧
      (¬ (I x0 3) ≤ x2 →
      K (.inl (some (aI x2))) C I J R))
def PX0_numberOf_2 (Q2 : Nat → Option Nat → Int32 → MC → MI → MJ → MR → Prop) (K : AK) (x0 : Nat) (x1 : Option Nat) (x2 : Int32) (C : MC) (I : MI) (J : MJ) (R : MR) : Prop :=
      (C x0).1 = 1 ∧
      (((I x0 3) ≤ x2 →
      PX0_numberOf_26 Q2 K x0 x2 C I J R) ∧
      (¬ (I x0 3) ≤ x2 →
      ∃ q3 : Nat, R x0 2 = some q3 ∧
      (25 ≤ (C q3).1 ∧ (C q3).1 < 30) ∧
      vp_in x2 (C q3).2 ∧
      ((R q3 x2.toNatClampNeg = x1 →
      PX0_numberOf_26 Q2 K x0 x2 C I J R) ∧
      (¬ R q3 x2.toNatClampNeg = x1 →
      Q2 x0 x1 (x2 + 1) C I J R))))
def PX0_numberOf_0 (Q2 : Nat → Option Nat → Int32 → MC → MI → MJ → MR → Prop) (K : AK) (x0 : Nat) (x1 : Option Nat) (C : MC) (I : MI) (J : MJ) (R : MR) : Prop :=
      Q2 x0 x1 (0 : Int32) C I J R
theorem wX0_numberOf {l : Launch} 
    (Q2 : Nat → AK → Nat → Option Nat → Int32 → MC → MI → MJ → MR → Prop) {F : SPF}
    (h0 : ∀ (As : List AV) (C : MC) (I : MI) (J : MJ) (R : MR) (K : AK), F As C I J R K → ∃ (x0 : Nat) (x1 : Option Nat), As = [aR (some x0), aR x1] ∧ PX0_numberOf_0 (fun (x0 : Nat) (x1 : Option Nat) (x2 : Int32) (C : MC) (I : MI) (J : MJ) (R : MR) => ∃ n, Q2 n K x0 x1 x2 C I J R) K x0 x1 C I J R)
    (h2 : ∀ (n : Nat) (K : AK) (x0 : Nat) (x1 : Option Nat) (x2 : Int32) (C : MC) (I : MI) (J : MJ) (R : MR), Q2 n K x0 x1 x2 C I J R → PX0_numberOf_2 (fun (x0 : Nat) (x1 : Option Nat) (x2 : Int32) (C : MC) (I : MI) (J : MJ) (R : MR) => ∃ m, m < n ∧ Q2 m K x0 x1 x2 C I J R) K x0 x1 x2 C I J R) : SpX0_numberOf l F := by
  refine Spec.of (by rfl) ?_
  intro Γ C I J R As Gd gl gr _ _ gb hF
  subst gl
  have G : Gb Γ yX0_numberOf cX0_numberOf 3 (some .int) [] rmX0_numberOf bdX0_numberOf := ⟨Gd, gr, gb⟩
  have key : ∀ n : Nat, (∀ (x0 : Nat) (x1 : Option Nat) (x2 : Int32) (C : MC) (I : MI) (J : MJ) (R : MR), Q2 n (gK Γ) x0 x1 x2 C I J R → AW Γ 0 0 C I J R 2 [(0, aR (some x0)), (1, aR x1), (2, aI x2)] []) := by
    intro n
    induction n using Nat.strongRecOn with
    | ind n ih =>
    have w2 : ∀ (x0 : Nat) (x1 : Option Nat) (x2 : Int32) (C : MC) (I : MI) (J : MJ) (R : MR), (∃ m, m < n ∧ Q2 m (gK Γ) x0 x1 x2 C I J R) → AW Γ 0 0 C I J R 2 [(0, aR (some x0)), (1, aR x1), (2, aI x2)] [] := fun x0 x1 x2 C I J R ⟨m, hm, hq⟩ => (ih m hm) x0 x1 x2 C I J R hq
    have w26 : ∀ (x0 : Nat) (x2 : Int32) (C : MC) (I : MI) (J : MJ) (R : MR), PX0_numberOf_26 (fun (x0 : Nat) (x1 : Option Nat) (x2 : Int32) (C : MC) (I : MI) (J : MJ) (R : MR) => ∃ m, m < n ∧ Q2 m (gK Γ) x0 x1 x2 C I J R) (gK Γ) x0 x2 C I J R → AW Γ 0 0 C I J R 26 [(0, aR (some x0)), (2, aI x2)] [] := fun x0 x2 C I J R h => bX0_numberOf_26 G h
    exact fun x0 x1 x2 C I J R h => bX0_numberOf_2 G w2 w26 (h2 n (gK Γ) x0 x1 x2 C I J R h)
  have w2 : ∀ (x0 : Nat) (x1 : Option Nat) (x2 : Int32) (C : MC) (I : MI) (J : MJ) (R : MR), (∃ n, Q2 n (gK Γ) x0 x1 x2 C I J R) → AW Γ 0 0 C I J R 2 [(0, aR (some x0)), (1, aR x1), (2, aI x2)] [] := fun x0 x1 x2 C I J R ⟨m, hq⟩ => (key m) x0 x1 x2 C I J R hq
  have w26 : ∀ (x0 : Nat) (x2 : Int32) (C : MC) (I : MI) (J : MJ) (R : MR), PX0_numberOf_26 (fun (x0 : Nat) (x1 : Option Nat) (x2 : Int32) (C : MC) (I : MI) (J : MJ) (R : MR) => ∃ n, Q2 n (gK Γ) x0 x1 x2 C I J R) (gK Γ) x0 x2 C I J R → AW Γ 0 0 C I J R 26 [(0, aR (some x0)), (2, aI x2)] [] := fun x0 x2 C I J R h => bX0_numberOf_26 G h
  obtain ⟨x0, x1, rfl, h⟩ := h0 As C I J R (gK Γ) hF
  exact ⟨Nat.le_of_ble_eq_true rfl, bX0_numberOf_0 G w2 h⟩
def PX0_great_0 (K : AK) (x0 : Nat) (C : MC) (I : MI) (J : MJ) (R : MR) : Prop :=
      (C x0).1 = 1 ∧
      ∀ I2 : MI, I2 = va_up I x0 (va_up (I x0) 5 (9 : Int32)) →
      K (.inl (some (aI (-1 : Int32)))) C I2 J R
theorem wX0_great {l : Launch}  {F : SPF}
    (h0 : ∀ (As : List AV) (C : MC) (I : MI) (J : MJ) (R : MR) (K : AK), F As C I J R K → ∃ (x0 : Nat), As = [aR (some x0)] ∧ PX0_great_0 K x0 C I J R) : SpX0_great l F := by
  refine Spec.of (by rfl) ?_
  intro Γ C I J R As Gd gl gr _ _ gb hF
  subst gl
  have G : Gb Γ yX0_great cX0_great 1 (some .int) [] rmX0_great bdX0_great := ⟨Gd, gr, gb⟩
  obtain ⟨x0, rfl, h⟩ := h0 As C I J R (gK Γ) hF
  exact ⟨Nat.le_of_ble_eq_true rfl, bX0_great_0 G h⟩
def PX0_weight_70 (F_X0_thing : SPF) (F_X0_want : SPF) (F_Vtable : SPF) (F_X0_none : SPF) (F_X0_great : SPF) (K : AK) (x0 : Nat) (s0 : Nat) (C : MC) (I : MI) (J : MJ) (R : MR) : Prop :=
      (C x0).1 = 1 ∧
      F_X0_great [aR (some x0)] C I J R (fun o C2 I3 J4 R5 =>
      ∃ r6 : Int32, o = .inl (some (aI r6)) ∧
      K (.inl (some (aJ r6.toInt64))) C2 I3 J4 R5)
def PX0_weight_60 (F_X0_thing : SPF) (F_X0_want : SPF) (F_Vtable : SPF) (F_X0_none : SPF) (F_X0_great : SPF) (K : AK) (x0 : Nat) (s0 : Nat) (C : MC) (I : MI) (J : MJ) (R : MR) : Prop :=
      (C x0).1 = 1 ∧
      F_X0_none [aR (some x0), aR (some s0)] C I J R (fun o C2 I3 J4 R5 =>
      ∃ r6 : Int32, o = .inl (some (aI r6)) ∧
      K (.inl (some (aJ r6.toInt64))) C2 I3 J4 R5)
def PX0_weight_28 (F_X0_thing : SPF) (F_X0_want : SPF) (F_Vtable : SPF) (F_X0_none : SPF) (F_X0_great : SPF) (K : AK) (x0 : Nat) (x2 : Int32) (x3 : Int32) (x4 : Nat) (s0 : Nat) (s1 : Int32) (C : MC) (I : MI) (J : MJ) (R : MR) : Prop :=
      (C s0).1 = 1 ∧
      F_X0_want [aR (some s0), aI s1, aI (1 : Int32)] C I J R (fun o C2 I3 J4 R5 =>
      (o = .inl none ∧
      ((x3 = 0 →
      kTh (C2 x4).1 ∧
      F_Vtable [aR (some x4)] C2 I3 J4 R5 (fun o C9 I10 J11 R12 =>
      (∃ r13 : Nat, o = .inl (some (aR (some r13))) ∧
      (C9 r13).1 = 4 ∧
      ∃ q15 : Nat, R12 r13 1 = some q15 ∧
      (C9 q15).1 = 21 ∧
      vp_in x2 (C9 q15).2 ∧
      K (.inl (some (aJ (J11 q15 x2.toNatClampNeg)))) C9 I10 J11 R12) ∨
      (∃ q18 : Nat, o = .inr q18 ∧
      ((C9 q18).1 = 11 ∧
      PX0_weight_70 F_X0_thing F_X0_want F_Vtable F_X0_none F_X0_great K x0 q18 C9 I10 J11 R12)))) ∧
      (¬ x3 = 0 →
      kTh (C2 x4).1 ∧
      F_Vtable [aR (some x4)] C2 I3 J4 R5 (fun o C21 I22 J23 R24 =>
      (∃ r25 : Nat, o = .inl (some (aR (some r25))) ∧
      (C21 r25).1 = 4 ∧
      ∃ q27 : Nat, R24 r25 0 = some q27 ∧
      (C21 q27).1 = 21 ∧
      vp_in x2 (C21 q27).2 ∧
      K (.inl (some (aJ (J23 q27 x2.toNatClampNeg)))) C21 I22 J23 R24) ∨
      (∃ q30 : Nat, o = .inr q30 ∧
      ((C21 q30).1 = 11 ∧
      PX0_weight_70 F_X0_thing F_X0_want F_Vtable F_X0_none F_X0_great K x0 q30 C21 I22 J23 R24)))))) ∨
      (∃ q32 : Nat, o = .inr q32 ∧
      ((C2 q32).1 = 2 ∧
      PX0_weight_60 F_X0_thing F_X0_want F_Vtable F_X0_none F_X0_great K x0 q32 C2 I3 J4 R5)))
def PX0_weight_27 (F_X0_thing : SPF) (F_X0_want : SPF) (F_Vtable : SPF) (F_X0_none : SPF) (F_X0_great : SPF) (K : AK) (x0 : Nat) (x2 : Int32) (x3 : Int32) (x4 : Nat) (s0 : Nat) (C : MC) (I : MI) (J : MJ) (R : MR) : Prop :=
      PX0_weight_28 F_X0_thing F_X0_want F_Vtable F_X0_none F_X0_great K x0 x2 x3 x4 s0 (0 : Int32) C I J R
def PX0_weight_0 (F_X0_thing : SPF) (F_X0_want : SPF) (F_Vtable : SPF) (F_X0_none : SPF) (F_X0_great : SPF) (K : AK) (x0 : Nat) (x1 : Int32) (x2 : Int32) (x3 : Int32) (C : MC) (I : MI) (J : MJ) (R : MR) : Prop :=
      (C x0).1 = 1 ∧
      ∀ I2 : MI, I2 = va_up I x0 (va_up (I x0) 5 (0 : Int32)) →
      F_X0_thing [aR (some x0), aI x1] C I2 J R (fun o C3 I4 J5 R6 =>
      (∃ r7 : Nat, o = .inl (some (aR (some r7))) ∧
      ((x2 < 0 →
      PX0_weight_27 F_X0_thing F_X0_want F_Vtable F_X0_none F_X0_great K x0 x2 x3 r7 x0 C3 I4 J5 R6) ∧
      (¬ x2 < 0 →
      (((120 : Int32) < x2 →
      PX0_weight_27 F_X0_thing F_X0_want F_Vtable F_X0_none F_X0_great K x0 x2 x3 r7 x0 C3 I4 J5 R6) ∧
      (¬ (120 : Int32) < x2 →
      PX0_weight_28 F_X0_thing F_X0_want F_Vtable F_X0_none F_X0_great K x0 x2 x3 r7 x0 (1 : Int32) C3 I4 J5 R6))))) ∨
      (∃ q10 : Nat, o = .inr q10 ∧
      ((C3 q10).1 = 2 ∧
      PX0_weight_60 F_X0_thing F_X0_want F_Vtable F_X0_none F_X0_great K x0 q10 C3 I4 J5 R6)))
theorem wX0_weight {l : Launch}  {F_X0_thing : SPF} (S_X0_thing : SpX0_thing l F_X0_thing) {F_X0_want : SPF} (S_X0_want : SpX0_want l F_X0_want) {F_Vtable : SPF} (S_Vtable : SpVtable l 20 F_Vtable) {F_X0_none : SPF} (S_X0_none : SpX0_none l F_X0_none) {F_X0_great : SPF} (S_X0_great : SpX0_great l F_X0_great) {F : SPF}
    (h0 : ∀ (As : List AV) (C : MC) (I : MI) (J : MJ) (R : MR) (K : AK), F As C I J R K → ∃ (x0 : Nat) (x1 : Int32) (x2 : Int32) (x3 : Int32), As = [aR (some x0), aI x1, aI x2, aI x3] ∧ PX0_weight_0 F_X0_thing F_X0_want F_Vtable F_X0_none F_X0_great K x0 x1 x2 x3 C I J R) : SpX0_weight l F := by
  refine Spec.ofH (by rfl) ?_
  intro Γ C I J R As Gd gl gr _ _ gb hF
  subst gl
  have G : Gb Γ yX0_weight cX0_weight 5 (some .long) [(5, 59, 60, 53), (5, 59, 70, 13)] rmX0_weight bdX0_weight := ⟨Gd, gr, gb⟩
  have w70 : ∀ (x0 : Nat) (s0 : Nat) (C : MC) (I : MI) (J : MJ) (R : MR), PX0_weight_70 F_X0_thing F_X0_want F_Vtable F_X0_none F_X0_great (gK Γ) x0 s0 C I J R → AW Γ 1 6 C I J R 70 [(0, aR (some x0))] [aR (some s0)] := fun x0 s0 C I J R h => bX0_weight_70 G S_X0_great h
  have w60 : ∀ (x0 : Nat) (s0 : Nat) (C : MC) (I : MI) (J : MJ) (R : MR), PX0_weight_60 F_X0_thing F_X0_want F_Vtable F_X0_none F_X0_great (gK Γ) x0 s0 C I J R → AW Γ 0 0 C I J R 60 [(0, aR (some x0))] [aR (some s0)] := fun x0 s0 C I J R h => bX0_weight_60 G S_X0_none h
  have w28 : ∀ (x0 : Nat) (x2 : Int32) (x3 : Int32) (x4 : Nat) (s0 : Nat) (s1 : Int32) (C : MC) (I : MI) (J : MJ) (R : MR), PX0_weight_28 F_X0_thing F_X0_want F_Vtable F_X0_none F_X0_great (gK Γ) x0 x2 x3 x4 s0 s1 C I J R → AW Γ 0 0 C I J R 28 [(0, aR (some x0)), (2, aI x2), (3, aI x3), (4, aR (some x4))] [aI s1, aR (some s0)] := fun x0 x2 x3 x4 s0 s1 C I J R h => bX0_weight_28 G S_X0_want S_Vtable w60 w70 h
  have w27 : ∀ (x0 : Nat) (x2 : Int32) (x3 : Int32) (x4 : Nat) (s0 : Nat) (C : MC) (I : MI) (J : MJ) (R : MR), PX0_weight_27 F_X0_thing F_X0_want F_Vtable F_X0_none F_X0_great (gK Γ) x0 x2 x3 x4 s0 C I J R → AW Γ 0 0 C I J R 27 [(0, aR (some x0)), (2, aI x2), (3, aI x3), (4, aR (some x4))] [aR (some s0)] := fun x0 x2 x3 x4 s0 C I J R h => bX0_weight_27 G w28 h
  obtain ⟨x0, x1, x2, x3, rfl, h⟩ := h0 As C I J R (gK Γ) hF
  exact ⟨Nat.le_of_ble_eq_true rfl, bX0_weight_0 G S_X0_thing w27 w28 w60 h⟩
def PX0_whole_25 (F_X0_thing : SPF) (F_Vtable : SPF) (F_X0_none : SPF) (F_X0_great : SPF) (K : AK) (x0 : Nat) (s0 : Nat) (C : MC) (I : MI) (J : MJ) (R : MR) : Prop :=
      (C x0).1 = 1 ∧
      F_X0_great [aR (some x0)] C I J R (fun o C2 I3 J4 R5 =>
      ∃ r6 : Int32, o = .inl (some (aI r6)) ∧
      K (.inl (some (aJ r6.toInt64))) C2 I3 J4 R5)
def PX0_whole_17 (F_X0_thing : SPF) (F_Vtable : SPF) (F_X0_none : SPF) (F_X0_great : SPF) (K : AK) (x0 : Nat) (s0 : Nat) (C : MC) (I : MI) (J : MJ) (R : MR) : Prop :=
      (C x0).1 = 1 ∧
      F_X0_none [aR (some x0), aR (some s0)] C I J R (fun o C2 I3 J4 R5 =>
      ∃ r6 : Int32, o = .inl (some (aI r6)) ∧
      K (.inl (some (aJ r6.toInt64))) C2 I3 J4 R5)
def PX0_whole_0 (F_X0_thing : SPF) (F_Vtable : SPF) (F_X0_none : SPF) (F_X0_great : SPF) (K : AK) (x0 : Nat) (x1 : Int32) (C : MC) (I : MI) (J : MJ) (R : MR) : Prop :=
      (C x0).1 = 1 ∧
      ∀ I2 : MI, I2 = va_up I x0 (va_up (I x0) 5 (0 : Int32)) →
      F_X0_thing [aR (some x0), aI x1] C I2 J R (fun o C3 I4 J5 R6 =>
      (∃ r7 : Nat, o = .inl (some (aR (some r7))) ∧
      kTh (C3 r7).1 ∧
      F_Vtable [aR (some r7)] C3 I4 J5 R6 (fun o C9 I10 J11 R12 =>
      (∃ r13 : Nat, o = .inl (some (aR (some r13))) ∧
      (C9 r13).1 = 4 ∧
      K (.inl (some (aJ (J11 r13 2)))) C9 I10 J11 R12) ∨
      (∃ q15 : Nat, o = .inr q15 ∧
      ((C9 q15).1 = 11 ∧
      PX0_whole_25 F_X0_thing F_Vtable F_X0_none F_X0_great K x0 q15 C9 I10 J11 R12)))) ∨
      (∃ q17 : Nat, o = .inr q17 ∧
      ((C3 q17).1 = 2 ∧
      PX0_whole_17 F_X0_thing F_Vtable F_X0_none F_X0_great K x0 q17 C3 I4 J5 R6)))
theorem wX0_whole {l : Launch}  {F_X0_thing : SPF} (S_X0_thing : SpX0_thing l F_X0_thing) {F_Vtable : SPF} (S_Vtable : SpVtable l 20 F_Vtable) {F_X0_none : SPF} (S_X0_none : SpX0_none l F_X0_none) {F_X0_great : SPF} (S_X0_great : SpX0_great l F_X0_great) {F : SPF}
    (h0 : ∀ (As : List AV) (C : MC) (I : MI) (J : MJ) (R : MR) (K : AK), F As C I J R K → ∃ (x0 : Nat) (x1 : Int32), As = [aR (some x0), aI x1] ∧ PX0_whole_0 F_X0_thing F_Vtable F_X0_none F_X0_great K x0 x1 C I J R) : SpX0_whole l F := by
  refine Spec.ofH (by rfl) ?_
  intro Γ C I J R As Gd gl gr _ _ gb hF
  subst gl
  have G : Gb Γ yX0_whole cX0_whole 3 (some .long) [(5, 16, 17, 53), (5, 16, 25, 13)] rmX0_whole bdX0_whole := ⟨Gd, gr, gb⟩
  have w25 : ∀ (x0 : Nat) (s0 : Nat) (C : MC) (I : MI) (J : MJ) (R : MR), PX0_whole_25 F_X0_thing F_Vtable F_X0_none F_X0_great (gK Γ) x0 s0 C I J R → AW Γ 1 6 C I J R 25 [(0, aR (some x0))] [aR (some s0)] := fun x0 s0 C I J R h => bX0_whole_25 G S_X0_great h
  have w17 : ∀ (x0 : Nat) (s0 : Nat) (C : MC) (I : MI) (J : MJ) (R : MR), PX0_whole_17 F_X0_thing F_Vtable F_X0_none F_X0_great (gK Γ) x0 s0 C I J R → AW Γ 0 0 C I J R 17 [(0, aR (some x0))] [aR (some s0)] := fun x0 s0 C I J R h => bX0_whole_17 G S_X0_none h
  obtain ⟨x0, x1, rfl, h⟩ := h0 As C I J R (gK Γ) hF
  exact ⟨Nat.le_of_ble_eq_true rfl, bX0_whole_0 G S_X0_thing S_Vtable w17 w25 h⟩
def PX0_by_60 (F_X0_thing : SPF) (F_X0_want : SPF) (F_Vtable : SPF) (F_X3_by : SPF) (F_X0_tells : SPF) (F_X0_none : SPF) (F_X0_great : SPF) (K : AK) (x0 : Nat) (s0 : Nat) (C : MC) (I : MI) (J : MJ) (R : MR) : Prop :=
      (C x0).1 = 1 ∧
      F_X0_great [aR (some x0)] C I J R (fun o C2 I3 J4 R5 =>
      ∃ r6 : Int32, o = .inl (some (aI r6)) ∧
      K (.inl (some (aI r6))) C2 I3 J4 R5)
def PX0_by_53 (F_X0_thing : SPF) (F_X0_want : SPF) (F_Vtable : SPF) (F_X3_by : SPF) (F_X0_tells : SPF) (F_X0_none : SPF) (F_X0_great : SPF) (K : AK) (x0 : Nat) (s0 : Nat) (C : MC) (I : MI) (J : MJ) (R : MR) : Prop :=
      (C x0).1 = 1 ∧
      F_X0_none [aR (some x0), aR (some s0)] C I J R (fun o C2 I3 J4 R5 =>
      ∃ r6 : Int32, o = .inl (some (aI r6)) ∧
      K (.inl (some (aI r6))) C2 I3 J4 R5)
def PX0_by_27 (F_X0_thing : SPF) (F_X0_want : SPF) (F_Vtable : SPF) (F_X3_by : SPF) (F_X0_tells : SPF) (F_X0_none : SPF) (F_X0_great : SPF) (K : AK) (x0 : Nat) (x2 : Int32) (x3 : Nat) (s0 : Nat) (s1 : Int32) (C : MC) (I : MI) (J : MJ) (R : MR) : Prop :=
      (C s0).1 = 1 ∧
      F_X0_want [aR (some s0), aI s1, aI (1 : Int32)] C I J R (fun o C2 I3 J4 R5 =>
      (o = .inl none ∧
      kTh (C2 x3).1 ∧
      F_Vtable [aR (some x3)] C2 I3 J4 R5 (fun o C8 I9 J10 R11 =>
      (∃ r12 : Nat, o = .inl (some (aR (some r12))) ∧
      (C8 r12).1 = 4 ∧
      F_X3_by [aR (some r12), aI x2] C8 I9 J10 R11 (fun o C14 I15 J16 R17 =>
      ∃ r18 : Int64, o = .inl (some (aJ r18)) ∧
      (C14 r12).1 = 4 ∧
      (C14 x0).1 = 1 ∧
      F_X0_tells [aR (some x0), aJ r18, aJ (J16 r12 2)] C14 I15 J16 R17 (fun o C21 I22 J23 R24 =>
      ∃ r25 : Int32, o = .inl (some (aI r25)) ∧
      K (.inl (some (aI r25))) C21 I22 J23 R24))) ∨
      (∃ q26 : Nat, o = .inr q26 ∧
      ((C8 q26).1 = 11 ∧
      PX0_by_60 F_X0_thing F_X0_want F_Vtable F_X3_by F_X0_tells F_X0_none F_X0_great K x0 q26 C8 I9 J10 R11)))) ∨
      (∃ q28 : Nat, o = .inr q28 ∧
      ((C2 q28).1 = 2 ∧
      PX0_by_53 F_X0_thing F_X0_want F_Vtable F_X3_by F_X0_tells F_X0_none F_X0_great K x0 q28 C2 I3 J4 R5)))
def PX0_by_26 (F_X0_thing : SPF) (F_X0_want : SPF) (F_Vtable : SPF) (F_X3_by : SPF) (F_X0_tells : SPF) (F_X0_none : SPF) (F_X0_great : SPF) (K : AK) (x0 : Nat) (x2 : Int32) (x3 : Nat) (s0 : Nat) (C : MC) (I : MI) (J : MJ) (R : MR) : Prop :=
      PX0_by_27 F_X0_thing F_X0_want F_Vtable F_X3_by F_X0_tells F_X0_none F_X0_great K x0 x2 x3 s0 (0 : Int32) C I J R
def PX0_by_0 (F_X0_thing : SPF) (F_X0_want : SPF) (F_Vtable : SPF) (F_X3_by : SPF) (F_X0_tells : SPF) (F_X0_none : SPF) (F_X0_great : SPF) (K : AK) (x0 : Nat) (x1 : Int32) (x2 : Int32) (C : MC) (I : MI) (J : MJ) (R : MR) : Prop :=
      (C x0).1 = 1 ∧
      ∀ I2 : MI, I2 = va_up I x0 (va_up (I x0) 5 (0 : Int32)) →
      F_X0_thing [aR (some x0), aI x1] C I2 J R (fun o C3 I4 J5 R6 =>
      (∃ r7 : Nat, o = .inl (some (aR (some r7))) ∧
      ((x2 < 0 →
      PX0_by_26 F_X0_thing F_X0_want F_Vtable F_X3_by F_X0_tells F_X0_none F_X0_great K x0 x2 r7 x0 C3 I4 J5 R6) ∧
      (¬ x2 < 0 →
      (((120 : Int32) < x2 →
      PX0_by_26 F_X0_thing F_X0_want F_Vtable F_X3_by F_X0_tells F_X0_none F_X0_great K x0 x2 r7 x0 C3 I4 J5 R6) ∧
      (¬ (120 : Int32) < x2 →
      PX0_by_27 F_X0_thing F_X0_want F_Vtable F_X3_by F_X0_tells F_X0_none F_X0_great K x0 x2 r7 x0 (1 : Int32) C3 I4 J5 R6))))) ∨
      (∃ q10 : Nat, o = .inr q10 ∧
      ((C3 q10).1 = 2 ∧
      PX0_by_53 F_X0_thing F_X0_want F_Vtable F_X3_by F_X0_tells F_X0_none F_X0_great K x0 q10 C3 I4 J5 R6)))
theorem wX0_by {l : Launch}  {F_X0_thing : SPF} (S_X0_thing : SpX0_thing l F_X0_thing) {F_X0_want : SPF} (S_X0_want : SpX0_want l F_X0_want) {F_Vtable : SPF} (S_Vtable : SpVtable l 20 F_Vtable) {F_X3_by : SPF} (S_X3_by : SpX3_by l F_X3_by) {F_X0_tells : SPF} (S_X0_tells : SpX0_tells l F_X0_tells) {F_X0_none : SPF} (S_X0_none : SpX0_none l F_X0_none) {F_X0_great : SPF} (S_X0_great : SpX0_great l F_X0_great) {F : SPF}
    (h0 : ∀ (As : List AV) (C : MC) (I : MI) (J : MJ) (R : MR) (K : AK), F As C I J R K → ∃ (x0 : Nat) (x1 : Int32) (x2 : Int32), As = [aR (some x0), aI x1, aI x2] ∧ PX0_by_0 F_X0_thing F_X0_want F_Vtable F_X3_by F_X0_tells F_X0_none F_X0_great K x0 x1 x2 C I J R) : SpX0_by l F := by
  refine Spec.ofH (by rfl) ?_
  intro Γ C I J R As Gd gl gr _ _ gb hF
  subst gl
  have G : Gb Γ yX0_by cX0_by 5 (some .int) [(5, 52, 53, 53), (5, 52, 60, 13)] rmX0_by bdX0_by := ⟨Gd, gr, gb⟩
  have w60 : ∀ (x0 : Nat) (s0 : Nat) (C : MC) (I : MI) (J : MJ) (R : MR), PX0_by_60 F_X0_thing F_X0_want F_Vtable F_X3_by F_X0_tells F_X0_none F_X0_great (gK Γ) x0 s0 C I J R → AW Γ 1 6 C I J R 60 [(0, aR (some x0))] [aR (some s0)] := fun x0 s0 C I J R h => bX0_by_60 G S_X0_great h
  have w53 : ∀ (x0 : Nat) (s0 : Nat) (C : MC) (I : MI) (J : MJ) (R : MR), PX0_by_53 F_X0_thing F_X0_want F_Vtable F_X3_by F_X0_tells F_X0_none F_X0_great (gK Γ) x0 s0 C I J R → AW Γ 0 0 C I J R 53 [(0, aR (some x0))] [aR (some s0)] := fun x0 s0 C I J R h => bX0_by_53 G S_X0_none h
  have w27 : ∀ (x0 : Nat) (x2 : Int32) (x3 : Nat) (s0 : Nat) (s1 : Int32) (C : MC) (I : MI) (J : MJ) (R : MR), PX0_by_27 F_X0_thing F_X0_want F_Vtable F_X3_by F_X0_tells F_X0_none F_X0_great (gK Γ) x0 x2 x3 s0 s1 C I J R → AW Γ 0 0 C I J R 27 [(0, aR (some x0)), (2, aI x2), (3, aR (some x3))] [aI s1, aR (some s0)] := fun x0 x2 x3 s0 s1 C I J R h => bX0_by_27 G S_X0_want S_Vtable S_X3_by S_X0_tells w53 w60 h
  have w26 : ∀ (x0 : Nat) (x2 : Int32) (x3 : Nat) (s0 : Nat) (C : MC) (I : MI) (J : MJ) (R : MR), PX0_by_26 F_X0_thing F_X0_want F_Vtable F_X3_by F_X0_tells F_X0_none F_X0_great (gK Γ) x0 x2 x3 s0 C I J R → AW Γ 0 0 C I J R 26 [(0, aR (some x0)), (2, aI x2), (3, aR (some x3))] [aR (some s0)] := fun x0 x2 x3 s0 C I J R h => bX0_by_26 G w27 h
  obtain ⟨x0, x1, x2, rfl, h⟩ := h0 As C I J R (gK Γ) hF
  exact ⟨Nat.le_of_ble_eq_true rfl, bX0_by_0 G S_X0_thing w26 w27 w53 h⟩
def PX0_tells_0 (F_X0_common : SPF) (K : AK) (x0 : Nat) (x1 : Int64) (x3 : Int64) (C : MC) (I : MI) (J : MJ) (R : MR) : Prop :=
      F_X0_common [aJ x1, aJ x3] C I J R (fun o C1 I2 J3 R4 =>
      ∃ r5 : Int64, o = .inl (some (aJ r5)) ∧
      ¬ r5 = 0 ∧
      (C1 x0).1 = 1 ∧
      ∀ J8 : MJ, J8 = va_up J3 x0 (va_up (J3 x0) 6 (x1 / r5)) →
      ∀ J9 : MJ, J9 = va_up J8 x0 (va_up (J8 x0) 7 (x3 / r5)) →
      ((x1 ≤ (0 : Int64) →
      K (.inl (some (aI (0 : Int32)))) C1 I2 J9 R4) ∧
      (¬ x1 ≤ (0 : Int64) →
      K (.inl (some (aI (1 : Int32)))) C1 I2 J9 R4)))
theorem wX0_tells {l : Launch}  {F_X0_common : SPF} (S_X0_common : SpX0_common l F_X0_common) {F : SPF}
    (h0 : ∀ (As : List AV) (C : MC) (I : MI) (J : MJ) (R : MR) (K : AK), F As C I J R K → ∃ (x0 : Nat) (x1 : Int64) (x3 : Int64), As = [aR (some x0), aJ x1, aJ x3] ∧ PX0_tells_0 F_X0_common K x0 x1 x3 C I J R) : SpX0_tells l F := by
  refine Spec.of (by rfl) ?_
  intro Γ C I J R As Gd gl gr _ _ gb hF
  subst gl
  have G : Gb Γ yX0_tells cX0_tells 7 (some .int) [] rmX0_tells bdX0_tells := ⟨Gd, gr, gb⟩
  obtain ⟨x0, x1, x3, rfl, h⟩ := h0 As C I J R (gK Γ) hF
  exact ⟨Nat.le_of_ble_eq_true rfl, bX0_tells_0 G S_X0_common h⟩
def PX0_fails_34 (F_X0_thing : SPF) (F_Vtable : SPF) (F_X3_failed : SPF) (F_X0_tells : SPF) (F_X0_none : SPF) (F_X0_great : SPF) (K : AK) (x0 : Nat) (s0 : Nat) (C : MC) (I : MI) (J : MJ) (R : MR) : Prop :=
      (C x0).1 = 1 ∧
      F_X0_great [aR (some x0)] C I J R (fun o C2 I3 J4 R5 =>
      ∃ r6 : Int32, o = .inl (some (aI r6)) ∧
      K (.inl (some (aI r6))) C2 I3 J4 R5)
def PX0_fails_27 (F_X0_thing : SPF) (F_Vtable : SPF) (F_X3_failed : SPF) (F_X0_tells : SPF) (F_X0_none : SPF) (F_X0_great : SPF) (K : AK) (x0 : Nat) (s0 : Nat) (C : MC) (I : MI) (J : MJ) (R : MR) : Prop :=
      (C x0).1 = 1 ∧
      F_X0_none [aR (some x0), aR (some s0)] C I J R (fun o C2 I3 J4 R5 =>
      ∃ r6 : Int32, o = .inl (some (aI r6)) ∧
      K (.inl (some (aI r6))) C2 I3 J4 R5)
def PX0_fails_0 (F_X0_thing : SPF) (F_Vtable : SPF) (F_X3_failed : SPF) (F_X0_tells : SPF) (F_X0_none : SPF) (F_X0_great : SPF) (K : AK) (x0 : Nat) (x1 : Int32) (C : MC) (I : MI) (J : MJ) (R : MR) : Prop :=
      (C x0).1 = 1 ∧
      ∀ I2 : MI, I2 = va_up I x0 (va_up (I x0) 5 (0 : Int32)) →
      F_X0_thing [aR (some x0), aI x1] C I2 J R (fun o C3 I4 J5 R6 =>
      (∃ r7 : Nat, o = .inl (some (aR (some r7))) ∧
      kTh (C3 r7).1 ∧
      F_Vtable [aR (some r7)] C3 I4 J5 R6 (fun o C9 I10 J11 R12 =>
      (∃ r13 : Nat, o = .inl (some (aR (some r13))) ∧
      (C9 r13).1 = 4 ∧
      F_X3_failed [aR (some r13)] C9 I10 J11 R12 (fun o C15 I16 J17 R18 =>
      ∃ r19 : Int64, o = .inl (some (aJ r19)) ∧
      (C15 r13).1 = 4 ∧
      (C15 x0).1 = 1 ∧
      F_X0_tells [aR (some x0), aJ r19, aJ (J17 r13 2)] C15 I16 J17 R18 (fun o C22 I23 J24 R25 =>
      ∃ r26 : Int32, o = .inl (some (aI r26)) ∧
      K (.inl (some (aI r26))) C22 I23 J24 R25))) ∨
      (∃ q27 : Nat, o = .inr q27 ∧
      ((C9 q27).1 = 11 ∧
      PX0_fails_34 F_X0_thing F_Vtable F_X3_failed F_X0_tells F_X0_none F_X0_great K x0 q27 C9 I10 J11 R12)))) ∨
      (∃ q29 : Nat, o = .inr q29 ∧
      ((C3 q29).1 = 2 ∧
      PX0_fails_27 F_X0_thing F_Vtable F_X3_failed F_X0_tells F_X0_none F_X0_great K x0 q29 C3 I4 J5 R6)))
theorem wX0_fails {l : Launch}  {F_X0_thing : SPF} (S_X0_thing : SpX0_thing l F_X0_thing) {F_Vtable : SPF} (S_Vtable : SpVtable l 20 F_Vtable) {F_X3_failed : SPF} (S_X3_failed : SpX3_failed l F_X3_failed) {F_X0_tells : SPF} (S_X0_tells : SpX0_tells l F_X0_tells) {F_X0_none : SPF} (S_X0_none : SpX0_none l F_X0_none) {F_X0_great : SPF} (S_X0_great : SpX0_great l F_X0_great) {F : SPF}
    (h0 : ∀ (As : List AV) (C : MC) (I : MI) (J : MJ) (R : MR) (K : AK), F As C I J R K → ∃ (x0 : Nat) (x1 : Int32), As = [aR (some x0), aI x1] ∧ PX0_fails_0 F_X0_thing F_Vtable F_X3_failed F_X0_tells F_X0_none F_X0_great K x0 x1 C I J R) : SpX0_fails l F := by
  refine Spec.ofH (by rfl) ?_
  intro Γ C I J R As Gd gl gr _ _ gb hF
  subst gl
  have G : Gb Γ yX0_fails cX0_fails 3 (some .int) [(5, 26, 27, 53), (5, 26, 34, 13)] rmX0_fails bdX0_fails := ⟨Gd, gr, gb⟩
  have w34 : ∀ (x0 : Nat) (s0 : Nat) (C : MC) (I : MI) (J : MJ) (R : MR), PX0_fails_34 F_X0_thing F_Vtable F_X3_failed F_X0_tells F_X0_none F_X0_great (gK Γ) x0 s0 C I J R → AW Γ 1 6 C I J R 34 [(0, aR (some x0))] [aR (some s0)] := fun x0 s0 C I J R h => bX0_fails_34 G S_X0_great h
  have w27 : ∀ (x0 : Nat) (s0 : Nat) (C : MC) (I : MI) (J : MJ) (R : MR), PX0_fails_27 F_X0_thing F_Vtable F_X3_failed F_X0_tells F_X0_none F_X0_great (gK Γ) x0 s0 C I J R → AW Γ 0 0 C I J R 27 [(0, aR (some x0))] [aR (some s0)] := fun x0 s0 C I J R h => bX0_fails_27 G S_X0_none h
  obtain ⟨x0, x1, rfl, h⟩ := h0 As C I J R (gK Γ) hF
  exact ⟨Nat.le_of_ble_eq_true rfl, bX0_fails_0 G S_X0_thing S_Vtable S_X3_failed S_X0_tells w27 w34 h⟩
def PX0_promise_97 (F_X0_thing : SPF) (F_X0_isShare : SPF) (F_X0_want : SPF) (F_Vtable : SPF) (F_X3_by : SPF) (F_X0_isEnough : SPF) (F_X0_none : SPF) (F_X0_great : SPF) (Q32 : Nat → Int32 → Int32 → Nat → Int32 → MC → MI → MJ → MR → Prop) (K : AK) (x0 : Nat) (s0 : Nat) (C : MC) (I : MI) (J : MJ) (R : MR) : Prop :=
      (C x0).1 = 1 ∧
      F_X0_great [aR (some x0)] C I J R (fun o C2 I3 J4 R5 =>
      ∃ r6 : Int32, o = .inl (some (aI r6)) ∧
      K (.inl (some (aI r6))) C2 I3 J4 R5)
def PX0_promise_88 (F_X0_thing : SPF) (F_X0_isShare : SPF) (F_X0_want : SPF) (F_Vtable : SPF) (F_X3_by : SPF) (F_X0_isEnough : SPF) (F_X0_none : SPF) (F_X0_great : SPF) (Q32 : Nat → Int32 → Int32 → Nat → Int32 → MC → MI → MJ → MR → Prop) (K : AK) (x0 : Nat) (s0 : Nat) (C : MC) (I : MI) (J : MJ) (R : MR) : Prop :=
      (C x0).1 = 1 ∧
      F_X0_none [aR (some x0), aR (some s0)] C I J R (fun o C2 I3 J4 R5 =>
      ∃ r6 : Int32, o = .inl (some (aI r6)) ∧
      K (.inl (some (aI r6))) C2 I3 J4 R5)
def PX0_promise_67 (F_X0_thing : SPF) (F_X0_isShare : SPF) (F_X0_want : SPF) (F_Vtable : SPF) (F_X3_by : SPF) (F_X0_isEnough : SPF) (F_X0_none : SPF) (F_X0_great : SPF) (Q32 : Nat → Int32 → Int32 → Nat → Int32 → MC → MI → MJ → MR → Prop) (K : AK) (x0 : Nat) (x6 : Int32) (C : MC) (I : MI) (J : MJ) (R : MR) : Prop :=
      (((120 : Int32) < x6 →
      (C x0).1 = 1 ∧
      F_X0_want [aR (some x0), aI (0 : Int32), aI (6 : Int32)] C I J R (fun o C3 I4 J5 R6 =>
      (o = .inl none ∧
      K (.inl (some (aI x6))) C3 I4 J5 R6) ∨
      (∃ q8 : Nat, o = .inr q8 ∧
      ((C3 q8).1 = 2 ∧
      PX0_promise_88 F_X0_thing F_X0_isShare F_X0_want F_Vtable F_X3_by F_X0_isEnough F_X0_none F_X0_great Q32 K x0 q8 C3 I4 J5 R6)))) ∧
      (¬ (120 : Int32) < x6 →
      (C x0).1 = 1 ∧
      F_X0_want [aR (some x0), aI (1 : Int32), aI (6 : Int32)] C I J R (fun o C11 I12 J13 R14 =>
      (o = .inl none ∧
      K (.inl (some (aI x6))) C11 I12 J13 R14) ∨
      (∃ q16 : Nat, o = .inr q16 ∧
      ((C11 q16).1 = 2 ∧
      PX0_promise_88 F_X0_thing F_X0_isShare F_X0_want F_Vtable F_X3_by F_X0_isEnough F_X0_none F_X0_great Q32 K x0 q16 C11 I12 J13 R14)))))
def PX0_promise_32 (F_X0_thing : SPF) (F_X0_isShare : SPF) (F_X0_want : SPF) (F_Vtable : SPF) (F_X3_by : SPF) (F_X0_isEnough : SPF) (F_X0_none : SPF) (F_X0_great : SPF) (Q32 : Nat → Int32 → Int32 → Nat → Int32 → MC → MI → MJ → MR → Prop) (K : AK) (x0 : Nat) (x2 : Int32) (x3 : Int32) (x5 : Nat) (x6 : Int32) (C : MC) (I : MI) (J : MJ) (R : MR) : Prop :=
      (((120 : Int32) < x6 →
      PX0_promise_67 F_X0_thing F_X0_isShare F_X0_want F_Vtable F_X3_by F_X0_isEnough F_X0_none F_X0_great Q32 K x0 x6 C I J R) ∧
      (¬ (120 : Int32) < x6 →
      (C x5).1 = 4 ∧
      F_X3_by [aR (some x5), aI x6] C I J R (fun o C3 I4 J5 R6 =>
      ∃ r7 : Int64, o = .inl (some (aJ r7)) ∧
      (C3 x5).1 = 4 ∧
      F_X0_isEnough [aJ r7, aJ (J5 x5 2), aJ x2.toInt64, aJ x3.toInt64] C3 I4 J5 R6 (fun o C9 I10 J11 R12 =>
      ∃ r13 : Int32, o = .inl (some (aI r13)) ∧
      ((¬ r13 = 0 →
      PX0_promise_67 F_X0_thing F_X0_isShare F_X0_want F_Vtable F_X3_by F_X0_isEnough F_X0_none F_X0_great Q32 K x0 x6 C9 I10 J11 R12) ∧
      (r13 = 0 →
      Q32 x0 x2 x3 x5 (x6 + 1) C9 I10 J11 R12))))))
def PX0_promise_0 (F_X0_thing : SPF) (F_X0_isShare : SPF) (F_X0_want : SPF) (F_Vtable : SPF) (F_X3_by : SPF) (F_X0_isEnough : SPF) (F_X0_none : SPF) (F_X0_great : SPF) (Q32 : Nat → Int32 → Int32 → Nat → Int32 → MC → MI → MJ → MR → Prop) (K : AK) (x0 : Nat) (x1 : Int32) (x2 : Int32) (x3 : Int32) (C : MC) (I : MI) (J : MJ) (R : MR) : Prop :=
      (C x0).1 = 1 ∧
      ∀ I2 : MI, I2 = va_up I x0 (va_up (I x0) 5 (0 : Int32)) →
      F_X0_thing [aR (some x0), aI x1] C I2 J R (fun o C3 I4 J5 R6 =>
      (∃ r7 : Nat, o = .inl (some (aR (some r7))) ∧
      F_X0_isShare [aI x2, aI x3] C3 I4 J5 R6 (fun o C8 I9 J10 R11 =>
      ∃ r12 : Int32, o = .inl (some (aI r12)) ∧
      (C8 x0).1 = 1 ∧
      F_X0_want [aR (some x0), aI r12, aI (1 : Int32)] C8 I9 J10 R11 (fun o C14 I15 J16 R17 =>
      (o = .inl none ∧
      kTh (C14 r7).1 ∧
      F_Vtable [aR (some r7)] C14 I15 J16 R17 (fun o C20 I21 J22 R23 =>
      (∃ r24 : Nat, o = .inl (some (aR (some r24))) ∧
      Q32 x0 x2 x3 r24 (0 : Int32) C20 I21 J22 R23) ∨
      (∃ q25 : Nat, o = .inr q25 ∧
      ((C20 q25).1 = 11 ∧
      PX0_promise_97 F_X0_thing F_X0_isShare F_X0_want F_Vtable F_X3_by F_X0_isEnough F_X0_none F_X0_great Q32 K x0 q25 C20 I21 J22 R23)))) ∨
      (∃ q27 : Nat, o = .inr q27 ∧
      ((C14 q27).1 = 2 ∧
      PX0_promise_88 F_X0_thing F_X0_isShare F_X0_want F_Vtable F_X3_by F_X0_isEnough F_X0_none F_X0_great Q32 K x0 q27 C14 I15 J16 R17))))) ∨
      (∃ q29 : Nat, o = .inr q29 ∧
      ((C3 q29).1 = 2 ∧
      PX0_promise_88 F_X0_thing F_X0_isShare F_X0_want F_Vtable F_X3_by F_X0_isEnough F_X0_none F_X0_great Q32 K x0 q29 C3 I4 J5 R6)))
theorem wX0_promise {l : Launch}  {F_X0_thing : SPF} (S_X0_thing : SpX0_thing l F_X0_thing) {F_X0_isShare : SPF} (S_X0_isShare : SpX0_isShare l F_X0_isShare) {F_X0_want : SPF} (S_X0_want : SpX0_want l F_X0_want) {F_Vtable : SPF} (S_Vtable : SpVtable l 20 F_Vtable) {F_X3_by : SPF} (S_X3_by : SpX3_by l F_X3_by) {F_X0_isEnough : SPF} (S_X0_isEnough : SpX0_isEnough l F_X0_isEnough) {F_X0_none : SPF} (S_X0_none : SpX0_none l F_X0_none) {F_X0_great : SPF} (S_X0_great : SpX0_great l F_X0_great)
    (Q32 : Nat → AK → Nat → Int32 → Int32 → Nat → Int32 → MC → MI → MJ → MR → Prop) {F : SPF}
    (h0 : ∀ (As : List AV) (C : MC) (I : MI) (J : MJ) (R : MR) (K : AK), F As C I J R K → ∃ (x0 : Nat) (x1 : Int32) (x2 : Int32) (x3 : Int32), As = [aR (some x0), aI x1, aI x2, aI x3] ∧ PX0_promise_0 F_X0_thing F_X0_isShare F_X0_want F_Vtable F_X3_by F_X0_isEnough F_X0_none F_X0_great (fun (x0 : Nat) (x2 : Int32) (x3 : Int32) (x5 : Nat) (x6 : Int32) (C : MC) (I : MI) (J : MJ) (R : MR) => ∃ n, Q32 n K x0 x2 x3 x5 x6 C I J R) K x0 x1 x2 x3 C I J R)
    (h32 : ∀ (n : Nat) (K : AK) (x0 : Nat) (x2 : Int32) (x3 : Int32) (x5 : Nat) (x6 : Int32) (C : MC) (I : MI) (J : MJ) (R : MR), Q32 n K x0 x2 x3 x5 x6 C I J R → PX0_promise_32 F_X0_thing F_X0_isShare F_X0_want F_Vtable F_X3_by F_X0_isEnough F_X0_none F_X0_great (fun (x0 : Nat) (x2 : Int32) (x3 : Int32) (x5 : Nat) (x6 : Int32) (C : MC) (I : MI) (J : MJ) (R : MR) => ∃ m, m < n ∧ Q32 m K x0 x2 x3 x5 x6 C I J R) K x0 x2 x3 x5 x6 C I J R) : SpX0_promise l F := by
  refine Spec.ofH (by rfl) ?_
  intro Γ C I J R As Gd gl gr _ _ gb hF
  subst gl
  have G : Gb Γ yX0_promise cX0_promise 7 (some .int) [(5, 87, 88, 53), (5, 87, 97, 13)] rmX0_promise bdX0_promise := ⟨Gd, gr, gb⟩
  have key : ∀ n : Nat, (∀ (x0 : Nat) (x2 : Int32) (x3 : Int32) (x5 : Nat) (x6 : Int32) (C : MC) (I : MI) (J : MJ) (R : MR), Q32 n (gK Γ) x0 x2 x3 x5 x6 C I J R → AW Γ 0 0 C I J R 32 [(0, aR (some x0)), (2, aI x2), (3, aI x3), (5, aR (some x5)), (6, aI x6)] []) := by
    intro n
    induction n using Nat.strongRecOn with
    | ind n ih =>
    have w32 : ∀ (x0 : Nat) (x2 : Int32) (x3 : Int32) (x5 : Nat) (x6 : Int32) (C : MC) (I : MI) (J : MJ) (R : MR), (∃ m, m < n ∧ Q32 m (gK Γ) x0 x2 x3 x5 x6 C I J R) → AW Γ 0 0 C I J R 32 [(0, aR (some x0)), (2, aI x2), (3, aI x3), (5, aR (some x5)), (6, aI x6)] [] := fun x0 x2 x3 x5 x6 C I J R ⟨m, hm, hq⟩ => (ih m hm) x0 x2 x3 x5 x6 C I J R hq
    have w97 : ∀ (x0 : Nat) (s0 : Nat) (C : MC) (I : MI) (J : MJ) (R : MR), PX0_promise_97 F_X0_thing F_X0_isShare F_X0_want F_Vtable F_X3_by F_X0_isEnough F_X0_none F_X0_great (fun (x0 : Nat) (x2 : Int32) (x3 : Int32) (x5 : Nat) (x6 : Int32) (C : MC) (I : MI) (J : MJ) (R : MR) => ∃ m, m < n ∧ Q32 m (gK Γ) x0 x2 x3 x5 x6 C I J R) (gK Γ) x0 s0 C I J R → AW Γ 1 6 C I J R 97 [(0, aR (some x0))] [aR (some s0)] := fun x0 s0 C I J R h => bX0_promise_97 G S_X0_great h
    have w88 : ∀ (x0 : Nat) (s0 : Nat) (C : MC) (I : MI) (J : MJ) (R : MR), PX0_promise_88 F_X0_thing F_X0_isShare F_X0_want F_Vtable F_X3_by F_X0_isEnough F_X0_none F_X0_great (fun (x0 : Nat) (x2 : Int32) (x3 : Int32) (x5 : Nat) (x6 : Int32) (C : MC) (I : MI) (J : MJ) (R : MR) => ∃ m, m < n ∧ Q32 m (gK Γ) x0 x2 x3 x5 x6 C I J R) (gK Γ) x0 s0 C I J R → AW Γ 0 0 C I J R 88 [(0, aR (some x0))] [aR (some s0)] := fun x0 s0 C I J R h => bX0_promise_88 G S_X0_none h
    have w67 : ∀ (x0 : Nat) (x6 : Int32) (C : MC) (I : MI) (J : MJ) (R : MR), PX0_promise_67 F_X0_thing F_X0_isShare F_X0_want F_Vtable F_X3_by F_X0_isEnough F_X0_none F_X0_great (fun (x0 : Nat) (x2 : Int32) (x3 : Int32) (x5 : Nat) (x6 : Int32) (C : MC) (I : MI) (J : MJ) (R : MR) => ∃ m, m < n ∧ Q32 m (gK Γ) x0 x2 x3 x5 x6 C I J R) (gK Γ) x0 x6 C I J R → AW Γ 0 0 C I J R 67 [(0, aR (some x0)), (6, aI x6)] [] := fun x0 x6 C I J R h => bX0_promise_67 G S_X0_want w88 h
    exact fun x0 x2 x3 x5 x6 C I J R h => bX0_promise_32 G S_X3_by S_X0_isEnough w32 w67 (h32 n (gK Γ) x0 x2 x3 x5 x6 C I J R h)
  have w32 : ∀ (x0 : Nat) (x2 : Int32) (x3 : Int32) (x5 : Nat) (x6 : Int32) (C : MC) (I : MI) (J : MJ) (R : MR), (∃ n, Q32 n (gK Γ) x0 x2 x3 x5 x6 C I J R) → AW Γ 0 0 C I J R 32 [(0, aR (some x0)), (2, aI x2), (3, aI x3), (5, aR (some x5)), (6, aI x6)] [] := fun x0 x2 x3 x5 x6 C I J R ⟨m, hq⟩ => (key m) x0 x2 x3 x5 x6 C I J R hq
  have w97 : ∀ (x0 : Nat) (s0 : Nat) (C : MC) (I : MI) (J : MJ) (R : MR), PX0_promise_97 F_X0_thing F_X0_isShare F_X0_want F_Vtable F_X3_by F_X0_isEnough F_X0_none F_X0_great (fun (x0 : Nat) (x2 : Int32) (x3 : Int32) (x5 : Nat) (x6 : Int32) (C : MC) (I : MI) (J : MJ) (R : MR) => ∃ n, Q32 n (gK Γ) x0 x2 x3 x5 x6 C I J R) (gK Γ) x0 s0 C I J R → AW Γ 1 6 C I J R 97 [(0, aR (some x0))] [aR (some s0)] := fun x0 s0 C I J R h => bX0_promise_97 G S_X0_great h
  have w88 : ∀ (x0 : Nat) (s0 : Nat) (C : MC) (I : MI) (J : MJ) (R : MR), PX0_promise_88 F_X0_thing F_X0_isShare F_X0_want F_Vtable F_X3_by F_X0_isEnough F_X0_none F_X0_great (fun (x0 : Nat) (x2 : Int32) (x3 : Int32) (x5 : Nat) (x6 : Int32) (C : MC) (I : MI) (J : MJ) (R : MR) => ∃ n, Q32 n (gK Γ) x0 x2 x3 x5 x6 C I J R) (gK Γ) x0 s0 C I J R → AW Γ 0 0 C I J R 88 [(0, aR (some x0))] [aR (some s0)] := fun x0 s0 C I J R h => bX0_promise_88 G S_X0_none h
  have w67 : ∀ (x0 : Nat) (x6 : Int32) (C : MC) (I : MI) (J : MJ) (R : MR), PX0_promise_67 F_X0_thing F_X0_isShare F_X0_want F_Vtable F_X3_by F_X0_isEnough F_X0_none F_X0_great (fun (x0 : Nat) (x2 : Int32) (x3 : Int32) (x5 : Nat) (x6 : Int32) (C : MC) (I : MI) (J : MJ) (R : MR) => ∃ n, Q32 n (gK Γ) x0 x2 x3 x5 x6 C I J R) (gK Γ) x0 x6 C I J R → AW Γ 0 0 C I J R 67 [(0, aR (some x0)), (6, aI x6)] [] := fun x0 x6 C I J R h => bX0_promise_67 G S_X0_want w88 h
  obtain ⟨x0, x1, x2, x3, rfl, h⟩ := h0 As C I J R (gK Γ) hF
  exact ⟨Nat.le_of_ble_eq_true rfl, bX0_promise_0 G S_X0_thing S_X0_isShare S_X0_want S_Vtable w32 w88 w97 h⟩
def PX0_isShare_0 (K : AK) (x0 : Int32) (x1 : Int32) (C : MC) (I : MI) (J : MJ) (R : MR) : Prop :=
      ((x1 < (1 : Int32) →
      K (.inl (some (aI (0 : Int32)))) C I J R) ∧
      (¬ x1 < (1 : Int32) →
      (((1000000 : Int32) < x1 →
      K (.inl (some (aI (0 : Int32)))) C I J R) ∧
      (¬ (1000000 : Int32) < x1 →
      ((x0 < 0 →
      K (.inl (some (aI (0 : Int32)))) C I J R) ∧
      (¬ x0 < 0 →
      ((x1 < x0 →
      K (.inl (some (aI (0 : Int32)))) C I J R) ∧
      (¬ x1 < x0 →
      K (.inl (some (aI (1 : Int32)))) C I J R))))))))
theorem wX0_isShare {l : Launch}  {F : SPF}
    (h0 : ∀ (As : List AV) (C : MC) (I : MI) (J : MJ) (R : MR) (K : AK), F As C I J R K → ∃ (x0 : Int32) (x1 : Int32), As = [aI x0, aI x1] ∧ PX0_isShare_0 K x0 x1 C I J R) : SpX0_isShare l F := by
  refine Spec.of (by rfl) ?_
  intro Γ C I J R As Gd gl gr _ _ gb hF
  subst gl
  have G : Gb Γ yX0_isShare cX0_isShare 2 (some .boolean) [] rmX0_isShare bdX0_isShare := ⟨Gd, gr, gb⟩
  obtain ⟨x0, x1, rfl, h⟩ := h0 As C I J R (gK Γ) hF
  exact ⟨Nat.le_of_ble_eq_true rfl, bX0_isShare_0 G h⟩
def PX0_isEnough_118 (Q17 : Int64 → Int64 → Int64 → Int64 → Int32 → MC → MI → MJ → MR → Prop) (K : AK) (x10 : Int64) (x14 : Int64) (x16 : Int32) (C : MC) (I : MI) (J : MJ) (R : MR) : Prop :=
      ((x16 = 0 →
      ((¬ x10 = (0 : Int64) →
      K (.inl (some (aI (0 : Int32)))) C I J R) ∧
      (x10 = (0 : Int64) →
      K (.inl (some (aI (1 : Int32)))) C I J R))) ∧
      (¬ x16 = 0 →
      ((¬ x14 = (0 : Int64) →
      K (.inl (some (aI (0 : Int32)))) C I J R) ∧
      (x14 = (0 : Int64) →
      K (.inl (some (aI (1 : Int32)))) C I J R))))
def PX0_isEnough_104 (Q17 : Int64 → Int64 → Int64 → Int64 → Int32 → MC → MI → MJ → MR → Prop) (K : AK) (x10 : Int64) (x14 : Int64) (x16 : Int32) (C : MC) (I : MI) (J : MJ) (R : MR) : Prop :=
      ((¬ x10 = (0 : Int64) →
      PX0_isEnough_118 Q17 K x10 x14 x16 C I J R) ∧
      (x10 = (0 : Int64) →
      ((x14 = (0 : Int64) →
      K (.inl (some (aI (1 : Int32)))) C I J R) ∧
      (¬ x14 = (0 : Int64) →
      PX0_isEnough_118 Q17 K x10 x14 x16 C I J R))))
def PX0_isEnough_90 (Q17 : Int64 → Int64 → Int64 → Int64 → Int32 → MC → MI → MJ → MR → Prop) (K : AK) (x8 : Int64) (x10 : Int64) (x12 : Int64) (x14 : Int64) (x16 : Int32) (C : MC) (I : MI) (J : MJ) (R : MR) : Prop :=
      ((x10 = (0 : Int64) →
      PX0_isEnough_104 Q17 K x10 x14 x16 C I J R) ∧
      (¬ x10 = (0 : Int64) →
      ((¬ x14 = (0 : Int64) →
      ((x16 = 0 →
      ¬ x10 = 0 ∧
      ¬ x14 = 0 ∧
      (((x8 / x10) ≤ (x12 / x14) →
      K (.inl (some (aI (0 : Int32)))) C I J R) ∧
      (¬ (x8 / x10) ≤ (x12 / x14) →
      K (.inl (some (aI (1 : Int32)))) C I J R))) ∧
      (¬ x16 = 0 →
      ¬ x10 = 0 ∧
      ¬ x14 = 0 ∧
      (((x12 / x14) ≤ (x8 / x10) →
      K (.inl (some (aI (0 : Int32)))) C I J R) ∧
      (¬ (x12 / x14) ≤ (x8 / x10) →
      K (.inl (some (aI (1 : Int32)))) C I J R))))) ∧
      (x14 = (0 : Int64) →
      PX0_isEnough_104 Q17 K x10 x14 x16 C I J R))))
def PX0_isEnough_85 (Q17 : Int64 → Int64 → Int64 → Int64 → Int32 → MC → MI → MJ → MR → Prop) (K : AK) (x8 : Int64) (x10 : Int64) (x12 : Int64) (x14 : Int64) (s0 : Int32) (C : MC) (I : MI) (J : MJ) (R : MR) : Prop :=
      Q17 x8 x10 x12 x14 s0 C I J R
def PX0_isEnough_17 (Q17 : Int64 → Int64 → Int64 → Int64 → Int32 → MC → MI → MJ → MR → Prop) (K : AK) (x8 : Int64) (x10 : Int64) (x12 : Int64) (x14 : Int64) (x16 : Int32) (C : MC) (I : MI) (J : MJ) (R : MR) : Prop :=
      ((x10 = (0 : Int64) →
      PX0_isEnough_90 Q17 K x8 x10 x12 x14 x16 C I J R) ∧
      (¬ x10 = (0 : Int64) →
      ((x14 = (0 : Int64) →
      PX0_isEnough_90 Q17 K x8 x10 x12 x14 x16 C I J R) ∧
      (¬ x14 = (0 : Int64) →
      ¬ x10 = 0 ∧
      ¬ x14 = 0 ∧
      ((¬ (x8 / x10) = (x12 / x14) →
      PX0_isEnough_90 Q17 K x8 x10 x12 x14 x16 C I J R) ∧
      ((x8 / x10) = (x12 / x14) →
      ((¬ x16 = 0 →
      PX0_isEnough_85 Q17 K x10 (x8 - x8 / x10 * x10) x14 (x12 - x12 / x14 * x14) (0 : Int32) C I J R) ∧
      (x16 = 0 →
      PX0_isEnough_85 Q17 K x10 (x8 - x8 / x10 * x10) x14 (x12 - x12 / x14 * x14) (1 : Int32) C I J R))))))))
def PX0_isEnough_0 (Q17 : Int64 → Int64 → Int64 → Int64 → Int32 → MC → MI → MJ → MR → Prop) (K : AK) (x0 : Int64) (x2 : Int64) (x4 : Int64) (x6 : Int64) (C : MC) (I : MI) (J : MJ) (R : MR) : Prop :=
      Q17 x0 x2 x4 x6 (0 : Int32) C I J R
theorem wX0_isEnough {l : Launch} 
    (Q17 : Nat → AK → Int64 → Int64 → Int64 → Int64 → Int32 → MC → MI → MJ → MR → Prop) {F : SPF}
    (h0 : ∀ (As : List AV) (C : MC) (I : MI) (J : MJ) (R : MR) (K : AK), F As C I J R K → ∃ (x0 : Int64) (x2 : Int64) (x4 : Int64) (x6 : Int64), As = [aJ x0, aJ x2, aJ x4, aJ x6] ∧ PX0_isEnough_0 (fun (x8 : Int64) (x10 : Int64) (x12 : Int64) (x14 : Int64) (x16 : Int32) (C : MC) (I : MI) (J : MJ) (R : MR) => ∃ n, Q17 n K x8 x10 x12 x14 x16 C I J R) K x0 x2 x4 x6 C I J R)
    (h17 : ∀ (n : Nat) (K : AK) (x8 : Int64) (x10 : Int64) (x12 : Int64) (x14 : Int64) (x16 : Int32) (C : MC) (I : MI) (J : MJ) (R : MR), Q17 n K x8 x10 x12 x14 x16 C I J R → PX0_isEnough_17 (fun (x8 : Int64) (x10 : Int64) (x12 : Int64) (x14 : Int64) (x16 : Int32) (C : MC) (I : MI) (J : MJ) (R : MR) => ∃ m, m < n ∧ Q17 m K x8 x10 x12 x14 x16 C I J R) K x8 x10 x12 x14 x16 C I J R) : SpX0_isEnough l F := by
  refine Spec.of (by rfl) ?_
  intro Γ C I J R As Gd gl gr _ _ gb hF
  subst gl
  have G : Gb Γ yX0_isEnough cX0_isEnough 21 (some .boolean) [] rmX0_isEnough bdX0_isEnough := ⟨Gd, gr, gb⟩
  have key : ∀ n : Nat, (∀ (x8 : Int64) (x10 : Int64) (x12 : Int64) (x14 : Int64) (x16 : Int32) (C : MC) (I : MI) (J : MJ) (R : MR), Q17 n (gK Γ) x8 x10 x12 x14 x16 C I J R → AW Γ 0 0 C I J R 17 [(8, aJ x8), (10, aJ x10), (12, aJ x12), (14, aJ x14), (16, aI x16)] []) := by
    intro n
    induction n using Nat.strongRecOn with
    | ind n ih =>
    have w17 : ∀ (x8 : Int64) (x10 : Int64) (x12 : Int64) (x14 : Int64) (x16 : Int32) (C : MC) (I : MI) (J : MJ) (R : MR), (∃ m, m < n ∧ Q17 m (gK Γ) x8 x10 x12 x14 x16 C I J R) → AW Γ 0 0 C I J R 17 [(8, aJ x8), (10, aJ x10), (12, aJ x12), (14, aJ x14), (16, aI x16)] [] := fun x8 x10 x12 x14 x16 C I J R ⟨m, hm, hq⟩ => (ih m hm) x8 x10 x12 x14 x16 C I J R hq
    have w118 : ∀ (x10 : Int64) (x14 : Int64) (x16 : Int32) (C : MC) (I : MI) (J : MJ) (R : MR), PX0_isEnough_118 (fun (x8 : Int64) (x10 : Int64) (x12 : Int64) (x14 : Int64) (x16 : Int32) (C : MC) (I : MI) (J : MJ) (R : MR) => ∃ m, m < n ∧ Q17 m (gK Γ) x8 x10 x12 x14 x16 C I J R) (gK Γ) x10 x14 x16 C I J R → AW Γ 0 0 C I J R 118 [(10, aJ x10), (14, aJ x14), (16, aI x16)] [] := fun x10 x14 x16 C I J R h => bX0_isEnough_118 G h
    have w104 : ∀ (x10 : Int64) (x14 : Int64) (x16 : Int32) (C : MC) (I : MI) (J : MJ) (R : MR), PX0_isEnough_104 (fun (x8 : Int64) (x10 : Int64) (x12 : Int64) (x14 : Int64) (x16 : Int32) (C : MC) (I : MI) (J : MJ) (R : MR) => ∃ m, m < n ∧ Q17 m (gK Γ) x8 x10 x12 x14 x16 C I J R) (gK Γ) x10 x14 x16 C I J R → AW Γ 0 0 C I J R 104 [(10, aJ x10), (14, aJ x14), (16, aI x16)] [] := fun x10 x14 x16 C I J R h => bX0_isEnough_104 G w118 h
    have w90 : ∀ (x8 : Int64) (x10 : Int64) (x12 : Int64) (x14 : Int64) (x16 : Int32) (C : MC) (I : MI) (J : MJ) (R : MR), PX0_isEnough_90 (fun (x8 : Int64) (x10 : Int64) (x12 : Int64) (x14 : Int64) (x16 : Int32) (C : MC) (I : MI) (J : MJ) (R : MR) => ∃ m, m < n ∧ Q17 m (gK Γ) x8 x10 x12 x14 x16 C I J R) (gK Γ) x8 x10 x12 x14 x16 C I J R → AW Γ 0 0 C I J R 90 [(8, aJ x8), (10, aJ x10), (12, aJ x12), (14, aJ x14), (16, aI x16)] [] := fun x8 x10 x12 x14 x16 C I J R h => bX0_isEnough_90 G w104 h
    have w85 : ∀ (x8 : Int64) (x10 : Int64) (x12 : Int64) (x14 : Int64) (s0 : Int32) (C : MC) (I : MI) (J : MJ) (R : MR), PX0_isEnough_85 (fun (x8 : Int64) (x10 : Int64) (x12 : Int64) (x14 : Int64) (x16 : Int32) (C : MC) (I : MI) (J : MJ) (R : MR) => ∃ m, m < n ∧ Q17 m (gK Γ) x8 x10 x12 x14 x16 C I J R) (gK Γ) x8 x10 x12 x14 s0 C I J R → AW Γ 0 0 C I J R 85 [(8, aJ x8), (10, aJ x10), (12, aJ x12), (14, aJ x14)] [aI s0] := fun x8 x10 x12 x14 s0 C I J R h => bX0_isEnough_85 G w17 h
    exact fun x8 x10 x12 x14 x16 C I J R h => bX0_isEnough_17 G w85 w90 (h17 n (gK Γ) x8 x10 x12 x14 x16 C I J R h)
  have w17 : ∀ (x8 : Int64) (x10 : Int64) (x12 : Int64) (x14 : Int64) (x16 : Int32) (C : MC) (I : MI) (J : MJ) (R : MR), (∃ n, Q17 n (gK Γ) x8 x10 x12 x14 x16 C I J R) → AW Γ 0 0 C I J R 17 [(8, aJ x8), (10, aJ x10), (12, aJ x12), (14, aJ x14), (16, aI x16)] [] := fun x8 x10 x12 x14 x16 C I J R ⟨m, hq⟩ => (key m) x8 x10 x12 x14 x16 C I J R hq
  have w118 : ∀ (x10 : Int64) (x14 : Int64) (x16 : Int32) (C : MC) (I : MI) (J : MJ) (R : MR), PX0_isEnough_118 (fun (x8 : Int64) (x10 : Int64) (x12 : Int64) (x14 : Int64) (x16 : Int32) (C : MC) (I : MI) (J : MJ) (R : MR) => ∃ n, Q17 n (gK Γ) x8 x10 x12 x14 x16 C I J R) (gK Γ) x10 x14 x16 C I J R → AW Γ 0 0 C I J R 118 [(10, aJ x10), (14, aJ x14), (16, aI x16)] [] := fun x10 x14 x16 C I J R h => bX0_isEnough_118 G h
  have w104 : ∀ (x10 : Int64) (x14 : Int64) (x16 : Int32) (C : MC) (I : MI) (J : MJ) (R : MR), PX0_isEnough_104 (fun (x8 : Int64) (x10 : Int64) (x12 : Int64) (x14 : Int64) (x16 : Int32) (C : MC) (I : MI) (J : MJ) (R : MR) => ∃ n, Q17 n (gK Γ) x8 x10 x12 x14 x16 C I J R) (gK Γ) x10 x14 x16 C I J R → AW Γ 0 0 C I J R 104 [(10, aJ x10), (14, aJ x14), (16, aI x16)] [] := fun x10 x14 x16 C I J R h => bX0_isEnough_104 G w118 h
  have w90 : ∀ (x8 : Int64) (x10 : Int64) (x12 : Int64) (x14 : Int64) (x16 : Int32) (C : MC) (I : MI) (J : MJ) (R : MR), PX0_isEnough_90 (fun (x8 : Int64) (x10 : Int64) (x12 : Int64) (x14 : Int64) (x16 : Int32) (C : MC) (I : MI) (J : MJ) (R : MR) => ∃ n, Q17 n (gK Γ) x8 x10 x12 x14 x16 C I J R) (gK Γ) x8 x10 x12 x14 x16 C I J R → AW Γ 0 0 C I J R 90 [(8, aJ x8), (10, aJ x10), (12, aJ x12), (14, aJ x14), (16, aI x16)] [] := fun x8 x10 x12 x14 x16 C I J R h => bX0_isEnough_90 G w104 h
  have w85 : ∀ (x8 : Int64) (x10 : Int64) (x12 : Int64) (x14 : Int64) (s0 : Int32) (C : MC) (I : MI) (J : MJ) (R : MR), PX0_isEnough_85 (fun (x8 : Int64) (x10 : Int64) (x12 : Int64) (x14 : Int64) (x16 : Int32) (C : MC) (I : MI) (J : MJ) (R : MR) => ∃ n, Q17 n (gK Γ) x8 x10 x12 x14 x16 C I J R) (gK Γ) x8 x10 x12 x14 s0 C I J R → AW Γ 0 0 C I J R 85 [(8, aJ x8), (10, aJ x10), (12, aJ x12), (14, aJ x14)] [aI s0] := fun x8 x10 x12 x14 s0 C I J R h => bX0_isEnough_85 G w17 h
  obtain ⟨x0, x2, x4, x6, rfl, h⟩ := h0 As C I J R (gK Γ) hF
  exact ⟨Nat.le_of_ble_eq_true rfl, bX0_isEnough_0 G w17 h⟩
def PX0_bound_66 (F_X0_thing : SPF) (F_X0_want : SPF) (F_Vtable : SPF) (F_Vbounds : SPF) (F_X0_tells : SPF) (F_X0_none : SPF) (F_X0_great : SPF) (K : AK) (x0 : Nat) (s0 : Nat) (C : MC) (I : MI) (J : MJ) (R : MR) : Prop :=
      (C x0).1 = 1 ∧
      F_X0_great [aR (some x0)] C I J R (fun o C2 I3 J4 R5 =>
      ∃ r6 : Int32, o = .inl (some (aI r6)) ∧
      K (.inl (some (aI r6))) C2 I3 J4 R5)
def PX0_bound_59 (F_X0_thing : SPF) (F_X0_want : SPF) (F_Vtable : SPF) (F_Vbounds : SPF) (F_X0_tells : SPF) (F_X0_none : SPF) (F_X0_great : SPF) (K : AK) (x0 : Nat) (s0 : Nat) (C : MC) (I : MI) (J : MJ) (R : MR) : Prop :=
      (C x0).1 = 1 ∧
      F_X0_none [aR (some x0), aR (some s0)] C I J R (fun o C2 I3 J4 R5 =>
      ∃ r6 : Int32, o = .inl (some (aI r6)) ∧
      K (.inl (some (aI r6))) C2 I3 J4 R5)
def PX0_bound_27 (F_X0_thing : SPF) (F_X0_want : SPF) (F_Vtable : SPF) (F_Vbounds : SPF) (F_X0_tells : SPF) (F_X0_none : SPF) (F_X0_great : SPF) (K : AK) (x0 : Nat) (x2 : Int32) (x3 : Nat) (s0 : Nat) (s1 : Int32) (C : MC) (I : MI) (J : MJ) (R : MR) : Prop :=
      (C s0).1 = 1 ∧
      F_X0_want [aR (some s0), aI s1, aI (1 : Int32)] C I J R (fun o C2 I3 J4 R5 =>
      (o = .inl none ∧
      kTh (C2 x3).1 ∧
      F_Vtable [aR (some x3)] C2 I3 J4 R5 (fun o C8 I9 J10 R11 =>
      (∃ r12 : Nat, o = .inl (some (aR (some r12))) ∧
      (C8 x0).1 = 1 ∧
      kTh (C8 x3).1 ∧
      F_Vbounds [aR (some x3), aR (R11 x0 1)] C8 I9 J10 R11 (fun o C15 I16 J17 R18 =>
      (∃ r19 : Int64, o = .inl (some (aJ r19)) ∧
      (C15 x0).1 = 1 ∧
      ∃ q21 : Nat, R18 x0 1 = some q21 ∧
      (C15 q21).1 = 21 ∧
      vp_in x2 (C15 q21).2 ∧
      F_X0_tells [aR (some x0), aJ (J17 q21 x2.toNatClampNeg), aJ r19] C15 I16 J17 R18 (fun o C24 I25 J26 R27 =>
      ∃ r28 : Int32, o = .inl (some (aI r28)) ∧
      K (.inl (some (aI r28))) C24 I25 J26 R27)) ∨
      (∃ q29 : Nat, o = .inr q29 ∧
      ((C15 q29).1 = 11 ∧
      PX0_bound_66 F_X0_thing F_X0_want F_Vtable F_Vbounds F_X0_tells F_X0_none F_X0_great K x0 q29 C15 I16 J17 R18)))) ∨
      (∃ q31 : Nat, o = .inr q31 ∧
      ((C8 q31).1 = 11 ∧
      PX0_bound_66 F_X0_thing F_X0_want F_Vtable F_Vbounds F_X0_tells F_X0_none F_X0_great K x0 q31 C8 I9 J10 R11)))) ∨
      (∃ q33 : Nat, o = .inr q33 ∧
      ((C2 q33).1 = 2 ∧
      PX0_bound_59 F_X0_thing F_X0_want F_Vtable F_Vbounds F_X0_tells F_X0_none F_X0_great K x0 q33 C2 I3 J4 R5)))
def PX0_bound_26 (F_X0_thing : SPF) (F_X0_want : SPF) (F_Vtable : SPF) (F_Vbounds : SPF) (F_X0_tells : SPF) (F_X0_none : SPF) (F_X0_great : SPF) (K : AK) (x0 : Nat) (x2 : Int32) (x3 : Nat) (s0 : Nat) (C : MC) (I : MI) (J : MJ) (R : MR) : Prop :=
      PX0_bound_27 F_X0_thing F_X0_want F_Vtable F_Vbounds F_X0_tells F_X0_none F_X0_great K x0 x2 x3 s0 (0 : Int32) C I J R
def PX0_bound_0 (F_X0_thing : SPF) (F_X0_want : SPF) (F_Vtable : SPF) (F_Vbounds : SPF) (F_X0_tells : SPF) (F_X0_none : SPF) (F_X0_great : SPF) (K : AK) (x0 : Nat) (x1 : Int32) (x2 : Int32) (C : MC) (I : MI) (J : MJ) (R : MR) : Prop :=
      (C x0).1 = 1 ∧
      ∀ I2 : MI, I2 = va_up I x0 (va_up (I x0) 5 (0 : Int32)) →
      F_X0_thing [aR (some x0), aI x1] C I2 J R (fun o C3 I4 J5 R6 =>
      (∃ r7 : Nat, o = .inl (some (aR (some r7))) ∧
      ((x2 < 0 →
      PX0_bound_26 F_X0_thing F_X0_want F_Vtable F_Vbounds F_X0_tells F_X0_none F_X0_great K x0 x2 r7 x0 C3 I4 J5 R6) ∧
      (¬ x2 < 0 →
      (((120 : Int32) < x2 →
      PX0_bound_26 F_X0_thing F_X0_want F_Vtable F_Vbounds F_X0_tells F_X0_none F_X0_great K x0 x2 r7 x0 C3 I4 J5 R6) ∧
      (¬ (120 : Int32) < x2 →
      PX0_bound_27 F_X0_thing F_X0_want F_Vtable F_Vbounds F_X0_tells F_X0_none F_X0_great K x0 x2 r7 x0 (1 : Int32) C3 I4 J5 R6))))) ∨
      (∃ q10 : Nat, o = .inr q10 ∧
      ((C3 q10).1 = 2 ∧
      PX0_bound_59 F_X0_thing F_X0_want F_Vtable F_Vbounds F_X0_tells F_X0_none F_X0_great K x0 q10 C3 I4 J5 R6)))
theorem wX0_bound {l : Launch}  {F_X0_thing : SPF} (S_X0_thing : SpX0_thing l F_X0_thing) {F_X0_want : SPF} (S_X0_want : SpX0_want l F_X0_want) {F_Vtable : SPF} (S_Vtable : SpVtable l 20 F_Vtable) {F_Vbounds : SPF} (S_Vbounds : SpVbounds l 20 F_Vbounds) {F_X0_tells : SPF} (S_X0_tells : SpX0_tells l F_X0_tells) {F_X0_none : SPF} (S_X0_none : SpX0_none l F_X0_none) {F_X0_great : SPF} (S_X0_great : SpX0_great l F_X0_great) {F : SPF}
    (h0 : ∀ (As : List AV) (C : MC) (I : MI) (J : MJ) (R : MR) (K : AK), F As C I J R K → ∃ (x0 : Nat) (x1 : Int32) (x2 : Int32), As = [aR (some x0), aI x1, aI x2] ∧ PX0_bound_0 F_X0_thing F_X0_want F_Vtable F_Vbounds F_X0_tells F_X0_none F_X0_great K x0 x1 x2 C I J R) : SpX0_bound l F := by
  refine Spec.ofH (by rfl) ?_
  intro Γ C I J R As Gd gl gr _ _ gb hF
  subst gl
  have G : Gb Γ yX0_bound cX0_bound 6 (some .int) [(5, 58, 59, 53), (5, 58, 66, 13)] rmX0_bound bdX0_bound := ⟨Gd, gr, gb⟩
  have w66 : ∀ (x0 : Nat) (s0 : Nat) (C : MC) (I : MI) (J : MJ) (R : MR), PX0_bound_66 F_X0_thing F_X0_want F_Vtable F_Vbounds F_X0_tells F_X0_none F_X0_great (gK Γ) x0 s0 C I J R → AW Γ 1 6 C I J R 66 [(0, aR (some x0))] [aR (some s0)] := fun x0 s0 C I J R h => bX0_bound_66 G S_X0_great h
  have w59 : ∀ (x0 : Nat) (s0 : Nat) (C : MC) (I : MI) (J : MJ) (R : MR), PX0_bound_59 F_X0_thing F_X0_want F_Vtable F_Vbounds F_X0_tells F_X0_none F_X0_great (gK Γ) x0 s0 C I J R → AW Γ 0 0 C I J R 59 [(0, aR (some x0))] [aR (some s0)] := fun x0 s0 C I J R h => bX0_bound_59 G S_X0_none h
  have w27 : ∀ (x0 : Nat) (x2 : Int32) (x3 : Nat) (s0 : Nat) (s1 : Int32) (C : MC) (I : MI) (J : MJ) (R : MR), PX0_bound_27 F_X0_thing F_X0_want F_Vtable F_Vbounds F_X0_tells F_X0_none F_X0_great (gK Γ) x0 x2 x3 s0 s1 C I J R → AW Γ 0 0 C I J R 27 [(0, aR (some x0)), (2, aI x2), (3, aR (some x3))] [aI s1, aR (some s0)] := fun x0 x2 x3 s0 s1 C I J R h => bX0_bound_27 G S_X0_want S_Vtable S_Vbounds S_X0_tells w59 w66 h
  have w26 : ∀ (x0 : Nat) (x2 : Int32) (x3 : Nat) (s0 : Nat) (C : MC) (I : MI) (J : MJ) (R : MR), PX0_bound_26 F_X0_thing F_X0_want F_Vtable F_Vbounds F_X0_tells F_X0_none F_X0_great (gK Γ) x0 x2 x3 s0 C I J R → AW Γ 0 0 C I J R 26 [(0, aR (some x0)), (2, aI x2), (3, aR (some x3))] [aR (some s0)] := fun x0 x2 x3 s0 C I J R h => bX0_bound_26 G w27 h
  obtain ⟨x0, x1, x2, rfl, h⟩ := h0 As C I J R (gK Γ) hF
  exact ⟨Nat.le_of_ble_eq_true rfl, bX0_bound_0 G S_X0_thing w26 w27 w59 h⟩
def PX0_asks_65 (F_X0_thing : SPF) (F_X0_leafOf : SPF) (F_X0_isIn : SPF) (F_X0_want : SPF) (F_Vasks : SPF) (F_X0_none : SPF) (Q36 : Nat → Int32 → Option Nat → MC → MI → MJ → MR → Prop) (K : AK) (x0 : Nat) (s0 : Nat) (C : MC) (I : MI) (J : MJ) (R : MR) : Prop :=
      (C x0).1 = 1 ∧
      F_X0_none [aR (some x0), aR (some s0)] C I J R (fun o C2 I3 J4 R5 =>
      ∃ r6 : Int32, o = .inl (some (aI r6)) ∧
      K (.inl (some (aI r6))) C2 I3 J4 R5)
def PX0_asks_36 (F_X0_thing : SPF) (F_X0_leafOf : SPF) (F_X0_isIn : SPF) (F_X0_want : SPF) (F_Vasks : SPF) (F_X0_none : SPF) (Q36 : Nat → Int32 → Option Nat → MC → MI → MJ → MR → Prop) (K : AK) (x3 : Nat) (x5 : Int32) (x6 : Option Nat) (C : MC) (I : MI) (J : MJ) (R : MR) : Prop :=
      ((x6 = some x3 →
      K (.inl (some (aI x5))) C I J R) ∧
      (¬ x6 = some x3 →
      ∃ q2 : Nat, x6 = some q2 ∧
      kTh (C q2).1 ∧
      ∃ q4 : Nat, R q2 3 = some q4 ∧
      kTh (C q4).1 ∧
      F_Vasks [aR (some q4)] C I J R (fun o C6 I7 J8 R9 =>
      ∃ r10 : Int32, o = .inl (some (aI r10)) ∧
      Q36 x3 (x5 * r10) (R q2 3) C6 I7 J8 R9)))
def PX0_asks_0 (F_X0_thing : SPF) (F_X0_leafOf : SPF) (F_X0_isIn : SPF) (F_X0_want : SPF) (F_Vasks : SPF) (F_X0_none : SPF) (Q36 : Nat → Int32 → Option Nat → MC → MI → MJ → MR → Prop) (K : AK) (x0 : Nat) (x1 : Int32) (x2 : Int32) (C : MC) (I : MI) (J : MJ) (R : MR) : Prop :=
      (C x0).1 = 1 ∧
      ∀ I2 : MI, I2 = va_up I x0 (va_up (I x0) 5 (0 : Int32)) →
      F_X0_thing [aR (some x0), aI x1] C I2 J R (fun o C3 I4 J5 R6 =>
      (∃ r7 : Nat, o = .inl (some (aR (some r7))) ∧
      (C3 x0).1 = 1 ∧
      F_X0_leafOf [aR (some x0), aI x2] C3 I4 J5 R6 (fun o C9 I10 J11 R12 =>
      (∃ r13 : Nat, o = .inl (some (aR (some r13))) ∧
      F_X0_isIn [aR (some r13), aR (some r7)] C9 I10 J11 R12 (fun o C14 I15 J16 R17 =>
      ∃ r18 : Int32, o = .inl (some (aI r18)) ∧
      (C14 x0).1 = 1 ∧
      F_X0_want [aR (some x0), aI r18, aI (1 : Int32)] C14 I15 J16 R17 (fun o C20 I21 J22 R23 =>
      (o = .inl none ∧
      Q36 r7 (1 : Int32) (some r13) C20 I21 J22 R23) ∨
      (∃ q25 : Nat, o = .inr q25 ∧
      ((C20 q25).1 = 2 ∧
      PX0_asks_65 F_X0_thing F_X0_leafOf F_X0_isIn F_X0_want F_Vasks F_X0_none Q36 K x0 q25 C20 I21 J22 R23))))) ∨
      (∃ q27 : Nat, o = .inr q27 ∧
      ((C9 q27).1 = 2 ∧
      PX0_asks_65 F_X0_thing F_X0_leafOf F_X0_isIn F_X0_want F_Vasks F_X0_none Q36 K x0 q27 C9 I10 J11 R12)))) ∨
      (∃ q29 : Nat, o = .inr q29 ∧
      ((C3 q29).1 = 2 ∧
      PX0_asks_65 F_X0_thing F_X0_leafOf F_X0_isIn F_X0_want F_Vasks F_X0_none Q36 K x0 q29 C3 I4 J5 R6)))
theorem wX0_asks {l : Launch}  {F_X0_thing : SPF} (S_X0_thing : SpX0_thing l F_X0_thing) {F_X0_leafOf : SPF} (S_X0_leafOf : SpX0_leafOf l F_X0_leafOf) {F_X0_isIn : SPF} (S_X0_isIn : SpX0_isIn l F_X0_isIn) {F_X0_want : SPF} (S_X0_want : SpX0_want l F_X0_want) {F_Vasks : SPF} (S_Vasks : SpVasks l F_Vasks) {F_X0_none : SPF} (S_X0_none : SpX0_none l F_X0_none)
    (Q36 : Nat → AK → Nat → Int32 → Option Nat → MC → MI → MJ → MR → Prop) {F : SPF}
    (h0 : ∀ (As : List AV) (C : MC) (I : MI) (J : MJ) (R : MR) (K : AK), F As C I J R K → ∃ (x0 : Nat) (x1 : Int32) (x2 : Int32), As = [aR (some x0), aI x1, aI x2] ∧ PX0_asks_0 F_X0_thing F_X0_leafOf F_X0_isIn F_X0_want F_Vasks F_X0_none (fun (x3 : Nat) (x5 : Int32) (x6 : Option Nat) (C : MC) (I : MI) (J : MJ) (R : MR) => ∃ n, Q36 n K x3 x5 x6 C I J R) K x0 x1 x2 C I J R)
    (h36 : ∀ (n : Nat) (K : AK) (x3 : Nat) (x5 : Int32) (x6 : Option Nat) (C : MC) (I : MI) (J : MJ) (R : MR), Q36 n K x3 x5 x6 C I J R → PX0_asks_36 F_X0_thing F_X0_leafOf F_X0_isIn F_X0_want F_Vasks F_X0_none (fun (x3 : Nat) (x5 : Int32) (x6 : Option Nat) (C : MC) (I : MI) (J : MJ) (R : MR) => ∃ m, m < n ∧ Q36 m K x3 x5 x6 C I J R) K x3 x5 x6 C I J R) : SpX0_asks l F := by
  refine Spec.ofH (by rfl) ?_
  intro Γ C I J R As Gd gl gr _ _ gb hF
  subst gl
  have G : Gb Γ yX0_asks cX0_asks 7 (some .int) [(5, 64, 65, 53)] rmX0_asks bdX0_asks := ⟨Gd, gr, gb⟩
  have key : ∀ n : Nat, (∀ (x3 : Nat) (x5 : Int32) (x6 : Option Nat) (C : MC) (I : MI) (J : MJ) (R : MR), Q36 n (gK Γ) x3 x5 x6 C I J R → AW Γ 0 0 C I J R 36 [(3, aR (some x3)), (5, aI x5), (6, aR x6)] []) := by
    intro n
    induction n using Nat.strongRecOn with
    | ind n ih =>
    have w36 : ∀ (x3 : Nat) (x5 : Int32) (x6 : Option Nat) (C : MC) (I : MI) (J : MJ) (R : MR), (∃ m, m < n ∧ Q36 m (gK Γ) x3 x5 x6 C I J R) → AW Γ 0 0 C I J R 36 [(3, aR (some x3)), (5, aI x5), (6, aR x6)] [] := fun x3 x5 x6 C I J R ⟨m, hm, hq⟩ => (ih m hm) x3 x5 x6 C I J R hq
    have w65 : ∀ (x0 : Nat) (s0 : Nat) (C : MC) (I : MI) (J : MJ) (R : MR), PX0_asks_65 F_X0_thing F_X0_leafOf F_X0_isIn F_X0_want F_Vasks F_X0_none (fun (x3 : Nat) (x5 : Int32) (x6 : Option Nat) (C : MC) (I : MI) (J : MJ) (R : MR) => ∃ m, m < n ∧ Q36 m (gK Γ) x3 x5 x6 C I J R) (gK Γ) x0 s0 C I J R → AW Γ 0 0 C I J R 65 [(0, aR (some x0))] [aR (some s0)] := fun x0 s0 C I J R h => bX0_asks_65 G S_X0_none h
    exact fun x3 x5 x6 C I J R h => bX0_asks_36 G S_Vasks w36 (h36 n (gK Γ) x3 x5 x6 C I J R h)
  have w36 : ∀ (x3 : Nat) (x5 : Int32) (x6 : Option Nat) (C : MC) (I : MI) (J : MJ) (R : MR), (∃ n, Q36 n (gK Γ) x3 x5 x6 C I J R) → AW Γ 0 0 C I J R 36 [(3, aR (some x3)), (5, aI x5), (6, aR x6)] [] := fun x3 x5 x6 C I J R ⟨m, hq⟩ => (key m) x3 x5 x6 C I J R hq
  have w65 : ∀ (x0 : Nat) (s0 : Nat) (C : MC) (I : MI) (J : MJ) (R : MR), PX0_asks_65 F_X0_thing F_X0_leafOf F_X0_isIn F_X0_want F_Vasks F_X0_none (fun (x3 : Nat) (x5 : Int32) (x6 : Option Nat) (C : MC) (I : MI) (J : MJ) (R : MR) => ∃ n, Q36 n (gK Γ) x3 x5 x6 C I J R) (gK Γ) x0 s0 C I J R → AW Γ 0 0 C I J R 65 [(0, aR (some x0))] [aR (some s0)] := fun x0 s0 C I J R h => bX0_asks_65 G S_X0_none h
  obtain ⟨x0, x1, x2, rfl, h⟩ := h0 As C I J R (gK Γ) hF
  exact ⟨Nat.le_of_ble_eq_true rfl, bX0_asks_0 G S_X0_thing S_X0_leafOf S_X0_isIn S_X0_want w36 w65 h⟩
def PX0_leafOf_30 (F_X0_want : SPF) (K : AK) (x0 : Nat) (x1 : Int32) (s0 : Nat) (s1 : Int32) (C : MC) (I : MI) (J : MJ) (R : MR) : Prop :=
      (C s0).1 = 1 ∧
      F_X0_want [aR (some s0), aI s1, aI (1 : Int32)] C I J R (fun o C2 I3 J4 R5 =>
      (o = .inl none ∧
      (C2 x0).1 = 1 ∧
      ∃ q8 : Nat, R5 x0 2 = some q8 ∧
      (25 ≤ (C2 q8).1 ∧ (C2 q8).1 < 30) ∧
      vp_in x1 (C2 q8).2 ∧
      ∃ q11 : Nat, R5 q8 x1.toNatClampNeg = some q11 ∧
      (C2 q11).1 = 5 ∧
      K (.inl (some (aR (some q11)))) C2 I3 J4 R5) ∨
      (∃ q13 : Nat, o = .inr q13 ∧
      ((C2 q13).1 = 2 ∧
      K (.inr q13) C2 I3 J4 R5)))
def PX0_leafOf_29 (F_X0_want : SPF) (K : AK) (x0 : Nat) (x1 : Int32) (s0 : Nat) (C : MC) (I : MI) (J : MJ) (R : MR) : Prop :=
      PX0_leafOf_30 F_X0_want K x0 x1 s0 (0 : Int32) C I J R
def PX0_leafOf_0 (F_X0_want : SPF) (K : AK) (x0 : Nat) (x1 : Int32) (C : MC) (I : MI) (J : MJ) (R : MR) : Prop :=
      ((x1 < 0 →
      PX0_leafOf_29 F_X0_want K x0 x1 x0 C I J R) ∧
      (¬ x1 < 0 →
      (C x0).1 = 1 ∧
      (((I x0 3) ≤ x1 →
      PX0_leafOf_29 F_X0_want K x0 x1 x0 C I J R) ∧
      (¬ (I x0 3) ≤ x1 →
      ∃ q4 : Nat, R x0 2 = some q4 ∧
      (25 ≤ (C q4).1 ∧ (C q4).1 < 30) ∧
      vp_in x1 (C q4).2 ∧
      ∃ q7 : Nat, R q4 x1.toNatClampNeg = some q7 ∧
      kTh (C q7).1 ∧
      (((C q7).1 = 5 →
      PX0_leafOf_30 F_X0_want K x0 x1 x0 (1 : Int32) C I J R) ∧
      (¬ (C q7).1 = 5 →
      PX0_leafOf_29 F_X0_want K x0 x1 x0 C I J R))))))
theorem wX0_leafOf {l : Launch}  {F_X0_want : SPF} (S_X0_want : SpX0_want l F_X0_want) {F : SPF}
    (h0 : ∀ (As : List AV) (C : MC) (I : MI) (J : MJ) (R : MR) (K : AK), F As C I J R K → ∃ (x0 : Nat) (x1 : Int32), As = [aR (some x0), aI x1] ∧ PX0_leafOf_0 F_X0_want K x0 x1 C I J R) : SpX0_leafOf l F := by
  refine Spec.of (by rfl) ?_
  intro Γ C I J R As Gd gl gr _ _ gb hF
  subst gl
  have G : Gb Γ yX0_leafOf cX0_leafOf 2 (some (.object "TickShare$Leaf")) [] rmX0_leafOf bdX0_leafOf := ⟨Gd, gr, gb⟩
  have w30 : ∀ (x0 : Nat) (x1 : Int32) (s0 : Nat) (s1 : Int32) (C : MC) (I : MI) (J : MJ) (R : MR), PX0_leafOf_30 F_X0_want (gK Γ) x0 x1 s0 s1 C I J R → AW Γ 0 0 C I J R 30 [(0, aR (some x0)), (1, aI x1)] [aI s1, aR (some s0)] := fun x0 x1 s0 s1 C I J R h => bX0_leafOf_30 G S_X0_want h
  have w29 : ∀ (x0 : Nat) (x1 : Int32) (s0 : Nat) (C : MC) (I : MI) (J : MJ) (R : MR), PX0_leafOf_29 F_X0_want (gK Γ) x0 x1 s0 C I J R → AW Γ 0 0 C I J R 29 [(0, aR (some x0)), (1, aI x1)] [aR (some s0)] := fun x0 x1 s0 C I J R h => bX0_leafOf_29 G w30 h
  obtain ⟨x0, x1, rfl, h⟩ := h0 As C I J R (gK Γ) hF
  exact ⟨Nat.le_of_ble_eq_true rfl, bX0_leafOf_0 G w29 w30 h⟩
def PX0_isIn_19 (Q2 : Nat → Option Nat → MC → MI → MJ → MR → Prop) (K : AK) (x1 : Nat) (x2 : Option Nat) (C : MC) (I : MI) (J : MJ) (R : MR) : Prop :=
      ((¬ x2 = some x1 →
      K (.inl (some (aI (0 : Int32)))) C I J R) ∧
      (x2 = some x1 →
      K (.inl (some (aI (1 : Int32)))) C I J R))
def PX0_isIn_2 (Q2 : Nat → Option Nat → MC → MI → MJ → MR → Prop) (K : AK) (x1 : Nat) (x2 : Option Nat) (C : MC) (I : MI) (J : MJ) (R : MR) : Prop :=
      ((x2 = none →
      PX0_isIn_19 Q2 K x1 x2 C I J R) ∧
      (¬ x2 = none →
      ((x2 = some x1 →
      PX0_isIn_19 Q2 K x1 x2 C I J R) ∧
      (¬ x2 = some x1 →
      ∃ q3 : Nat, x2 = some q3 ∧
      kTh (C q3).1 ∧
      Q2 x1 (R q3 3) C I J R))))
def PX0_isIn_0 (Q2 : Nat → Option Nat → MC → MI → MJ → MR → Prop) (K : AK) (x0 : Nat) (x1 : Nat) (C : MC) (I : MI) (J : MJ) (R : MR) : Prop :=
      Q2 x1 (some x0) C I J R
theorem wX0_isIn {l : Launch} 
    (Q2 : Nat → AK → Nat → Option Nat → MC → MI → MJ → MR → Prop) {F : SPF}
    (h0 : ∀ (As : List AV) (C : MC) (I : MI) (J : MJ) (R : MR) (K : AK), F As C I J R K → ∃ (x0 : Nat) (x1 : Nat), As = [aR (some x0), aR (some x1)] ∧ PX0_isIn_0 (fun (x1 : Nat) (x2 : Option Nat) (C : MC) (I : MI) (J : MJ) (R : MR) => ∃ n, Q2 n K x1 x2 C I J R) K x0 x1 C I J R)
    (h2 : ∀ (n : Nat) (K : AK) (x1 : Nat) (x2 : Option Nat) (C : MC) (I : MI) (J : MJ) (R : MR), Q2 n K x1 x2 C I J R → PX0_isIn_2 (fun (x1 : Nat) (x2 : Option Nat) (C : MC) (I : MI) (J : MJ) (R : MR) => ∃ m, m < n ∧ Q2 m K x1 x2 C I J R) K x1 x2 C I J R) : SpX0_isIn l F := by
  refine Spec.of (by rfl) ?_
  intro Γ C I J R As Gd gl gr _ _ gb hF
  subst gl
  have G : Gb Γ yX0_isIn cX0_isIn 3 (some .boolean) [] rmX0_isIn bdX0_isIn := ⟨Gd, gr, gb⟩
  have key : ∀ n : Nat, (∀ (x1 : Nat) (x2 : Option Nat) (C : MC) (I : MI) (J : MJ) (R : MR), Q2 n (gK Γ) x1 x2 C I J R → AW Γ 0 0 C I J R 2 [(1, aR (some x1)), (2, aR x2)] []) := by
    intro n
    induction n using Nat.strongRecOn with
    | ind n ih =>
    have w2 : ∀ (x1 : Nat) (x2 : Option Nat) (C : MC) (I : MI) (J : MJ) (R : MR), (∃ m, m < n ∧ Q2 m (gK Γ) x1 x2 C I J R) → AW Γ 0 0 C I J R 2 [(1, aR (some x1)), (2, aR x2)] [] := fun x1 x2 C I J R ⟨m, hm, hq⟩ => (ih m hm) x1 x2 C I J R hq
    have w19 : ∀ (x1 : Nat) (x2 : Option Nat) (C : MC) (I : MI) (J : MJ) (R : MR), PX0_isIn_19 (fun (x1 : Nat) (x2 : Option Nat) (C : MC) (I : MI) (J : MJ) (R : MR) => ∃ m, m < n ∧ Q2 m (gK Γ) x1 x2 C I J R) (gK Γ) x1 x2 C I J R → AW Γ 0 0 C I J R 19 [(1, aR (some x1)), (2, aR x2)] [] := fun x1 x2 C I J R h => bX0_isIn_19 G h
    exact fun x1 x2 C I J R h => bX0_isIn_2 G w2 w19 (h2 n (gK Γ) x1 x2 C I J R h)
  have w2 : ∀ (x1 : Nat) (x2 : Option Nat) (C : MC) (I : MI) (J : MJ) (R : MR), (∃ n, Q2 n (gK Γ) x1 x2 C I J R) → AW Γ 0 0 C I J R 2 [(1, aR (some x1)), (2, aR x2)] [] := fun x1 x2 C I J R ⟨m, hq⟩ => (key m) x1 x2 C I J R hq
  have w19 : ∀ (x1 : Nat) (x2 : Option Nat) (C : MC) (I : MI) (J : MJ) (R : MR), PX0_isIn_19 (fun (x1 : Nat) (x2 : Option Nat) (C : MC) (I : MI) (J : MJ) (R : MR) => ∃ n, Q2 n (gK Γ) x1 x2 C I J R) (gK Γ) x1 x2 C I J R → AW Γ 0 0 C I J R 19 [(1, aR (some x1)), (2, aR x2)] [] := fun x1 x2 C I J R h => bX0_isIn_19 G h
  obtain ⟨x0, x1, rfl, h⟩ := h0 As C I J R (gK Γ) hF
  exact ⟨Nat.le_of_ble_eq_true rfl, bX0_isIn_0 G w2 h⟩
def PX0_change_51 (F_X0_leafOf : SPF) (F_X0_want : SPF) (F_X0_wantMany : SPF) (F_X0_weights : SPF) (F_X0_no : SPF) (K : AK) (x0 : Nat) (s0 : Nat) (C : MC) (I : MI) (J : MJ) (R : MR) : Prop :=
      (C x0).1 = 1 ∧
      F_X0_no [aR (some x0), aR (some s0)] C I J R (fun o C2 I3 J4 R5 =>
      ∃ r6 : Int32, o = .inl (some (aI r6)) ∧
      (r6 = 0 ∨ r6 = 1) ∧ K (.inl (some (aI r6))) C2 I3 J4 R5)
def PX0_change_27 (F_X0_leafOf : SPF) (F_X0_want : SPF) (F_X0_wantMany : SPF) (F_X0_weights : SPF) (F_X0_no : SPF) (K : AK) (x0 : Nat) (x2 : Int32) (x3 : Int32) (x4 : Nat) (s0 : Nat) (s1 : Int32) (C : MC) (I : MI) (J : MJ) (R : MR) : Prop :=
      (C s0).1 = 1 ∧
      F_X0_want [aR (some s0), aI s1, aI (1 : Int32)] C I J R (fun o C2 I3 J4 R5 =>
      (o = .inl none ∧
      (C2 x0).1 = 1 ∧
      F_X0_wantMany [aR (some x0), aI x3] C2 I3 J4 R5 (fun o C8 I9 J10 R11 =>
      (o = .inl none ∧
      (C8 x4).1 = 5 ∧
      (C8 x0).1 = 1 ∧
      F_X0_weights [aR (some x0), aI x2, aI x3] C8 I9 J10 R11 (fun o C15 I16 J17 R18 =>
      (∃ r19 : Nat, o = .inl (some (aR (some r19))) ∧
      ∃ q20 : Nat, R11 x4 6 = some q20 ∧
      (25 ≤ (C15 q20).1 ∧ (C15 q20).1 < 29) ∧
      kFit (C15 q20).1 (C15 r19).1 ∧
      vp_in (0 : Int32) (C15 q20).2 ∧
      ∀ R24 : MR, R24 = va_up R18 q20 (va_up (R18 q20) (0 : Int32).toNatClampNeg (some r19)) →
      K (.inl (some (aI (1 : Int32)))) C15 I16 J17 R24) ∨
      (∃ q25 : Nat, o = .inr q25 ∧
      ((C15 q25).1 = 2 ∧
      PX0_change_51 F_X0_leafOf F_X0_want F_X0_wantMany F_X0_weights F_X0_no K x0 q25 C15 I16 J17 R18)))) ∨
      (∃ q27 : Nat, o = .inr q27 ∧
      ((C8 q27).1 = 2 ∧
      PX0_change_51 F_X0_leafOf F_X0_want F_X0_wantMany F_X0_weights F_X0_no K x0 q27 C8 I9 J10 R11)))) ∨
      (∃ q29 : Nat, o = .inr q29 ∧
      ((C2 q29).1 = 2 ∧
      PX0_change_51 F_X0_leafOf F_X0_want F_X0_wantMany F_X0_weights F_X0_no K x0 q29 C2 I3 J4 R5)))
def PX0_change_26 (F_X0_leafOf : SPF) (F_X0_want : SPF) (F_X0_wantMany : SPF) (F_X0_weights : SPF) (F_X0_no : SPF) (K : AK) (x0 : Nat) (x2 : Int32) (x3 : Int32) (x4 : Nat) (s0 : Nat) (C : MC) (I : MI) (J : MJ) (R : MR) : Prop :=
      PX0_change_27 F_X0_leafOf F_X0_want F_X0_wantMany F_X0_weights F_X0_no K x0 x2 x3 x4 s0 (0 : Int32) C I J R
def PX0_change_0 (F_X0_leafOf : SPF) (F_X0_want : SPF) (F_X0_wantMany : SPF) (F_X0_weights : SPF) (F_X0_no : SPF) (K : AK) (x0 : Nat) (x1 : Int32) (x2 : Int32) (x3 : Int32) (C : MC) (I : MI) (J : MJ) (R : MR) : Prop :=
      (C x0).1 = 1 ∧
      ∀ I2 : MI, I2 = va_up I x0 (va_up (I x0) 5 (0 : Int32)) →
      F_X0_leafOf [aR (some x0), aI x1] C I2 J R (fun o C3 I4 J5 R6 =>
      (∃ r7 : Nat, o = .inl (some (aR (some r7))) ∧
      ((x2 < 0 →
      PX0_change_26 F_X0_leafOf F_X0_want F_X0_wantMany F_X0_weights F_X0_no K x0 x2 x3 r7 x0 C3 I4 J5 R6) ∧
      (¬ x2 < 0 →
      (((4 : Int32) ≤ x2 →
      PX0_change_26 F_X0_leafOf F_X0_want F_X0_wantMany F_X0_weights F_X0_no K x0 x2 x3 r7 x0 C3 I4 J5 R6) ∧
      (¬ (4 : Int32) ≤ x2 →
      PX0_change_27 F_X0_leafOf F_X0_want F_X0_wantMany F_X0_weights F_X0_no K x0 x2 x3 r7 x0 (1 : Int32) C3 I4 J5 R6))))) ∨
      (∃ q10 : Nat, o = .inr q10 ∧
      ((C3 q10).1 = 2 ∧
      PX0_change_51 F_X0_leafOf F_X0_want F_X0_wantMany F_X0_weights F_X0_no K x0 q10 C3 I4 J5 R6)))
theorem wX0_change {l : Launch}  {F_X0_leafOf : SPF} (S_X0_leafOf : SpX0_leafOf l F_X0_leafOf) {F_X0_want : SPF} (S_X0_want : SpX0_want l F_X0_want) {F_X0_wantMany : SPF} (S_X0_wantMany : SpX0_wantMany l F_X0_wantMany) {F_X0_weights : SPF} (S_X0_weights : SpX0_weights l F_X0_weights) {F_X0_no : SPF} (S_X0_no : SpX0_no l F_X0_no) {F : SPF}
    (h0 : ∀ (As : List AV) (C : MC) (I : MI) (J : MJ) (R : MR) (K : AK), F As C I J R K → ∃ (x0 : Nat) (x1 : Int32) (x2 : Int32) (x3 : Int32), As = [aR (some x0), aI x1, aI x2, aI x3] ∧ PX0_change_0 F_X0_leafOf F_X0_want F_X0_wantMany F_X0_weights F_X0_no K x0 x1 x2 x3 C I J R) : SpX0_change l F := by
  refine Spec.ofH (by rfl) ?_
  intro Γ C I J R As Gd gl gr _ _ gb hF
  subst gl
  have G : Gb Γ yX0_change cX0_change 5 (some .boolean) [(5, 50, 51, 53)] rmX0_change bdX0_change := ⟨Gd, gr, gb⟩
  have w51 : ∀ (x0 : Nat) (s0 : Nat) (C : MC) (I : MI) (J : MJ) (R : MR), PX0_change_51 F_X0_leafOf F_X0_want F_X0_wantMany F_X0_weights F_X0_no (gK Γ) x0 s0 C I J R → AW Γ 3 245 C I J R 51 [(0, aR (some x0))] [aR (some s0)] := fun x0 s0 C I J R h => bX0_change_51 G S_X0_no h
  have w27 : ∀ (x0 : Nat) (x2 : Int32) (x3 : Int32) (x4 : Nat) (s0 : Nat) (s1 : Int32) (C : MC) (I : MI) (J : MJ) (R : MR), PX0_change_27 F_X0_leafOf F_X0_want F_X0_wantMany F_X0_weights F_X0_no (gK Γ) x0 x2 x3 x4 s0 s1 C I J R → AW Γ 0 0 C I J R 27 [(0, aR (some x0)), (2, aI x2), (3, aI x3), (4, aR (some x4))] [aI s1, aR (some s0)] := fun x0 x2 x3 x4 s0 s1 C I J R h => bX0_change_27 G S_X0_want S_X0_wantMany S_X0_weights w51 h
  have w26 : ∀ (x0 : Nat) (x2 : Int32) (x3 : Int32) (x4 : Nat) (s0 : Nat) (C : MC) (I : MI) (J : MJ) (R : MR), PX0_change_26 F_X0_leafOf F_X0_want F_X0_wantMany F_X0_weights F_X0_no (gK Γ) x0 x2 x3 x4 s0 C I J R → AW Γ 0 0 C I J R 26 [(0, aR (some x0)), (2, aI x2), (3, aI x3), (4, aR (some x4))] [aR (some s0)] := fun x0 x2 x3 x4 s0 C I J R h => bX0_change_26 G w27 h
  obtain ⟨x0, x1, x2, x3, rfl, h⟩ := h0 As C I J R (gK Γ) hF
  exact ⟨Nat.le_of_ble_eq_true rfl, bX0_change_0 G S_X0_leafOf w26 w27 w51 h⟩
def PX0_price_41 (F_X0_leafOf : SPF) (F_X0_want : SPF) (F_X0_no : SPF) (K : AK) (x0 : Nat) (s0 : Nat) (C : MC) (I : MI) (J : MJ) (R : MR) : Prop :=
      (C x0).1 = 1 ∧
      F_X0_no [aR (some x0), aR (some s0)] C I J R (fun o C2 I3 J4 R5 =>
      ∃ r6 : Int32, o = .inl (some (aI r6)) ∧
      (r6 = 0 ∨ r6 = 1) ∧ K (.inl (some (aI r6))) C2 I3 J4 R5)
def PX0_price_28 (F_X0_leafOf : SPF) (F_X0_want : SPF) (F_X0_no : SPF) (K : AK) (x0 : Nat) (x2 : Int32) (x3 : Nat) (s0 : Nat) (s1 : Int32) (C : MC) (I : MI) (J : MJ) (R : MR) : Prop :=
      (C s0).1 = 1 ∧
      F_X0_want [aR (some s0), aI s1, aI (1 : Int32)] C I J R (fun o C2 I3 J4 R5 =>
      (o = .inl none ∧
      (C2 x3).1 = 5 ∧
      ∃ q8 : Nat, R5 x3 7 = some q8 ∧
      (C2 q8).1 = 20 ∧
      vp_in (0 : Int32) (C2 q8).2 ∧
      ∀ I11 : MI, I11 = va_up I3 q8 (va_up (I3 q8) (0 : Int32).toNatClampNeg x2) →
      K (.inl (some (aI (1 : Int32)))) C2 I11 J4 R5) ∨
      (∃ q12 : Nat, o = .inr q12 ∧
      ((C2 q12).1 = 2 ∧
      PX0_price_41 F_X0_leafOf F_X0_want F_X0_no K x0 q12 C2 I3 J4 R5)))
def PX0_price_27 (F_X0_leafOf : SPF) (F_X0_want : SPF) (F_X0_no : SPF) (K : AK) (x0 : Nat) (x2 : Int32) (x3 : Nat) (s0 : Nat) (C : MC) (I : MI) (J : MJ) (R : MR) : Prop :=
      PX0_price_28 F_X0_leafOf F_X0_want F_X0_no K x0 x2 x3 s0 (0 : Int32) C I J R
def PX0_price_0 (F_X0_leafOf : SPF) (F_X0_want : SPF) (F_X0_no : SPF) (K : AK) (x0 : Nat) (x1 : Int32) (x2 : Int32) (C : MC) (I : MI) (J : MJ) (R : MR) : Prop :=
      (C x0).1 = 1 ∧
      ∀ I2 : MI, I2 = va_up I x0 (va_up (I x0) 5 (0 : Int32)) →
      F_X0_leafOf [aR (some x0), aI x1] C I2 J R (fun o C3 I4 J5 R6 =>
      (∃ r7 : Nat, o = .inl (some (aR (some r7))) ∧
      ((x2 < 0 →
      PX0_price_27 F_X0_leafOf F_X0_want F_X0_no K x0 x2 r7 x0 C3 I4 J5 R6) ∧
      (¬ x2 < 0 →
      (((10000 : Int32) < x2 →
      PX0_price_27 F_X0_leafOf F_X0_want F_X0_no K x0 x2 r7 x0 C3 I4 J5 R6) ∧
      (¬ (10000 : Int32) < x2 →
      PX0_price_28 F_X0_leafOf F_X0_want F_X0_no K x0 x2 r7 x0 (1 : Int32) C3 I4 J5 R6))))) ∨
      (∃ q10 : Nat, o = .inr q10 ∧
      ((C3 q10).1 = 2 ∧
      PX0_price_41 F_X0_leafOf F_X0_want F_X0_no K x0 q10 C3 I4 J5 R6)))
theorem wX0_price {l : Launch}  {F_X0_leafOf : SPF} (S_X0_leafOf : SpX0_leafOf l F_X0_leafOf) {F_X0_want : SPF} (S_X0_want : SpX0_want l F_X0_want) {F_X0_no : SPF} (S_X0_no : SpX0_no l F_X0_no) {F : SPF}
    (h0 : ∀ (As : List AV) (C : MC) (I : MI) (J : MJ) (R : MR) (K : AK), F As C I J R K → ∃ (x0 : Nat) (x1 : Int32) (x2 : Int32), As = [aR (some x0), aI x1, aI x2] ∧ PX0_price_0 F_X0_leafOf F_X0_want F_X0_no K x0 x1 x2 C I J R) : SpX0_price l F := by
  refine Spec.ofH (by rfl) ?_
  intro Γ C I J R As Gd gl gr _ _ gb hF
  subst gl
  have G : Gb Γ yX0_price cX0_price 4 (some .boolean) [(5, 40, 41, 53)] rmX0_price bdX0_price := ⟨Gd, gr, gb⟩
  have w41 : ∀ (x0 : Nat) (s0 : Nat) (C : MC) (I : MI) (J : MJ) (R : MR), PX0_price_41 F_X0_leafOf F_X0_want F_X0_no (gK Γ) x0 s0 C I J R → AW Γ 0 0 C I J R 41 [(0, aR (some x0))] [aR (some s0)] := fun x0 s0 C I J R h => bX0_price_41 G S_X0_no h
  have w28 : ∀ (x0 : Nat) (x2 : Int32) (x3 : Nat) (s0 : Nat) (s1 : Int32) (C : MC) (I : MI) (J : MJ) (R : MR), PX0_price_28 F_X0_leafOf F_X0_want F_X0_no (gK Γ) x0 x2 x3 s0 s1 C I J R → AW Γ 0 0 C I J R 28 [(0, aR (some x0)), (2, aI x2), (3, aR (some x3))] [aI s1, aR (some s0)] := fun x0 x2 x3 s0 s1 C I J R h => bX0_price_28 G S_X0_want w41 h
  have w27 : ∀ (x0 : Nat) (x2 : Int32) (x3 : Nat) (s0 : Nat) (C : MC) (I : MI) (J : MJ) (R : MR), PX0_price_27 F_X0_leafOf F_X0_want F_X0_no (gK Γ) x0 x2 x3 s0 C I J R → AW Γ 0 0 C I J R 27 [(0, aR (some x0)), (2, aI x2), (3, aR (some x3))] [aR (some s0)] := fun x0 x2 x3 s0 C I J R h => bX0_price_27 G w28 h
  obtain ⟨x0, x1, x2, rfl, h⟩ := h0 As C I J R (gK Γ) hF
  exact ⟨Nat.le_of_ble_eq_true rfl, bX0_price_0 G S_X0_leafOf w27 w28 w41 h⟩
def PX0_grade_138 (F_X0_leafOf : SPF) (F_X0_want : SPF) (F_X0_wantMany : SPF) (F_X0_weights : SPF) (F_X0_choosers : SPF) (F_X0_none : SPF) (K : AK) (x0 : Nat) (s0 : Nat) (C : MC) (I : MI) (J : MJ) (R : MR) : Prop :=
      (C x0).1 = 1 ∧
      F_X0_none [aR (some x0), aR (some s0)] C I J R (fun o C2 I3 J4 R5 =>
      ∃ r6 : Int32, o = .inl (some (aI r6)) ∧
      K (.inl (some (aI r6))) C2 I3 J4 R5)
def PX0_grade_89 (F_X0_leafOf : SPF) (F_X0_want : SPF) (F_X0_wantMany : SPF) (F_X0_weights : SPF) (F_X0_choosers : SPF) (F_X0_none : SPF) (K : AK) (x0 : Nat) (x4 : Int32) (x5 : Nat) (x6 : Nat) (s0 : Nat) (s1 : Int32) (C : MC) (I : MI) (J : MJ) (R : MR) : Prop :=
      (C s0).1 = 1 ∧
      F_X0_want [aR (some s0), aI s1, aI (4 : Int32)] C I J R (fun o C2 I3 J4 R5 =>
      (o = .inl none ∧
      (C2 x5).1 = 5 ∧
      ∃ q8 : Nat, R5 x5 6 = some q8 ∧
      (25 ≤ (C2 q8).1 ∧ (C2 q8).1 < 29) ∧
      kFit (C2 q8).1 (C2 x6).1 ∧
      vp_in (I3 x5 8) (C2 q8).2 ∧
      ∀ R12 : MR, R12 = va_up R5 q8 (va_up (R5 q8) (I3 x5 8).toNatClampNeg (some x6)) →
      ∃ q13 : Nat, R12 x5 7 = some q13 ∧
      (C2 q13).1 = 20 ∧
      vp_in (I3 x5 8) (C2 q13).2 ∧
      ∀ I16 : MI, I16 = va_up I3 q13 (va_up (I3 q13) (I3 x5 8).toNatClampNeg x4) →
      ∀ I17 : MI, I17 = va_up I16 x5 (va_up (I16 x5) 8 ((I16 x5 8) + (1 : Int32))) →
      K (.inl (some (aI ((I17 x5 8) - (1 : Int32))))) C2 I17 J4 R12) ∨
      (∃ q18 : Nat, o = .inr q18 ∧
      ((C2 q18).1 = 2 ∧
      PX0_grade_138 F_X0_leafOf F_X0_want F_X0_wantMany F_X0_weights F_X0_choosers F_X0_none K x0 q18 C2 I3 J4 R5)))
def PX0_grade_88 (F_X0_leafOf : SPF) (F_X0_want : SPF) (F_X0_wantMany : SPF) (F_X0_weights : SPF) (F_X0_choosers : SPF) (F_X0_none : SPF) (K : AK) (x0 : Nat) (x4 : Int32) (x5 : Nat) (x6 : Nat) (s0 : Nat) (C : MC) (I : MI) (J : MJ) (R : MR) : Prop :=
      PX0_grade_89 F_X0_leafOf F_X0_want F_X0_wantMany F_X0_weights F_X0_choosers F_X0_none K x0 x4 x5 x6 s0 (0 : Int32) C I J R
def PX0_grade_84 (F_X0_leafOf : SPF) (F_X0_want : SPF) (F_X0_wantMany : SPF) (F_X0_weights : SPF) (F_X0_choosers : SPF) (F_X0_none : SPF) (K : AK) (x0 : Nat) (x4 : Int32) (x5 : Nat) (x6 : Nat) (s0 : Nat) (C : MC) (I : MI) (J : MJ) (R : MR) : Prop :=
      PX0_grade_89 F_X0_leafOf F_X0_want F_X0_wantMany F_X0_weights F_X0_choosers F_X0_none K x0 x4 x5 x6 s0 (1 : Int32) C I J R
def PX0_grade_40 (F_X0_leafOf : SPF) (F_X0_want : SPF) (F_X0_wantMany : SPF) (F_X0_weights : SPF) (F_X0_choosers : SPF) (F_X0_none : SPF) (K : AK) (x0 : Nat) (x2 : Int32) (x3 : Int32) (x4 : Int32) (x5 : Nat) (s0 : Nat) (s1 : Int32) (C : MC) (I : MI) (J : MJ) (R : MR) : Prop :=
      (C s0).1 = 1 ∧
      F_X0_want [aR (some s0), aI s1, aI (1 : Int32)] C I J R (fun o C2 I3 J4 R5 =>
      (o = .inl none ∧
      (C2 x0).1 = 1 ∧
      F_X0_wantMany [aR (some x0), aI x3] C2 I3 J4 R5 (fun o C8 I9 J10 R11 =>
      (o = .inl none ∧
      (C8 x0).1 = 1 ∧
      F_X0_weights [aR (some x0), aI x2, aI x3] C8 I9 J10 R11 (fun o C14 I15 J16 R17 =>
      (∃ r18 : Nat, o = .inl (some (aR (some r18))) ∧
      (C14 x5).1 = 5 ∧
      (((3 : Int32) ≤ (I15 x5 8) →
      PX0_grade_88 F_X0_leafOf F_X0_want F_X0_wantMany F_X0_weights F_X0_choosers F_X0_none K x0 x4 x5 r18 x0 C14 I15 J16 R17) ∧
      (¬ (3 : Int32) ≤ (I15 x5 8) →
      (((1 : Int32) < (I15 x5 8) →
      PX0_grade_84 F_X0_leafOf F_X0_want F_X0_wantMany F_X0_weights F_X0_choosers F_X0_none K x0 x4 x5 r18 x0 C14 I15 J16 R17) ∧
      (¬ (1 : Int32) < (I15 x5 8) →
      (C14 x0).1 = 1 ∧
      F_X0_choosers [aR (some x0)] C14 I15 J16 R17 (fun o C23 I24 J25 R26 =>
      ∃ r27 : Int32, o = .inl (some (aI r27)) ∧
      (((4 : Int32) ≤ r27 →
      PX0_grade_88 F_X0_leafOf F_X0_want F_X0_wantMany F_X0_weights F_X0_choosers F_X0_none K x0 x4 x5 r18 x0 C23 I24 J25 R26) ∧
      (¬ (4 : Int32) ≤ r27 →
      PX0_grade_84 F_X0_leafOf F_X0_want F_X0_wantMany F_X0_weights F_X0_choosers F_X0_none K x0 x4 x5 r18 x0 C23 I24 J25 R26)))))))) ∨
      (∃ q29 : Nat, o = .inr q29 ∧
      ((C14 q29).1 = 2 ∧
      PX0_grade_138 F_X0_leafOf F_X0_want F_X0_wantMany F_X0_weights F_X0_choosers F_X0_none K x0 q29 C14 I15 J16 R17)))) ∨
      (∃ q31 : Nat, o = .inr q31 ∧
      ((C8 q31).1 = 2 ∧
      PX0_grade_138 F_X0_leafOf F_X0_want F_X0_wantMany F_X0_weights F_X0_choosers F_X0_none K x0 q31 C8 I9 J10 R11)))) ∨
      (∃ q33 : Nat, o = .inr q33 ∧
      ((C2 q33).1 = 2 ∧
      PX0_grade_138 F_X0_leafOf F_X0_want F_X0_wantMany F_X0_weights F_X0_choosers F_X0_none K x0 q33 C2 I3 J4 R5)))
def PX0_grade_39 (F_X0_leafOf : SPF) (F_X0_want : SPF) (F_X0_wantMany : SPF) (F_X0_weights : SPF) (F_X0_choosers : SPF) (F_X0_none : SPF) (K : AK) (x0 : Nat) (x2 : Int32) (x3 : Int32) (x4 : Int32) (x5 : Nat) (s0 : Nat) (C : MC) (I : MI) (J : MJ) (R : MR) : Prop :=
      PX0_grade_40 F_X0_leafOf F_X0_want F_X0_wantMany F_X0_weights F_X0_choosers F_X0_none K x0 x2 x3 x4 x5 s0 (0 : Int32) C I J R
def PX0_grade_0 (F_X0_leafOf : SPF) (F_X0_want : SPF) (F_X0_wantMany : SPF) (F_X0_weights : SPF) (F_X0_choosers : SPF) (F_X0_none : SPF) (K : AK) (x0 : Nat) (x1 : Int32) (x2 : Int32) (x3 : Int32) (x4 : Int32) (C : MC) (I : MI) (J : MJ) (R : MR) : Prop :=
      (C x0).1 = 1 ∧
      ∀ I2 : MI, I2 = va_up I x0 (va_up (I x0) 5 (0 : Int32)) →
      F_X0_leafOf [aR (some x0), aI x1] C I2 J R (fun o C3 I4 J5 R6 =>
      (∃ r7 : Nat, o = .inl (some (aR (some r7))) ∧
      ((x2 < 0 →
      PX0_grade_39 F_X0_leafOf F_X0_want F_X0_wantMany F_X0_weights F_X0_choosers F_X0_none K x0 x2 x3 x4 r7 x0 C3 I4 J5 R6) ∧
      (¬ x2 < 0 →
      (((4 : Int32) ≤ x2 →
      PX0_grade_39 F_X0_leafOf F_X0_want F_X0_wantMany F_X0_weights F_X0_choosers F_X0_none K x0 x2 x3 x4 r7 x0 C3 I4 J5 R6) ∧
      (¬ (4 : Int32) ≤ x2 →
      ((x4 < 0 →
      PX0_grade_39 F_X0_leafOf F_X0_want F_X0_wantMany F_X0_weights F_X0_choosers F_X0_none K x0 x2 x3 x4 r7 x0 C3 I4 J5 R6) ∧
      (¬ x4 < 0 →
      (((10000 : Int32) < x4 →
      PX0_grade_39 F_X0_leafOf F_X0_want F_X0_wantMany F_X0_weights F_X0_choosers F_X0_none K x0 x2 x3 x4 r7 x0 C3 I4 J5 R6) ∧
      (¬ (10000 : Int32) < x4 →
      PX0_grade_40 F_X0_leafOf F_X0_want F_X0_wantMany F_X0_weights F_X0_choosers F_X0_none K x0 x2 x3 x4 r7 x0 (1 : Int32) C3 I4 J5 R6))))))))) ∨
      (∃ q12 : Nat, o = .inr q12 ∧
      ((C3 q12).1 = 2 ∧
      PX0_grade_138 F_X0_leafOf F_X0_want F_X0_wantMany F_X0_weights F_X0_choosers F_X0_none K x0 q12 C3 I4 J5 R6)))
theorem wX0_grade {l : Launch}  {F_X0_leafOf : SPF} (S_X0_leafOf : SpX0_leafOf l F_X0_leafOf) {F_X0_want : SPF} (S_X0_want : SpX0_want l F_X0_want) {F_X0_wantMany : SPF} (S_X0_wantMany : SpX0_wantMany l F_X0_wantMany) {F_X0_weights : SPF} (S_X0_weights : SpX0_weights l F_X0_weights) {F_X0_choosers : SPF} (S_X0_choosers : SpX0_choosers l F_X0_choosers) {F_X0_none : SPF} (S_X0_none : SpX0_none l F_X0_none) {F : SPF}
    (h0 : ∀ (As : List AV) (C : MC) (I : MI) (J : MJ) (R : MR) (K : AK), F As C I J R K → ∃ (x0 : Nat) (x1 : Int32) (x2 : Int32) (x3 : Int32) (x4 : Int32), As = [aR (some x0), aI x1, aI x2, aI x3, aI x4] ∧ PX0_grade_0 F_X0_leafOf F_X0_want F_X0_wantMany F_X0_weights F_X0_choosers F_X0_none K x0 x1 x2 x3 x4 C I J R) : SpX0_grade l F := by
  refine Spec.ofH (by rfl) ?_
  intro Γ C I J R As Gd gl gr _ _ gb hF
  subst gl
  have G : Gb Γ yX0_grade cX0_grade 7 (some .int) [(5, 137, 138, 53)] rmX0_grade bdX0_grade := ⟨Gd, gr, gb⟩
  have w138 : ∀ (x0 : Nat) (s0 : Nat) (C : MC) (I : MI) (J : MJ) (R : MR), PX0_grade_138 F_X0_leafOf F_X0_want F_X0_wantMany F_X0_weights F_X0_choosers F_X0_none (gK Γ) x0 s0 C I J R → AW Γ 3 245 C I J R 138 [(0, aR (some x0))] [aR (some s0)] := fun x0 s0 C I J R h => bX0_grade_138 G S_X0_none h
  have w89 : ∀ (x0 : Nat) (x4 : Int32) (x5 : Nat) (x6 : Nat) (s0 : Nat) (s1 : Int32) (C : MC) (I : MI) (J : MJ) (R : MR), PX0_grade_89 F_X0_leafOf F_X0_want F_X0_wantMany F_X0_weights F_X0_choosers F_X0_none (gK Γ) x0 x4 x5 x6 s0 s1 C I J R → AW Γ 3 245 C I J R 89 [(0, aR (some x0)), (4, aI x4), (5, aR (some x5)), (6, aR (some x6))] [aI s1, aR (some s0)] := fun x0 x4 x5 x6 s0 s1 C I J R h => bX0_grade_89 G S_X0_want w138 h
  have w88 : ∀ (x0 : Nat) (x4 : Int32) (x5 : Nat) (x6 : Nat) (s0 : Nat) (C : MC) (I : MI) (J : MJ) (R : MR), PX0_grade_88 F_X0_leafOf F_X0_want F_X0_wantMany F_X0_weights F_X0_choosers F_X0_none (gK Γ) x0 x4 x5 x6 s0 C I J R → AW Γ 3 245 C I J R 88 [(0, aR (some x0)), (4, aI x4), (5, aR (some x5)), (6, aR (some x6))] [aR (some s0)] := fun x0 x4 x5 x6 s0 C I J R h => bX0_grade_88 G w89 h
  have w84 : ∀ (x0 : Nat) (x4 : Int32) (x5 : Nat) (x6 : Nat) (s0 : Nat) (C : MC) (I : MI) (J : MJ) (R : MR), PX0_grade_84 F_X0_leafOf F_X0_want F_X0_wantMany F_X0_weights F_X0_choosers F_X0_none (gK Γ) x0 x4 x5 x6 s0 C I J R → AW Γ 3 245 C I J R 84 [(0, aR (some x0)), (4, aI x4), (5, aR (some x5)), (6, aR (some x6))] [aR (some s0)] := fun x0 x4 x5 x6 s0 C I J R h => bX0_grade_84 G w89 h
  have w40 : ∀ (x0 : Nat) (x2 : Int32) (x3 : Int32) (x4 : Int32) (x5 : Nat) (s0 : Nat) (s1 : Int32) (C : MC) (I : MI) (J : MJ) (R : MR), PX0_grade_40 F_X0_leafOf F_X0_want F_X0_wantMany F_X0_weights F_X0_choosers F_X0_none (gK Γ) x0 x2 x3 x4 x5 s0 s1 C I J R → AW Γ 0 0 C I J R 40 [(0, aR (some x0)), (2, aI x2), (3, aI x3), (4, aI x4), (5, aR (some x5))] [aI s1, aR (some s0)] := fun x0 x2 x3 x4 x5 s0 s1 C I J R h => bX0_grade_40 G S_X0_want S_X0_wantMany S_X0_weights S_X0_choosers w84 w88 w138 h
  have w39 : ∀ (x0 : Nat) (x2 : Int32) (x3 : Int32) (x4 : Int32) (x5 : Nat) (s0 : Nat) (C : MC) (I : MI) (J : MJ) (R : MR), PX0_grade_39 F_X0_leafOf F_X0_want F_X0_wantMany F_X0_weights F_X0_choosers F_X0_none (gK Γ) x0 x2 x3 x4 x5 s0 C I J R → AW Γ 0 0 C I J R 39 [(0, aR (some x0)), (2, aI x2), (3, aI x3), (4, aI x4), (5, aR (some x5))] [aR (some s0)] := fun x0 x2 x3 x4 x5 s0 C I J R h => bX0_grade_39 G w40 h
  obtain ⟨x0, x1, x2, x3, x4, rfl, h⟩ := h0 As C I J R (gK Γ) hF
  exact ⟨Nat.le_of_ble_eq_true rfl, bX0_grade_0 G S_X0_leafOf w39 w40 w138 h⟩
def PX0_choosers_48 (Q4 : Nat → Int32 → Int32 → MC → MI → MJ → MR → Prop) (K : AK) (x0 : Nat) (x3 : Int32) (s0 : Int32) (s1 : Int32) (C : MC) (I : MI) (J : MJ) (R : MR) : Prop :=
      Q4 x0 (s0 + s1) (x3 + 1) C I J R
def PX0_choosers_47 (Q4 : Nat → Int32 → Int32 → MC → MI → MJ → MR → Prop) (K : AK) (x0 : Nat) (x3 : Int32) (s0 : Int32) (C : MC) (I : MI) (J : MJ) (R : MR) : Prop :=
      PX0_choosers_48 Q4 K x0 x3 s0 (0 : Int32) C I J R
def PX0_choosers_4 (Q4 : Nat → Int32 → Int32 → MC → MI → MJ → MR → Prop) (K : AK) (x0 : Nat) (x1 : Int32) (x3 : Int32) (C : MC) (I : MI) (J : MJ) (R : MR) : Prop :=
      (C x0).1 = 1 ∧
      (((I x0 3) ≤ x3 →
      K (.inl (some (aI x1))) C I J R) ∧
      (¬ (I x0 3) ≤ x3 →
      ∃ q3 : Nat, R x0 2 = some q3 ∧
      (25 ≤ (C q3).1 ∧ (C q3).1 < 30) ∧
      vp_in x3 (C q3).2 ∧
      ∃ q6 : Nat, R q3 x3.toNatClampNeg = some q6 ∧
      kTh (C q6).1 ∧
      (((C q6).1 = 5 →
      (((I q6 8) ≤ (1 : Int32) →
      PX0_choosers_47 Q4 K x0 x3 x1 C I J R) ∧
      (¬ (I q6 8) ≤ (1 : Int32) →
      PX0_choosers_48 Q4 K x0 x3 x1 (1 : Int32) C I J R))) ∧
      (¬ (C q6).1 = 5 →
      PX0_choosers_47 Q4 K x0 x3 x1 C I J R))))
def PX0_choosers_0 (Q4 : Nat → Int32 → Int32 → MC → MI → MJ → MR → Prop) (K : AK) (x0 : Nat) (C : MC) (I : MI) (J : MJ) (R : MR) : Prop :=
      Q4 x0 (0 : Int32) (0 : Int32) C I J R
theorem wX0_choosers {l : Launch} 
    (Q4 : Nat → AK → Nat → Int32 → Int32 → MC → MI → MJ → MR → Prop) {F : SPF}
    (h0 : ∀ (As : List AV) (C : MC) (I : MI) (J : MJ) (R : MR) (K : AK), F As C I J R K → ∃ (x0 : Nat), As = [aR (some x0)] ∧ PX0_choosers_0 (fun (x0 : Nat) (x1 : Int32) (x3 : Int32) (C : MC) (I : MI) (J : MJ) (R : MR) => ∃ n, Q4 n K x0 x1 x3 C I J R) K x0 C I J R)
    (h4 : ∀ (n : Nat) (K : AK) (x0 : Nat) (x1 : Int32) (x3 : Int32) (C : MC) (I : MI) (J : MJ) (R : MR), Q4 n K x0 x1 x3 C I J R → PX0_choosers_4 (fun (x0 : Nat) (x1 : Int32) (x3 : Int32) (C : MC) (I : MI) (J : MJ) (R : MR) => ∃ m, m < n ∧ Q4 m K x0 x1 x3 C I J R) K x0 x1 x3 C I J R) : SpX0_choosers l F := by
  refine Spec.of (by rfl) ?_
  intro Γ C I J R As Gd gl gr _ _ gb hF
  subst gl
  have G : Gb Γ yX0_choosers cX0_choosers 5 (some .int) [] rmX0_choosers bdX0_choosers := ⟨Gd, gr, gb⟩
  have key : ∀ n : Nat, (∀ (x0 : Nat) (x1 : Int32) (x3 : Int32) (C : MC) (I : MI) (J : MJ) (R : MR), Q4 n (gK Γ) x0 x1 x3 C I J R → AW Γ 0 0 C I J R 4 [(0, aR (some x0)), (1, aI x1), (3, aI x3)] []) := by
    intro n
    induction n using Nat.strongRecOn with
    | ind n ih =>
    have w4 : ∀ (x0 : Nat) (x1 : Int32) (x3 : Int32) (C : MC) (I : MI) (J : MJ) (R : MR), (∃ m, m < n ∧ Q4 m (gK Γ) x0 x1 x3 C I J R) → AW Γ 0 0 C I J R 4 [(0, aR (some x0)), (1, aI x1), (3, aI x3)] [] := fun x0 x1 x3 C I J R ⟨m, hm, hq⟩ => (ih m hm) x0 x1 x3 C I J R hq
    have w48 : ∀ (x0 : Nat) (x3 : Int32) (s0 : Int32) (s1 : Int32) (C : MC) (I : MI) (J : MJ) (R : MR), PX0_choosers_48 (fun (x0 : Nat) (x1 : Int32) (x3 : Int32) (C : MC) (I : MI) (J : MJ) (R : MR) => ∃ m, m < n ∧ Q4 m (gK Γ) x0 x1 x3 C I J R) (gK Γ) x0 x3 s0 s1 C I J R → AW Γ 0 0 C I J R 48 [(0, aR (some x0)), (3, aI x3)] [aI s1, aI s0] := fun x0 x3 s0 s1 C I J R h => bX0_choosers_48 G w4 h
    have w47 : ∀ (x0 : Nat) (x3 : Int32) (s0 : Int32) (C : MC) (I : MI) (J : MJ) (R : MR), PX0_choosers_47 (fun (x0 : Nat) (x1 : Int32) (x3 : Int32) (C : MC) (I : MI) (J : MJ) (R : MR) => ∃ m, m < n ∧ Q4 m (gK Γ) x0 x1 x3 C I J R) (gK Γ) x0 x3 s0 C I J R → AW Γ 0 0 C I J R 47 [(0, aR (some x0)), (3, aI x3)] [aI s0] := fun x0 x3 s0 C I J R h => bX0_choosers_47 G w48 h
    exact fun x0 x1 x3 C I J R h => bX0_choosers_4 G w47 w48 (h4 n (gK Γ) x0 x1 x3 C I J R h)
  have w4 : ∀ (x0 : Nat) (x1 : Int32) (x3 : Int32) (C : MC) (I : MI) (J : MJ) (R : MR), (∃ n, Q4 n (gK Γ) x0 x1 x3 C I J R) → AW Γ 0 0 C I J R 4 [(0, aR (some x0)), (1, aI x1), (3, aI x3)] [] := fun x0 x1 x3 C I J R ⟨m, hq⟩ => (key m) x0 x1 x3 C I J R hq
  have w48 : ∀ (x0 : Nat) (x3 : Int32) (s0 : Int32) (s1 : Int32) (C : MC) (I : MI) (J : MJ) (R : MR), PX0_choosers_48 (fun (x0 : Nat) (x1 : Int32) (x3 : Int32) (C : MC) (I : MI) (J : MJ) (R : MR) => ∃ n, Q4 n (gK Γ) x0 x1 x3 C I J R) (gK Γ) x0 x3 s0 s1 C I J R → AW Γ 0 0 C I J R 48 [(0, aR (some x0)), (3, aI x3)] [aI s1, aI s0] := fun x0 x3 s0 s1 C I J R h => bX0_choosers_48 G w4 h
  have w47 : ∀ (x0 : Nat) (x3 : Int32) (s0 : Int32) (C : MC) (I : MI) (J : MJ) (R : MR), PX0_choosers_47 (fun (x0 : Nat) (x1 : Int32) (x3 : Int32) (C : MC) (I : MI) (J : MJ) (R : MR) => ∃ n, Q4 n (gK Γ) x0 x1 x3 C I J R) (gK Γ) x0 x3 s0 C I J R → AW Γ 0 0 C I J R 47 [(0, aR (some x0)), (3, aI x3)] [aI s0] := fun x0 x3 s0 C I J R h => bX0_choosers_47 G w48 h
  obtain ⟨x0, rfl, h⟩ := h0 As C I J R (gK Γ) hF
  exact ⟨Nat.le_of_ble_eq_true rfl, bX0_choosers_0 G w4 h⟩
def PX0_best_419 (F_X0_thing : SPF) (F_X0_isShare : SPF) (F_X0_want : SPF) (F_X0_leaves : SPF) (F_Vtable : SPF) (F_X3_by : SPF) (F_X0_isEnough : SPF) (F_X0_next : SPF) (F_X0_none : SPF) (F_X0_great : SPF) (Q68 : Nat → Int32 → Int32 → Int32 → Nat → Nat → Nat → Int32 → Int32 → MC → MI → MJ → MR → Prop) (Q95 : Nat → Int32 → Int32 → Int32 → Nat → Nat → Nat → Int32 → Nat → Int32 → Nat → Int32 → Int32 → MC → MI → MJ → MR → Prop) (Q172 : Nat → Int32 → Int32 → Int32 → Nat → Nat → Nat → Int32 → Int32 → MC → MI → MJ → MR → Prop) (Q228 : Nat → Nat → Nat → Int32 → Int32 → MC → MI → MJ → MR → Prop) (Q276 : Nat → Nat → Int32 → Int32 → MC → MI → MJ → MR → Prop) (Q319 : Int32 → Nat → Int32 → Int32 → MC → MI → MJ → MR → Prop) (Q370 : Int32 → Nat → Int32 → Int32 → MC → MI → MJ → MR → Prop) (Q419 : Int32 → Nat → Int32 → Int32 → MC → MI → MJ → MR → Prop) (K : AK) (x7 : Int32) (x8 : Nat) (x9 : Int32) (x10 : Int32) (C : MC) (I : MI) (J : MJ) (R : MR) : Prop :=
      ((x9 ≤ x10 →
      K (.inl (some (aI x7))) C I J R) ∧
      (¬ x9 ≤ x10 →
      (25 ≤ (C x8).1 ∧ (C x8).1 < 30) ∧
      vp_in x10 (C x8).2 ∧
      ∃ q4 : Nat, R x8 x10.toNatClampNeg = some q4 ∧
      (C q4).1 = 5 ∧
      ∀ I6 : MI, I6 = va_up I q4 (va_up (I q4) 9 (0 : Int32)) →
      Q419 x7 x8 x9 (x10 + 1) C I6 J R))
def PX0_best_399 (F_X0_thing : SPF) (F_X0_isShare : SPF) (F_X0_want : SPF) (F_X0_leaves : SPF) (F_Vtable : SPF) (F_X3_by : SPF) (F_X0_isEnough : SPF) (F_X0_next : SPF) (F_X0_none : SPF) (F_X0_great : SPF) (Q68 : Nat → Int32 → Int32 → Int32 → Nat → Nat → Nat → Int32 → Int32 → MC → MI → MJ → MR → Prop) (Q95 : Nat → Int32 → Int32 → Int32 → Nat → Nat → Nat → Int32 → Nat → Int32 → Nat → Int32 → Int32 → MC → MI → MJ → MR → Prop) (Q172 : Nat → Int32 → Int32 → Int32 → Nat → Nat → Nat → Int32 → Int32 → MC → MI → MJ → MR → Prop) (Q228 : Nat → Nat → Nat → Int32 → Int32 → MC → MI → MJ → MR → Prop) (Q276 : Nat → Nat → Int32 → Int32 → MC → MI → MJ → MR → Prop) (Q319 : Int32 → Nat → Int32 → Int32 → MC → MI → MJ → MR → Prop) (Q370 : Int32 → Nat → Int32 → Int32 → MC → MI → MJ → MR → Prop) (Q419 : Int32 → Nat → Int32 → Int32 → MC → MI → MJ → MR → Prop) (K : AK) (x0 : Nat) (x5 : Nat) (s0 : Nat) (C : MC) (I : MI) (J : MJ) (R : MR) : Prop :=
      (C x0).1 = 1 ∧
      F_X0_great [aR (some x0)] C I J R (fun o C2 I3 J4 R5 =>
      ∃ r6 : Int32, o = .inl (some (aI r6)) ∧
      (20 ≤ (C2 x5).1 ∧ (C2 x5).1 ≤ 30) ∧
      Q419 r6 x5 (nI (C2 x5).2) (0 : Int32) C2 I3 J4 R5)
def PX0_best_370 (F_X0_thing : SPF) (F_X0_isShare : SPF) (F_X0_want : SPF) (F_X0_leaves : SPF) (F_Vtable : SPF) (F_X3_by : SPF) (F_X0_isEnough : SPF) (F_X0_next : SPF) (F_X0_none : SPF) (F_X0_great : SPF) (Q68 : Nat → Int32 → Int32 → Int32 → Nat → Nat → Nat → Int32 → Int32 → MC → MI → MJ → MR → Prop) (Q95 : Nat → Int32 → Int32 → Int32 → Nat → Nat → Nat → Int32 → Nat → Int32 → Nat → Int32 → Int32 → MC → MI → MJ → MR → Prop) (Q172 : Nat → Int32 → Int32 → Int32 → Nat → Nat → Nat → Int32 → Int32 → MC → MI → MJ → MR → Prop) (Q228 : Nat → Nat → Nat → Int32 → Int32 → MC → MI → MJ → MR → Prop) (Q276 : Nat → Nat → Int32 → Int32 → MC → MI → MJ → MR → Prop) (Q319 : Int32 → Nat → Int32 → Int32 → MC → MI → MJ → MR → Prop) (Q370 : Int32 → Nat → Int32 → Int32 → MC → MI → MJ → MR → Prop) (Q419 : Int32 → Nat → Int32 → Int32 → MC → MI → MJ → MR → Prop) (K : AK) (x7 : Int32) (x8 : Nat) (x9 : Int32) (x10 : Int32) (C : MC) (I : MI) (J : MJ) (R : MR) : Prop :=
      ((x9 ≤ x10 →
      K (.inl (some (aI x7))) C I J R) ∧
      (¬ x9 ≤ x10 →
      (25 ≤ (C x8).1 ∧ (C x8).1 < 30) ∧
      vp_in x10 (C x8).2 ∧
      ∃ q4 : Nat, R x8 x10.toNatClampNeg = some q4 ∧
      (C q4).1 = 5 ∧
      ∀ I6 : MI, I6 = va_up I q4 (va_up (I q4) 9 (0 : Int32)) →
      Q370 x7 x8 x9 (x10 + 1) C I6 J R))
def PX0_best_348 (F_X0_thing : SPF) (F_X0_isShare : SPF) (F_X0_want : SPF) (F_X0_leaves : SPF) (F_Vtable : SPF) (F_X3_by : SPF) (F_X0_isEnough : SPF) (F_X0_next : SPF) (F_X0_none : SPF) (F_X0_great : SPF) (Q68 : Nat → Int32 → Int32 → Int32 → Nat → Nat → Nat → Int32 → Int32 → MC → MI → MJ → MR → Prop) (Q95 : Nat → Int32 → Int32 → Int32 → Nat → Nat → Nat → Int32 → Nat → Int32 → Nat → Int32 → Int32 → MC → MI → MJ → MR → Prop) (Q172 : Nat → Int32 → Int32 → Int32 → Nat → Nat → Nat → Int32 → Int32 → MC → MI → MJ → MR → Prop) (Q228 : Nat → Nat → Nat → Int32 → Int32 → MC → MI → MJ → MR → Prop) (Q276 : Nat → Nat → Int32 → Int32 → MC → MI → MJ → MR → Prop) (Q319 : Int32 → Nat → Int32 → Int32 → MC → MI → MJ → MR → Prop) (Q370 : Int32 → Nat → Int32 → Int32 → MC → MI → MJ → MR → Prop) (Q419 : Int32 → Nat → Int32 → Int32 → MC → MI → MJ → MR → Prop) (K : AK) (x0 : Nat) (x5 : Nat) (s0 : Nat) (C : MC) (I : MI) (J : MJ) (R : MR) : Prop :=
      (C x0).1 = 1 ∧
      F_X0_none [aR (some x0), aR (some s0)] C I J R (fun o C2 I3 J4 R5 =>
      ∃ r6 : Int32, o = .inl (some (aI r6)) ∧
      (20 ≤ (C2 x5).1 ∧ (C2 x5).1 ≤ 30) ∧
      Q370 r6 x5 (nI (C2 x5).2) (0 : Int32) C2 I3 J4 R5)
def PX0_best_319 (F_X0_thing : SPF) (F_X0_isShare : SPF) (F_X0_want : SPF) (F_X0_leaves : SPF) (F_Vtable : SPF) (F_X3_by : SPF) (F_X0_isEnough : SPF) (F_X0_next : SPF) (F_X0_none : SPF) (F_X0_great : SPF) (Q68 : Nat → Int32 → Int32 → Int32 → Nat → Nat → Nat → Int32 → Int32 → MC → MI → MJ → MR → Prop) (Q95 : Nat → Int32 → Int32 → Int32 → Nat → Nat → Nat → Int32 → Nat → Int32 → Nat → Int32 → Int32 → MC → MI → MJ → MR → Prop) (Q172 : Nat → Int32 → Int32 → Int32 → Nat → Nat → Nat → Int32 → Int32 → MC → MI → MJ → MR → Prop) (Q228 : Nat → Nat → Nat → Int32 → Int32 → MC → MI → MJ → MR → Prop) (Q276 : Nat → Nat → Int32 → Int32 → MC → MI → MJ → MR → Prop) (Q319 : Int32 → Nat → Int32 → Int32 → MC → MI → MJ → MR → Prop) (Q370 : Int32 → Nat → Int32 → Int32 → MC → MI → MJ → MR → Prop) (Q419 : Int32 → Nat → Int32 → Int32 → MC → MI → MJ → MR → Prop) (K : AK) (x10 : Int32) (x11 : Nat) (x12 : Int32) (x13 : Int32) (C : MC) (I : MI) (J : MJ) (R : MR) : Prop :=
      ((x12 ≤ x13 →
      K (.inl (some (aI x10))) C I J R) ∧
      (¬ x12 ≤ x13 →
      (25 ≤ (C x11).1 ∧ (C x11).1 < 30) ∧
      vp_in x13 (C x11).2 ∧
      ∃ q4 : Nat, R x11 x13.toNatClampNeg = some q4 ∧
      (C q4).1 = 5 ∧
      ∀ I6 : MI, I6 = va_up I q4 (va_up (I q4) 9 (0 : Int32)) →
      Q319 x10 x11 x12 (x13 + 1) C I6 J R))
def PX0_best_276 (F_X0_thing : SPF) (F_X0_isShare : SPF) (F_X0_want : SPF) (F_X0_leaves : SPF) (F_Vtable : SPF) (F_X3_by : SPF) (F_X0_isEnough : SPF) (F_X0_next : SPF) (F_X0_none : SPF) (F_X0_great : SPF) (Q68 : Nat → Int32 → Int32 → Int32 → Nat → Nat → Nat → Int32 → Int32 → MC → MI → MJ → MR → Prop) (Q95 : Nat → Int32 → Int32 → Int32 → Nat → Nat → Nat → Int32 → Nat → Int32 → Nat → Int32 → Int32 → MC → MI → MJ → MR → Prop) (Q172 : Nat → Int32 → Int32 → Int32 → Nat → Nat → Nat → Int32 → Int32 → MC → MI → MJ → MR → Prop) (Q228 : Nat → Nat → Nat → Int32 → Int32 → MC → MI → MJ → MR → Prop) (Q276 : Nat → Nat → Int32 → Int32 → MC → MI → MJ → MR → Prop) (Q319 : Int32 → Nat → Int32 → Int32 → MC → MI → MJ → MR → Prop) (Q370 : Int32 → Nat → Int32 → Int32 → MC → MI → MJ → MR → Prop) (Q419 : Int32 → Nat → Int32 → Int32 → MC → MI → MJ → MR → Prop) (K : AK) (x5 : Nat) (x7 : Nat) (x8 : Int32) (x10 : Int32) (C : MC) (I : MI) (J : MJ) (R : MR) : Prop :=
      (20 ≤ (C x5).1 ∧ (C x5).1 ≤ 30) ∧
      (((nI (C x5).2) ≤ x10 →
      Q319 x8 x5 (nI (C x5).2) (0 : Int32) C I J R) ∧
      (¬ (nI (C x5).2) ≤ x10 →
      (25 ≤ (C x5).1 ∧ (C x5).1 < 30) ∧
      vp_in x10 (C x5).2 ∧
      (C x7).1 = 20 ∧
      vp_in x10 (C x7).2 ∧
      ∃ q7 : Nat, R x5 x10.toNatClampNeg = some q7 ∧
      (C q7).1 = 5 ∧
      ∀ I9 : MI, I9 = va_up I q7 (va_up (I q7) 10 (I x7 x10.toNatClampNeg)) →
      Q276 x5 x7 x8 (x10 + 1) C I9 J R))
def PX0_best_267 (F_X0_thing : SPF) (F_X0_isShare : SPF) (F_X0_want : SPF) (F_X0_leaves : SPF) (F_Vtable : SPF) (F_X3_by : SPF) (F_X0_isEnough : SPF) (F_X0_next : SPF) (F_X0_none : SPF) (F_X0_great : SPF) (Q68 : Nat → Int32 → Int32 → Int32 → Nat → Nat → Nat → Int32 → Int32 → MC → MI → MJ → MR → Prop) (Q95 : Nat → Int32 → Int32 → Int32 → Nat → Nat → Nat → Int32 → Nat → Int32 → Nat → Int32 → Int32 → MC → MI → MJ → MR → Prop) (Q172 : Nat → Int32 → Int32 → Int32 → Nat → Nat → Nat → Int32 → Int32 → MC → MI → MJ → MR → Prop) (Q228 : Nat → Nat → Nat → Int32 → Int32 → MC → MI → MJ → MR → Prop) (Q276 : Nat → Nat → Int32 → Int32 → MC → MI → MJ → MR → Prop) (Q319 : Int32 → Nat → Int32 → Int32 → MC → MI → MJ → MR → Prop) (Q370 : Int32 → Nat → Int32 → Int32 → MC → MI → MJ → MR → Prop) (Q419 : Int32 → Nat → Int32 → Int32 → MC → MI → MJ → MR → Prop) (K : AK) (x0 : Nat) (x5 : Nat) (x7 : Nat) (x8 : Int32) (x11 : Int32) (C : MC) (I : MI) (J : MJ) (R : MR) : Prop :=
      Q228 x0 x5 x7 x8 (x11 + 1) C I J R
def PX0_best_228 (F_X0_thing : SPF) (F_X0_isShare : SPF) (F_X0_want : SPF) (F_X0_leaves : SPF) (F_Vtable : SPF) (F_X3_by : SPF) (F_X0_isEnough : SPF) (F_X0_next : SPF) (F_X0_none : SPF) (F_X0_great : SPF) (Q68 : Nat → Int32 → Int32 → Int32 → Nat → Nat → Nat → Int32 → Int32 → MC → MI → MJ → MR → Prop) (Q95 : Nat → Int32 → Int32 → Int32 → Nat → Nat → Nat → Int32 → Nat → Int32 → Nat → Int32 → Int32 → MC → MI → MJ → MR → Prop) (Q172 : Nat → Int32 → Int32 → Int32 → Nat → Nat → Nat → Int32 → Int32 → MC → MI → MJ → MR → Prop) (Q228 : Nat → Nat → Nat → Int32 → Int32 → MC → MI → MJ → MR → Prop) (Q276 : Nat → Nat → Int32 → Int32 → MC → MI → MJ → MR → Prop) (Q319 : Int32 → Nat → Int32 → Int32 → MC → MI → MJ → MR → Prop) (Q370 : Int32 → Nat → Int32 → Int32 → MC → MI → MJ → MR → Prop) (Q419 : Int32 → Nat → Int32 → Int32 → MC → MI → MJ → MR → Prop) (K : AK) (x0 : Nat) (x5 : Nat) (x7 : Nat) (x8 : Int32) (x11 : Int32) (C : MC) (I : MI) (J : MJ) (R : MR) : Prop :=
      (C x0).1 = 1 ∧
      (((I x0 3) ≤ x11 →
      Q276 x5 x7 x8 (0 : Int32) C I J R) ∧
      (¬ (I x0 3) ≤ x11 →
      ∃ q3 : Nat, R x0 2 = some q3 ∧
      (25 ≤ (C q3).1 ∧ (C q3).1 < 30) ∧
      vp_in x11 (C q3).2 ∧
      ∃ q6 : Nat, R q3 x11.toNatClampNeg = some q6 ∧
      kTh (C q6).1 ∧
      (((C q6).1 = 5 →
      ∀ I9 : MI, I9 = va_up I q6 (va_up (I q6) 10 (-1 : Int32)) →
      PX0_best_267 F_X0_thing F_X0_isShare F_X0_want F_X0_leaves F_Vtable F_X3_by F_X0_isEnough F_X0_next F_X0_none F_X0_great Q68 Q95 Q172 Q228 Q276 Q319 Q370 Q419 K x0 x5 x7 x8 x11 C I9 J R) ∧
      (¬ (C q6).1 = 5 →
      PX0_best_267 F_X0_thing F_X0_isShare F_X0_want F_X0_leaves F_Vtable F_X3_by F_X0_isEnough F_X0_next F_X0_none F_X0_great Q68 Q95 Q172 Q228 Q276 Q319 Q370 Q419 K x0 x5 x7 x8 x11 C I J R))))
def PX0_best_220 (F_X0_thing : SPF) (F_X0_isShare : SPF) (F_X0_want : SPF) (F_X0_leaves : SPF) (F_Vtable : SPF) (F_X3_by : SPF) (F_X0_isEnough : SPF) (F_X0_next : SPF) (F_X0_none : SPF) (F_X0_great : SPF) (Q68 : Nat → Int32 → Int32 → Int32 → Nat → Nat → Nat → Int32 → Int32 → MC → MI → MJ → MR → Prop) (Q95 : Nat → Int32 → Int32 → Int32 → Nat → Nat → Nat → Int32 → Nat → Int32 → Nat → Int32 → Int32 → MC → MI → MJ → MR → Prop) (Q172 : Nat → Int32 → Int32 → Int32 → Nat → Nat → Nat → Int32 → Int32 → MC → MI → MJ → MR → Prop) (Q228 : Nat → Nat → Nat → Int32 → Int32 → MC → MI → MJ → MR → Prop) (Q276 : Nat → Nat → Int32 → Int32 → MC → MI → MJ → MR → Prop) (Q319 : Int32 → Nat → Int32 → Int32 → MC → MI → MJ → MR → Prop) (Q370 : Int32 → Nat → Int32 → Int32 → MC → MI → MJ → MR → Prop) (Q419 : Int32 → Nat → Int32 → Int32 → MC → MI → MJ → MR → Prop) (K : AK) (x0 : Nat) (x5 : Nat) (x7 : Nat) (x8 : Int32) (s0 : Nat) (s1 : Int32) (C : MC) (I : MI) (J : MJ) (R : MR) : Prop :=
      (C s0).1 = 1 ∧
      F_X0_want [aR (some s0), aI s1, aI (6 : Int32)] C I J R (fun o C2 I3 J4 R5 =>
      (o = .inl none ∧
      Q228 x0 x5 x7 x8 (0 : Int32) C2 I3 J4 R5) ∨
      (∃ q7 : Nat, o = .inr q7 ∧
      ((C2 q7).1 = 2 ∧
      PX0_best_348 F_X0_thing F_X0_isShare F_X0_want F_X0_leaves F_Vtable F_X3_by F_X0_isEnough F_X0_next F_X0_none F_X0_great Q68 Q95 Q172 Q228 Q276 Q319 Q370 Q419 K x0 x5 q7 C2 I3 J4 R5)))
def PX0_best_199 (F_X0_thing : SPF) (F_X0_isShare : SPF) (F_X0_want : SPF) (F_X0_leaves : SPF) (F_Vtable : SPF) (F_X3_by : SPF) (F_X0_isEnough : SPF) (F_X0_next : SPF) (F_X0_none : SPF) (F_X0_great : SPF) (Q68 : Nat → Int32 → Int32 → Int32 → Nat → Nat → Nat → Int32 → Int32 → MC → MI → MJ → MR → Prop) (Q95 : Nat → Int32 → Int32 → Int32 → Nat → Nat → Nat → Int32 → Nat → Int32 → Nat → Int32 → Int32 → MC → MI → MJ → MR → Prop) (Q172 : Nat → Int32 → Int32 → Int32 → Nat → Nat → Nat → Int32 → Int32 → MC → MI → MJ → MR → Prop) (Q228 : Nat → Nat → Nat → Int32 → Int32 → MC → MI → MJ → MR → Prop) (Q276 : Nat → Nat → Int32 → Int32 → MC → MI → MJ → MR → Prop) (Q319 : Int32 → Nat → Int32 → Int32 → MC → MI → MJ → MR → Prop) (Q370 : Int32 → Nat → Int32 → Int32 → MC → MI → MJ → MR → Prop) (Q419 : Int32 → Nat → Int32 → Int32 → MC → MI → MJ → MR → Prop) (K : AK) (x0 : Nat) (x2 : Int32) (x3 : Int32) (x4 : Int32) (x5 : Nat) (x6 : Nat) (x7 : Nat) (x8 : Int32) (C : MC) (I : MI) (J : MJ) (R : MR) : Prop :=
      F_X0_next [aR (some x5)] C I J R (fun o C1 I2 J3 R4 =>
      ∃ r5 : Int32, o = .inl (some (aI r5)) ∧
      Q68 x0 x2 x3 x4 x5 x6 x7 x8 r5 C1 I2 J3 R4)
def PX0_best_172 (F_X0_thing : SPF) (F_X0_isShare : SPF) (F_X0_want : SPF) (F_X0_leaves : SPF) (F_Vtable : SPF) (F_X3_by : SPF) (F_X0_isEnough : SPF) (F_X0_next : SPF) (F_X0_none : SPF) (F_X0_great : SPF) (Q68 : Nat → Int32 → Int32 → Int32 → Nat → Nat → Nat → Int32 → Int32 → MC → MI → MJ → MR → Prop) (Q95 : Nat → Int32 → Int32 → Int32 → Nat → Nat → Nat → Int32 → Nat → Int32 → Nat → Int32 → Int32 → MC → MI → MJ → MR → Prop) (Q172 : Nat → Int32 → Int32 → Int32 → Nat → Nat → Nat → Int32 → Int32 → MC → MI → MJ → MR → Prop) (Q228 : Nat → Nat → Nat → Int32 → Int32 → MC → MI → MJ → MR → Prop) (Q276 : Nat → Nat → Int32 → Int32 → MC → MI → MJ → MR → Prop) (Q319 : Int32 → Nat → Int32 → Int32 → MC → MI → MJ → MR → Prop) (Q370 : Int32 → Nat → Int32 → Int32 → MC → MI → MJ → MR → Prop) (Q419 : Int32 → Nat → Int32 → Int32 → MC → MI → MJ → MR → Prop) (K : AK) (x0 : Nat) (x2 : Int32) (x3 : Int32) (x4 : Int32) (x5 : Nat) (x6 : Nat) (x7 : Nat) (x8 : Int32) (x12 : Int32) (C : MC) (I : MI) (J : MJ) (R : MR) : Prop :=
      (20 ≤ (C x5).1 ∧ (C x5).1 ≤ 30) ∧
      (((nI (C x5).2) ≤ x12 →
      PX0_best_199 F_X0_thing F_X0_isShare F_X0_want F_X0_leaves F_Vtable F_X3_by F_X0_isEnough F_X0_next F_X0_none F_X0_great Q68 Q95 Q172 Q228 Q276 Q319 Q370 Q419 K x0 x2 x3 x4 x5 x6 x7 x8 C I J R) ∧
      (¬ (nI (C x5).2) ≤ x12 →
      (25 ≤ (C x5).1 ∧ (C x5).1 < 30) ∧
      vp_in x12 (C x5).2 ∧
      ∃ q5 : Nat, R x5 x12.toNatClampNeg = some q5 ∧
      (C q5).1 = 5 ∧
      (C x7).1 = 20 ∧
      vp_in x12 (C x7).2 ∧
      ∀ I9 : MI, I9 = va_up I x7 (va_up (I x7) x12.toNatClampNeg (I q5 9)) →
      Q172 x0 x2 x3 x4 x5 x6 x7 x8 (x12 + 1) C I9 J R))
def PX0_best_143 (F_X0_thing : SPF) (F_X0_isShare : SPF) (F_X0_want : SPF) (F_X0_leaves : SPF) (F_Vtable : SPF) (F_X3_by : SPF) (F_X0_isEnough : SPF) (F_X0_next : SPF) (F_X0_none : SPF) (F_X0_great : SPF) (Q68 : Nat → Int32 → Int32 → Int32 → Nat → Nat → Nat → Int32 → Int32 → MC → MI → MJ → MR → Prop) (Q95 : Nat → Int32 → Int32 → Int32 → Nat → Nat → Nat → Int32 → Nat → Int32 → Nat → Int32 → Int32 → MC → MI → MJ → MR → Prop) (Q172 : Nat → Int32 → Int32 → Int32 → Nat → Nat → Nat → Int32 → Int32 → MC → MI → MJ → MR → Prop) (Q228 : Nat → Nat → Nat → Int32 → Int32 → MC → MI → MJ → MR → Prop) (Q276 : Nat → Nat → Int32 → Int32 → MC → MI → MJ → MR → Prop) (Q319 : Int32 → Nat → Int32 → Int32 → MC → MI → MJ → MR → Prop) (Q370 : Int32 → Nat → Int32 → Int32 → MC → MI → MJ → MR → Prop) (Q419 : Int32 → Nat → Int32 → Int32 → MC → MI → MJ → MR → Prop) (K : AK) (x0 : Nat) (x2 : Int32) (x3 : Int32) (x4 : Int32) (x5 : Nat) (x6 : Nat) (x7 : Nat) (x8 : Int32) (x10 : Nat) (x11 : Int32) (C : MC) (I : MI) (J : MJ) (R : MR) : Prop :=
      (C x10).1 = 4 ∧
      F_X3_by [aR (some x10), aI x2] C I J R (fun o C2 I3 J4 R5 =>
      ∃ r6 : Int64, o = .inl (some (aJ r6)) ∧
      (C2 x10).1 = 4 ∧
      F_X0_isEnough [aJ r6, aJ (J4 x10 2), aJ x3.toInt64, aJ x4.toInt64] C2 I3 J4 R5 (fun o C8 I9 J10 R11 =>
      ∃ r12 : Int32, o = .inl (some (aI r12)) ∧
      ((r12 = 0 →
      PX0_best_199 F_X0_thing F_X0_isShare F_X0_want F_X0_leaves F_Vtable F_X3_by F_X0_isEnough F_X0_next F_X0_none F_X0_great Q68 Q95 Q172 Q228 Q276 Q319 Q370 Q419 K x0 x2 x3 x4 x5 x6 x7 x8 C8 I9 J10 R11) ∧
      (¬ r12 = 0 →
      Q172 x0 x2 x3 x4 x5 x6 x7 x11 (0 : Int32) C8 I9 J10 R11))))
def PX0_best_95 (F_X0_thing : SPF) (F_X0_isShare : SPF) (F_X0_want : SPF) (F_X0_leaves : SPF) (F_Vtable : SPF) (F_X3_by : SPF) (F_X0_isEnough : SPF) (F_X0_next : SPF) (F_X0_none : SPF) (F_X0_great : SPF) (Q68 : Nat → Int32 → Int32 → Int32 → Nat → Nat → Nat → Int32 → Int32 → MC → MI → MJ → MR → Prop) (Q95 : Nat → Int32 → Int32 → Int32 → Nat → Nat → Nat → Int32 → Nat → Int32 → Nat → Int32 → Int32 → MC → MI → MJ → MR → Prop) (Q172 : Nat → Int32 → Int32 → Int32 → Nat → Nat → Nat → Int32 → Int32 → MC → MI → MJ → MR → Prop) (Q228 : Nat → Nat → Nat → Int32 → Int32 → MC → MI → MJ → MR → Prop) (Q276 : Nat → Nat → Int32 → Int32 → MC → MI → MJ → MR → Prop) (Q319 : Int32 → Nat → Int32 → Int32 → MC → MI → MJ → MR → Prop) (Q370 : Int32 → Nat → Int32 → Int32 → MC → MI → MJ → MR → Prop) (Q419 : Int32 → Nat → Int32 → Int32 → MC → MI → MJ → MR → Prop) (K : AK) (x0 : Nat) (x2 : Int32) (x3 : Int32) (x4 : Int32) (x5 : Nat) (x6 : Nat) (x7 : Nat) (x8 : Int32) (x10 : Nat) (x11 : Int32) (x12 : Nat) (x13 : Int32) (x14 : Int32) (C : MC) (I : MI) (J : MJ) (R : MR) : Prop :=
      ((x13 ≤ x14 →
      ((x8 < 0 →
      PX0_best_143 F_X0_thing F_X0_isShare F_X0_want F_X0_leaves F_Vtable F_X3_by F_X0_isEnough F_X0_next F_X0_none F_X0_great Q68 Q95 Q172 Q228 Q276 Q319 Q370 Q419 K x0 x2 x3 x4 x5 x6 x7 x8 x10 x11 C I J R) ∧
      (¬ x8 < 0 →
      ((x8 ≤ x11 →
      PX0_best_199 F_X0_thing F_X0_isShare F_X0_want F_X0_leaves F_Vtable F_X3_by F_X0_isEnough F_X0_next F_X0_none F_X0_great Q68 Q95 Q172 Q228 Q276 Q319 Q370 Q419 K x0 x2 x3 x4 x5 x6 x7 x8 C I J R) ∧
      (¬ x8 ≤ x11 →
      PX0_best_143 F_X0_thing F_X0_isShare F_X0_want F_X0_leaves F_Vtable F_X3_by F_X0_isEnough F_X0_next F_X0_none F_X0_great Q68 Q95 Q172 Q228 Q276 Q319 Q370 Q419 K x0 x2 x3 x4 x5 x6 x7 x8 x10 x11 C I J R))))) ∧
      (¬ x13 ≤ x14 →
      (25 ≤ (C x12).1 ∧ (C x12).1 < 30) ∧
      vp_in x14 (C x12).2 ∧
      ∃ q6 : Nat, R x12 x14.toNatClampNeg = some q6 ∧
      (C q6).1 = 5 ∧
      ∃ q8 : Nat, R q6 7 = some q8 ∧
      (C q8).1 = 20 ∧
      vp_in (I q6 9) (C q8).2 ∧
      Q95 x0 x2 x3 x4 x5 x6 x7 x8 x10 (x11 + (I q8 (I q6 9).toNatClampNeg)) x12 x13 (x14 + 1) C I J R))
def PX0_best_68 (F_X0_thing : SPF) (F_X0_isShare : SPF) (F_X0_want : SPF) (F_X0_leaves : SPF) (F_Vtable : SPF) (F_X3_by : SPF) (F_X0_isEnough : SPF) (F_X0_next : SPF) (F_X0_none : SPF) (F_X0_great : SPF) (Q68 : Nat → Int32 → Int32 → Int32 → Nat → Nat → Nat → Int32 → Int32 → MC → MI → MJ → MR → Prop) (Q95 : Nat → Int32 → Int32 → Int32 → Nat → Nat → Nat → Int32 → Nat → Int32 → Nat → Int32 → Int32 → MC → MI → MJ → MR → Prop) (Q172 : Nat → Int32 → Int32 → Int32 → Nat → Nat → Nat → Int32 → Int32 → MC → MI → MJ → MR → Prop) (Q228 : Nat → Nat → Nat → Int32 → Int32 → MC → MI → MJ → MR → Prop) (Q276 : Nat → Nat → Int32 → Int32 → MC → MI → MJ → MR → Prop) (Q319 : Int32 → Nat → Int32 → Int32 → MC → MI → MJ → MR → Prop) (Q370 : Int32 → Nat → Int32 → Int32 → MC → MI → MJ → MR → Prop) (Q419 : Int32 → Nat → Int32 → Int32 → MC → MI → MJ → MR → Prop) (K : AK) (x0 : Nat) (x2 : Int32) (x3 : Int32) (x4 : Int32) (x5 : Nat) (x6 : Nat) (x7 : Nat) (x8 : Int32) (x9 : Int32) (C : MC) (I : MI) (J : MJ) (R : MR) : Prop :=
      ((x9 = 0 →
      ((x8 < 0 →
      PX0_best_220 F_X0_thing F_X0_isShare F_X0_want F_X0_leaves F_Vtable F_X3_by F_X0_isEnough F_X0_next F_X0_none F_X0_great Q68 Q95 Q172 Q228 Q276 Q319 Q370 Q419 K x0 x5 x7 x8 x0 (0 : Int32) C I J R) ∧
      (¬ x8 < 0 →
      PX0_best_220 F_X0_thing F_X0_isShare F_X0_want F_X0_leaves F_Vtable F_X3_by F_X0_isEnough F_X0_next F_X0_none F_X0_great Q68 Q95 Q172 Q228 Q276 Q319 Q370 Q419 K x0 x5 x7 x8 x0 (1 : Int32) C I J R))) ∧
      (¬ x9 = 0 →
      kTh (C x6).1 ∧
      F_Vtable [aR (some x6)] C I J R (fun o C4 I5 J6 R7 =>
      (∃ r8 : Nat, o = .inl (some (aR (some r8))) ∧
      (20 ≤ (C4 x5).1 ∧ (C4 x5).1 ≤ 30) ∧
      Q95 x0 x2 x3 x4 x5 x6 x7 x8 r8 (0 : Int32) x5 (nI (C4 x5).2) (0 : Int32) C4 I5 J6 R7) ∨
      (∃ q10 : Nat, o = .inr q10 ∧
      ((C4 q10).1 = 11 ∧
      PX0_best_399 F_X0_thing F_X0_isShare F_X0_want F_X0_leaves F_Vtable F_X3_by F_X0_isEnough F_X0_next F_X0_none F_X0_great Q68 Q95 Q172 Q228 Q276 Q319 Q370 Q419 K x0 x5 q10 C4 I5 J6 R7)))))
def PX0_best_43 (F_X0_thing : SPF) (F_X0_isShare : SPF) (F_X0_want : SPF) (F_X0_leaves : SPF) (F_Vtable : SPF) (F_X3_by : SPF) (F_X0_isEnough : SPF) (F_X0_next : SPF) (F_X0_none : SPF) (F_X0_great : SPF) (Q68 : Nat → Int32 → Int32 → Int32 → Nat → Nat → Nat → Int32 → Int32 → MC → MI → MJ → MR → Prop) (Q95 : Nat → Int32 → Int32 → Int32 → Nat → Nat → Nat → Int32 → Nat → Int32 → Nat → Int32 → Int32 → MC → MI → MJ → MR → Prop) (Q172 : Nat → Int32 → Int32 → Int32 → Nat → Nat → Nat → Int32 → Int32 → MC → MI → MJ → MR → Prop) (Q228 : Nat → Nat → Nat → Int32 → Int32 → MC → MI → MJ → MR → Prop) (Q276 : Nat → Nat → Int32 → Int32 → MC → MI → MJ → MR → Prop) (Q319 : Int32 → Nat → Int32 → Int32 → MC → MI → MJ → MR → Prop) (Q370 : Int32 → Nat → Int32 → Int32 → MC → MI → MJ → MR → Prop) (Q419 : Int32 → Nat → Int32 → Int32 → MC → MI → MJ → MR → Prop) (K : AK) (x0 : Nat) (x2 : Int32) (x3 : Int32) (x4 : Int32) (x5 : Nat) (x6 : Nat) (s0 : Nat) (s1 : Int32) (C : MC) (I : MI) (J : MJ) (R : MR) : Prop :=
      (C s0).1 = 1 ∧
      F_X0_want [aR (some s0), aI s1, aI (1 : Int32)] C I J R (fun o C2 I3 J4 R5 =>
      (o = .inl none ∧
      (C2 x0).1 = 1 ∧
      F_X0_leaves [aR (some x0), aR (some x6)] C2 I3 J4 R5 (fun o C8 I9 J10 R11 =>
      ∃ r12 : Nat, o = .inl (some (aR (some r12))) ∧
      (20 ≤ (C8 r12).1 ∧ (C8 r12).1 ≤ 30) ∧
      ¬ (nI (C8 r12).2) < 0 ∧
      (nI (C8 r12).2).toNatClampNeg ≤ 20 ∧
      ∃ q14 : Nat, (C8 q14).1 = 0 ∧
      ∀ (C18 : MC) (I19 : MI) (J20 : MJ) (R21 : MR), C18 = va_up C8 q14 (20, (nI (C8 r12).2).toNatClampNeg) → I19 = va_up I9 q14 (fun _ => 0) → J20 = va_up J10 q14 (fun _ => 0) → R21 = va_up R11 q14 (fun _ => none) → 
      Q68 x0 x2 x3 x4 r12 x6 q14 (-1 : Int32) (1 : Int32) C18 I19 J20 R21)) ∨
      (∃ q22 : Nat, o = .inr q22 ∧
      ((C2 q22).1 = 2 ∧
      PX0_best_348 F_X0_thing F_X0_isShare F_X0_want F_X0_leaves F_Vtable F_X3_by F_X0_isEnough F_X0_next F_X0_none F_X0_great Q68 Q95 Q172 Q228 Q276 Q319 Q370 Q419 K x0 x5 q22 C2 I3 J4 R5)))
def PX0_best_42 (F_X0_thing : SPF) (F_X0_isShare : SPF) (F_X0_want : SPF) (F_X0_leaves : SPF) (F_Vtable : SPF) (F_X3_by : SPF) (F_X0_isEnough : SPF) (F_X0_next : SPF) (F_X0_none : SPF) (F_X0_great : SPF) (Q68 : Nat → Int32 → Int32 → Int32 → Nat → Nat → Nat → Int32 → Int32 → MC → MI → MJ → MR → Prop) (Q95 : Nat → Int32 → Int32 → Int32 → Nat → Nat → Nat → Int32 → Nat → Int32 → Nat → Int32 → Int32 → MC → MI → MJ → MR → Prop) (Q172 : Nat → Int32 → Int32 → Int32 → Nat → Nat → Nat → Int32 → Int32 → MC → MI → MJ → MR → Prop) (Q228 : Nat → Nat → Nat → Int32 → Int32 → MC → MI → MJ → MR → Prop) (Q276 : Nat → Nat → Int32 → Int32 → MC → MI → MJ → MR → Prop) (Q319 : Int32 → Nat → Int32 → Int32 → MC → MI → MJ → MR → Prop) (Q370 : Int32 → Nat → Int32 → Int32 → MC → MI → MJ → MR → Prop) (Q419 : Int32 → Nat → Int32 → Int32 → MC → MI → MJ → MR → Prop) (K : AK) (x0 : Nat) (x2 : Int32) (x3 : Int32) (x4 : Int32) (x5 : Nat) (x6 : Nat) (s0 : Nat) (C : MC) (I : MI) (J : MJ) (R : MR) : Prop :=
      PX0_best_43 F_X0_thing F_X0_isShare F_X0_want F_X0_leaves F_Vtable F_X3_by F_X0_isEnough F_X0_next F_X0_none F_X0_great Q68 Q95 Q172 Q228 Q276 Q319 Q370 Q419 K x0 x2 x3 x4 x5 x6 s0 (0 : Int32) C I J R
def PX0_best_0 (F_X0_thing : SPF) (F_X0_isShare : SPF) (F_X0_want : SPF) (F_X0_leaves : SPF) (F_Vtable : SPF) (F_X3_by : SPF) (F_X0_isEnough : SPF) (F_X0_next : SPF) (F_X0_none : SPF) (F_X0_great : SPF) (Q68 : Nat → Int32 → Int32 → Int32 → Nat → Nat → Nat → Int32 → Int32 → MC → MI → MJ → MR → Prop) (Q95 : Nat → Int32 → Int32 → Int32 → Nat → Nat → Nat → Int32 → Nat → Int32 → Nat → Int32 → Int32 → MC → MI → MJ → MR → Prop) (Q172 : Nat → Int32 → Int32 → Int32 → Nat → Nat → Nat → Int32 → Int32 → MC → MI → MJ → MR → Prop) (Q228 : Nat → Nat → Nat → Int32 → Int32 → MC → MI → MJ → MR → Prop) (Q276 : Nat → Nat → Int32 → Int32 → MC → MI → MJ → MR → Prop) (Q319 : Int32 → Nat → Int32 → Int32 → MC → MI → MJ → MR → Prop) (Q370 : Int32 → Nat → Int32 → Int32 → MC → MI → MJ → MR → Prop) (Q419 : Int32 → Nat → Int32 → Int32 → MC → MI → MJ → MR → Prop) (K : AK) (x0 : Nat) (x1 : Int32) (x2 : Int32) (x3 : Int32) (x4 : Int32) (C : MC) (I : MI) (J : MJ) (R : MR) : Prop :=
      (C x0).1 = 1 ∧
      ∀ I2 : MI, I2 = va_up I x0 (va_up (I x0) 5 (0 : Int32)) →
      ∃ q3 : Nat, (C q3).1 = 0 ∧
      ∀ (C5 : MC) (I6 : MI) (J7 : MJ) (R8 : MR), C5 = va_up C q3 (28, 0) → I6 = va_up I2 q3 (fun _ => 0) → J7 = va_up J q3 (fun _ => 0) → R8 = va_up R q3 (fun _ => none) → 
      (C5 x0).1 = 1 ∧
      F_X0_thing [aR (some x0), aI x1] C5 I6 J7 R8 (fun o C10 I11 J12 R13 =>
      (∃ r14 : Nat, o = .inl (some (aR (some r14))) ∧
      ((x2 < 0 →
      PX0_best_42 F_X0_thing F_X0_isShare F_X0_want F_X0_leaves F_Vtable F_X3_by F_X0_isEnough F_X0_next F_X0_none F_X0_great Q68 Q95 Q172 Q228 Q276 Q319 Q370 Q419 K x0 x2 x3 x4 q3 r14 x0 C10 I11 J12 R13) ∧
      (¬ x2 < 0 →
      (((120 : Int32) < x2 →
      PX0_best_42 F_X0_thing F_X0_isShare F_X0_want F_X0_leaves F_Vtable F_X3_by F_X0_isEnough F_X0_next F_X0_none F_X0_great Q68 Q95 Q172 Q228 Q276 Q319 Q370 Q419 K x0 x2 x3 x4 q3 r14 x0 C10 I11 J12 R13) ∧
      (¬ (120 : Int32) < x2 →
      F_X0_isShare [aI x3, aI x4] C10 I11 J12 R13 (fun o C17 I18 J19 R20 =>
      ∃ r21 : Int32, o = .inl (some (aI r21)) ∧
      ((r21 = 0 →
      PX0_best_42 F_X0_thing F_X0_isShare F_X0_want F_X0_leaves F_Vtable F_X3_by F_X0_isEnough F_X0_next F_X0_none F_X0_great Q68 Q95 Q172 Q228 Q276 Q319 Q370 Q419 K x0 x2 x3 x4 q3 r14 x0 C17 I18 J19 R20) ∧
      (¬ r21 = 0 →
      PX0_best_43 F_X0_thing F_X0_isShare F_X0_want F_X0_leaves F_Vtable F_X3_by F_X0_isEnough F_X0_next F_X0_none F_X0_great Q68 Q95 Q172 Q228 Q276 Q319 Q370 Q419 K x0 x2 x3 x4 q3 r14 x0 (1 : Int32) C17 I18 J19 R20)))))))) ∨
      (∃ q23 : Nat, o = .inr q23 ∧
      ((C10 q23).1 = 2 ∧
      PX0_best_348 F_X0_thing F_X0_isShare F_X0_want F_X0_leaves F_Vtable F_X3_by F_X0_isEnough F_X0_next F_X0_none F_X0_great Q68 Q95 Q172 Q228 Q276 Q319 Q370 Q419 K x0 q3 q23 C10 I11 J12 R13)))
theorem wX0_best {l : Launch}  {F_X0_thing : SPF} (S_X0_thing : SpX0_thing l F_X0_thing) {F_X0_isShare : SPF} (S_X0_isShare : SpX0_isShare l F_X0_isShare) {F_X0_want : SPF} (S_X0_want : SpX0_want l F_X0_want) {F_X0_leaves : SPF} (S_X0_leaves : SpX0_leaves l F_X0_leaves) {F_Vtable : SPF} (S_Vtable : SpVtable l 20 F_Vtable) {F_X3_by : SPF} (S_X3_by : SpX3_by l F_X3_by) {F_X0_isEnough : SPF} (S_X0_isEnough : SpX0_isEnough l F_X0_isEnough) {F_X0_next : SPF} (S_X0_next : SpX0_next l F_X0_next) {F_X0_none : SPF} (S_X0_none : SpX0_none l F_X0_none) {F_X0_great : SPF} (S_X0_great : SpX0_great l F_X0_great)
    (Q68 : Nat → AK → Nat → Int32 → Int32 → Int32 → Nat → Nat → Nat → Int32 → Int32 → MC → MI → MJ → MR → Prop)
    (Q95 : Nat → AK → Nat → Int32 → Int32 → Int32 → Nat → Nat → Nat → Int32 → Nat → Int32 → Nat → Int32 → Int32 → MC → MI → MJ → MR → Prop)
    (Q172 : Nat → AK → Nat → Int32 → Int32 → Int32 → Nat → Nat → Nat → Int32 → Int32 → MC → MI → MJ → MR → Prop)
    (Q228 : Nat → AK → Nat → Nat → Nat → Int32 → Int32 → MC → MI → MJ → MR → Prop)
    (Q276 : Nat → AK → Nat → Nat → Int32 → Int32 → MC → MI → MJ → MR → Prop)
    (Q319 : Nat → AK → Int32 → Nat → Int32 → Int32 → MC → MI → MJ → MR → Prop)
    (Q370 : Nat → AK → Int32 → Nat → Int32 → Int32 → MC → MI → MJ → MR → Prop)
    (Q419 : Nat → AK → Int32 → Nat → Int32 → Int32 → MC → MI → MJ → MR → Prop) {F : SPF}
    (h0 : ∀ (As : List AV) (C : MC) (I : MI) (J : MJ) (R : MR) (K : AK), F As C I J R K → ∃ (x0 : Nat) (x1 : Int32) (x2 : Int32) (x3 : Int32) (x4 : Int32), As = [aR (some x0), aI x1, aI x2, aI x3, aI x4] ∧ PX0_best_0 F_X0_thing F_X0_isShare F_X0_want F_X0_leaves F_Vtable F_X3_by F_X0_isEnough F_X0_next F_X0_none F_X0_great (fun (x0 : Nat) (x2 : Int32) (x3 : Int32) (x4 : Int32) (x5 : Nat) (x6 : Nat) (x7 : Nat) (x8 : Int32) (x9 : Int32) (C : MC) (I : MI) (J : MJ) (R : MR) => ∃ n, Q68 n K x0 x2 x3 x4 x5 x6 x7 x8 x9 C I J R) (fun (x0 : Nat) (x2 : Int32) (x3 : Int32) (x4 : Int32) (x5 : Nat) (x6 : Nat) (x7 : Nat) (x8 : Int32) (x10 : Nat) (x11 : Int32) (x12 : Nat) (x13 : Int32) (x14 : Int32) (C : MC) (I : MI) (J : MJ) (R : MR) => ∃ n, Q95 n K x0 x2 x3 x4 x5 x6 x7 x8 x10 x11 x12 x13 x14 C I J R) (fun (x0 : Nat) (x2 : Int32) (x3 : Int32) (x4 : Int32) (x5 : Nat) (x6 : Nat) (x7 : Nat) (x8 : Int32) (x12 : Int32) (C : MC) (I : MI) (J : MJ) (R : MR) => ∃ n, Q172 n K x0 x2 x3 x4 x5 x6 x7 x8 x12 C I J R) (fun (x0 : Nat) (x5 : Nat) (x7 : Nat) (x8 : Int32) (x11 : Int32) (C : MC) (I : MI) (J : MJ) (R : MR) => ∃ n, Q228 n K x0 x5 x7 x8 x11 C I J R) (fun (x5 : Nat) (x7 : Nat) (x8 : Int32) (x10 : Int32) (C : MC) (I : MI) (J : MJ) (R : MR) => ∃ n, Q276 n K x5 x7 x8 x10 C I J R) (fun (x10 : Int32) (x11 : Nat) (x12 : Int32) (x13 : Int32) (C : MC) (I : MI) (J : MJ) (R : MR) => ∃ n, Q319 n K x10 x11 x12 x13 C I J R) (fun (x7 : Int32) (x8 : Nat) (x9 : Int32) (x10 : Int32) (C : MC) (I : MI) (J : MJ) (R : MR) => ∃ n, Q370 n K x7 x8 x9 x10 C I J R) (fun (x7 : Int32) (x8 : Nat) (x9 : Int32) (x10 : Int32) (C : MC) (I : MI) (J : MJ) (R : MR) => ∃ n, Q419 n K x7 x8 x9 x10 C I J R) K x0 x1 x2 x3 x4 C I J R)
    (h68 : ∀ (n : Nat) (K : AK) (x0 : Nat) (x2 : Int32) (x3 : Int32) (x4 : Int32) (x5 : Nat) (x6 : Nat) (x7 : Nat) (x8 : Int32) (x9 : Int32) (C : MC) (I : MI) (J : MJ) (R : MR), Q68 n K x0 x2 x3 x4 x5 x6 x7 x8 x9 C I J R → PX0_best_68 F_X0_thing F_X0_isShare F_X0_want F_X0_leaves F_Vtable F_X3_by F_X0_isEnough F_X0_next F_X0_none F_X0_great (fun (x0 : Nat) (x2 : Int32) (x3 : Int32) (x4 : Int32) (x5 : Nat) (x6 : Nat) (x7 : Nat) (x8 : Int32) (x9 : Int32) (C : MC) (I : MI) (J : MJ) (R : MR) => ∃ m, m < n ∧ Q68 m K x0 x2 x3 x4 x5 x6 x7 x8 x9 C I J R) (fun (x0 : Nat) (x2 : Int32) (x3 : Int32) (x4 : Int32) (x5 : Nat) (x6 : Nat) (x7 : Nat) (x8 : Int32) (x10 : Nat) (x11 : Int32) (x12 : Nat) (x13 : Int32) (x14 : Int32) (C : MC) (I : MI) (J : MJ) (R : MR) => ∃ m, m < n ∧ Q95 m K x0 x2 x3 x4 x5 x6 x7 x8 x10 x11 x12 x13 x14 C I J R) (fun (x0 : Nat) (x2 : Int32) (x3 : Int32) (x4 : Int32) (x5 : Nat) (x6 : Nat) (x7 : Nat) (x8 : Int32) (x12 : Int32) (C : MC) (I : MI) (J : MJ) (R : MR) => ∃ m, m < n ∧ Q172 m K x0 x2 x3 x4 x5 x6 x7 x8 x12 C I J R) (fun (x0 : Nat) (x5 : Nat) (x7 : Nat) (x8 : Int32) (x11 : Int32) (C : MC) (I : MI) (J : MJ) (R : MR) => ∃ m, m < n ∧ Q228 m K x0 x5 x7 x8 x11 C I J R) (fun (x5 : Nat) (x7 : Nat) (x8 : Int32) (x10 : Int32) (C : MC) (I : MI) (J : MJ) (R : MR) => ∃ m, m < n ∧ Q276 m K x5 x7 x8 x10 C I J R) (fun (x10 : Int32) (x11 : Nat) (x12 : Int32) (x13 : Int32) (C : MC) (I : MI) (J : MJ) (R : MR) => ∃ m, m < n ∧ Q319 m K x10 x11 x12 x13 C I J R) (fun (x7 : Int32) (x8 : Nat) (x9 : Int32) (x10 : Int32) (C : MC) (I : MI) (J : MJ) (R : MR) => ∃ m, m < n ∧ Q370 m K x7 x8 x9 x10 C I J R) (fun (x7 : Int32) (x8 : Nat) (x9 : Int32) (x10 : Int32) (C : MC) (I : MI) (J : MJ) (R : MR) => ∃ m, m < n ∧ Q419 m K x7 x8 x9 x10 C I J R) K x0 x2 x3 x4 x5 x6 x7 x8 x9 C I J R)
    (h95 : ∀ (n : Nat) (K : AK) (x0 : Nat) (x2 : Int32) (x3 : Int32) (x4 : Int32) (x5 : Nat) (x6 : Nat) (x7 : Nat) (x8 : Int32) (x10 : Nat) (x11 : Int32) (x12 : Nat) (x13 : Int32) (x14 : Int32) (C : MC) (I : MI) (J : MJ) (R : MR), Q95 n K x0 x2 x3 x4 x5 x6 x7 x8 x10 x11 x12 x13 x14 C I J R → PX0_best_95 F_X0_thing F_X0_isShare F_X0_want F_X0_leaves F_Vtable F_X3_by F_X0_isEnough F_X0_next F_X0_none F_X0_great (fun (x0 : Nat) (x2 : Int32) (x3 : Int32) (x4 : Int32) (x5 : Nat) (x6 : Nat) (x7 : Nat) (x8 : Int32) (x9 : Int32) (C : MC) (I : MI) (J : MJ) (R : MR) => ∃ m, m < n ∧ Q68 m K x0 x2 x3 x4 x5 x6 x7 x8 x9 C I J R) (fun (x0 : Nat) (x2 : Int32) (x3 : Int32) (x4 : Int32) (x5 : Nat) (x6 : Nat) (x7 : Nat) (x8 : Int32) (x10 : Nat) (x11 : Int32) (x12 : Nat) (x13 : Int32) (x14 : Int32) (C : MC) (I : MI) (J : MJ) (R : MR) => ∃ m, m < n ∧ Q95 m K x0 x2 x3 x4 x5 x6 x7 x8 x10 x11 x12 x13 x14 C I J R) (fun (x0 : Nat) (x2 : Int32) (x3 : Int32) (x4 : Int32) (x5 : Nat) (x6 : Nat) (x7 : Nat) (x8 : Int32) (x12 : Int32) (C : MC) (I : MI) (J : MJ) (R : MR) => ∃ m, m < n ∧ Q172 m K x0 x2 x3 x4 x5 x6 x7 x8 x12 C I J R) (fun (x0 : Nat) (x5 : Nat) (x7 : Nat) (x8 : Int32) (x11 : Int32) (C : MC) (I : MI) (J : MJ) (R : MR) => ∃ m, m < n ∧ Q228 m K x0 x5 x7 x8 x11 C I J R) (fun (x5 : Nat) (x7 : Nat) (x8 : Int32) (x10 : Int32) (C : MC) (I : MI) (J : MJ) (R : MR) => ∃ m, m < n ∧ Q276 m K x5 x7 x8 x10 C I J R) (fun (x10 : Int32) (x11 : Nat) (x12 : Int32) (x13 : Int32) (C : MC) (I : MI) (J : MJ) (R : MR) => ∃ m, m < n ∧ Q319 m K x10 x11 x12 x13 C I J R) (fun (x7 : Int32) (x8 : Nat) (x9 : Int32) (x10 : Int32) (C : MC) (I : MI) (J : MJ) (R : MR) => ∃ m, m < n ∧ Q370 m K x7 x8 x9 x10 C I J R) (fun (x7 : Int32) (x8 : Nat) (x9 : Int32) (x10 : Int32) (C : MC) (I : MI) (J : MJ) (R : MR) => ∃ m, m < n ∧ Q419 m K x7 x8 x9 x10 C I J R) K x0 x2 x3 x4 x5 x6 x7 x8 x10 x11 x12 x13 x14 C I J R)
    (h172 : ∀ (n : Nat) (K : AK) (x0 : Nat) (x2 : Int32) (x3 : Int32) (x4 : Int32) (x5 : Nat) (x6 : Nat) (x7 : Nat) (x8 : Int32) (x12 : Int32) (C : MC) (I : MI) (J : MJ) (R : MR), Q172 n K x0 x2 x3 x4 x5 x6 x7 x8 x12 C I J R → PX0_best_172 F_X0_thing F_X0_isShare F_X0_want F_X0_leaves F_Vtable F_X3_by F_X0_isEnough F_X0_next F_X0_none F_X0_great (fun (x0 : Nat) (x2 : Int32) (x3 : Int32) (x4 : Int32) (x5 : Nat) (x6 : Nat) (x7 : Nat) (x8 : Int32) (x9 : Int32) (C : MC) (I : MI) (J : MJ) (R : MR) => ∃ m, m < n ∧ Q68 m K x0 x2 x3 x4 x5 x6 x7 x8 x9 C I J R) (fun (x0 : Nat) (x2 : Int32) (x3 : Int32) (x4 : Int32) (x5 : Nat) (x6 : Nat) (x7 : Nat) (x8 : Int32) (x10 : Nat) (x11 : Int32) (x12 : Nat) (x13 : Int32) (x14 : Int32) (C : MC) (I : MI) (J : MJ) (R : MR) => ∃ m, m < n ∧ Q95 m K x0 x2 x3 x4 x5 x6 x7 x8 x10 x11 x12 x13 x14 C I J R) (fun (x0 : Nat) (x2 : Int32) (x3 : Int32) (x4 : Int32) (x5 : Nat) (x6 : Nat) (x7 : Nat) (x8 : Int32) (x12 : Int32) (C : MC) (I : MI) (J : MJ) (R : MR) => ∃ m, m < n ∧ Q172 m K x0 x2 x3 x4 x5 x6 x7 x8 x12 C I J R) (fun (x0 : Nat) (x5 : Nat) (x7 : Nat) (x8 : Int32) (x11 : Int32) (C : MC) (I : MI) (J : MJ) (R : MR) => ∃ m, m < n ∧ Q228 m K x0 x5 x7 x8 x11 C I J R) (fun (x5 : Nat) (x7 : Nat) (x8 : Int32) (x10 : Int32) (C : MC) (I : MI) (J : MJ) (R : MR) => ∃ m, m < n ∧ Q276 m K x5 x7 x8 x10 C I J R) (fun (x10 : Int32) (x11 : Nat) (x12 : Int32) (x13 : Int32) (C : MC) (I : MI) (J : MJ) (R : MR) => ∃ m, m < n ∧ Q319 m K x10 x11 x12 x13 C I J R) (fun (x7 : Int32) (x8 : Nat) (x9 : Int32) (x10 : Int32) (C : MC) (I : MI) (J : MJ) (R : MR) => ∃ m, m < n ∧ Q370 m K x7 x8 x9 x10 C I J R) (fun (x7 : Int32) (x8 : Nat) (x9 : Int32) (x10 : Int32) (C : MC) (I : MI) (J : MJ) (R : MR) => ∃ m, m < n ∧ Q419 m K x7 x8 x9 x10 C I J R) K x0 x2 x3 x4 x5 x6 x7 x8 x12 C I J R)
    (h228 : ∀ (n : Nat) (K : AK) (x0 : Nat) (x5 : Nat) (x7 : Nat) (x8 : Int32) (x11 : Int32) (C : MC) (I : MI) (J : MJ) (R : MR), Q228 n K x0 x5 x7 x8 x11 C I J R → PX0_best_228 F_X0_thing F_X0_isShare F_X0_want F_X0_leaves F_Vtable F_X3_by F_X0_isEnough F_X0_next F_X0_none F_X0_great (fun (x0 : Nat) (x2 : Int32) (x3 : Int32) (x4 : Int32) (x5 : Nat) (x6 : Nat) (x7 : Nat) (x8 : Int32) (x9 : Int32) (C : MC) (I : MI) (J : MJ) (R : MR) => ∃ m, m < n ∧ Q68 m K x0 x2 x3 x4 x5 x6 x7 x8 x9 C I J R) (fun (x0 : Nat) (x2 : Int32) (x3 : Int32) (x4 : Int32) (x5 : Nat) (x6 : Nat) (x7 : Nat) (x8 : Int32) (x10 : Nat) (x11 : Int32) (x12 : Nat) (x13 : Int32) (x14 : Int32) (C : MC) (I : MI) (J : MJ) (R : MR) => ∃ m, m < n ∧ Q95 m K x0 x2 x3 x4 x5 x6 x7 x8 x10 x11 x12 x13 x14 C I J R) (fun (x0 : Nat) (x2 : Int32) (x3 : Int32) (x4 : Int32) (x5 : Nat) (x6 : Nat) (x7 : Nat) (x8 : Int32) (x12 : Int32) (C : MC) (I : MI) (J : MJ) (R : MR) => ∃ m, m < n ∧ Q172 m K x0 x2 x3 x4 x5 x6 x7 x8 x12 C I J R) (fun (x0 : Nat) (x5 : Nat) (x7 : Nat) (x8 : Int32) (x11 : Int32) (C : MC) (I : MI) (J : MJ) (R : MR) => ∃ m, m < n ∧ Q228 m K x0 x5 x7 x8 x11 C I J R) (fun (x5 : Nat) (x7 : Nat) (x8 : Int32) (x10 : Int32) (C : MC) (I : MI) (J : MJ) (R : MR) => ∃ m, m < n ∧ Q276 m K x5 x7 x8 x10 C I J R) (fun (x10 : Int32) (x11 : Nat) (x12 : Int32) (x13 : Int32) (C : MC) (I : MI) (J : MJ) (R : MR) => ∃ m, m < n ∧ Q319 m K x10 x11 x12 x13 C I J R) (fun (x7 : Int32) (x8 : Nat) (x9 : Int32) (x10 : Int32) (C : MC) (I : MI) (J : MJ) (R : MR) => ∃ m, m < n ∧ Q370 m K x7 x8 x9 x10 C I J R) (fun (x7 : Int32) (x8 : Nat) (x9 : Int32) (x10 : Int32) (C : MC) (I : MI) (J : MJ) (R : MR) => ∃ m, m < n ∧ Q419 m K x7 x8 x9 x10 C I J R) K x0 x5 x7 x8 x11 C I J R)
    (h276 : ∀ (n : Nat) (K : AK) (x5 : Nat) (x7 : Nat) (x8 : Int32) (x10 : Int32) (C : MC) (I : MI) (J : MJ) (R : MR), Q276 n K x5 x7 x8 x10 C I J R → PX0_best_276 F_X0_thing F_X0_isShare F_X0_want F_X0_leaves F_Vtable F_X3_by F_X0_isEnough F_X0_next F_X0_none F_X0_great (fun (x0 : Nat) (x2 : Int32) (x3 : Int32) (x4 : Int32) (x5 : Nat) (x6 : Nat) (x7 : Nat) (x8 : Int32) (x9 : Int32) (C : MC) (I : MI) (J : MJ) (R : MR) => ∃ m, m < n ∧ Q68 m K x0 x2 x3 x4 x5 x6 x7 x8 x9 C I J R) (fun (x0 : Nat) (x2 : Int32) (x3 : Int32) (x4 : Int32) (x5 : Nat) (x6 : Nat) (x7 : Nat) (x8 : Int32) (x10 : Nat) (x11 : Int32) (x12 : Nat) (x13 : Int32) (x14 : Int32) (C : MC) (I : MI) (J : MJ) (R : MR) => ∃ m, m < n ∧ Q95 m K x0 x2 x3 x4 x5 x6 x7 x8 x10 x11 x12 x13 x14 C I J R) (fun (x0 : Nat) (x2 : Int32) (x3 : Int32) (x4 : Int32) (x5 : Nat) (x6 : Nat) (x7 : Nat) (x8 : Int32) (x12 : Int32) (C : MC) (I : MI) (J : MJ) (R : MR) => ∃ m, m < n ∧ Q172 m K x0 x2 x3 x4 x5 x6 x7 x8 x12 C I J R) (fun (x0 : Nat) (x5 : Nat) (x7 : Nat) (x8 : Int32) (x11 : Int32) (C : MC) (I : MI) (J : MJ) (R : MR) => ∃ m, m < n ∧ Q228 m K x0 x5 x7 x8 x11 C I J R) (fun (x5 : Nat) (x7 : Nat) (x8 : Int32) (x10 : Int32) (C : MC) (I : MI) (J : MJ) (R : MR) => ∃ m, m < n ∧ Q276 m K x5 x7 x8 x10 C I J R) (fun (x10 : Int32) (x11 : Nat) (x12 : Int32) (x13 : Int32) (C : MC) (I : MI) (J : MJ) (R : MR) => ∃ m, m < n ∧ Q319 m K x10 x11 x12 x13 C I J R) (fun (x7 : Int32) (x8 : Nat) (x9 : Int32) (x10 : Int32) (C : MC) (I : MI) (J : MJ) (R : MR) => ∃ m, m < n ∧ Q370 m K x7 x8 x9 x10 C I J R) (fun (x7 : Int32) (x8 : Nat) (x9 : Int32) (x10 : Int32) (C : MC) (I : MI) (J : MJ) (R : MR) => ∃ m, m < n ∧ Q419 m K x7 x8 x9 x10 C I J R) K x5 x7 x8 x10 C I J R)
    (h319 : ∀ (n : Nat) (K : AK) (x10 : Int32) (x11 : Nat) (x12 : Int32) (x13 : Int32) (C : MC) (I : MI) (J : MJ) (R : MR), Q319 n K x10 x11 x12 x13 C I J R → PX0_best_319 F_X0_thing F_X0_isShare F_X0_want F_X0_leaves F_Vtable F_X3_by F_X0_isEnough F_X0_next F_X0_none F_X0_great (fun (x0 : Nat) (x2 : Int32) (x3 : Int32) (x4 : Int32) (x5 : Nat) (x6 : Nat) (x7 : Nat) (x8 : Int32) (x9 : Int32) (C : MC) (I : MI) (J : MJ) (R : MR) => ∃ m, m < n ∧ Q68 m K x0 x2 x3 x4 x5 x6 x7 x8 x9 C I J R) (fun (x0 : Nat) (x2 : Int32) (x3 : Int32) (x4 : Int32) (x5 : Nat) (x6 : Nat) (x7 : Nat) (x8 : Int32) (x10 : Nat) (x11 : Int32) (x12 : Nat) (x13 : Int32) (x14 : Int32) (C : MC) (I : MI) (J : MJ) (R : MR) => ∃ m, m < n ∧ Q95 m K x0 x2 x3 x4 x5 x6 x7 x8 x10 x11 x12 x13 x14 C I J R) (fun (x0 : Nat) (x2 : Int32) (x3 : Int32) (x4 : Int32) (x5 : Nat) (x6 : Nat) (x7 : Nat) (x8 : Int32) (x12 : Int32) (C : MC) (I : MI) (J : MJ) (R : MR) => ∃ m, m < n ∧ Q172 m K x0 x2 x3 x4 x5 x6 x7 x8 x12 C I J R) (fun (x0 : Nat) (x5 : Nat) (x7 : Nat) (x8 : Int32) (x11 : Int32) (C : MC) (I : MI) (J : MJ) (R : MR) => ∃ m, m < n ∧ Q228 m K x0 x5 x7 x8 x11 C I J R) (fun (x5 : Nat) (x7 : Nat) (x8 : Int32) (x10 : Int32) (C : MC) (I : MI) (J : MJ) (R : MR) => ∃ m, m < n ∧ Q276 m K x5 x7 x8 x10 C I J R) (fun (x10 : Int32) (x11 : Nat) (x12 : Int32) (x13 : Int32) (C : MC) (I : MI) (J : MJ) (R : MR) => ∃ m, m < n ∧ Q319 m K x10 x11 x12 x13 C I J R) (fun (x7 : Int32) (x8 : Nat) (x9 : Int32) (x10 : Int32) (C : MC) (I : MI) (J : MJ) (R : MR) => ∃ m, m < n ∧ Q370 m K x7 x8 x9 x10 C I J R) (fun (x7 : Int32) (x8 : Nat) (x9 : Int32) (x10 : Int32) (C : MC) (I : MI) (J : MJ) (R : MR) => ∃ m, m < n ∧ Q419 m K x7 x8 x9 x10 C I J R) K x10 x11 x12 x13 C I J R)
    (h370 : ∀ (n : Nat) (K : AK) (x7 : Int32) (x8 : Nat) (x9 : Int32) (x10 : Int32) (C : MC) (I : MI) (J : MJ) (R : MR), Q370 n K x7 x8 x9 x10 C I J R → PX0_best_370 F_X0_thing F_X0_isShare F_X0_want F_X0_leaves F_Vtable F_X3_by F_X0_isEnough F_X0_next F_X0_none F_X0_great (fun (x0 : Nat) (x2 : Int32) (x3 : Int32) (x4 : Int32) (x5 : Nat) (x6 : Nat) (x7 : Nat) (x8 : Int32) (x9 : Int32) (C : MC) (I : MI) (J : MJ) (R : MR) => ∃ m, m < n ∧ Q68 m K x0 x2 x3 x4 x5 x6 x7 x8 x9 C I J R) (fun (x0 : Nat) (x2 : Int32) (x3 : Int32) (x4 : Int32) (x5 : Nat) (x6 : Nat) (x7 : Nat) (x8 : Int32) (x10 : Nat) (x11 : Int32) (x12 : Nat) (x13 : Int32) (x14 : Int32) (C : MC) (I : MI) (J : MJ) (R : MR) => ∃ m, m < n ∧ Q95 m K x0 x2 x3 x4 x5 x6 x7 x8 x10 x11 x12 x13 x14 C I J R) (fun (x0 : Nat) (x2 : Int32) (x3 : Int32) (x4 : Int32) (x5 : Nat) (x6 : Nat) (x7 : Nat) (x8 : Int32) (x12 : Int32) (C : MC) (I : MI) (J : MJ) (R : MR) => ∃ m, m < n ∧ Q172 m K x0 x2 x3 x4 x5 x6 x7 x8 x12 C I J R) (fun (x0 : Nat) (x5 : Nat) (x7 : Nat) (x8 : Int32) (x11 : Int32) (C : MC) (I : MI) (J : MJ) (R : MR) => ∃ m, m < n ∧ Q228 m K x0 x5 x7 x8 x11 C I J R) (fun (x5 : Nat) (x7 : Nat) (x8 : Int32) (x10 : Int32) (C : MC) (I : MI) (J : MJ) (R : MR) => ∃ m, m < n ∧ Q276 m K x5 x7 x8 x10 C I J R) (fun (x10 : Int32) (x11 : Nat) (x12 : Int32) (x13 : Int32) (C : MC) (I : MI) (J : MJ) (R : MR) => ∃ m, m < n ∧ Q319 m K x10 x11 x12 x13 C I J R) (fun (x7 : Int32) (x8 : Nat) (x9 : Int32) (x10 : Int32) (C : MC) (I : MI) (J : MJ) (R : MR) => ∃ m, m < n ∧ Q370 m K x7 x8 x9 x10 C I J R) (fun (x7 : Int32) (x8 : Nat) (x9 : Int32) (x10 : Int32) (C : MC) (I : MI) (J : MJ) (R : MR) => ∃ m, m < n ∧ Q419 m K x7 x8 x9 x10 C I J R) K x7 x8 x9 x10 C I J R)
    (h419 : ∀ (n : Nat) (K : AK) (x7 : Int32) (x8 : Nat) (x9 : Int32) (x10 : Int32) (C : MC) (I : MI) (J : MJ) (R : MR), Q419 n K x7 x8 x9 x10 C I J R → PX0_best_419 F_X0_thing F_X0_isShare F_X0_want F_X0_leaves F_Vtable F_X3_by F_X0_isEnough F_X0_next F_X0_none F_X0_great (fun (x0 : Nat) (x2 : Int32) (x3 : Int32) (x4 : Int32) (x5 : Nat) (x6 : Nat) (x7 : Nat) (x8 : Int32) (x9 : Int32) (C : MC) (I : MI) (J : MJ) (R : MR) => ∃ m, m < n ∧ Q68 m K x0 x2 x3 x4 x5 x6 x7 x8 x9 C I J R) (fun (x0 : Nat) (x2 : Int32) (x3 : Int32) (x4 : Int32) (x5 : Nat) (x6 : Nat) (x7 : Nat) (x8 : Int32) (x10 : Nat) (x11 : Int32) (x12 : Nat) (x13 : Int32) (x14 : Int32) (C : MC) (I : MI) (J : MJ) (R : MR) => ∃ m, m < n ∧ Q95 m K x0 x2 x3 x4 x5 x6 x7 x8 x10 x11 x12 x13 x14 C I J R) (fun (x0 : Nat) (x2 : Int32) (x3 : Int32) (x4 : Int32) (x5 : Nat) (x6 : Nat) (x7 : Nat) (x8 : Int32) (x12 : Int32) (C : MC) (I : MI) (J : MJ) (R : MR) => ∃ m, m < n ∧ Q172 m K x0 x2 x3 x4 x5 x6 x7 x8 x12 C I J R) (fun (x0 : Nat) (x5 : Nat) (x7 : Nat) (x8 : Int32) (x11 : Int32) (C : MC) (I : MI) (J : MJ) (R : MR) => ∃ m, m < n ∧ Q228 m K x0 x5 x7 x8 x11 C I J R) (fun (x5 : Nat) (x7 : Nat) (x8 : Int32) (x10 : Int32) (C : MC) (I : MI) (J : MJ) (R : MR) => ∃ m, m < n ∧ Q276 m K x5 x7 x8 x10 C I J R) (fun (x10 : Int32) (x11 : Nat) (x12 : Int32) (x13 : Int32) (C : MC) (I : MI) (J : MJ) (R : MR) => ∃ m, m < n ∧ Q319 m K x10 x11 x12 x13 C I J R) (fun (x7 : Int32) (x8 : Nat) (x9 : Int32) (x10 : Int32) (C : MC) (I : MI) (J : MJ) (R : MR) => ∃ m, m < n ∧ Q370 m K x7 x8 x9 x10 C I J R) (fun (x7 : Int32) (x8 : Nat) (x9 : Int32) (x10 : Int32) (C : MC) (I : MI) (J : MJ) (R : MR) => ∃ m, m < n ∧ Q419 m K x7 x8 x9 x10 C I J R) K x7 x8 x9 x10 C I J R) : SpX0_best l F := by
  refine Spec.ofH (by rfl) ?_
  intro Γ C I J R As Gd gl gr _ _ gb hF
  subst gl
  have G : Gb Γ yX0_best cX0_best 21 (some .int) [(11, 307, 348, 53), (11, 307, 399, 13), (11, 307, 448, 0), (348, 358, 448, 0), (399, 407, 448, 0), (448, 450, 448, 0)] rmX0_best bdX0_best := ⟨Gd, gr, gb⟩
  have key : ∀ n : Nat, (∀ (x0 : Nat) (x2 : Int32) (x3 : Int32) (x4 : Int32) (x5 : Nat) (x6 : Nat) (x7 : Nat) (x8 : Int32) (x9 : Int32) (C : MC) (I : MI) (J : MJ) (R : MR), Q68 n (gK Γ) x0 x2 x3 x4 x5 x6 x7 x8 x9 C I J R → AW Γ 3 40 C I J R 68 [(0, aR (some x0)), (2, aI x2), (3, aI x3), (4, aI x4), (5, aR (some x5)), (6, aR (some x6)), (7, aR (some x7)), (8, aI x8), (9, aI x9)] []) ∧ (∀ (x0 : Nat) (x2 : Int32) (x3 : Int32) (x4 : Int32) (x5 : Nat) (x6 : Nat) (x7 : Nat) (x8 : Int32) (x10 : Nat) (x11 : Int32) (x12 : Nat) (x13 : Int32) (x14 : Int32) (C : MC) (I : MI) (J : MJ) (R : MR), Q95 n (gK Γ) x0 x2 x3 x4 x5 x6 x7 x8 x10 x11 x12 x13 x14 C I J R → AW Γ 3 40 C I J R 95 [(0, aR (some x0)), (2, aI x2), (3, aI x3), (4, aI x4), (5, aR (some x5)), (6, aR (some x6)), (7, aR (some x7)), (8, aI x8), (10, aR (some x10)), (11, aI x11), (12, aR (some x12)), (13, aI x13), (14, aI x14)] []) ∧ (∀ (x0 : Nat) (x2 : Int32) (x3 : Int32) (x4 : Int32) (x5 : Nat) (x6 : Nat) (x7 : Nat) (x8 : Int32) (x12 : Int32) (C : MC) (I : MI) (J : MJ) (R : MR), Q172 n (gK Γ) x0 x2 x3 x4 x5 x6 x7 x8 x12 C I J R → AW Γ 3 40 C I J R 172 [(0, aR (some x0)), (2, aI x2), (3, aI x3), (4, aI x4), (5, aR (some x5)), (6, aR (some x6)), (7, aR (some x7)), (8, aI x8), (12, aI x12)] []) ∧ (∀ (x0 : Nat) (x5 : Nat) (x7 : Nat) (x8 : Int32) (x11 : Int32) (C : MC) (I : MI) (J : MJ) (R : MR), Q228 n (gK Γ) x0 x5 x7 x8 x11 C I J R → AW Γ 3 40 C I J R 228 [(0, aR (some x0)), (5, aR (some x5)), (7, aR (some x7)), (8, aI x8), (11, aI x11)] []) ∧ (∀ (x5 : Nat) (x7 : Nat) (x8 : Int32) (x10 : Int32) (C : MC) (I : MI) (J : MJ) (R : MR), Q276 n (gK Γ) x5 x7 x8 x10 C I J R → AW Γ 3 40 C I J R 276 [(5, aR (some x5)), (7, aR (some x7)), (8, aI x8), (10, aI x10)] []) ∧ (∀ (x10 : Int32) (x11 : Nat) (x12 : Int32) (x13 : Int32) (C : MC) (I : MI) (J : MJ) (R : MR), Q319 n (gK Γ) x10 x11 x12 x13 C I J R → AW Γ 3 40 C I J R 319 [(10, aI x10), (11, aR (some x11)), (12, aI x12), (13, aI x13)] []) ∧ (∀ (x7 : Int32) (x8 : Nat) (x9 : Int32) (x10 : Int32) (C : MC) (I : MI) (J : MJ) (R : MR), Q370 n (gK Γ) x7 x8 x9 x10 C I J R → AW Γ 3 40 C I J R 370 [(7, aI x7), (8, aR (some x8)), (9, aI x9), (10, aI x10)] []) ∧ (∀ (x7 : Int32) (x8 : Nat) (x9 : Int32) (x10 : Int32) (C : MC) (I : MI) (J : MJ) (R : MR), Q419 n (gK Γ) x7 x8 x9 x10 C I J R → AW Γ 4 46 C I J R 419 [(7, aI x7), (8, aR (some x8)), (9, aI x9), (10, aI x10)] []) := by
    intro n
    induction n using Nat.strongRecOn with
    | ind n ih =>
    have w68 : ∀ (x0 : Nat) (x2 : Int32) (x3 : Int32) (x4 : Int32) (x5 : Nat) (x6 : Nat) (x7 : Nat) (x8 : Int32) (x9 : Int32) (C : MC) (I : MI) (J : MJ) (R : MR), (∃ m, m < n ∧ Q68 m (gK Γ) x0 x2 x3 x4 x5 x6 x7 x8 x9 C I J R) → AW Γ 3 40 C I J R 68 [(0, aR (some x0)), (2, aI x2), (3, aI x3), (4, aI x4), (5, aR (some x5)), (6, aR (some x6)), (7, aR (some x7)), (8, aI x8), (9, aI x9)] [] := fun x0 x2 x3 x4 x5 x6 x7 x8 x9 C I J R ⟨m, hm, hq⟩ => (ih m hm).1 x0 x2 x3 x4 x5 x6 x7 x8 x9 C I J R hq
    have w95 : ∀ (x0 : Nat) (x2 : Int32) (x3 : Int32) (x4 : Int32) (x5 : Nat) (x6 : Nat) (x7 : Nat) (x8 : Int32) (x10 : Nat) (x11 : Int32) (x12 : Nat) (x13 : Int32) (x14 : Int32) (C : MC) (I : MI) (J : MJ) (R : MR), (∃ m, m < n ∧ Q95 m (gK Γ) x0 x2 x3 x4 x5 x6 x7 x8 x10 x11 x12 x13 x14 C I J R) → AW Γ 3 40 C I J R 95 [(0, aR (some x0)), (2, aI x2), (3, aI x3), (4, aI x4), (5, aR (some x5)), (6, aR (some x6)), (7, aR (some x7)), (8, aI x8), (10, aR (some x10)), (11, aI x11), (12, aR (some x12)), (13, aI x13), (14, aI x14)] [] := fun x0 x2 x3 x4 x5 x6 x7 x8 x10 x11 x12 x13 x14 C I J R ⟨m, hm, hq⟩ => (ih m hm).2.1 x0 x2 x3 x4 x5 x6 x7 x8 x10 x11 x12 x13 x14 C I J R hq
    have w172 : ∀ (x0 : Nat) (x2 : Int32) (x3 : Int32) (x4 : Int32) (x5 : Nat) (x6 : Nat) (x7 : Nat) (x8 : Int32) (x12 : Int32) (C : MC) (I : MI) (J : MJ) (R : MR), (∃ m, m < n ∧ Q172 m (gK Γ) x0 x2 x3 x4 x5 x6 x7 x8 x12 C I J R) → AW Γ 3 40 C I J R 172 [(0, aR (some x0)), (2, aI x2), (3, aI x3), (4, aI x4), (5, aR (some x5)), (6, aR (some x6)), (7, aR (some x7)), (8, aI x8), (12, aI x12)] [] := fun x0 x2 x3 x4 x5 x6 x7 x8 x12 C I J R ⟨m, hm, hq⟩ => (ih m hm).2.2.1 x0 x2 x3 x4 x5 x6 x7 x8 x12 C I J R hq
    have w228 : ∀ (x0 : Nat) (x5 : Nat) (x7 : Nat) (x8 : Int32) (x11 : Int32) (C : MC) (I : MI) (J : MJ) (R : MR), (∃ m, m < n ∧ Q228 m (gK Γ) x0 x5 x7 x8 x11 C I J R) → AW Γ 3 40 C I J R 228 [(0, aR (some x0)), (5, aR (some x5)), (7, aR (some x7)), (8, aI x8), (11, aI x11)] [] := fun x0 x5 x7 x8 x11 C I J R ⟨m, hm, hq⟩ => (ih m hm).2.2.2.1 x0 x5 x7 x8 x11 C I J R hq
    have w276 : ∀ (x5 : Nat) (x7 : Nat) (x8 : Int32) (x10 : Int32) (C : MC) (I : MI) (J : MJ) (R : MR), (∃ m, m < n ∧ Q276 m (gK Γ) x5 x7 x8 x10 C I J R) → AW Γ 3 40 C I J R 276 [(5, aR (some x5)), (7, aR (some x7)), (8, aI x8), (10, aI x10)] [] := fun x5 x7 x8 x10 C I J R ⟨m, hm, hq⟩ => (ih m hm).2.2.2.2.1 x5 x7 x8 x10 C I J R hq
    have w319 : ∀ (x10 : Int32) (x11 : Nat) (x12 : Int32) (x13 : Int32) (C : MC) (I : MI) (J : MJ) (R : MR), (∃ m, m < n ∧ Q319 m (gK Γ) x10 x11 x12 x13 C I J R) → AW Γ 3 40 C I J R 319 [(10, aI x10), (11, aR (some x11)), (12, aI x12), (13, aI x13)] [] := fun x10 x11 x12 x13 C I J R ⟨m, hm, hq⟩ => (ih m hm).2.2.2.2.2.1 x10 x11 x12 x13 C I J R hq
    have w370 : ∀ (x7 : Int32) (x8 : Nat) (x9 : Int32) (x10 : Int32) (C : MC) (I : MI) (J : MJ) (R : MR), (∃ m, m < n ∧ Q370 m (gK Γ) x7 x8 x9 x10 C I J R) → AW Γ 3 40 C I J R 370 [(7, aI x7), (8, aR (some x8)), (9, aI x9), (10, aI x10)] [] := fun x7 x8 x9 x10 C I J R ⟨m, hm, hq⟩ => (ih m hm).2.2.2.2.2.2.1 x7 x8 x9 x10 C I J R hq
    have w419 : ∀ (x7 : Int32) (x8 : Nat) (x9 : Int32) (x10 : Int32) (C : MC) (I : MI) (J : MJ) (R : MR), (∃ m, m < n ∧ Q419 m (gK Γ) x7 x8 x9 x10 C I J R) → AW Γ 4 46 C I J R 419 [(7, aI x7), (8, aR (some x8)), (9, aI x9), (10, aI x10)] [] := fun x7 x8 x9 x10 C I J R ⟨m, hm, hq⟩ => (ih m hm).2.2.2.2.2.2.2 x7 x8 x9 x10 C I J R hq
    have w399 : ∀ (x0 : Nat) (x5 : Nat) (s0 : Nat) (C : MC) (I : MI) (J : MJ) (R : MR), PX0_best_399 F_X0_thing F_X0_isShare F_X0_want F_X0_leaves F_Vtable F_X3_by F_X0_isEnough F_X0_next F_X0_none F_X0_great (fun (x0 : Nat) (x2 : Int32) (x3 : Int32) (x4 : Int32) (x5 : Nat) (x6 : Nat) (x7 : Nat) (x8 : Int32) (x9 : Int32) (C : MC) (I : MI) (J : MJ) (R : MR) => ∃ m, m < n ∧ Q68 m (gK Γ) x0 x2 x3 x4 x5 x6 x7 x8 x9 C I J R) (fun (x0 : Nat) (x2 : Int32) (x3 : Int32) (x4 : Int32) (x5 : Nat) (x6 : Nat) (x7 : Nat) (x8 : Int32) (x10 : Nat) (x11 : Int32) (x12 : Nat) (x13 : Int32) (x14 : Int32) (C : MC) (I : MI) (J : MJ) (R : MR) => ∃ m, m < n ∧ Q95 m (gK Γ) x0 x2 x3 x4 x5 x6 x7 x8 x10 x11 x12 x13 x14 C I J R) (fun (x0 : Nat) (x2 : Int32) (x3 : Int32) (x4 : Int32) (x5 : Nat) (x6 : Nat) (x7 : Nat) (x8 : Int32) (x12 : Int32) (C : MC) (I : MI) (J : MJ) (R : MR) => ∃ m, m < n ∧ Q172 m (gK Γ) x0 x2 x3 x4 x5 x6 x7 x8 x12 C I J R) (fun (x0 : Nat) (x5 : Nat) (x7 : Nat) (x8 : Int32) (x11 : Int32) (C : MC) (I : MI) (J : MJ) (R : MR) => ∃ m, m < n ∧ Q228 m (gK Γ) x0 x5 x7 x8 x11 C I J R) (fun (x5 : Nat) (x7 : Nat) (x8 : Int32) (x10 : Int32) (C : MC) (I : MI) (J : MJ) (R : MR) => ∃ m, m < n ∧ Q276 m (gK Γ) x5 x7 x8 x10 C I J R) (fun (x10 : Int32) (x11 : Nat) (x12 : Int32) (x13 : Int32) (C : MC) (I : MI) (J : MJ) (R : MR) => ∃ m, m < n ∧ Q319 m (gK Γ) x10 x11 x12 x13 C I J R) (fun (x7 : Int32) (x8 : Nat) (x9 : Int32) (x10 : Int32) (C : MC) (I : MI) (J : MJ) (R : MR) => ∃ m, m < n ∧ Q370 m (gK Γ) x7 x8 x9 x10 C I J R) (fun (x7 : Int32) (x8 : Nat) (x9 : Int32) (x10 : Int32) (C : MC) (I : MI) (J : MJ) (R : MR) => ∃ m, m < n ∧ Q419 m (gK Γ) x7 x8 x9 x10 C I J R) (gK Γ) x0 x5 s0 C I J R → AW Γ 4 46 C I J R 399 [(0, aR (some x0)), (5, aR (some x5))] [aR (some s0)] := fun x0 x5 s0 C I J R h => bX0_best_399 G S_X0_great w419 h
    have w348 : ∀ (x0 : Nat) (x5 : Nat) (s0 : Nat) (C : MC) (I : MI) (J : MJ) (R : MR), PX0_best_348 F_X0_thing F_X0_isShare F_X0_want F_X0_leaves F_Vtable F_X3_by F_X0_isEnough F_X0_next F_X0_none F_X0_great (fun (x0 : Nat) (x2 : Int32) (x3 : Int32) (x4 : Int32) (x5 : Nat) (x6 : Nat) (x7 : Nat) (x8 : Int32) (x9 : Int32) (C : MC) (I : MI) (J : MJ) (R : MR) => ∃ m, m < n ∧ Q68 m (gK Γ) x0 x2 x3 x4 x5 x6 x7 x8 x9 C I J R) (fun (x0 : Nat) (x2 : Int32) (x3 : Int32) (x4 : Int32) (x5 : Nat) (x6 : Nat) (x7 : Nat) (x8 : Int32) (x10 : Nat) (x11 : Int32) (x12 : Nat) (x13 : Int32) (x14 : Int32) (C : MC) (I : MI) (J : MJ) (R : MR) => ∃ m, m < n ∧ Q95 m (gK Γ) x0 x2 x3 x4 x5 x6 x7 x8 x10 x11 x12 x13 x14 C I J R) (fun (x0 : Nat) (x2 : Int32) (x3 : Int32) (x4 : Int32) (x5 : Nat) (x6 : Nat) (x7 : Nat) (x8 : Int32) (x12 : Int32) (C : MC) (I : MI) (J : MJ) (R : MR) => ∃ m, m < n ∧ Q172 m (gK Γ) x0 x2 x3 x4 x5 x6 x7 x8 x12 C I J R) (fun (x0 : Nat) (x5 : Nat) (x7 : Nat) (x8 : Int32) (x11 : Int32) (C : MC) (I : MI) (J : MJ) (R : MR) => ∃ m, m < n ∧ Q228 m (gK Γ) x0 x5 x7 x8 x11 C I J R) (fun (x5 : Nat) (x7 : Nat) (x8 : Int32) (x10 : Int32) (C : MC) (I : MI) (J : MJ) (R : MR) => ∃ m, m < n ∧ Q276 m (gK Γ) x5 x7 x8 x10 C I J R) (fun (x10 : Int32) (x11 : Nat) (x12 : Int32) (x13 : Int32) (C : MC) (I : MI) (J : MJ) (R : MR) => ∃ m, m < n ∧ Q319 m (gK Γ) x10 x11 x12 x13 C I J R) (fun (x7 : Int32) (x8 : Nat) (x9 : Int32) (x10 : Int32) (C : MC) (I : MI) (J : MJ) (R : MR) => ∃ m, m < n ∧ Q370 m (gK Γ) x7 x8 x9 x10 C I J R) (fun (x7 : Int32) (x8 : Nat) (x9 : Int32) (x10 : Int32) (C : MC) (I : MI) (J : MJ) (R : MR) => ∃ m, m < n ∧ Q419 m (gK Γ) x7 x8 x9 x10 C I J R) (gK Γ) x0 x5 s0 C I J R → AW Γ 3 40 C I J R 348 [(0, aR (some x0)), (5, aR (some x5))] [aR (some s0)] := fun x0 x5 s0 C I J R h => bX0_best_348 G S_X0_none w370 h
    have w267 : ∀ (x0 : Nat) (x5 : Nat) (x7 : Nat) (x8 : Int32) (x11 : Int32) (C : MC) (I : MI) (J : MJ) (R : MR), PX0_best_267 F_X0_thing F_X0_isShare F_X0_want F_X0_leaves F_Vtable F_X3_by F_X0_isEnough F_X0_next F_X0_none F_X0_great (fun (x0 : Nat) (x2 : Int32) (x3 : Int32) (x4 : Int32) (x5 : Nat) (x6 : Nat) (x7 : Nat) (x8 : Int32) (x9 : Int32) (C : MC) (I : MI) (J : MJ) (R : MR) => ∃ m, m < n ∧ Q68 m (gK Γ) x0 x2 x3 x4 x5 x6 x7 x8 x9 C I J R) (fun (x0 : Nat) (x2 : Int32) (x3 : Int32) (x4 : Int32) (x5 : Nat) (x6 : Nat) (x7 : Nat) (x8 : Int32) (x10 : Nat) (x11 : Int32) (x12 : Nat) (x13 : Int32) (x14 : Int32) (C : MC) (I : MI) (J : MJ) (R : MR) => ∃ m, m < n ∧ Q95 m (gK Γ) x0 x2 x3 x4 x5 x6 x7 x8 x10 x11 x12 x13 x14 C I J R) (fun (x0 : Nat) (x2 : Int32) (x3 : Int32) (x4 : Int32) (x5 : Nat) (x6 : Nat) (x7 : Nat) (x8 : Int32) (x12 : Int32) (C : MC) (I : MI) (J : MJ) (R : MR) => ∃ m, m < n ∧ Q172 m (gK Γ) x0 x2 x3 x4 x5 x6 x7 x8 x12 C I J R) (fun (x0 : Nat) (x5 : Nat) (x7 : Nat) (x8 : Int32) (x11 : Int32) (C : MC) (I : MI) (J : MJ) (R : MR) => ∃ m, m < n ∧ Q228 m (gK Γ) x0 x5 x7 x8 x11 C I J R) (fun (x5 : Nat) (x7 : Nat) (x8 : Int32) (x10 : Int32) (C : MC) (I : MI) (J : MJ) (R : MR) => ∃ m, m < n ∧ Q276 m (gK Γ) x5 x7 x8 x10 C I J R) (fun (x10 : Int32) (x11 : Nat) (x12 : Int32) (x13 : Int32) (C : MC) (I : MI) (J : MJ) (R : MR) => ∃ m, m < n ∧ Q319 m (gK Γ) x10 x11 x12 x13 C I J R) (fun (x7 : Int32) (x8 : Nat) (x9 : Int32) (x10 : Int32) (C : MC) (I : MI) (J : MJ) (R : MR) => ∃ m, m < n ∧ Q370 m (gK Γ) x7 x8 x9 x10 C I J R) (fun (x7 : Int32) (x8 : Nat) (x9 : Int32) (x10 : Int32) (C : MC) (I : MI) (J : MJ) (R : MR) => ∃ m, m < n ∧ Q419 m (gK Γ) x7 x8 x9 x10 C I J R) (gK Γ) x0 x5 x7 x8 x11 C I J R → AW Γ 3 40 C I J R 267 [(0, aR (some x0)), (5, aR (some x5)), (7, aR (some x7)), (8, aI x8), (11, aI x11)] [] := fun x0 x5 x7 x8 x11 C I J R h => bX0_best_267 G w228 h
    have w220 : ∀ (x0 : Nat) (x5 : Nat) (x7 : Nat) (x8 : Int32) (s0 : Nat) (s1 : Int32) (C : MC) (I : MI) (J : MJ) (R : MR), PX0_best_220 F_X0_thing F_X0_isShare F_X0_want F_X0_leaves F_Vtable F_X3_by F_X0_isEnough F_X0_next F_X0_none F_X0_great (fun (x0 : Nat) (x2 : Int32) (x3 : Int32) (x4 : Int32) (x5 : Nat) (x6 : Nat) (x7 : Nat) (x8 : Int32) (x9 : Int32) (C : MC) (I : MI) (J : MJ) (R : MR) => ∃ m, m < n ∧ Q68 m (gK Γ) x0 x2 x3 x4 x5 x6 x7 x8 x9 C I J R) (fun (x0 : Nat) (x2 : Int32) (x3 : Int32) (x4 : Int32) (x5 : Nat) (x6 : Nat) (x7 : Nat) (x8 : Int32) (x10 : Nat) (x11 : Int32) (x12 : Nat) (x13 : Int32) (x14 : Int32) (C : MC) (I : MI) (J : MJ) (R : MR) => ∃ m, m < n ∧ Q95 m (gK Γ) x0 x2 x3 x4 x5 x6 x7 x8 x10 x11 x12 x13 x14 C I J R) (fun (x0 : Nat) (x2 : Int32) (x3 : Int32) (x4 : Int32) (x5 : Nat) (x6 : Nat) (x7 : Nat) (x8 : Int32) (x12 : Int32) (C : MC) (I : MI) (J : MJ) (R : MR) => ∃ m, m < n ∧ Q172 m (gK Γ) x0 x2 x3 x4 x5 x6 x7 x8 x12 C I J R) (fun (x0 : Nat) (x5 : Nat) (x7 : Nat) (x8 : Int32) (x11 : Int32) (C : MC) (I : MI) (J : MJ) (R : MR) => ∃ m, m < n ∧ Q228 m (gK Γ) x0 x5 x7 x8 x11 C I J R) (fun (x5 : Nat) (x7 : Nat) (x8 : Int32) (x10 : Int32) (C : MC) (I : MI) (J : MJ) (R : MR) => ∃ m, m < n ∧ Q276 m (gK Γ) x5 x7 x8 x10 C I J R) (fun (x10 : Int32) (x11 : Nat) (x12 : Int32) (x13 : Int32) (C : MC) (I : MI) (J : MJ) (R : MR) => ∃ m, m < n ∧ Q319 m (gK Γ) x10 x11 x12 x13 C I J R) (fun (x7 : Int32) (x8 : Nat) (x9 : Int32) (x10 : Int32) (C : MC) (I : MI) (J : MJ) (R : MR) => ∃ m, m < n ∧ Q370 m (gK Γ) x7 x8 x9 x10 C I J R) (fun (x7 : Int32) (x8 : Nat) (x9 : Int32) (x10 : Int32) (C : MC) (I : MI) (J : MJ) (R : MR) => ∃ m, m < n ∧ Q419 m (gK Γ) x7 x8 x9 x10 C I J R) (gK Γ) x0 x5 x7 x8 s0 s1 C I J R → AW Γ 3 40 C I J R 220 [(0, aR (some x0)), (5, aR (some x5)), (7, aR (some x7)), (8, aI x8)] [aI s1, aR (some s0)] := fun x0 x5 x7 x8 s0 s1 C I J R h => bX0_best_220 G S_X0_want w228 w348 h
    have w199 : ∀ (x0 : Nat) (x2 : Int32) (x3 : Int32) (x4 : Int32) (x5 : Nat) (x6 : Nat) (x7 : Nat) (x8 : Int32) (C : MC) (I : MI) (J : MJ) (R : MR), PX0_best_199 F_X0_thing F_X0_isShare F_X0_want F_X0_leaves F_Vtable F_X3_by F_X0_isEnough F_X0_next F_X0_none F_X0_great (fun (x0 : Nat) (x2 : Int32) (x3 : Int32) (x4 : Int32) (x5 : Nat) (x6 : Nat) (x7 : Nat) (x8 : Int32) (x9 : Int32) (C : MC) (I : MI) (J : MJ) (R : MR) => ∃ m, m < n ∧ Q68 m (gK Γ) x0 x2 x3 x4 x5 x6 x7 x8 x9 C I J R) (fun (x0 : Nat) (x2 : Int32) (x3 : Int32) (x4 : Int32) (x5 : Nat) (x6 : Nat) (x7 : Nat) (x8 : Int32) (x10 : Nat) (x11 : Int32) (x12 : Nat) (x13 : Int32) (x14 : Int32) (C : MC) (I : MI) (J : MJ) (R : MR) => ∃ m, m < n ∧ Q95 m (gK Γ) x0 x2 x3 x4 x5 x6 x7 x8 x10 x11 x12 x13 x14 C I J R) (fun (x0 : Nat) (x2 : Int32) (x3 : Int32) (x4 : Int32) (x5 : Nat) (x6 : Nat) (x7 : Nat) (x8 : Int32) (x12 : Int32) (C : MC) (I : MI) (J : MJ) (R : MR) => ∃ m, m < n ∧ Q172 m (gK Γ) x0 x2 x3 x4 x5 x6 x7 x8 x12 C I J R) (fun (x0 : Nat) (x5 : Nat) (x7 : Nat) (x8 : Int32) (x11 : Int32) (C : MC) (I : MI) (J : MJ) (R : MR) => ∃ m, m < n ∧ Q228 m (gK Γ) x0 x5 x7 x8 x11 C I J R) (fun (x5 : Nat) (x7 : Nat) (x8 : Int32) (x10 : Int32) (C : MC) (I : MI) (J : MJ) (R : MR) => ∃ m, m < n ∧ Q276 m (gK Γ) x5 x7 x8 x10 C I J R) (fun (x10 : Int32) (x11 : Nat) (x12 : Int32) (x13 : Int32) (C : MC) (I : MI) (J : MJ) (R : MR) => ∃ m, m < n ∧ Q319 m (gK Γ) x10 x11 x12 x13 C I J R) (fun (x7 : Int32) (x8 : Nat) (x9 : Int32) (x10 : Int32) (C : MC) (I : MI) (J : MJ) (R : MR) => ∃ m, m < n ∧ Q370 m (gK Γ) x7 x8 x9 x10 C I J R) (fun (x7 : Int32) (x8 : Nat) (x9 : Int32) (x10 : Int32) (C : MC) (I : MI) (J : MJ) (R : MR) => ∃ m, m < n ∧ Q419 m (gK Γ) x7 x8 x9 x10 C I J R) (gK Γ) x0 x2 x3 x4 x5 x6 x7 x8 C I J R → AW Γ 3 40 C I J R 199 [(0, aR (some x0)), (2, aI x2), (3, aI x3), (4, aI x4), (5, aR (some x5)), (6, aR (some x6)), (7, aR (some x7)), (8, aI x8)] [] := fun x0 x2 x3 x4 x5 x6 x7 x8 C I J R h => bX0_best_199 G S_X0_next w68 h
    have w143 : ∀ (x0 : Nat) (x2 : Int32) (x3 : Int32) (x4 : Int32) (x5 : Nat) (x6 : Nat) (x7 : Nat) (x8 : Int32) (x10 : Nat) (x11 : Int32) (C : MC) (I : MI) (J : MJ) (R : MR), PX0_best_143 F_X0_thing F_X0_isShare F_X0_want F_X0_leaves F_Vtable F_X3_by F_X0_isEnough F_X0_next F_X0_none F_X0_great (fun (x0 : Nat) (x2 : Int32) (x3 : Int32) (x4 : Int32) (x5 : Nat) (x6 : Nat) (x7 : Nat) (x8 : Int32) (x9 : Int32) (C : MC) (I : MI) (J : MJ) (R : MR) => ∃ m, m < n ∧ Q68 m (gK Γ) x0 x2 x3 x4 x5 x6 x7 x8 x9 C I J R) (fun (x0 : Nat) (x2 : Int32) (x3 : Int32) (x4 : Int32) (x5 : Nat) (x6 : Nat) (x7 : Nat) (x8 : Int32) (x10 : Nat) (x11 : Int32) (x12 : Nat) (x13 : Int32) (x14 : Int32) (C : MC) (I : MI) (J : MJ) (R : MR) => ∃ m, m < n ∧ Q95 m (gK Γ) x0 x2 x3 x4 x5 x6 x7 x8 x10 x11 x12 x13 x14 C I J R) (fun (x0 : Nat) (x2 : Int32) (x3 : Int32) (x4 : Int32) (x5 : Nat) (x6 : Nat) (x7 : Nat) (x8 : Int32) (x12 : Int32) (C : MC) (I : MI) (J : MJ) (R : MR) => ∃ m, m < n ∧ Q172 m (gK Γ) x0 x2 x3 x4 x5 x6 x7 x8 x12 C I J R) (fun (x0 : Nat) (x5 : Nat) (x7 : Nat) (x8 : Int32) (x11 : Int32) (C : MC) (I : MI) (J : MJ) (R : MR) => ∃ m, m < n ∧ Q228 m (gK Γ) x0 x5 x7 x8 x11 C I J R) (fun (x5 : Nat) (x7 : Nat) (x8 : Int32) (x10 : Int32) (C : MC) (I : MI) (J : MJ) (R : MR) => ∃ m, m < n ∧ Q276 m (gK Γ) x5 x7 x8 x10 C I J R) (fun (x10 : Int32) (x11 : Nat) (x12 : Int32) (x13 : Int32) (C : MC) (I : MI) (J : MJ) (R : MR) => ∃ m, m < n ∧ Q319 m (gK Γ) x10 x11 x12 x13 C I J R) (fun (x7 : Int32) (x8 : Nat) (x9 : Int32) (x10 : Int32) (C : MC) (I : MI) (J : MJ) (R : MR) => ∃ m, m < n ∧ Q370 m (gK Γ) x7 x8 x9 x10 C I J R) (fun (x7 : Int32) (x8 : Nat) (x9 : Int32) (x10 : Int32) (C : MC) (I : MI) (J : MJ) (R : MR) => ∃ m, m < n ∧ Q419 m (gK Γ) x7 x8 x9 x10 C I J R) (gK Γ) x0 x2 x3 x4 x5 x6 x7 x8 x10 x11 C I J R → AW Γ 3 40 C I J R 143 [(0, aR (some x0)), (2, aI x2), (3, aI x3), (4, aI x4), (5, aR (some x5)), (6, aR (some x6)), (7, aR (some x7)), (8, aI x8), (10, aR (some x10)), (11, aI x11)] [] := fun x0 x2 x3 x4 x5 x6 x7 x8 x10 x11 C I J R h => bX0_best_143 G S_X3_by S_X0_isEnough w172 w199 h
    have w43 : ∀ (x0 : Nat) (x2 : Int32) (x3 : Int32) (x4 : Int32) (x5 : Nat) (x6 : Nat) (s0 : Nat) (s1 : Int32) (C : MC) (I : MI) (J : MJ) (R : MR), PX0_best_43 F_X0_thing F_X0_isShare F_X0_want F_X0_leaves F_Vtable F_X3_by F_X0_isEnough F_X0_next F_X0_none F_X0_great (fun (x0 : Nat) (x2 : Int32) (x3 : Int32) (x4 : Int32) (x5 : Nat) (x6 : Nat) (x7 : Nat) (x8 : Int32) (x9 : Int32) (C : MC) (I : MI) (J : MJ) (R : MR) => ∃ m, m < n ∧ Q68 m (gK Γ) x0 x2 x3 x4 x5 x6 x7 x8 x9 C I J R) (fun (x0 : Nat) (x2 : Int32) (x3 : Int32) (x4 : Int32) (x5 : Nat) (x6 : Nat) (x7 : Nat) (x8 : Int32) (x10 : Nat) (x11 : Int32) (x12 : Nat) (x13 : Int32) (x14 : Int32) (C : MC) (I : MI) (J : MJ) (R : MR) => ∃ m, m < n ∧ Q95 m (gK Γ) x0 x2 x3 x4 x5 x6 x7 x8 x10 x11 x12 x13 x14 C I J R) (fun (x0 : Nat) (x2 : Int32) (x3 : Int32) (x4 : Int32) (x5 : Nat) (x6 : Nat) (x7 : Nat) (x8 : Int32) (x12 : Int32) (C : MC) (I : MI) (J : MJ) (R : MR) => ∃ m, m < n ∧ Q172 m (gK Γ) x0 x2 x3 x4 x5 x6 x7 x8 x12 C I J R) (fun (x0 : Nat) (x5 : Nat) (x7 : Nat) (x8 : Int32) (x11 : Int32) (C : MC) (I : MI) (J : MJ) (R : MR) => ∃ m, m < n ∧ Q228 m (gK Γ) x0 x5 x7 x8 x11 C I J R) (fun (x5 : Nat) (x7 : Nat) (x8 : Int32) (x10 : Int32) (C : MC) (I : MI) (J : MJ) (R : MR) => ∃ m, m < n ∧ Q276 m (gK Γ) x5 x7 x8 x10 C I J R) (fun (x10 : Int32) (x11 : Nat) (x12 : Int32) (x13 : Int32) (C : MC) (I : MI) (J : MJ) (R : MR) => ∃ m, m < n ∧ Q319 m (gK Γ) x10 x11 x12 x13 C I J R) (fun (x7 : Int32) (x8 : Nat) (x9 : Int32) (x10 : Int32) (C : MC) (I : MI) (J : MJ) (R : MR) => ∃ m, m < n ∧ Q370 m (gK Γ) x7 x8 x9 x10 C I J R) (fun (x7 : Int32) (x8 : Nat) (x9 : Int32) (x10 : Int32) (C : MC) (I : MI) (J : MJ) (R : MR) => ∃ m, m < n ∧ Q419 m (gK Γ) x7 x8 x9 x10 C I J R) (gK Γ) x0 x2 x3 x4 x5 x6 s0 s1 C I J R → AW Γ 1 0 C I J R 43 [(0, aR (some x0)), (2, aI x2), (3, aI x3), (4, aI x4), (5, aR (some x5)), (6, aR (some x6))] [aI s1, aR (some s0)] := fun x0 x2 x3 x4 x5 x6 s0 s1 C I J R h => bX0_best_43 G S_X0_want S_X0_leaves w68 w348 h
    have w42 : ∀ (x0 : Nat) (x2 : Int32) (x3 : Int32) (x4 : Int32) (x5 : Nat) (x6 : Nat) (s0 : Nat) (C : MC) (I : MI) (J : MJ) (R : MR), PX0_best_42 F_X0_thing F_X0_isShare F_X0_want F_X0_leaves F_Vtable F_X3_by F_X0_isEnough F_X0_next F_X0_none F_X0_great (fun (x0 : Nat) (x2 : Int32) (x3 : Int32) (x4 : Int32) (x5 : Nat) (x6 : Nat) (x7 : Nat) (x8 : Int32) (x9 : Int32) (C : MC) (I : MI) (J : MJ) (R : MR) => ∃ m, m < n ∧ Q68 m (gK Γ) x0 x2 x3 x4 x5 x6 x7 x8 x9 C I J R) (fun (x0 : Nat) (x2 : Int32) (x3 : Int32) (x4 : Int32) (x5 : Nat) (x6 : Nat) (x7 : Nat) (x8 : Int32) (x10 : Nat) (x11 : Int32) (x12 : Nat) (x13 : Int32) (x14 : Int32) (C : MC) (I : MI) (J : MJ) (R : MR) => ∃ m, m < n ∧ Q95 m (gK Γ) x0 x2 x3 x4 x5 x6 x7 x8 x10 x11 x12 x13 x14 C I J R) (fun (x0 : Nat) (x2 : Int32) (x3 : Int32) (x4 : Int32) (x5 : Nat) (x6 : Nat) (x7 : Nat) (x8 : Int32) (x12 : Int32) (C : MC) (I : MI) (J : MJ) (R : MR) => ∃ m, m < n ∧ Q172 m (gK Γ) x0 x2 x3 x4 x5 x6 x7 x8 x12 C I J R) (fun (x0 : Nat) (x5 : Nat) (x7 : Nat) (x8 : Int32) (x11 : Int32) (C : MC) (I : MI) (J : MJ) (R : MR) => ∃ m, m < n ∧ Q228 m (gK Γ) x0 x5 x7 x8 x11 C I J R) (fun (x5 : Nat) (x7 : Nat) (x8 : Int32) (x10 : Int32) (C : MC) (I : MI) (J : MJ) (R : MR) => ∃ m, m < n ∧ Q276 m (gK Γ) x5 x7 x8 x10 C I J R) (fun (x10 : Int32) (x11 : Nat) (x12 : Int32) (x13 : Int32) (C : MC) (I : MI) (J : MJ) (R : MR) => ∃ m, m < n ∧ Q319 m (gK Γ) x10 x11 x12 x13 C I J R) (fun (x7 : Int32) (x8 : Nat) (x9 : Int32) (x10 : Int32) (C : MC) (I : MI) (J : MJ) (R : MR) => ∃ m, m < n ∧ Q370 m (gK Γ) x7 x8 x9 x10 C I J R) (fun (x7 : Int32) (x8 : Nat) (x9 : Int32) (x10 : Int32) (C : MC) (I : MI) (J : MJ) (R : MR) => ∃ m, m < n ∧ Q419 m (gK Γ) x7 x8 x9 x10 C I J R) (gK Γ) x0 x2 x3 x4 x5 x6 s0 C I J R → AW Γ 1 0 C I J R 42 [(0, aR (some x0)), (2, aI x2), (3, aI x3), (4, aI x4), (5, aR (some x5)), (6, aR (some x6))] [aR (some s0)] := fun x0 x2 x3 x4 x5 x6 s0 C I J R h => bX0_best_42 G w43 h
    exact ⟨fun x0 x2 x3 x4 x5 x6 x7 x8 x9 C I J R h => bX0_best_68 G S_Vtable w95 w220 w399 (h68 n (gK Γ) x0 x2 x3 x4 x5 x6 x7 x8 x9 C I J R h), fun x0 x2 x3 x4 x5 x6 x7 x8 x10 x11 x12 x13 x14 C I J R h => bX0_best_95 G w95 w143 w199 (h95 n (gK Γ) x0 x2 x3 x4 x5 x6 x7 x8 x10 x11 x12 x13 x14 C I J R h), fun x0 x2 x3 x4 x5 x6 x7 x8 x12 C I J R h => bX0_best_172 G w172 w199 (h172 n (gK Γ) x0 x2 x3 x4 x5 x6 x7 x8 x12 C I J R h), fun x0 x5 x7 x8 x11 C I J R h => bX0_best_228 G w267 w276 (h228 n (gK Γ) x0 x5 x7 x8 x11 C I J R h), fun x5 x7 x8 x10 C I J R h => bX0_best_276 G w276 w319 (h276 n (gK Γ) x5 x7 x8 x10 C I J R h), fun x10 x11 x12 x13 C I J R h => bX0_best_319 G w319 (h319 n (gK Γ) x10 x11 x12 x13 C I J R h), fun x7 x8 x9 x10 C I J R h => bX0_best_370 G w370 (h370 n (gK Γ) x7 x8 x9 x10 C I J R h), fun x7 x8 x9 x10 C I J R h => bX0_best_419 G w419 (h419 n (gK Γ) x7 x8 x9 x10 C I J R h)⟩
  have w68 : ∀ (x0 : Nat) (x2 : Int32) (x3 : Int32) (x4 : Int32) (x5 : Nat) (x6 : Nat) (x7 : Nat) (x8 : Int32) (x9 : Int32) (C : MC) (I : MI) (J : MJ) (R : MR), (∃ n, Q68 n (gK Γ) x0 x2 x3 x4 x5 x6 x7 x8 x9 C I J R) → AW Γ 3 40 C I J R 68 [(0, aR (some x0)), (2, aI x2), (3, aI x3), (4, aI x4), (5, aR (some x5)), (6, aR (some x6)), (7, aR (some x7)), (8, aI x8), (9, aI x9)] [] := fun x0 x2 x3 x4 x5 x6 x7 x8 x9 C I J R ⟨m, hq⟩ => (key m).1 x0 x2 x3 x4 x5 x6 x7 x8 x9 C I J R hq
  have w95 : ∀ (x0 : Nat) (x2 : Int32) (x3 : Int32) (x4 : Int32) (x5 : Nat) (x6 : Nat) (x7 : Nat) (x8 : Int32) (x10 : Nat) (x11 : Int32) (x12 : Nat) (x13 : Int32) (x14 : Int32) (C : MC) (I : MI) (J : MJ) (R : MR), (∃ n, Q95 n (gK Γ) x0 x2 x3 x4 x5 x6 x7 x8 x10 x11 x12 x13 x14 C I J R) → AW Γ 3 40 C I J R 95 [(0, aR (some x0)), (2, aI x2), (3, aI x3), (4, aI x4), (5, aR (some x5)), (6, aR (some x6)), (7, aR (some x7)), (8, aI x8), (10, aR (some x10)), (11, aI x11), (12, aR (some x12)), (13, aI x13), (14, aI x14)] [] := fun x0 x2 x3 x4 x5 x6 x7 x8 x10 x11 x12 x13 x14 C I J R ⟨m, hq⟩ => (key m).2.1 x0 x2 x3 x4 x5 x6 x7 x8 x10 x11 x12 x13 x14 C I J R hq
  have w172 : ∀ (x0 : Nat) (x2 : Int32) (x3 : Int32) (x4 : Int32) (x5 : Nat) (x6 : Nat) (x7 : Nat) (x8 : Int32) (x12 : Int32) (C : MC) (I : MI) (J : MJ) (R : MR), (∃ n, Q172 n (gK Γ) x0 x2 x3 x4 x5 x6 x7 x8 x12 C I J R) → AW Γ 3 40 C I J R 172 [(0, aR (some x0)), (2, aI x2), (3, aI x3), (4, aI x4), (5, aR (some x5)), (6, aR (some x6)), (7, aR (some x7)), (8, aI x8), (12, aI x12)] [] := fun x0 x2 x3 x4 x5 x6 x7 x8 x12 C I J R ⟨m, hq⟩ => (key m).2.2.1 x0 x2 x3 x4 x5 x6 x7 x8 x12 C I J R hq
  have w228 : ∀ (x0 : Nat) (x5 : Nat) (x7 : Nat) (x8 : Int32) (x11 : Int32) (C : MC) (I : MI) (J : MJ) (R : MR), (∃ n, Q228 n (gK Γ) x0 x5 x7 x8 x11 C I J R) → AW Γ 3 40 C I J R 228 [(0, aR (some x0)), (5, aR (some x5)), (7, aR (some x7)), (8, aI x8), (11, aI x11)] [] := fun x0 x5 x7 x8 x11 C I J R ⟨m, hq⟩ => (key m).2.2.2.1 x0 x5 x7 x8 x11 C I J R hq
  have w276 : ∀ (x5 : Nat) (x7 : Nat) (x8 : Int32) (x10 : Int32) (C : MC) (I : MI) (J : MJ) (R : MR), (∃ n, Q276 n (gK Γ) x5 x7 x8 x10 C I J R) → AW Γ 3 40 C I J R 276 [(5, aR (some x5)), (7, aR (some x7)), (8, aI x8), (10, aI x10)] [] := fun x5 x7 x8 x10 C I J R ⟨m, hq⟩ => (key m).2.2.2.2.1 x5 x7 x8 x10 C I J R hq
  have w319 : ∀ (x10 : Int32) (x11 : Nat) (x12 : Int32) (x13 : Int32) (C : MC) (I : MI) (J : MJ) (R : MR), (∃ n, Q319 n (gK Γ) x10 x11 x12 x13 C I J R) → AW Γ 3 40 C I J R 319 [(10, aI x10), (11, aR (some x11)), (12, aI x12), (13, aI x13)] [] := fun x10 x11 x12 x13 C I J R ⟨m, hq⟩ => (key m).2.2.2.2.2.1 x10 x11 x12 x13 C I J R hq
  have w370 : ∀ (x7 : Int32) (x8 : Nat) (x9 : Int32) (x10 : Int32) (C : MC) (I : MI) (J : MJ) (R : MR), (∃ n, Q370 n (gK Γ) x7 x8 x9 x10 C I J R) → AW Γ 3 40 C I J R 370 [(7, aI x7), (8, aR (some x8)), (9, aI x9), (10, aI x10)] [] := fun x7 x8 x9 x10 C I J R ⟨m, hq⟩ => (key m).2.2.2.2.2.2.1 x7 x8 x9 x10 C I J R hq
  have w419 : ∀ (x7 : Int32) (x8 : Nat) (x9 : Int32) (x10 : Int32) (C : MC) (I : MI) (J : MJ) (R : MR), (∃ n, Q419 n (gK Γ) x7 x8 x9 x10 C I J R) → AW Γ 4 46 C I J R 419 [(7, aI x7), (8, aR (some x8)), (9, aI x9), (10, aI x10)] [] := fun x7 x8 x9 x10 C I J R ⟨m, hq⟩ => (key m).2.2.2.2.2.2.2 x7 x8 x9 x10 C I J R hq
  have w399 : ∀ (x0 : Nat) (x5 : Nat) (s0 : Nat) (C : MC) (I : MI) (J : MJ) (R : MR), PX0_best_399 F_X0_thing F_X0_isShare F_X0_want F_X0_leaves F_Vtable F_X3_by F_X0_isEnough F_X0_next F_X0_none F_X0_great (fun (x0 : Nat) (x2 : Int32) (x3 : Int32) (x4 : Int32) (x5 : Nat) (x6 : Nat) (x7 : Nat) (x8 : Int32) (x9 : Int32) (C : MC) (I : MI) (J : MJ) (R : MR) => ∃ n, Q68 n (gK Γ) x0 x2 x3 x4 x5 x6 x7 x8 x9 C I J R) (fun (x0 : Nat) (x2 : Int32) (x3 : Int32) (x4 : Int32) (x5 : Nat) (x6 : Nat) (x7 : Nat) (x8 : Int32) (x10 : Nat) (x11 : Int32) (x12 : Nat) (x13 : Int32) (x14 : Int32) (C : MC) (I : MI) (J : MJ) (R : MR) => ∃ n, Q95 n (gK Γ) x0 x2 x3 x4 x5 x6 x7 x8 x10 x11 x12 x13 x14 C I J R) (fun (x0 : Nat) (x2 : Int32) (x3 : Int32) (x4 : Int32) (x5 : Nat) (x6 : Nat) (x7 : Nat) (x8 : Int32) (x12 : Int32) (C : MC) (I : MI) (J : MJ) (R : MR) => ∃ n, Q172 n (gK Γ) x0 x2 x3 x4 x5 x6 x7 x8 x12 C I J R) (fun (x0 : Nat) (x5 : Nat) (x7 : Nat) (x8 : Int32) (x11 : Int32) (C : MC) (I : MI) (J : MJ) (R : MR) => ∃ n, Q228 n (gK Γ) x0 x5 x7 x8 x11 C I J R) (fun (x5 : Nat) (x7 : Nat) (x8 : Int32) (x10 : Int32) (C : MC) (I : MI) (J : MJ) (R : MR) => ∃ n, Q276 n (gK Γ) x5 x7 x8 x10 C I J R) (fun (x10 : Int32) (x11 : Nat) (x12 : Int32) (x13 : Int32) (C : MC) (I : MI) (J : MJ) (R : MR) => ∃ n, Q319 n (gK Γ) x10 x11 x12 x13 C I J R) (fun (x7 : Int32) (x8 : Nat) (x9 : Int32) (x10 : Int32) (C : MC) (I : MI) (J : MJ) (R : MR) => ∃ n, Q370 n (gK Γ) x7 x8 x9 x10 C I J R) (fun (x7 : Int32) (x8 : Nat) (x9 : Int32) (x10 : Int32) (C : MC) (I : MI) (J : MJ) (R : MR) => ∃ n, Q419 n (gK Γ) x7 x8 x9 x10 C I J R) (gK Γ) x0 x5 s0 C I J R → AW Γ 4 46 C I J R 399 [(0, aR (some x0)), (5, aR (some x5))] [aR (some s0)] := fun x0 x5 s0 C I J R h => bX0_best_399 G S_X0_great w419 h
  have w348 : ∀ (x0 : Nat) (x5 : Nat) (s0 : Nat) (C : MC) (I : MI) (J : MJ) (R : MR), PX0_best_348 F_X0_thing F_X0_isShare F_X0_want F_X0_leaves F_Vtable F_X3_by F_X0_isEnough F_X0_next F_X0_none F_X0_great (fun (x0 : Nat) (x2 : Int32) (x3 : Int32) (x4 : Int32) (x5 : Nat) (x6 : Nat) (x7 : Nat) (x8 : Int32) (x9 : Int32) (C : MC) (I : MI) (J : MJ) (R : MR) => ∃ n, Q68 n (gK Γ) x0 x2 x3 x4 x5 x6 x7 x8 x9 C I J R) (fun (x0 : Nat) (x2 : Int32) (x3 : Int32) (x4 : Int32) (x5 : Nat) (x6 : Nat) (x7 : Nat) (x8 : Int32) (x10 : Nat) (x11 : Int32) (x12 : Nat) (x13 : Int32) (x14 : Int32) (C : MC) (I : MI) (J : MJ) (R : MR) => ∃ n, Q95 n (gK Γ) x0 x2 x3 x4 x5 x6 x7 x8 x10 x11 x12 x13 x14 C I J R) (fun (x0 : Nat) (x2 : Int32) (x3 : Int32) (x4 : Int32) (x5 : Nat) (x6 : Nat) (x7 : Nat) (x8 : Int32) (x12 : Int32) (C : MC) (I : MI) (J : MJ) (R : MR) => ∃ n, Q172 n (gK Γ) x0 x2 x3 x4 x5 x6 x7 x8 x12 C I J R) (fun (x0 : Nat) (x5 : Nat) (x7 : Nat) (x8 : Int32) (x11 : Int32) (C : MC) (I : MI) (J : MJ) (R : MR) => ∃ n, Q228 n (gK Γ) x0 x5 x7 x8 x11 C I J R) (fun (x5 : Nat) (x7 : Nat) (x8 : Int32) (x10 : Int32) (C : MC) (I : MI) (J : MJ) (R : MR) => ∃ n, Q276 n (gK Γ) x5 x7 x8 x10 C I J R) (fun (x10 : Int32) (x11 : Nat) (x12 : Int32) (x13 : Int32) (C : MC) (I : MI) (J : MJ) (R : MR) => ∃ n, Q319 n (gK Γ) x10 x11 x12 x13 C I J R) (fun (x7 : Int32) (x8 : Nat) (x9 : Int32) (x10 : Int32) (C : MC) (I : MI) (J : MJ) (R : MR) => ∃ n, Q370 n (gK Γ) x7 x8 x9 x10 C I J R) (fun (x7 : Int32) (x8 : Nat) (x9 : Int32) (x10 : Int32) (C : MC) (I : MI) (J : MJ) (R : MR) => ∃ n, Q419 n (gK Γ) x7 x8 x9 x10 C I J R) (gK Γ) x0 x5 s0 C I J R → AW Γ 3 40 C I J R 348 [(0, aR (some x0)), (5, aR (some x5))] [aR (some s0)] := fun x0 x5 s0 C I J R h => bX0_best_348 G S_X0_none w370 h
  have w267 : ∀ (x0 : Nat) (x5 : Nat) (x7 : Nat) (x8 : Int32) (x11 : Int32) (C : MC) (I : MI) (J : MJ) (R : MR), PX0_best_267 F_X0_thing F_X0_isShare F_X0_want F_X0_leaves F_Vtable F_X3_by F_X0_isEnough F_X0_next F_X0_none F_X0_great (fun (x0 : Nat) (x2 : Int32) (x3 : Int32) (x4 : Int32) (x5 : Nat) (x6 : Nat) (x7 : Nat) (x8 : Int32) (x9 : Int32) (C : MC) (I : MI) (J : MJ) (R : MR) => ∃ n, Q68 n (gK Γ) x0 x2 x3 x4 x5 x6 x7 x8 x9 C I J R) (fun (x0 : Nat) (x2 : Int32) (x3 : Int32) (x4 : Int32) (x5 : Nat) (x6 : Nat) (x7 : Nat) (x8 : Int32) (x10 : Nat) (x11 : Int32) (x12 : Nat) (x13 : Int32) (x14 : Int32) (C : MC) (I : MI) (J : MJ) (R : MR) => ∃ n, Q95 n (gK Γ) x0 x2 x3 x4 x5 x6 x7 x8 x10 x11 x12 x13 x14 C I J R) (fun (x0 : Nat) (x2 : Int32) (x3 : Int32) (x4 : Int32) (x5 : Nat) (x6 : Nat) (x7 : Nat) (x8 : Int32) (x12 : Int32) (C : MC) (I : MI) (J : MJ) (R : MR) => ∃ n, Q172 n (gK Γ) x0 x2 x3 x4 x5 x6 x7 x8 x12 C I J R) (fun (x0 : Nat) (x5 : Nat) (x7 : Nat) (x8 : Int32) (x11 : Int32) (C : MC) (I : MI) (J : MJ) (R : MR) => ∃ n, Q228 n (gK Γ) x0 x5 x7 x8 x11 C I J R) (fun (x5 : Nat) (x7 : Nat) (x8 : Int32) (x10 : Int32) (C : MC) (I : MI) (J : MJ) (R : MR) => ∃ n, Q276 n (gK Γ) x5 x7 x8 x10 C I J R) (fun (x10 : Int32) (x11 : Nat) (x12 : Int32) (x13 : Int32) (C : MC) (I : MI) (J : MJ) (R : MR) => ∃ n, Q319 n (gK Γ) x10 x11 x12 x13 C I J R) (fun (x7 : Int32) (x8 : Nat) (x9 : Int32) (x10 : Int32) (C : MC) (I : MI) (J : MJ) (R : MR) => ∃ n, Q370 n (gK Γ) x7 x8 x9 x10 C I J R) (fun (x7 : Int32) (x8 : Nat) (x9 : Int32) (x10 : Int32) (C : MC) (I : MI) (J : MJ) (R : MR) => ∃ n, Q419 n (gK Γ) x7 x8 x9 x10 C I J R) (gK Γ) x0 x5 x7 x8 x11 C I J R → AW Γ 3 40 C I J R 267 [(0, aR (some x0)), (5, aR (some x5)), (7, aR (some x7)), (8, aI x8), (11, aI x11)] [] := fun x0 x5 x7 x8 x11 C I J R h => bX0_best_267 G w228 h
  have w220 : ∀ (x0 : Nat) (x5 : Nat) (x7 : Nat) (x8 : Int32) (s0 : Nat) (s1 : Int32) (C : MC) (I : MI) (J : MJ) (R : MR), PX0_best_220 F_X0_thing F_X0_isShare F_X0_want F_X0_leaves F_Vtable F_X3_by F_X0_isEnough F_X0_next F_X0_none F_X0_great (fun (x0 : Nat) (x2 : Int32) (x3 : Int32) (x4 : Int32) (x5 : Nat) (x6 : Nat) (x7 : Nat) (x8 : Int32) (x9 : Int32) (C : MC) (I : MI) (J : MJ) (R : MR) => ∃ n, Q68 n (gK Γ) x0 x2 x3 x4 x5 x6 x7 x8 x9 C I J R) (fun (x0 : Nat) (x2 : Int32) (x3 : Int32) (x4 : Int32) (x5 : Nat) (x6 : Nat) (x7 : Nat) (x8 : Int32) (x10 : Nat) (x11 : Int32) (x12 : Nat) (x13 : Int32) (x14 : Int32) (C : MC) (I : MI) (J : MJ) (R : MR) => ∃ n, Q95 n (gK Γ) x0 x2 x3 x4 x5 x6 x7 x8 x10 x11 x12 x13 x14 C I J R) (fun (x0 : Nat) (x2 : Int32) (x3 : Int32) (x4 : Int32) (x5 : Nat) (x6 : Nat) (x7 : Nat) (x8 : Int32) (x12 : Int32) (C : MC) (I : MI) (J : MJ) (R : MR) => ∃ n, Q172 n (gK Γ) x0 x2 x3 x4 x5 x6 x7 x8 x12 C I J R) (fun (x0 : Nat) (x5 : Nat) (x7 : Nat) (x8 : Int32) (x11 : Int32) (C : MC) (I : MI) (J : MJ) (R : MR) => ∃ n, Q228 n (gK Γ) x0 x5 x7 x8 x11 C I J R) (fun (x5 : Nat) (x7 : Nat) (x8 : Int32) (x10 : Int32) (C : MC) (I : MI) (J : MJ) (R : MR) => ∃ n, Q276 n (gK Γ) x5 x7 x8 x10 C I J R) (fun (x10 : Int32) (x11 : Nat) (x12 : Int32) (x13 : Int32) (C : MC) (I : MI) (J : MJ) (R : MR) => ∃ n, Q319 n (gK Γ) x10 x11 x12 x13 C I J R) (fun (x7 : Int32) (x8 : Nat) (x9 : Int32) (x10 : Int32) (C : MC) (I : MI) (J : MJ) (R : MR) => ∃ n, Q370 n (gK Γ) x7 x8 x9 x10 C I J R) (fun (x7 : Int32) (x8 : Nat) (x9 : Int32) (x10 : Int32) (C : MC) (I : MI) (J : MJ) (R : MR) => ∃ n, Q419 n (gK Γ) x7 x8 x9 x10 C I J R) (gK Γ) x0 x5 x7 x8 s0 s1 C I J R → AW Γ 3 40 C I J R 220 [(0, aR (some x0)), (5, aR (some x5)), (7, aR (some x7)), (8, aI x8)] [aI s1, aR (some s0)] := fun x0 x5 x7 x8 s0 s1 C I J R h => bX0_best_220 G S_X0_want w228 w348 h
  have w199 : ∀ (x0 : Nat) (x2 : Int32) (x3 : Int32) (x4 : Int32) (x5 : Nat) (x6 : Nat) (x7 : Nat) (x8 : Int32) (C : MC) (I : MI) (J : MJ) (R : MR), PX0_best_199 F_X0_thing F_X0_isShare F_X0_want F_X0_leaves F_Vtable F_X3_by F_X0_isEnough F_X0_next F_X0_none F_X0_great (fun (x0 : Nat) (x2 : Int32) (x3 : Int32) (x4 : Int32) (x5 : Nat) (x6 : Nat) (x7 : Nat) (x8 : Int32) (x9 : Int32) (C : MC) (I : MI) (J : MJ) (R : MR) => ∃ n, Q68 n (gK Γ) x0 x2 x3 x4 x5 x6 x7 x8 x9 C I J R) (fun (x0 : Nat) (x2 : Int32) (x3 : Int32) (x4 : Int32) (x5 : Nat) (x6 : Nat) (x7 : Nat) (x8 : Int32) (x10 : Nat) (x11 : Int32) (x12 : Nat) (x13 : Int32) (x14 : Int32) (C : MC) (I : MI) (J : MJ) (R : MR) => ∃ n, Q95 n (gK Γ) x0 x2 x3 x4 x5 x6 x7 x8 x10 x11 x12 x13 x14 C I J R) (fun (x0 : Nat) (x2 : Int32) (x3 : Int32) (x4 : Int32) (x5 : Nat) (x6 : Nat) (x7 : Nat) (x8 : Int32) (x12 : Int32) (C : MC) (I : MI) (J : MJ) (R : MR) => ∃ n, Q172 n (gK Γ) x0 x2 x3 x4 x5 x6 x7 x8 x12 C I J R) (fun (x0 : Nat) (x5 : Nat) (x7 : Nat) (x8 : Int32) (x11 : Int32) (C : MC) (I : MI) (J : MJ) (R : MR) => ∃ n, Q228 n (gK Γ) x0 x5 x7 x8 x11 C I J R) (fun (x5 : Nat) (x7 : Nat) (x8 : Int32) (x10 : Int32) (C : MC) (I : MI) (J : MJ) (R : MR) => ∃ n, Q276 n (gK Γ) x5 x7 x8 x10 C I J R) (fun (x10 : Int32) (x11 : Nat) (x12 : Int32) (x13 : Int32) (C : MC) (I : MI) (J : MJ) (R : MR) => ∃ n, Q319 n (gK Γ) x10 x11 x12 x13 C I J R) (fun (x7 : Int32) (x8 : Nat) (x9 : Int32) (x10 : Int32) (C : MC) (I : MI) (J : MJ) (R : MR) => ∃ n, Q370 n (gK Γ) x7 x8 x9 x10 C I J R) (fun (x7 : Int32) (x8 : Nat) (x9 : Int32) (x10 : Int32) (C : MC) (I : MI) (J : MJ) (R : MR) => ∃ n, Q419 n (gK Γ) x7 x8 x9 x10 C I J R) (gK Γ) x0 x2 x3 x4 x5 x6 x7 x8 C I J R → AW Γ 3 40 C I J R 199 [(0, aR (some x0)), (2, aI x2), (3, aI x3), (4, aI x4), (5, aR (some x5)), (6, aR (some x6)), (7, aR (some x7)), (8, aI x8)] [] := fun x0 x2 x3 x4 x5 x6 x7 x8 C I J R h => bX0_best_199 G S_X0_next w68 h
  have w143 : ∀ (x0 : Nat) (x2 : Int32) (x3 : Int32) (x4 : Int32) (x5 : Nat) (x6 : Nat) (x7 : Nat) (x8 : Int32) (x10 : Nat) (x11 : Int32) (C : MC) (I : MI) (J : MJ) (R : MR), PX0_best_143 F_X0_thing F_X0_isShare F_X0_want F_X0_leaves F_Vtable F_X3_by F_X0_isEnough F_X0_next F_X0_none F_X0_great (fun (x0 : Nat) (x2 : Int32) (x3 : Int32) (x4 : Int32) (x5 : Nat) (x6 : Nat) (x7 : Nat) (x8 : Int32) (x9 : Int32) (C : MC) (I : MI) (J : MJ) (R : MR) => ∃ n, Q68 n (gK Γ) x0 x2 x3 x4 x5 x6 x7 x8 x9 C I J R) (fun (x0 : Nat) (x2 : Int32) (x3 : Int32) (x4 : Int32) (x5 : Nat) (x6 : Nat) (x7 : Nat) (x8 : Int32) (x10 : Nat) (x11 : Int32) (x12 : Nat) (x13 : Int32) (x14 : Int32) (C : MC) (I : MI) (J : MJ) (R : MR) => ∃ n, Q95 n (gK Γ) x0 x2 x3 x4 x5 x6 x7 x8 x10 x11 x12 x13 x14 C I J R) (fun (x0 : Nat) (x2 : Int32) (x3 : Int32) (x4 : Int32) (x5 : Nat) (x6 : Nat) (x7 : Nat) (x8 : Int32) (x12 : Int32) (C : MC) (I : MI) (J : MJ) (R : MR) => ∃ n, Q172 n (gK Γ) x0 x2 x3 x4 x5 x6 x7 x8 x12 C I J R) (fun (x0 : Nat) (x5 : Nat) (x7 : Nat) (x8 : Int32) (x11 : Int32) (C : MC) (I : MI) (J : MJ) (R : MR) => ∃ n, Q228 n (gK Γ) x0 x5 x7 x8 x11 C I J R) (fun (x5 : Nat) (x7 : Nat) (x8 : Int32) (x10 : Int32) (C : MC) (I : MI) (J : MJ) (R : MR) => ∃ n, Q276 n (gK Γ) x5 x7 x8 x10 C I J R) (fun (x10 : Int32) (x11 : Nat) (x12 : Int32) (x13 : Int32) (C : MC) (I : MI) (J : MJ) (R : MR) => ∃ n, Q319 n (gK Γ) x10 x11 x12 x13 C I J R) (fun (x7 : Int32) (x8 : Nat) (x9 : Int32) (x10 : Int32) (C : MC) (I : MI) (J : MJ) (R : MR) => ∃ n, Q370 n (gK Γ) x7 x8 x9 x10 C I J R) (fun (x7 : Int32) (x8 : Nat) (x9 : Int32) (x10 : Int32) (C : MC) (I : MI) (J : MJ) (R : MR) => ∃ n, Q419 n (gK Γ) x7 x8 x9 x10 C I J R) (gK Γ) x0 x2 x3 x4 x5 x6 x7 x8 x10 x11 C I J R → AW Γ 3 40 C I J R 143 [(0, aR (some x0)), (2, aI x2), (3, aI x3), (4, aI x4), (5, aR (some x5)), (6, aR (some x6)), (7, aR (some x7)), (8, aI x8), (10, aR (some x10)), (11, aI x11)] [] := fun x0 x2 x3 x4 x5 x6 x7 x8 x10 x11 C I J R h => bX0_best_143 G S_X3_by S_X0_isEnough w172 w199 h
  have w43 : ∀ (x0 : Nat) (x2 : Int32) (x3 : Int32) (x4 : Int32) (x5 : Nat) (x6 : Nat) (s0 : Nat) (s1 : Int32) (C : MC) (I : MI) (J : MJ) (R : MR), PX0_best_43 F_X0_thing F_X0_isShare F_X0_want F_X0_leaves F_Vtable F_X3_by F_X0_isEnough F_X0_next F_X0_none F_X0_great (fun (x0 : Nat) (x2 : Int32) (x3 : Int32) (x4 : Int32) (x5 : Nat) (x6 : Nat) (x7 : Nat) (x8 : Int32) (x9 : Int32) (C : MC) (I : MI) (J : MJ) (R : MR) => ∃ n, Q68 n (gK Γ) x0 x2 x3 x4 x5 x6 x7 x8 x9 C I J R) (fun (x0 : Nat) (x2 : Int32) (x3 : Int32) (x4 : Int32) (x5 : Nat) (x6 : Nat) (x7 : Nat) (x8 : Int32) (x10 : Nat) (x11 : Int32) (x12 : Nat) (x13 : Int32) (x14 : Int32) (C : MC) (I : MI) (J : MJ) (R : MR) => ∃ n, Q95 n (gK Γ) x0 x2 x3 x4 x5 x6 x7 x8 x10 x11 x12 x13 x14 C I J R) (fun (x0 : Nat) (x2 : Int32) (x3 : Int32) (x4 : Int32) (x5 : Nat) (x6 : Nat) (x7 : Nat) (x8 : Int32) (x12 : Int32) (C : MC) (I : MI) (J : MJ) (R : MR) => ∃ n, Q172 n (gK Γ) x0 x2 x3 x4 x5 x6 x7 x8 x12 C I J R) (fun (x0 : Nat) (x5 : Nat) (x7 : Nat) (x8 : Int32) (x11 : Int32) (C : MC) (I : MI) (J : MJ) (R : MR) => ∃ n, Q228 n (gK Γ) x0 x5 x7 x8 x11 C I J R) (fun (x5 : Nat) (x7 : Nat) (x8 : Int32) (x10 : Int32) (C : MC) (I : MI) (J : MJ) (R : MR) => ∃ n, Q276 n (gK Γ) x5 x7 x8 x10 C I J R) (fun (x10 : Int32) (x11 : Nat) (x12 : Int32) (x13 : Int32) (C : MC) (I : MI) (J : MJ) (R : MR) => ∃ n, Q319 n (gK Γ) x10 x11 x12 x13 C I J R) (fun (x7 : Int32) (x8 : Nat) (x9 : Int32) (x10 : Int32) (C : MC) (I : MI) (J : MJ) (R : MR) => ∃ n, Q370 n (gK Γ) x7 x8 x9 x10 C I J R) (fun (x7 : Int32) (x8 : Nat) (x9 : Int32) (x10 : Int32) (C : MC) (I : MI) (J : MJ) (R : MR) => ∃ n, Q419 n (gK Γ) x7 x8 x9 x10 C I J R) (gK Γ) x0 x2 x3 x4 x5 x6 s0 s1 C I J R → AW Γ 1 0 C I J R 43 [(0, aR (some x0)), (2, aI x2), (3, aI x3), (4, aI x4), (5, aR (some x5)), (6, aR (some x6))] [aI s1, aR (some s0)] := fun x0 x2 x3 x4 x5 x6 s0 s1 C I J R h => bX0_best_43 G S_X0_want S_X0_leaves w68 w348 h
  have w42 : ∀ (x0 : Nat) (x2 : Int32) (x3 : Int32) (x4 : Int32) (x5 : Nat) (x6 : Nat) (s0 : Nat) (C : MC) (I : MI) (J : MJ) (R : MR), PX0_best_42 F_X0_thing F_X0_isShare F_X0_want F_X0_leaves F_Vtable F_X3_by F_X0_isEnough F_X0_next F_X0_none F_X0_great (fun (x0 : Nat) (x2 : Int32) (x3 : Int32) (x4 : Int32) (x5 : Nat) (x6 : Nat) (x7 : Nat) (x8 : Int32) (x9 : Int32) (C : MC) (I : MI) (J : MJ) (R : MR) => ∃ n, Q68 n (gK Γ) x0 x2 x3 x4 x5 x6 x7 x8 x9 C I J R) (fun (x0 : Nat) (x2 : Int32) (x3 : Int32) (x4 : Int32) (x5 : Nat) (x6 : Nat) (x7 : Nat) (x8 : Int32) (x10 : Nat) (x11 : Int32) (x12 : Nat) (x13 : Int32) (x14 : Int32) (C : MC) (I : MI) (J : MJ) (R : MR) => ∃ n, Q95 n (gK Γ) x0 x2 x3 x4 x5 x6 x7 x8 x10 x11 x12 x13 x14 C I J R) (fun (x0 : Nat) (x2 : Int32) (x3 : Int32) (x4 : Int32) (x5 : Nat) (x6 : Nat) (x7 : Nat) (x8 : Int32) (x12 : Int32) (C : MC) (I : MI) (J : MJ) (R : MR) => ∃ n, Q172 n (gK Γ) x0 x2 x3 x4 x5 x6 x7 x8 x12 C I J R) (fun (x0 : Nat) (x5 : Nat) (x7 : Nat) (x8 : Int32) (x11 : Int32) (C : MC) (I : MI) (J : MJ) (R : MR) => ∃ n, Q228 n (gK Γ) x0 x5 x7 x8 x11 C I J R) (fun (x5 : Nat) (x7 : Nat) (x8 : Int32) (x10 : Int32) (C : MC) (I : MI) (J : MJ) (R : MR) => ∃ n, Q276 n (gK Γ) x5 x7 x8 x10 C I J R) (fun (x10 : Int32) (x11 : Nat) (x12 : Int32) (x13 : Int32) (C : MC) (I : MI) (J : MJ) (R : MR) => ∃ n, Q319 n (gK Γ) x10 x11 x12 x13 C I J R) (fun (x7 : Int32) (x8 : Nat) (x9 : Int32) (x10 : Int32) (C : MC) (I : MI) (J : MJ) (R : MR) => ∃ n, Q370 n (gK Γ) x7 x8 x9 x10 C I J R) (fun (x7 : Int32) (x8 : Nat) (x9 : Int32) (x10 : Int32) (C : MC) (I : MI) (J : MJ) (R : MR) => ∃ n, Q419 n (gK Γ) x7 x8 x9 x10 C I J R) (gK Γ) x0 x2 x3 x4 x5 x6 s0 C I J R → AW Γ 1 0 C I J R 42 [(0, aR (some x0)), (2, aI x2), (3, aI x3), (4, aI x4), (5, aR (some x5)), (6, aR (some x6))] [aR (some s0)] := fun x0 x2 x3 x4 x5 x6 s0 C I J R h => bX0_best_42 G w43 h
  obtain ⟨x0, x1, x2, x3, x4, rfl, h⟩ := h0 As C I J R (gK Γ) hF
  exact ⟨Nat.le_of_ble_eq_true rfl, bX0_best_0 G S_X0_thing S_X0_isShare w42 w43 w348 h⟩
def PX0_leaves_66 (F_Vleaves : SPF) (F_X0_isIn : SPF) (Q13 : Nat → Nat → Nat → Int32 → Int32 → MC → MI → MJ → MR → Prop) (K : AK) (x0 : Nat) (x1 : Nat) (x2 : Nat) (x3 : Int32) (x4 : Int32) (C : MC) (I : MI) (J : MJ) (R : MR) : Prop :=
      Q13 x0 x1 x2 x3 (x4 + 1) C I J R
def PX0_leaves_13 (F_Vleaves : SPF) (F_X0_isIn : SPF) (Q13 : Nat → Nat → Nat → Int32 → Int32 → MC → MI → MJ → MR → Prop) (K : AK) (x0 : Nat) (x1 : Nat) (x2 : Nat) (x3 : Int32) (x4 : Int32) (C : MC) (I : MI) (J : MJ) (R : MR) : Prop :=
      (C x0).1 = 1 ∧
      (((I x0 3) ≤ x4 →
      K (.inl (some (aR (some x2)))) C I J R) ∧
      (¬ (I x0 3) ≤ x4 →
      ∃ q3 : Nat, R x0 2 = some q3 ∧
      (25 ≤ (C q3).1 ∧ (C q3).1 < 30) ∧
      vp_in x4 (C q3).2 ∧
      ∃ q6 : Nat, R q3 x4.toNatClampNeg = some q6 ∧
      kTh (C q6).1 ∧
      (((C q6).1 = 5 →
      F_X0_isIn [aR (some q6), aR (some x1)] C I J R (fun o C9 I10 J11 R12 =>
      ∃ r13 : Int32, o = .inl (some (aI r13)) ∧
      ((¬ r13 = 0 →
      (25 ≤ (C9 x2).1 ∧ (C9 x2).1 < 29) ∧
      kFit (C9 x2).1 (C9 q6).1 ∧
      vp_in x3 (C9 x2).2 ∧
      ∀ R18 : MR, R18 = va_up R12 x2 (va_up (R12 x2) x3.toNatClampNeg (some q6)) →
      PX0_leaves_66 F_Vleaves F_X0_isIn Q13 K x0 x1 x2 (x3 + 1) x4 C9 I10 J11 R18) ∧
      (r13 = 0 →
      PX0_leaves_66 F_Vleaves F_X0_isIn Q13 K x0 x1 x2 x3 x4 C9 I10 J11 R12)))) ∧
      (¬ (C q6).1 = 5 →
      PX0_leaves_66 F_Vleaves F_X0_isIn Q13 K x0 x1 x2 x3 x4 C I J R))))
def PX0_leaves_0 (F_Vleaves : SPF) (F_X0_isIn : SPF) (Q13 : Nat → Nat → Nat → Int32 → Int32 → MC → MI → MJ → MR → Prop) (K : AK) (x0 : Nat) (x1 : Nat) (C : MC) (I : MI) (J : MJ) (R : MR) : Prop :=
      kTh (C x1).1 ∧
      F_Vleaves [aR (some x1)] C I J R (fun o C2 I3 J4 R5 =>
      ∃ r6 : Int32, o = .inl (some (aI r6)) ∧
      ¬ r6 < 0 ∧
      r6.toNatClampNeg ≤ 20 ∧
      ∃ q7 : Nat, (C2 q7).1 = 0 ∧
      ∀ (C11 : MC) (I12 : MI) (J13 : MJ) (R14 : MR), C11 = va_up C2 q7 (28, r6.toNatClampNeg) → I12 = va_up I3 q7 (fun _ => 0) → J13 = va_up J4 q7 (fun _ => 0) → R14 = va_up R5 q7 (fun _ => none) → 
      Q13 x0 x1 q7 (0 : Int32) (0 : Int32) C11 I12 J13 R14)
theorem wX0_leaves {l : Launch}  {F_Vleaves : SPF} (S_Vleaves : SpVleaves l 20 F_Vleaves) {F_X0_isIn : SPF} (S_X0_isIn : SpX0_isIn l F_X0_isIn)
    (Q13 : Nat → AK → Nat → Nat → Nat → Int32 → Int32 → MC → MI → MJ → MR → Prop) {F : SPF}
    (h0 : ∀ (As : List AV) (C : MC) (I : MI) (J : MJ) (R : MR) (K : AK), F As C I J R K → ∃ (x0 : Nat) (x1 : Nat), As = [aR (some x0), aR (some x1)] ∧ PX0_leaves_0 F_Vleaves F_X0_isIn (fun (x0 : Nat) (x1 : Nat) (x2 : Nat) (x3 : Int32) (x4 : Int32) (C : MC) (I : MI) (J : MJ) (R : MR) => ∃ n, Q13 n K x0 x1 x2 x3 x4 C I J R) K x0 x1 C I J R)
    (h13 : ∀ (n : Nat) (K : AK) (x0 : Nat) (x1 : Nat) (x2 : Nat) (x3 : Int32) (x4 : Int32) (C : MC) (I : MI) (J : MJ) (R : MR), Q13 n K x0 x1 x2 x3 x4 C I J R → PX0_leaves_13 F_Vleaves F_X0_isIn (fun (x0 : Nat) (x1 : Nat) (x2 : Nat) (x3 : Int32) (x4 : Int32) (C : MC) (I : MI) (J : MJ) (R : MR) => ∃ m, m < n ∧ Q13 m K x0 x1 x2 x3 x4 C I J R) K x0 x1 x2 x3 x4 C I J R) : SpX0_leaves l F := by
  refine Spec.of (by rfl) ?_
  intro Γ C I J R As Gd gl gr _ _ gb hF
  subst gl
  have G : Gb Γ yX0_leaves cX0_leaves 7 (some (.array (.object "TickShare$Leaf"))) [] rmX0_leaves bdX0_leaves := ⟨Gd, gr, gb⟩
  have key : ∀ n : Nat, (∀ (x0 : Nat) (x1 : Nat) (x2 : Nat) (x3 : Int32) (x4 : Int32) (C : MC) (I : MI) (J : MJ) (R : MR), Q13 n (gK Γ) x0 x1 x2 x3 x4 C I J R → AW Γ 1 20 C I J R 13 [(0, aR (some x0)), (1, aR (some x1)), (2, aR (some x2)), (3, aI x3), (4, aI x4)] []) := by
    intro n
    induction n using Nat.strongRecOn with
    | ind n ih =>
    have w13 : ∀ (x0 : Nat) (x1 : Nat) (x2 : Nat) (x3 : Int32) (x4 : Int32) (C : MC) (I : MI) (J : MJ) (R : MR), (∃ m, m < n ∧ Q13 m (gK Γ) x0 x1 x2 x3 x4 C I J R) → AW Γ 1 20 C I J R 13 [(0, aR (some x0)), (1, aR (some x1)), (2, aR (some x2)), (3, aI x3), (4, aI x4)] [] := fun x0 x1 x2 x3 x4 C I J R ⟨m, hm, hq⟩ => (ih m hm) x0 x1 x2 x3 x4 C I J R hq
    have w66 : ∀ (x0 : Nat) (x1 : Nat) (x2 : Nat) (x3 : Int32) (x4 : Int32) (C : MC) (I : MI) (J : MJ) (R : MR), PX0_leaves_66 F_Vleaves F_X0_isIn (fun (x0 : Nat) (x1 : Nat) (x2 : Nat) (x3 : Int32) (x4 : Int32) (C : MC) (I : MI) (J : MJ) (R : MR) => ∃ m, m < n ∧ Q13 m (gK Γ) x0 x1 x2 x3 x4 C I J R) (gK Γ) x0 x1 x2 x3 x4 C I J R → AW Γ 1 20 C I J R 66 [(0, aR (some x0)), (1, aR (some x1)), (2, aR (some x2)), (3, aI x3), (4, aI x4)] [] := fun x0 x1 x2 x3 x4 C I J R h => bX0_leaves_66 G w13 h
    exact fun x0 x1 x2 x3 x4 C I J R h => bX0_leaves_13 G S_X0_isIn w66 (h13 n (gK Γ) x0 x1 x2 x3 x4 C I J R h)
  have w13 : ∀ (x0 : Nat) (x1 : Nat) (x2 : Nat) (x3 : Int32) (x4 : Int32) (C : MC) (I : MI) (J : MJ) (R : MR), (∃ n, Q13 n (gK Γ) x0 x1 x2 x3 x4 C I J R) → AW Γ 1 20 C I J R 13 [(0, aR (some x0)), (1, aR (some x1)), (2, aR (some x2)), (3, aI x3), (4, aI x4)] [] := fun x0 x1 x2 x3 x4 C I J R ⟨m, hq⟩ => (key m) x0 x1 x2 x3 x4 C I J R hq
  have w66 : ∀ (x0 : Nat) (x1 : Nat) (x2 : Nat) (x3 : Int32) (x4 : Int32) (C : MC) (I : MI) (J : MJ) (R : MR), PX0_leaves_66 F_Vleaves F_X0_isIn (fun (x0 : Nat) (x1 : Nat) (x2 : Nat) (x3 : Int32) (x4 : Int32) (C : MC) (I : MI) (J : MJ) (R : MR) => ∃ n, Q13 n (gK Γ) x0 x1 x2 x3 x4 C I J R) (gK Γ) x0 x1 x2 x3 x4 C I J R → AW Γ 1 20 C I J R 66 [(0, aR (some x0)), (1, aR (some x1)), (2, aR (some x2)), (3, aI x3), (4, aI x4)] [] := fun x0 x1 x2 x3 x4 C I J R h => bX0_leaves_66 G w13 h
  obtain ⟨x0, x1, rfl, h⟩ := h0 As C I J R (gK Γ) hF
  exact ⟨Nat.le_of_ble_eq_true rfl, bX0_leaves_0 G S_Vleaves w13 h⟩
def PX0_next_5 (Q5 : Nat → Int32 → MC → MI → MJ → MR → Prop) (K : AK) (x0 : Nat) (x1 : Int32) (C : MC) (I : MI) (J : MJ) (R : MR) : Prop :=
      ((x1 < 0 →
      K (.inl (some (aI (0 : Int32)))) C I J R) ∧
      (¬ x1 < 0 →
      (25 ≤ (C x0).1 ∧ (C x0).1 < 30) ∧
      vp_in x1 (C x0).2 ∧
      ∃ q4 : Nat, R x0 x1.toNatClampNeg = some q4 ∧
      (C q4).1 = 5 ∧
      ∀ I6 : MI, I6 = va_up I q4 (va_up (I q4) 9 ((I q4 9) + (1 : Int32))) →
      (((I6 q4 8) ≤ (I6 q4 9) →
      ∀ I8 : MI, I8 = va_up I6 q4 (va_up (I6 q4) 9 (0 : Int32)) →
      Q5 x0 (x1 + (-1)) C I8 J R) ∧
      (¬ (I6 q4 8) ≤ (I6 q4 9) →
      K (.inl (some (aI (1 : Int32)))) C I6 J R))))
def PX0_next_0 (Q5 : Nat → Int32 → MC → MI → MJ → MR → Prop) (K : AK) (x0 : Nat) (C : MC) (I : MI) (J : MJ) (R : MR) : Prop :=
      (20 ≤ (C x0).1 ∧ (C x0).1 ≤ 30) ∧
      Q5 x0 ((nI (C x0).2) - (1 : Int32)) C I J R
theorem wX0_next {l : Launch} 
    (Q5 : Nat → AK → Nat → Int32 → MC → MI → MJ → MR → Prop) {F : SPF}
    (h0 : ∀ (As : List AV) (C : MC) (I : MI) (J : MJ) (R : MR) (K : AK), F As C I J R K → ∃ (x0 : Nat), As = [aR (some x0)] ∧ PX0_next_0 (fun (x0 : Nat) (x1 : Int32) (C : MC) (I : MI) (J : MJ) (R : MR) => ∃ n, Q5 n K x0 x1 C I J R) K x0 C I J R)
    (h5 : ∀ (n : Nat) (K : AK) (x0 : Nat) (x1 : Int32) (C : MC) (I : MI) (J : MJ) (R : MR), Q5 n K x0 x1 C I J R → PX0_next_5 (fun (x0 : Nat) (x1 : Int32) (C : MC) (I : MI) (J : MJ) (R : MR) => ∃ m, m < n ∧ Q5 m K x0 x1 C I J R) K x0 x1 C I J R) : SpX0_next l F := by
  refine Spec.of (by rfl) ?_
  intro Γ C I J R As Gd gl gr _ _ gb hF
  subst gl
  have G : Gb Γ yX0_next cX0_next 2 (some .boolean) [] rmX0_next bdX0_next := ⟨Gd, gr, gb⟩
  have key : ∀ n : Nat, (∀ (x0 : Nat) (x1 : Int32) (C : MC) (I : MI) (J : MJ) (R : MR), Q5 n (gK Γ) x0 x1 C I J R → AW Γ 0 0 C I J R 5 [(0, aR (some x0)), (1, aI x1)] []) := by
    intro n
    induction n using Nat.strongRecOn with
    | ind n ih =>
    have w5 : ∀ (x0 : Nat) (x1 : Int32) (C : MC) (I : MI) (J : MJ) (R : MR), (∃ m, m < n ∧ Q5 m (gK Γ) x0 x1 C I J R) → AW Γ 0 0 C I J R 5 [(0, aR (some x0)), (1, aI x1)] [] := fun x0 x1 C I J R ⟨m, hm, hq⟩ => (ih m hm) x0 x1 C I J R hq
    exact fun x0 x1 C I J R h => bX0_next_5 G w5 (h5 n (gK Γ) x0 x1 C I J R h)
  have w5 : ∀ (x0 : Nat) (x1 : Int32) (C : MC) (I : MI) (J : MJ) (R : MR), (∃ n, Q5 n (gK Γ) x0 x1 C I J R) → AW Γ 0 0 C I J R 5 [(0, aR (some x0)), (1, aI x1)] [] := fun x0 x1 C I J R ⟨m, hq⟩ => (key m) x0 x1 C I J R hq
  obtain ⟨x0, rfl, h⟩ := h0 As C I J R (gK Γ) hF
  exact ⟨Nat.le_of_ble_eq_true rfl, bX0_next_0 G w5 h⟩
def PX0_chosen_34 (F_X0_leafOf : SPF) (F_X0_want : SPF) (F_X0_none : SPF) (K : AK) (x0 : Nat) (s0 : Nat) (C : MC) (I : MI) (J : MJ) (R : MR) : Prop :=
      (C x0).1 = 1 ∧
      F_X0_none [aR (some x0), aR (some s0)] C I J R (fun o C2 I3 J4 R5 =>
      ∃ r6 : Int32, o = .inl (some (aI r6)) ∧
      K (.inl (some (aI r6))) C2 I3 J4 R5)
def PX0_chosen_24 (F_X0_leafOf : SPF) (F_X0_want : SPF) (F_X0_none : SPF) (K : AK) (x0 : Nat) (x2 : Nat) (s0 : Nat) (s1 : Int32) (C : MC) (I : MI) (J : MJ) (R : MR) : Prop :=
      (C s0).1 = 1 ∧
      F_X0_want [aR (some s0), aI s1, aI (6 : Int32)] C I J R (fun o C2 I3 J4 R5 =>
      (o = .inl none ∧
      (C2 x2).1 = 5 ∧
      K (.inl (some (aI (I3 x2 10)))) C2 I3 J4 R5) ∨
      (∃ q8 : Nat, o = .inr q8 ∧
      ((C2 q8).1 = 2 ∧
      PX0_chosen_34 F_X0_leafOf F_X0_want F_X0_none K x0 q8 C2 I3 J4 R5)))
def PX0_chosen_0 (F_X0_leafOf : SPF) (F_X0_want : SPF) (F_X0_none : SPF) (K : AK) (x0 : Nat) (x1 : Int32) (C : MC) (I : MI) (J : MJ) (R : MR) : Prop :=
      (C x0).1 = 1 ∧
      ∀ I2 : MI, I2 = va_up I x0 (va_up (I x0) 5 (0 : Int32)) →
      F_X0_leafOf [aR (some x0), aI x1] C I2 J R (fun o C3 I4 J5 R6 =>
      (∃ r7 : Nat, o = .inl (some (aR (some r7))) ∧
      (C3 r7).1 = 5 ∧
      (((I4 r7 10) < 0 →
      PX0_chosen_24 F_X0_leafOf F_X0_want F_X0_none K x0 r7 x0 (0 : Int32) C3 I4 J5 R6) ∧
      (¬ (I4 r7 10) < 0 →
      PX0_chosen_24 F_X0_leafOf F_X0_want F_X0_none K x0 r7 x0 (1 : Int32) C3 I4 J5 R6))) ∨
      (∃ q10 : Nat, o = .inr q10 ∧
      ((C3 q10).1 = 2 ∧
      PX0_chosen_34 F_X0_leafOf F_X0_want F_X0_none K x0 q10 C3 I4 J5 R6)))
theorem wX0_chosen {l : Launch}  {F_X0_leafOf : SPF} (S_X0_leafOf : SpX0_leafOf l F_X0_leafOf) {F_X0_want : SPF} (S_X0_want : SpX0_want l F_X0_want) {F_X0_none : SPF} (S_X0_none : SpX0_none l F_X0_none) {F : SPF}
    (h0 : ∀ (As : List AV) (C : MC) (I : MI) (J : MJ) (R : MR) (K : AK), F As C I J R K → ∃ (x0 : Nat) (x1 : Int32), As = [aR (some x0), aI x1] ∧ PX0_chosen_0 F_X0_leafOf F_X0_want F_X0_none K x0 x1 C I J R) : SpX0_chosen l F := by
  refine Spec.ofH (by rfl) ?_
  intro Γ C I J R As Gd gl gr _ _ gb hF
  subst gl
  have G : Gb Γ yX0_chosen cX0_chosen 3 (some .int) [(5, 33, 34, 53)] rmX0_chosen bdX0_chosen := ⟨Gd, gr, gb⟩
  have w34 : ∀ (x0 : Nat) (s0 : Nat) (C : MC) (I : MI) (J : MJ) (R : MR), PX0_chosen_34 F_X0_leafOf F_X0_want F_X0_none (gK Γ) x0 s0 C I J R → AW Γ 0 0 C I J R 34 [(0, aR (some x0))] [aR (some s0)] := fun x0 s0 C I J R h => bX0_chosen_34 G S_X0_none h
  have w24 : ∀ (x0 : Nat) (x2 : Nat) (s0 : Nat) (s1 : Int32) (C : MC) (I : MI) (J : MJ) (R : MR), PX0_chosen_24 F_X0_leafOf F_X0_want F_X0_none (gK Γ) x0 x2 s0 s1 C I J R → AW Γ 0 0 C I J R 24 [(0, aR (some x0)), (2, aR (some x2))] [aI s1, aR (some s0)] := fun x0 x2 s0 s1 C I J R h => bX0_chosen_24 G S_X0_want w34 h
  obtain ⟨x0, x1, rfl, h⟩ := h0 As C I J R (gK Γ) hF
  exact ⟨Nat.le_of_ble_eq_true rfl, bX0_chosen_0 G S_X0_leafOf w24 w34 h⟩
def PX0_part_39 (F_X0_leafOf : SPF) (F_X0_want : SPF) (F_X0_no : SPF) (K : AK) (x0 : Nat) (s0 : Nat) (C : MC) (I : MI) (J : MJ) (R : MR) : Prop :=
      (C x0).1 = 1 ∧
      F_X0_no [aR (some x0), aR (some s0)] C I J R (fun o C2 I3 J4 R5 =>
      ∃ r6 : Int32, o = .inl (some (aI r6)) ∧
      (r6 = 0 ∨ r6 = 1) ∧ K (.inl (some (aI r6))) C2 I3 J4 R5)
def PX0_part_28 (F_X0_leafOf : SPF) (F_X0_want : SPF) (F_X0_no : SPF) (K : AK) (x0 : Nat) (x2 : Int32) (x3 : Nat) (s0 : Nat) (s1 : Int32) (C : MC) (I : MI) (J : MJ) (R : MR) : Prop :=
      (C s0).1 = 1 ∧
      F_X0_want [aR (some s0), aI s1, aI (1 : Int32)] C I J R (fun o C2 I3 J4 R5 =>
      (o = .inl none ∧
      (C2 x3).1 = 5 ∧
      ∀ I8 : MI, I8 = va_up I3 x3 (va_up (I3 x3) 11 x2) →
      K (.inl (some (aI (1 : Int32)))) C2 I8 J4 R5) ∨
      (∃ q9 : Nat, o = .inr q9 ∧
      ((C2 q9).1 = 2 ∧
      PX0_part_39 F_X0_leafOf F_X0_want F_X0_no K x0 q9 C2 I3 J4 R5)))
def PX0_part_27 (F_X0_leafOf : SPF) (F_X0_want : SPF) (F_X0_no : SPF) (K : AK) (x0 : Nat) (x2 : Int32) (x3 : Nat) (s0 : Nat) (C : MC) (I : MI) (J : MJ) (R : MR) : Prop :=
      PX0_part_28 F_X0_leafOf F_X0_want F_X0_no K x0 x2 x3 s0 (0 : Int32) C I J R
def PX0_part_0 (F_X0_leafOf : SPF) (F_X0_want : SPF) (F_X0_no : SPF) (K : AK) (x0 : Nat) (x1 : Int32) (x2 : Int32) (C : MC) (I : MI) (J : MJ) (R : MR) : Prop :=
      (C x0).1 = 1 ∧
      ∀ I2 : MI, I2 = va_up I x0 (va_up (I x0) 5 (0 : Int32)) →
      F_X0_leafOf [aR (some x0), aI x1] C I2 J R (fun o C3 I4 J5 R6 =>
      (∃ r7 : Nat, o = .inl (some (aR (some r7))) ∧
      ((x2 < (-1 : Int32) →
      PX0_part_27 F_X0_leafOf F_X0_want F_X0_no K x0 x2 r7 x0 C3 I4 J5 R6) ∧
      (¬ x2 < (-1 : Int32) →
      (((120 : Int32) < x2 →
      PX0_part_27 F_X0_leafOf F_X0_want F_X0_no K x0 x2 r7 x0 C3 I4 J5 R6) ∧
      (¬ (120 : Int32) < x2 →
      PX0_part_28 F_X0_leafOf F_X0_want F_X0_no K x0 x2 r7 x0 (1 : Int32) C3 I4 J5 R6))))) ∨
      (∃ q10 : Nat, o = .inr q10 ∧
      ((C3 q10).1 = 2 ∧
      PX0_part_39 F_X0_leafOf F_X0_want F_X0_no K x0 q10 C3 I4 J5 R6)))
theorem wX0_part {l : Launch}  {F_X0_leafOf : SPF} (S_X0_leafOf : SpX0_leafOf l F_X0_leafOf) {F_X0_want : SPF} (S_X0_want : SpX0_want l F_X0_want) {F_X0_no : SPF} (S_X0_no : SpX0_no l F_X0_no) {F : SPF}
    (h0 : ∀ (As : List AV) (C : MC) (I : MI) (J : MJ) (R : MR) (K : AK), F As C I J R K → ∃ (x0 : Nat) (x1 : Int32) (x2 : Int32), As = [aR (some x0), aI x1, aI x2] ∧ PX0_part_0 F_X0_leafOf F_X0_want F_X0_no K x0 x1 x2 C I J R) : SpX0_part l F := by
  refine Spec.ofH (by rfl) ?_
  intro Γ C I J R As Gd gl gr _ _ gb hF
  subst gl
  have G : Gb Γ yX0_part cX0_part 4 (some .boolean) [(5, 38, 39, 53)] rmX0_part bdX0_part := ⟨Gd, gr, gb⟩
  have w39 : ∀ (x0 : Nat) (s0 : Nat) (C : MC) (I : MI) (J : MJ) (R : MR), PX0_part_39 F_X0_leafOf F_X0_want F_X0_no (gK Γ) x0 s0 C I J R → AW Γ 0 0 C I J R 39 [(0, aR (some x0))] [aR (some s0)] := fun x0 s0 C I J R h => bX0_part_39 G S_X0_no h
  have w28 : ∀ (x0 : Nat) (x2 : Int32) (x3 : Nat) (s0 : Nat) (s1 : Int32) (C : MC) (I : MI) (J : MJ) (R : MR), PX0_part_28 F_X0_leafOf F_X0_want F_X0_no (gK Γ) x0 x2 x3 s0 s1 C I J R → AW Γ 0 0 C I J R 28 [(0, aR (some x0)), (2, aI x2), (3, aR (some x3))] [aI s1, aR (some s0)] := fun x0 x2 x3 s0 s1 C I J R h => bX0_part_28 G S_X0_want w39 h
  have w27 : ∀ (x0 : Nat) (x2 : Int32) (x3 : Nat) (s0 : Nat) (C : MC) (I : MI) (J : MJ) (R : MR), PX0_part_27 F_X0_leafOf F_X0_want F_X0_no (gK Γ) x0 x2 x3 s0 C I J R → AW Γ 0 0 C I J R 27 [(0, aR (some x0)), (2, aI x2), (3, aR (some x3))] [aR (some s0)] := fun x0 x2 x3 s0 C I J R h => bX0_part_27 G w28 h
  obtain ⟨x0, x1, x2, rfl, h⟩ := h0 As C I J R (gK Γ) hF
  exact ⟨Nat.le_of_ble_eq_true rfl, bX0_part_0 G S_X0_leafOf w27 w28 w39 h⟩
def PX0_trace_218 (F_X0_thing : SPF) (F_X0_on : SPF) (F_X0_leaves : SPF) (F_X0_sizeOf : SPF) (F_X0_want : SPF) (F_X0_number : SPF) (F_X0_none : SPF) (Q52 : Nat → Nat → Nat → Nat → Int64 → Int32 → MC → MI → MJ → MR → Prop) (Q160 : Nat → Nat → Int32 → MC → MI → MJ → MR → Prop) (K : AK) (x0 : Nat) (s0 : Nat) (C : MC) (I : MI) (J : MJ) (R : MR) : Prop :=
      (C x0).1 = 1 ∧
      F_X0_none [aR (some x0), aR (some s0)] C I J R (fun o C2 I3 J4 R5 =>
      ∃ r6 : Int32, o = .inl (some (aI r6)) ∧
      K (.inl (some (aI r6))) C2 I3 J4 R5)
def PX0_trace_206 (F_X0_thing : SPF) (F_X0_on : SPF) (F_X0_leaves : SPF) (F_X0_sizeOf : SPF) (F_X0_want : SPF) (F_X0_number : SPF) (F_X0_none : SPF) (Q52 : Nat → Nat → Nat → Nat → Int64 → Int32 → MC → MI → MJ → MR → Prop) (Q160 : Nat → Nat → Int32 → MC → MI → MJ → MR → Prop) (K : AK) (x4 : Nat) (x5 : Nat) (x8 : Int32) (s0 : Option Nat) (s1 : Int32) (s2 : Int32) (C : MC) (I : MI) (J : MJ) (R : MR) : Prop :=
      ∃ q1 : Nat, s0 = some q1 ∧
      (C q1).1 = 5 ∧
      ∀ I3 : MI, I3 = va_up I q1 (va_up (I q1) 12 (s1 + s2)) →
      Q160 x4 x5 (x8 + 1) C I3 J R
def PX0_trace_160 (F_X0_thing : SPF) (F_X0_on : SPF) (F_X0_leaves : SPF) (F_X0_sizeOf : SPF) (F_X0_want : SPF) (F_X0_number : SPF) (F_X0_none : SPF) (Q52 : Nat → Nat → Nat → Nat → Int64 → Int32 → MC → MI → MJ → MR → Prop) (Q160 : Nat → Nat → Int32 → MC → MI → MJ → MR → Prop) (K : AK) (x4 : Nat) (x5 : Nat) (x8 : Int32) (C : MC) (I : MI) (J : MJ) (R : MR) : Prop :=
      (20 ≤ (C x5).1 ∧ (C x5).1 ≤ 30) ∧
      (((nI (C x5).2) ≤ x8 →
      K (.inl (some (aI (1 : Int32)))) C I J R) ∧
      (¬ (nI (C x5).2) ≤ x8 →
      (25 ≤ (C x5).1 ∧ (C x5).1 < 30) ∧
      vp_in x8 (C x5).2 ∧
      ∃ q5 : Nat, R x5 x8.toNatClampNeg = some q5 ∧
      (C q5).1 = 5 ∧
      F_X0_number [aR (some x4), aI x8] C I J R (fun o C7 I8 J9 R10 =>
      ∃ r11 : Int64, o = .inl (some (aJ r11)) ∧
      (25 ≤ (C7 x5).1 ∧ (C7 x5).1 < 30) ∧
      vp_in x8 (C7 x5).2 ∧
      ∃ q14 : Nat, R10 x5 x8.toNatClampNeg = some q14 ∧
      (C7 q14).1 = 5 ∧
      ((r11 ≤ ((if (0 : Int32) < (I8 q14 11) then (I8 q14 11) else (0 : Int32)).toInt64) →
      PX0_trace_206 F_X0_thing F_X0_on F_X0_leaves F_X0_sizeOf F_X0_want F_X0_number F_X0_none Q52 Q160 K x4 x5 x8 (R x5 x8.toNatClampNeg) (I q5 12) (0 : Int32) C7 I8 J9 R10) ∧
      (¬ r11 ≤ ((if (0 : Int32) < (I8 q14 11) then (I8 q14 11) else (0 : Int32)).toInt64) →
      PX0_trace_206 F_X0_thing F_X0_on F_X0_leaves F_X0_sizeOf F_X0_want F_X0_number F_X0_none Q52 Q160 K x4 x5 x8 (R x5 x8.toNatClampNeg) (I q5 12) (1 : Int32) C7 I8 J9 R10)))))
def PX0_trace_92 (F_X0_thing : SPF) (F_X0_on : SPF) (F_X0_leaves : SPF) (F_X0_sizeOf : SPF) (F_X0_want : SPF) (F_X0_number : SPF) (F_X0_none : SPF) (Q52 : Nat → Nat → Nat → Nat → Int64 → Int32 → MC → MI → MJ → MR → Prop) (Q160 : Nat → Nat → Int32 → MC → MI → MJ → MR → Prop) (K : AK) (x0 : Nat) (x3 : Nat) (x4 : Nat) (x5 : Nat) (x6 : Int64) (x8 : Int32) (s0 : Nat) (s1 : Int32) (C : MC) (I : MI) (J : MJ) (R : MR) : Prop :=
      (C s0).1 = 1 ∧
      F_X0_want [aR (some s0), aI s1, aI (1 : Int32)] C I J R (fun o C2 I3 J4 R5 =>
      (o = .inl none ∧
      F_X0_number [aR (some x4), aI x8] C2 I3 J4 R5 (fun o C7 I8 J9 R10 =>
      ∃ r11 : Int64, o = .inl (some (aJ r11)) ∧
      (25 ≤ (C7 x5).1 ∧ (C7 x5).1 < 30) ∧
      vp_in x8 (C7 x5).2 ∧
      ∃ q14 : Nat, R10 x5 x8.toNatClampNeg = some q14 ∧
      (C7 q14).1 = 5 ∧
      Q52 x0 x3 x4 x5 (x6 + (r11 - ((if (0 : Int32) < (I8 q14 11) then (I8 q14 11) else (0 : Int32)).toInt64))) (x8 + 1) C7 I8 J9 R10)) ∨
      (∃ q16 : Nat, o = .inr q16 ∧
      ((C2 q16).1 = 2 ∧
      PX0_trace_218 F_X0_thing F_X0_on F_X0_leaves F_X0_sizeOf F_X0_want F_X0_number F_X0_none Q52 Q160 K x0 q16 C2 I3 J4 R5)))
def PX0_trace_91 (F_X0_thing : SPF) (F_X0_on : SPF) (F_X0_leaves : SPF) (F_X0_sizeOf : SPF) (F_X0_want : SPF) (F_X0_number : SPF) (F_X0_none : SPF) (Q52 : Nat → Nat → Nat → Nat → Int64 → Int32 → MC → MI → MJ → MR → Prop) (Q160 : Nat → Nat → Int32 → MC → MI → MJ → MR → Prop) (K : AK) (x0 : Nat) (x3 : Nat) (x4 : Nat) (x5 : Nat) (x6 : Int64) (x8 : Int32) (s0 : Nat) (C : MC) (I : MI) (J : MJ) (R : MR) : Prop :=
      PX0_trace_92 F_X0_thing F_X0_on F_X0_leaves F_X0_sizeOf F_X0_want F_X0_number F_X0_none Q52 Q160 K x0 x3 x4 x5 x6 x8 s0 (0 : Int32) C I J R
def PX0_trace_52 (F_X0_thing : SPF) (F_X0_on : SPF) (F_X0_leaves : SPF) (F_X0_sizeOf : SPF) (F_X0_want : SPF) (F_X0_number : SPF) (F_X0_none : SPF) (Q52 : Nat → Nat → Nat → Nat → Int64 → Int32 → MC → MI → MJ → MR → Prop) (Q160 : Nat → Nat → Int32 → MC → MI → MJ → MR → Prop) (K : AK) (x0 : Nat) (x3 : Nat) (x4 : Nat) (x5 : Nat) (x6 : Int64) (x8 : Int32) (C : MC) (I : MI) (J : MJ) (R : MR) : Prop :=
      (20 ≤ (C x5).1 ∧ (C x5).1 ≤ 30) ∧
      (((nI (C x5).2) ≤ x8 →
      kTh (C x3).1 ∧
      ∀ I4 : MI, I4 = va_up I x3 (va_up (I x3) 4 ((I x3 4) + (1 : Int32))) →
      (((0 : Int64) < x6 →
      ∀ I6 : MI, I6 = va_up I4 x3 (va_up (I4 x3) 5 ((I4 x3 5) + (1 : Int32))) →
      Q160 x4 x5 (0 : Int32) C I6 J R) ∧
      (¬ (0 : Int64) < x6 →
      K (.inl (some (aI (0 : Int32)))) C I4 J R))) ∧
      (¬ (nI (C x5).2) ≤ x8 →
      F_X0_number [aR (some x4), aI x8] C I J R (fun o C7 I8 J9 R10 =>
      ∃ r11 : Int64, o = .inl (some (aJ r11)) ∧
      ((r11 < (0 : Int64) →
      PX0_trace_91 F_X0_thing F_X0_on F_X0_leaves F_X0_sizeOf F_X0_want F_X0_number F_X0_none Q52 Q160 K x0 x3 x4 x5 x6 x8 x0 C7 I8 J9 R10) ∧
      (¬ r11 < (0 : Int64) →
      F_X0_number [aR (some x4), aI x8] C7 I8 J9 R10 (fun o C13 I14 J15 R16 =>
      ∃ r17 : Int64, o = .inl (some (aJ r17)) ∧
      (((1000 : Int64) < r17 →
      PX0_trace_91 F_X0_thing F_X0_on F_X0_leaves F_X0_sizeOf F_X0_want F_X0_number F_X0_none Q52 Q160 K x0 x3 x4 x5 x6 x8 x0 C13 I14 J15 R16) ∧
      (¬ (1000 : Int64) < r17 →
      PX0_trace_92 F_X0_thing F_X0_on F_X0_leaves F_X0_sizeOf F_X0_want F_X0_number F_X0_none Q52 Q160 K x0 x3 x4 x5 x6 x8 x0 (1 : Int32) C13 I14 J15 R16))))))))
def PX0_trace_42 (F_X0_thing : SPF) (F_X0_on : SPF) (F_X0_leaves : SPF) (F_X0_sizeOf : SPF) (F_X0_want : SPF) (F_X0_number : SPF) (F_X0_none : SPF) (Q52 : Nat → Nat → Nat → Nat → Int64 → Int32 → MC → MI → MJ → MR → Prop) (Q160 : Nat → Nat → Int32 → MC → MI → MJ → MR → Prop) (K : AK) (x0 : Nat) (x3 : Nat) (x4 : Nat) (x5 : Nat) (s0 : Nat) (s1 : Int32) (C : MC) (I : MI) (J : MJ) (R : MR) : Prop :=
      (C s0).1 = 1 ∧
      F_X0_want [aR (some s0), aI s1, aI (3 : Int32)] C I J R (fun o C2 I3 J4 R5 =>
      (o = .inl none ∧
      Q52 x0 x3 x4 x5 (0 : Int64) (0 : Int32) C2 I3 J4 R5) ∨
      (∃ q7 : Nat, o = .inr q7 ∧
      ((C2 q7).1 = 2 ∧
      PX0_trace_218 F_X0_thing F_X0_on F_X0_leaves F_X0_sizeOf F_X0_want F_X0_number F_X0_none Q52 Q160 K x0 q7 C2 I3 J4 R5)))
def PX0_trace_0 (F_X0_thing : SPF) (F_X0_on : SPF) (F_X0_leaves : SPF) (F_X0_sizeOf : SPF) (F_X0_want : SPF) (F_X0_number : SPF) (F_X0_none : SPF) (Q52 : Nat → Nat → Nat → Nat → Int64 → Int32 → MC → MI → MJ → MR → Prop) (Q160 : Nat → Nat → Int32 → MC → MI → MJ → MR → Prop) (K : AK) (x0 : Nat) (x1 : Int32) (x2 : Int32) (C : MC) (I : MI) (J : MJ) (R : MR) : Prop :=
      (C x0).1 = 1 ∧
      ∀ I2 : MI, I2 = va_up I x0 (va_up (I x0) 5 (0 : Int32)) →
      F_X0_thing [aR (some x0), aI x1] C I2 J R (fun o C3 I4 J5 R6 =>
      (∃ r7 : Nat, o = .inl (some (aR (some r7))) ∧
      (C3 x0).1 = 1 ∧
      F_X0_on [aR (some x0), aI x2] C3 I4 J5 R6 (fun o C9 I10 J11 R12 =>
      (∃ r13 : Nat, o = .inl (some (aR (some r13))) ∧
      (C9 x0).1 = 1 ∧
      F_X0_leaves [aR (some x0), aR (some r7)] C9 I10 J11 R12 (fun o C15 I16 J17 R18 =>
      ∃ r19 : Nat, o = .inl (some (aR (some r19))) ∧
      (20 ≤ (C15 r19).1 ∧ (C15 r19).1 ≤ 30) ∧
      F_X0_sizeOf [aR (some r13)] C15 I16 J17 R18 (fun o C21 I22 J23 R24 =>
      ∃ r25 : Int32, o = .inl (some (aI r25)) ∧
      ((r25 < (nI (C15 r19).2) →
      PX0_trace_42 F_X0_thing F_X0_on F_X0_leaves F_X0_sizeOf F_X0_want F_X0_number F_X0_none Q52 Q160 K x0 r7 r13 r19 x0 (0 : Int32) C21 I22 J23 R24) ∧
      (¬ r25 < (nI (C15 r19).2) →
      PX0_trace_42 F_X0_thing F_X0_on F_X0_leaves F_X0_sizeOf F_X0_want F_X0_number F_X0_none Q52 Q160 K x0 r7 r13 r19 x0 (1 : Int32) C21 I22 J23 R24))))) ∨
      (∃ q27 : Nat, o = .inr q27 ∧
      ((C9 q27).1 = 2 ∧
      PX0_trace_218 F_X0_thing F_X0_on F_X0_leaves F_X0_sizeOf F_X0_want F_X0_number F_X0_none Q52 Q160 K x0 q27 C9 I10 J11 R12)))) ∨
      (∃ q29 : Nat, o = .inr q29 ∧
      ((C3 q29).1 = 2 ∧
      PX0_trace_218 F_X0_thing F_X0_on F_X0_leaves F_X0_sizeOf F_X0_want F_X0_number F_X0_none Q52 Q160 K x0 q29 C3 I4 J5 R6)))
theorem wX0_trace {l : Launch}  {F_X0_thing : SPF} (S_X0_thing : SpX0_thing l F_X0_thing) {F_X0_on : SPF} (S_X0_on : SpX0_on l F_X0_on) {F_X0_leaves : SPF} (S_X0_leaves : SpX0_leaves l F_X0_leaves) {F_X0_sizeOf : SPF} (S_X0_sizeOf : SpX0_sizeOf l F_X0_sizeOf) {F_X0_want : SPF} (S_X0_want : SpX0_want l F_X0_want) {F_X0_number : SPF} (S_X0_number : SpX0_number l F_X0_number) {F_X0_none : SPF} (S_X0_none : SpX0_none l F_X0_none)
    (Q52 : Nat → AK → Nat → Nat → Nat → Nat → Int64 → Int32 → MC → MI → MJ → MR → Prop)
    (Q160 : Nat → AK → Nat → Nat → Int32 → MC → MI → MJ → MR → Prop) {F : SPF}
    (h0 : ∀ (As : List AV) (C : MC) (I : MI) (J : MJ) (R : MR) (K : AK), F As C I J R K → ∃ (x0 : Nat) (x1 : Int32) (x2 : Int32), As = [aR (some x0), aI x1, aI x2] ∧ PX0_trace_0 F_X0_thing F_X0_on F_X0_leaves F_X0_sizeOf F_X0_want F_X0_number F_X0_none (fun (x0 : Nat) (x3 : Nat) (x4 : Nat) (x5 : Nat) (x6 : Int64) (x8 : Int32) (C : MC) (I : MI) (J : MJ) (R : MR) => ∃ n, Q52 n K x0 x3 x4 x5 x6 x8 C I J R) (fun (x4 : Nat) (x5 : Nat) (x8 : Int32) (C : MC) (I : MI) (J : MJ) (R : MR) => ∃ n, Q160 n K x4 x5 x8 C I J R) K x0 x1 x2 C I J R)
    (h52 : ∀ (n : Nat) (K : AK) (x0 : Nat) (x3 : Nat) (x4 : Nat) (x5 : Nat) (x6 : Int64) (x8 : Int32) (C : MC) (I : MI) (J : MJ) (R : MR), Q52 n K x0 x3 x4 x5 x6 x8 C I J R → PX0_trace_52 F_X0_thing F_X0_on F_X0_leaves F_X0_sizeOf F_X0_want F_X0_number F_X0_none (fun (x0 : Nat) (x3 : Nat) (x4 : Nat) (x5 : Nat) (x6 : Int64) (x8 : Int32) (C : MC) (I : MI) (J : MJ) (R : MR) => ∃ m, m < n ∧ Q52 m K x0 x3 x4 x5 x6 x8 C I J R) (fun (x4 : Nat) (x5 : Nat) (x8 : Int32) (C : MC) (I : MI) (J : MJ) (R : MR) => ∃ m, m < n ∧ Q160 m K x4 x5 x8 C I J R) K x0 x3 x4 x5 x6 x8 C I J R)
    (h160 : ∀ (n : Nat) (K : AK) (x4 : Nat) (x5 : Nat) (x8 : Int32) (C : MC) (I : MI) (J : MJ) (R : MR), Q160 n K x4 x5 x8 C I J R → PX0_trace_160 F_X0_thing F_X0_on F_X0_leaves F_X0_sizeOf F_X0_want F_X0_number F_X0_none (fun (x0 : Nat) (x3 : Nat) (x4 : Nat) (x5 : Nat) (x6 : Int64) (x8 : Int32) (C : MC) (I : MI) (J : MJ) (R : MR) => ∃ m, m < n ∧ Q52 m K x0 x3 x4 x5 x6 x8 C I J R) (fun (x4 : Nat) (x5 : Nat) (x8 : Int32) (C : MC) (I : MI) (J : MJ) (R : MR) => ∃ m, m < n ∧ Q160 m K x4 x5 x8 C I J R) K x4 x5 x8 C I J R) : SpX0_trace l F := by
  refine Spec.ofH (by rfl) ?_
  intro Γ C I J R As Gd gl gr _ _ gb hF
  subst gl
  have G : Gb Γ yX0_trace cX0_trace 9 (some .int) [(5, 146, 218, 53), (147, 217, 218, 53)] rmX0_trace bdX0_trace := ⟨Gd, gr, gb⟩
  have key : ∀ n : Nat, (∀ (x0 : Nat) (x3 : Nat) (x4 : Nat) (x5 : Nat) (x6 : Int64) (x8 : Int32) (C : MC) (I : MI) (J : MJ) (R : MR), Q52 n (gK Γ) x0 x3 x4 x5 x6 x8 C I J R → AW Γ 1 20 C I J R 52 [(0, aR (some x0)), (3, aR (some x3)), (4, aR (some x4)), (5, aR (some x5)), (6, aJ x6), (8, aI x8)] []) ∧ (∀ (x4 : Nat) (x5 : Nat) (x8 : Int32) (C : MC) (I : MI) (J : MJ) (R : MR), Q160 n (gK Γ) x4 x5 x8 C I J R → AW Γ 1 20 C I J R 160 [(4, aR (some x4)), (5, aR (some x5)), (8, aI x8)] []) := by
    intro n
    induction n using Nat.strongRecOn with
    | ind n ih =>
    have w52 : ∀ (x0 : Nat) (x3 : Nat) (x4 : Nat) (x5 : Nat) (x6 : Int64) (x8 : Int32) (C : MC) (I : MI) (J : MJ) (R : MR), (∃ m, m < n ∧ Q52 m (gK Γ) x0 x3 x4 x5 x6 x8 C I J R) → AW Γ 1 20 C I J R 52 [(0, aR (some x0)), (3, aR (some x3)), (4, aR (some x4)), (5, aR (some x5)), (6, aJ x6), (8, aI x8)] [] := fun x0 x3 x4 x5 x6 x8 C I J R ⟨m, hm, hq⟩ => (ih m hm).1 x0 x3 x4 x5 x6 x8 C I J R hq
    have w160 : ∀ (x4 : Nat) (x5 : Nat) (x8 : Int32) (C : MC) (I : MI) (J : MJ) (R : MR), (∃ m, m < n ∧ Q160 m (gK Γ) x4 x5 x8 C I J R) → AW Γ 1 20 C I J R 160 [(4, aR (some x4)), (5, aR (some x5)), (8, aI x8)] [] := fun x4 x5 x8 C I J R ⟨m, hm, hq⟩ => (ih m hm).2 x4 x5 x8 C I J R hq
    have w218 : ∀ (x0 : Nat) (s0 : Nat) (C : MC) (I : MI) (J : MJ) (R : MR), PX0_trace_218 F_X0_thing F_X0_on F_X0_leaves F_X0_sizeOf F_X0_want F_X0_number F_X0_none (fun (x0 : Nat) (x3 : Nat) (x4 : Nat) (x5 : Nat) (x6 : Int64) (x8 : Int32) (C : MC) (I : MI) (J : MJ) (R : MR) => ∃ m, m < n ∧ Q52 m (gK Γ) x0 x3 x4 x5 x6 x8 C I J R) (fun (x4 : Nat) (x5 : Nat) (x8 : Int32) (C : MC) (I : MI) (J : MJ) (R : MR) => ∃ m, m < n ∧ Q160 m (gK Γ) x4 x5 x8 C I J R) (gK Γ) x0 s0 C I J R → AW Γ 1 20 C I J R 218 [(0, aR (some x0))] [aR (some s0)] := fun x0 s0 C I J R h => bX0_trace_218 G S_X0_none h
    have w206 : ∀ (x4 : Nat) (x5 : Nat) (x8 : Int32) (s0 : Option Nat) (s1 : Int32) (s2 : Int32) (C : MC) (I : MI) (J : MJ) (R : MR), PX0_trace_206 F_X0_thing F_X0_on F_X0_leaves F_X0_sizeOf F_X0_want F_X0_number F_X0_none (fun (x0 : Nat) (x3 : Nat) (x4 : Nat) (x5 : Nat) (x6 : Int64) (x8 : Int32) (C : MC) (I : MI) (J : MJ) (R : MR) => ∃ m, m < n ∧ Q52 m (gK Γ) x0 x3 x4 x5 x6 x8 C I J R) (fun (x4 : Nat) (x5 : Nat) (x8 : Int32) (C : MC) (I : MI) (J : MJ) (R : MR) => ∃ m, m < n ∧ Q160 m (gK Γ) x4 x5 x8 C I J R) (gK Γ) x4 x5 x8 s0 s1 s2 C I J R → AW Γ 1 20 C I J R 206 [(4, aR (some x4)), (5, aR (some x5)), (8, aI x8)] [aI s2, aI s1, aR s0] := fun x4 x5 x8 s0 s1 s2 C I J R h => bX0_trace_206 G w160 h
    have w92 : ∀ (x0 : Nat) (x3 : Nat) (x4 : Nat) (x5 : Nat) (x6 : Int64) (x8 : Int32) (s0 : Nat) (s1 : Int32) (C : MC) (I : MI) (J : MJ) (R : MR), PX0_trace_92 F_X0_thing F_X0_on F_X0_leaves F_X0_sizeOf F_X0_want F_X0_number F_X0_none (fun (x0 : Nat) (x3 : Nat) (x4 : Nat) (x5 : Nat) (x6 : Int64) (x8 : Int32) (C : MC) (I : MI) (J : MJ) (R : MR) => ∃ m, m < n ∧ Q52 m (gK Γ) x0 x3 x4 x5 x6 x8 C I J R) (fun (x4 : Nat) (x5 : Nat) (x8 : Int32) (C : MC) (I : MI) (J : MJ) (R : MR) => ∃ m, m < n ∧ Q160 m (gK Γ) x4 x5 x8 C I J R) (gK Γ) x0 x3 x4 x5 x6 x8 s0 s1 C I J R → AW Γ 1 20 C I J R 92 [(0, aR (some x0)), (3, aR (some x3)), (4, aR (some x4)), (5, aR (some x5)), (6, aJ x6), (8, aI x8)] [aI s1, aR (some s0)] := fun x0 x3 x4 x5 x6 x8 s0 s1 C I J R h => bX0_trace_92 G S_X0_want S_X0_number w52 w218 h
    have w91 : ∀ (x0 : Nat) (x3 : Nat) (x4 : Nat) (x5 : Nat) (x6 : Int64) (x8 : Int32) (s0 : Nat) (C : MC) (I : MI) (J : MJ) (R : MR), PX0_trace_91 F_X0_thing F_X0_on F_X0_leaves F_X0_sizeOf F_X0_want F_X0_number F_X0_none (fun (x0 : Nat) (x3 : Nat) (x4 : Nat) (x5 : Nat) (x6 : Int64) (x8 : Int32) (C : MC) (I : MI) (J : MJ) (R : MR) => ∃ m, m < n ∧ Q52 m (gK Γ) x0 x3 x4 x5 x6 x8 C I J R) (fun (x4 : Nat) (x5 : Nat) (x8 : Int32) (C : MC) (I : MI) (J : MJ) (R : MR) => ∃ m, m < n ∧ Q160 m (gK Γ) x4 x5 x8 C I J R) (gK Γ) x0 x3 x4 x5 x6 x8 s0 C I J R → AW Γ 1 20 C I J R 91 [(0, aR (some x0)), (3, aR (some x3)), (4, aR (some x4)), (5, aR (some x5)), (6, aJ x6), (8, aI x8)] [aR (some s0)] := fun x0 x3 x4 x5 x6 x8 s0 C I J R h => bX0_trace_91 G w92 h
    have w42 : ∀ (x0 : Nat) (x3 : Nat) (x4 : Nat) (x5 : Nat) (s0 : Nat) (s1 : Int32) (C : MC) (I : MI) (J : MJ) (R : MR), PX0_trace_42 F_X0_thing F_X0_on F_X0_leaves F_X0_sizeOf F_X0_want F_X0_number F_X0_none (fun (x0 : Nat) (x3 : Nat) (x4 : Nat) (x5 : Nat) (x6 : Int64) (x8 : Int32) (C : MC) (I : MI) (J : MJ) (R : MR) => ∃ m, m < n ∧ Q52 m (gK Γ) x0 x3 x4 x5 x6 x8 C I J R) (fun (x4 : Nat) (x5 : Nat) (x8 : Int32) (C : MC) (I : MI) (J : MJ) (R : MR) => ∃ m, m < n ∧ Q160 m (gK Γ) x4 x5 x8 C I J R) (gK Γ) x0 x3 x4 x5 s0 s1 C I J R → AW Γ 1 20 C I J R 42 [(0, aR (some x0)), (3, aR (some x3)), (4, aR (some x4)), (5, aR (some x5))] [aI s1, aR (some s0)] := fun x0 x3 x4 x5 s0 s1 C I J R h => bX0_trace_42 G S_X0_want w52 w218 h
    exact ⟨fun x0 x3 x4 x5 x6 x8 C I J R h => bX0_trace_52 G S_X0_number w91 w92 w160 (h52 n (gK Γ) x0 x3 x4 x5 x6 x8 C I J R h), fun x4 x5 x8 C I J R h => bX0_trace_160 G S_X0_number w206 (h160 n (gK Γ) x4 x5 x8 C I J R h)⟩
  have w52 : ∀ (x0 : Nat) (x3 : Nat) (x4 : Nat) (x5 : Nat) (x6 : Int64) (x8 : Int32) (C : MC) (I : MI) (J : MJ) (R : MR), (∃ n, Q52 n (gK Γ) x0 x3 x4 x5 x6 x8 C I J R) → AW Γ 1 20 C I J R 52 [(0, aR (some x0)), (3, aR (some x3)), (4, aR (some x4)), (5, aR (some x5)), (6, aJ x6), (8, aI x8)] [] := fun x0 x3 x4 x5 x6 x8 C I J R ⟨m, hq⟩ => (key m).1 x0 x3 x4 x5 x6 x8 C I J R hq
  have w160 : ∀ (x4 : Nat) (x5 : Nat) (x8 : Int32) (C : MC) (I : MI) (J : MJ) (R : MR), (∃ n, Q160 n (gK Γ) x4 x5 x8 C I J R) → AW Γ 1 20 C I J R 160 [(4, aR (some x4)), (5, aR (some x5)), (8, aI x8)] [] := fun x4 x5 x8 C I J R ⟨m, hq⟩ => (key m).2 x4 x5 x8 C I J R hq
  have w218 : ∀ (x0 : Nat) (s0 : Nat) (C : MC) (I : MI) (J : MJ) (R : MR), PX0_trace_218 F_X0_thing F_X0_on F_X0_leaves F_X0_sizeOf F_X0_want F_X0_number F_X0_none (fun (x0 : Nat) (x3 : Nat) (x4 : Nat) (x5 : Nat) (x6 : Int64) (x8 : Int32) (C : MC) (I : MI) (J : MJ) (R : MR) => ∃ n, Q52 n (gK Γ) x0 x3 x4 x5 x6 x8 C I J R) (fun (x4 : Nat) (x5 : Nat) (x8 : Int32) (C : MC) (I : MI) (J : MJ) (R : MR) => ∃ n, Q160 n (gK Γ) x4 x5 x8 C I J R) (gK Γ) x0 s0 C I J R → AW Γ 1 20 C I J R 218 [(0, aR (some x0))] [aR (some s0)] := fun x0 s0 C I J R h => bX0_trace_218 G S_X0_none h
  have w206 : ∀ (x4 : Nat) (x5 : Nat) (x8 : Int32) (s0 : Option Nat) (s1 : Int32) (s2 : Int32) (C : MC) (I : MI) (J : MJ) (R : MR), PX0_trace_206 F_X0_thing F_X0_on F_X0_leaves F_X0_sizeOf F_X0_want F_X0_number F_X0_none (fun (x0 : Nat) (x3 : Nat) (x4 : Nat) (x5 : Nat) (x6 : Int64) (x8 : Int32) (C : MC) (I : MI) (J : MJ) (R : MR) => ∃ n, Q52 n (gK Γ) x0 x3 x4 x5 x6 x8 C I J R) (fun (x4 : Nat) (x5 : Nat) (x8 : Int32) (C : MC) (I : MI) (J : MJ) (R : MR) => ∃ n, Q160 n (gK Γ) x4 x5 x8 C I J R) (gK Γ) x4 x5 x8 s0 s1 s2 C I J R → AW Γ 1 20 C I J R 206 [(4, aR (some x4)), (5, aR (some x5)), (8, aI x8)] [aI s2, aI s1, aR s0] := fun x4 x5 x8 s0 s1 s2 C I J R h => bX0_trace_206 G w160 h
  have w92 : ∀ (x0 : Nat) (x3 : Nat) (x4 : Nat) (x5 : Nat) (x6 : Int64) (x8 : Int32) (s0 : Nat) (s1 : Int32) (C : MC) (I : MI) (J : MJ) (R : MR), PX0_trace_92 F_X0_thing F_X0_on F_X0_leaves F_X0_sizeOf F_X0_want F_X0_number F_X0_none (fun (x0 : Nat) (x3 : Nat) (x4 : Nat) (x5 : Nat) (x6 : Int64) (x8 : Int32) (C : MC) (I : MI) (J : MJ) (R : MR) => ∃ n, Q52 n (gK Γ) x0 x3 x4 x5 x6 x8 C I J R) (fun (x4 : Nat) (x5 : Nat) (x8 : Int32) (C : MC) (I : MI) (J : MJ) (R : MR) => ∃ n, Q160 n (gK Γ) x4 x5 x8 C I J R) (gK Γ) x0 x3 x4 x5 x6 x8 s0 s1 C I J R → AW Γ 1 20 C I J R 92 [(0, aR (some x0)), (3, aR (some x3)), (4, aR (some x4)), (5, aR (some x5)), (6, aJ x6), (8, aI x8)] [aI s1, aR (some s0)] := fun x0 x3 x4 x5 x6 x8 s0 s1 C I J R h => bX0_trace_92 G S_X0_want S_X0_number w52 w218 h
  have w91 : ∀ (x0 : Nat) (x3 : Nat) (x4 : Nat) (x5 : Nat) (x6 : Int64) (x8 : Int32) (s0 : Nat) (C : MC) (I : MI) (J : MJ) (R : MR), PX0_trace_91 F_X0_thing F_X0_on F_X0_leaves F_X0_sizeOf F_X0_want F_X0_number F_X0_none (fun (x0 : Nat) (x3 : Nat) (x4 : Nat) (x5 : Nat) (x6 : Int64) (x8 : Int32) (C : MC) (I : MI) (J : MJ) (R : MR) => ∃ n, Q52 n (gK Γ) x0 x3 x4 x5 x6 x8 C I J R) (fun (x4 : Nat) (x5 : Nat) (x8 : Int32) (C : MC) (I : MI) (J : MJ) (R : MR) => ∃ n, Q160 n (gK Γ) x4 x5 x8 C I J R) (gK Γ) x0 x3 x4 x5 x6 x8 s0 C I J R → AW Γ 1 20 C I J R 91 [(0, aR (some x0)), (3, aR (some x3)), (4, aR (some x4)), (5, aR (some x5)), (6, aJ x6), (8, aI x8)] [aR (some s0)] := fun x0 x3 x4 x5 x6 x8 s0 C I J R h => bX0_trace_91 G w92 h
  have w42 : ∀ (x0 : Nat) (x3 : Nat) (x4 : Nat) (x5 : Nat) (s0 : Nat) (s1 : Int32) (C : MC) (I : MI) (J : MJ) (R : MR), PX0_trace_42 F_X0_thing F_X0_on F_X0_leaves F_X0_sizeOf F_X0_want F_X0_number F_X0_none (fun (x0 : Nat) (x3 : Nat) (x4 : Nat) (x5 : Nat) (x6 : Int64) (x8 : Int32) (C : MC) (I : MI) (J : MJ) (R : MR) => ∃ n, Q52 n (gK Γ) x0 x3 x4 x5 x6 x8 C I J R) (fun (x4 : Nat) (x5 : Nat) (x8 : Int32) (C : MC) (I : MI) (J : MJ) (R : MR) => ∃ n, Q160 n (gK Γ) x4 x5 x8 C I J R) (gK Γ) x0 x3 x4 x5 s0 s1 C I J R → AW Γ 1 20 C I J R 42 [(0, aR (some x0)), (3, aR (some x3)), (4, aR (some x4)), (5, aR (some x5))] [aI s1, aR (some s0)] := fun x0 x3 x4 x5 s0 s1 C I J R h => bX0_trace_42 G S_X0_want w52 w218 h
  obtain ⟨x0, x1, x2, rfl, h⟩ := h0 As C I J R (gK Γ) hF
  exact ⟨Nat.le_of_ble_eq_true rfl, bX0_trace_0 G S_X0_thing S_X0_on S_X0_leaves S_X0_sizeOf w42 w218 h⟩
def PX0_traces_46 (F_X0_thing : SPF) (F_X0_want : SPF) (F_X0_none : SPF) (K : AK) (x0 : Nat) (s0 : Nat) (C : MC) (I : MI) (J : MJ) (R : MR) : Prop :=
      (C x0).1 = 1 ∧
      F_X0_none [aR (some x0), aR (some s0)] C I J R (fun o C2 I3 J4 R5 =>
      ∃ r6 : Int32, o = .inl (some (aI r6)) ∧
      K (.inl (some (aI r6))) C2 I3 J4 R5)
def PX0_traces_26 (F_X0_thing : SPF) (F_X0_want : SPF) (F_X0_none : SPF) (K : AK) (x0 : Nat) (x2 : Int32) (x3 : Nat) (s0 : Nat) (s1 : Int32) (C : MC) (I : MI) (J : MJ) (R : MR) : Prop :=
      (C s0).1 = 1 ∧
      F_X0_want [aR (some s0), aI s1, aI (1 : Int32)] C I J R (fun o C2 I3 J4 R5 =>
      (o = .inl none ∧
      ((¬ x2 = 0 →
      kTh (C2 x3).1 ∧
      K (.inl (some (aI (I3 x3 5)))) C2 I3 J4 R5) ∧
      (x2 = 0 →
      kTh (C2 x3).1 ∧
      K (.inl (some (aI (I3 x3 4)))) C2 I3 J4 R5))) ∨
      (∃ q10 : Nat, o = .inr q10 ∧
      ((C2 q10).1 = 2 ∧
      PX0_traces_46 F_X0_thing F_X0_want F_X0_none K x0 q10 C2 I3 J4 R5)))
def PX0_traces_25 (F_X0_thing : SPF) (F_X0_want : SPF) (F_X0_none : SPF) (K : AK) (x0 : Nat) (x2 : Int32) (x3 : Nat) (s0 : Nat) (C : MC) (I : MI) (J : MJ) (R : MR) : Prop :=
      PX0_traces_26 F_X0_thing F_X0_want F_X0_none K x0 x2 x3 s0 (0 : Int32) C I J R
def PX0_traces_0 (F_X0_thing : SPF) (F_X0_want : SPF) (F_X0_none : SPF) (K : AK) (x0 : Nat) (x1 : Int32) (x2 : Int32) (C : MC) (I : MI) (J : MJ) (R : MR) : Prop :=
      (C x0).1 = 1 ∧
      ∀ I2 : MI, I2 = va_up I x0 (va_up (I x0) 5 (0 : Int32)) →
      F_X0_thing [aR (some x0), aI x1] C I2 J R (fun o C3 I4 J5 R6 =>
      (∃ r7 : Nat, o = .inl (some (aR (some r7))) ∧
      ((x2 < 0 →
      PX0_traces_25 F_X0_thing F_X0_want F_X0_none K x0 x2 r7 x0 C3 I4 J5 R6) ∧
      (¬ x2 < 0 →
      (((1 : Int32) < x2 →
      PX0_traces_25 F_X0_thing F_X0_want F_X0_none K x0 x2 r7 x0 C3 I4 J5 R6) ∧
      (¬ (1 : Int32) < x2 →
      PX0_traces_26 F_X0_thing F_X0_want F_X0_none K x0 x2 r7 x0 (1 : Int32) C3 I4 J5 R6))))) ∨
      (∃ q10 : Nat, o = .inr q10 ∧
      ((C3 q10).1 = 2 ∧
      PX0_traces_46 F_X0_thing F_X0_want F_X0_none K x0 q10 C3 I4 J5 R6)))
theorem wX0_traces {l : Launch}  {F_X0_thing : SPF} (S_X0_thing : SpX0_thing l F_X0_thing) {F_X0_want : SPF} (S_X0_want : SpX0_want l F_X0_want) {F_X0_none : SPF} (S_X0_none : SpX0_none l F_X0_none) {F : SPF}
    (h0 : ∀ (As : List AV) (C : MC) (I : MI) (J : MJ) (R : MR) (K : AK), F As C I J R K → ∃ (x0 : Nat) (x1 : Int32) (x2 : Int32), As = [aR (some x0), aI x1, aI x2] ∧ PX0_traces_0 F_X0_thing F_X0_want F_X0_none K x0 x1 x2 C I J R) : SpX0_traces l F := by
  refine Spec.ofH (by rfl) ?_
  intro Γ C I J R As Gd gl gr _ _ gb hF
  subst gl
  have G : Gb Γ yX0_traces cX0_traces 4 (some .int) [(5, 45, 46, 53)] rmX0_traces bdX0_traces := ⟨Gd, gr, gb⟩
  have w46 : ∀ (x0 : Nat) (s0 : Nat) (C : MC) (I : MI) (J : MJ) (R : MR), PX0_traces_46 F_X0_thing F_X0_want F_X0_none (gK Γ) x0 s0 C I J R → AW Γ 0 0 C I J R 46 [(0, aR (some x0))] [aR (some s0)] := fun x0 s0 C I J R h => bX0_traces_46 G S_X0_none h
  have w26 : ∀ (x0 : Nat) (x2 : Int32) (x3 : Nat) (s0 : Nat) (s1 : Int32) (C : MC) (I : MI) (J : MJ) (R : MR), PX0_traces_26 F_X0_thing F_X0_want F_X0_none (gK Γ) x0 x2 x3 s0 s1 C I J R → AW Γ 0 0 C I J R 26 [(0, aR (some x0)), (2, aI x2), (3, aR (some x3))] [aI s1, aR (some s0)] := fun x0 x2 x3 s0 s1 C I J R h => bX0_traces_26 G S_X0_want w46 h
  have w25 : ∀ (x0 : Nat) (x2 : Int32) (x3 : Nat) (s0 : Nat) (C : MC) (I : MI) (J : MJ) (R : MR), PX0_traces_25 F_X0_thing F_X0_want F_X0_none (gK Γ) x0 x2 x3 s0 C I J R → AW Γ 0 0 C I J R 25 [(0, aR (some x0)), (2, aI x2), (3, aR (some x3))] [aR (some s0)] := fun x0 x2 x3 s0 C I J R h => bX0_traces_25 G w26 h
  obtain ⟨x0, x1, x2, rfl, h⟩ := h0 As C I J R (gK Γ) hF
  exact ⟨Nat.le_of_ble_eq_true rfl, bX0_traces_0 G S_X0_thing w25 w26 w46 h⟩
def PX0_over_14 (F_X0_leafOf : SPF) (F_X0_none : SPF) (K : AK) (x0 : Nat) (s0 : Nat) (C : MC) (I : MI) (J : MJ) (R : MR) : Prop :=
      (C x0).1 = 1 ∧
      F_X0_none [aR (some x0), aR (some s0)] C I J R (fun o C2 I3 J4 R5 =>
      ∃ r6 : Int32, o = .inl (some (aI r6)) ∧
      K (.inl (some (aI r6))) C2 I3 J4 R5)
def PX0_over_0 (F_X0_leafOf : SPF) (F_X0_none : SPF) (K : AK) (x0 : Nat) (x1 : Int32) (C : MC) (I : MI) (J : MJ) (R : MR) : Prop :=
      (C x0).1 = 1 ∧
      ∀ I2 : MI, I2 = va_up I x0 (va_up (I x0) 5 (0 : Int32)) →
      F_X0_leafOf [aR (some x0), aI x1] C I2 J R (fun o C3 I4 J5 R6 =>
      (∃ r7 : Nat, o = .inl (some (aR (some r7))) ∧
      (C3 r7).1 = 5 ∧
      K (.inl (some (aI (I4 r7 12)))) C3 I4 J5 R6) ∨
      (∃ q9 : Nat, o = .inr q9 ∧
      ((C3 q9).1 = 2 ∧
      PX0_over_14 F_X0_leafOf F_X0_none K x0 q9 C3 I4 J5 R6)))
theorem wX0_over {l : Launch}  {F_X0_leafOf : SPF} (S_X0_leafOf : SpX0_leafOf l F_X0_leafOf) {F_X0_none : SPF} (S_X0_none : SpX0_none l F_X0_none) {F : SPF}
    (h0 : ∀ (As : List AV) (C : MC) (I : MI) (J : MJ) (R : MR) (K : AK), F As C I J R K → ∃ (x0 : Nat) (x1 : Int32), As = [aR (some x0), aI x1] ∧ PX0_over_0 F_X0_leafOf F_X0_none K x0 x1 C I J R) : SpX0_over l F := by
  refine Spec.ofH (by rfl) ?_
  intro Γ C I J R As Gd gl gr _ _ gb hF
  subst gl
  have G : Gb Γ yX0_over cX0_over 3 (some .int) [(5, 13, 14, 53)] rmX0_over bdX0_over := ⟨Gd, gr, gb⟩
  have w14 : ∀ (x0 : Nat) (s0 : Nat) (C : MC) (I : MI) (J : MJ) (R : MR), PX0_over_14 F_X0_leafOf F_X0_none (gK Γ) x0 s0 C I J R → AW Γ 0 0 C I J R 14 [(0, aR (some x0))] [aR (some s0)] := fun x0 s0 C I J R h => bX0_over_14 G S_X0_none h
  obtain ⟨x0, x1, rfl, h⟩ := h0 As C I J R (gK Γ) hF
  exact ⟨Nat.le_of_ble_eq_true rfl, bX0_over_0 G S_X0_leafOf w14 h⟩
