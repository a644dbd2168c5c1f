/-! THE ABSTRACT LAYER 6: Object.<init>, Math, System.arraycopy, new long[n][k], the machine's own exceptions (printed by gen/mkmath.py) -/
set_option maxRecDepth 100000
section AWM
variable {Γ : Gm} {k n k' n' : Nat} {C : MC} {I : MI} {J : MJ} {R : MR} {pc pc' : Nat} {lv lv' : List (Nat × AV)} {st st' stk : List AV} {yy : MethodName} {cc : ByteArray} {nL : Nat} {ret : Option FieldType} {hh : List (Nat × Nat × Nat × Nat)} {q : Nat} {index : Nat}
theorem acs {Γ : Gm} {ad : Nat → Nat} {a : Nat} (h : (st.map acat).sum + a ≤ (gR Γ).locals) : ((st.map (cv ad)).map fun v => v.category).sum + a ≤ (gR Γ).locals := by rw [acat_ok]; exact h
theorem aw_objinit (G : Gd Γ yy cc nL ret hh) (hl : Cond.methodLink yy.cls index Lib.objectInit ∈ lw_all) (hin : Cond.instanceMethod Lib.objectInit ∈ lw_all) (hco : Cond.code Lib.objectInit ⟨#[0xb1]⟩ 1 none ∈ lw_all) (hf : 1 ≤ (gR Γ).frames) (hlo : (st.map acat).sum + 12 ≤ (gR Γ).locals) (d : decode cc pc = .ok (.invokespecial index, 3)) (h : AW Γ k n C I J R (pc + 3) lv st) : AW Γ k n C I J R pc lv (aR (some q) :: st) := by
  obtain ⟨⟨p, l, e, Rm, s, m, args, below, meth, c⟩, z, K⟩ := Γ
  intro ad H locs ls a1 a2 a3 a4
  exact W.objInit G.1 G.2.1 G.2.2.2.2.1 (G.2.2.2.1 _ hl) (G.2.2.2.1 _ hin) (G.2.2.2.1 _ hco) rfl a2.1 (a := ad q) rfl d hf (by show 2 * 0 + _ + 12 ≤ _; rw [acat_ok]; have : (st.map acat).sum + 12 ≤ Rm.locals := hlo; omega) (h ad H locs ls a1 a2 a3 (ok_t a4))
theorem aw_mmin (G : Gd Γ yy cc nL ret hh) {x y : Int32} (hl : Cond.methodLink yy.cls index Lib.Math.min.name ∈ lw_all) (hf : 1 ≤ (gR Γ).frames) (hlo : (st.map acat).sum + 13 ≤ (gR Γ).locals) (hm : k ≤ (gR Γ).cells ∧ n ≤ (gR Γ).slots) (d : decode cc pc = .ok (.invokestatic index, 3)) (h : AW Γ k n C I J R (pc + 3) lv (aI (if y < x then y else x) :: st)) : AW Γ k n C I J R pc lv (aI y :: aI x :: st) := by
  obtain ⟨⟨p, l, e, Rm, s, m, args, below, meth, c⟩, z, K⟩ := Γ
  intro ad H locs ls a1 a2 a3 a4
  exact va_mmin G.1 G.2.1 a2.1.symm G.2.2.2.2.1 (G.2.2.2.1 _ hl) (G.2.2.2.1 _ q691) (G.2.2.2.1 _ q62) (G.2.2.2.1 _ q692) hf (by rw [acat_ok]; exact hlo) hm.1 hm.2 d (h ad H locs ls a1 a2 a3 (ok_c (okv_I _) (ok_t (ok_t a4))))
theorem aw_mmax (G : Gd Γ yy cc nL ret hh) {x y : Int32} (hl : Cond.methodLink yy.cls index Lib.Math.max.name ∈ lw_all) (hf : 1 ≤ (gR Γ).frames) (hlo : (st.map acat).sum + 13 ≤ (gR Γ).locals) (hm : k ≤ (gR Γ).cells ∧ n ≤ (gR Γ).slots) (d : decode cc pc = .ok (.invokestatic index, 3)) (h : AW Γ k n C I J R (pc + 3) lv (aI (if x < y then y else x) :: st)) : AW Γ k n C I J R pc lv (aI y :: aI x :: st) := by
  obtain ⟨⟨p, l, e, Rm, s, m, args, below, meth, c⟩, z, K⟩ := Γ
  intro ad H locs ls a1 a2 a3 a4
  exact va_mmax G.1 G.2.1 a2.1.symm G.2.2.2.2.1 (G.2.2.2.1 _ hl) (G.2.2.2.1 _ q704) (G.2.2.2.1 _ q62) (G.2.2.2.1 _ q705) hf (by rw [acat_ok]; exact hlo) hm.1 hm.2 d (h ad H locs ls a1 a2 a3 (ok_c (okv_I _) (ok_t (ok_t a4))))
theorem aw_mminl (G : Gd Γ yy cc nL ret hh) {x y : Int64} (hl : Cond.methodLink yy.cls index Lib.MathLoose.min_long.x ∈ lw_all) (hf : 1 ≤ (gR Γ).frames) (hlo : (st.map acat).sum + 15 ≤ (gR Γ).locals) (hm : k ≤ (gR Γ).cells ∧ n ≤ (gR Γ).slots) (d : decode cc pc = .ok (.invokestatic index, 3)) (h : AW Γ k n C I J R (pc + 3) lv (aJ (if y < x then y else x) :: st)) : AW Γ k n C I J R pc lv (aJ y :: aJ x :: st) := by
  obtain ⟨⟨p, l, e, Rm, s, m, args, below, meth, c⟩, z, K⟩ := Γ
  intro ad H locs ls a1 a2 a3 a4
  exact va_mmin_long G.1 G.2.1 a2.1.symm G.2.2.2.2.1 (G.2.2.2.1 _ hl) (G.2.2.2.1 _ q797) (G.2.2.2.1 _ q62) (G.2.2.2.1 _ q798) hf (by rw [acat_ok]; exact hlo) hm.1 hm.2 d (h ad H locs ls a1 a2 a3 (ok_c (okv_J _) (ok_t (ok_t a4))))
theorem aw_mabsl (G : Gd Γ yy cc nL ret hh) {x : Int64} (hl : Cond.methodLink yy.cls index Lib.MathLoose.abs_long.x ∈ lw_all) (hf : 1 ≤ (gR Γ).frames) (hlo : (st.map acat).sum + 13 ≤ (gR Γ).locals) (hm : k ≤ (gR Γ).cells ∧ n ≤ (gR Γ).slots) (d : decode cc pc = .ok (.invokestatic index, 3)) (h : AW Γ k n C I J R (pc + 3) lv (aJ (if 0 < x then x else -x) :: st)) : AW Γ k n C I J R pc lv (aJ x :: st) := by
  obtain ⟨⟨p, l, e, Rm, s, m, args, below, meth, c⟩, z, K⟩ := Γ
  intro ad H locs ls a1 a2 a3 a4
  exact va_mabs_long G.1 G.2.1 a2.1.symm G.2.2.2.2.1 (G.2.2.2.1 _ hl) (G.2.2.2.1 _ q353) (G.2.2.2.1 _ q62) (G.2.2.2.1 _ q354) hf (by rw [acat_ok]; exact hlo) hm.1 hm.2 d (h ad H locs ls a1 a2 a3 (ok_c (okv_J _) (ok_t a4)))
theorem nnI {z : Int32} (hz : ¬ z < 0) : z.toInt = (z.toNatClampNeg : Int) := by
  have hz0 : (0 : Int) ≤ z.toInt := by
    have := Int32.not_lt.mp hz
    simpa using Int32.le_iff_toInt_le.mp this
  show z.toInt = ((z.toInt.toNat : Nat) : Int)
  omega
theorem aw_copyJ (G : Gd Γ yy cc nL ret hh) {q0 : Nat} {sp dp x : Int32} (hl : Cond.methodLink yy.cls index arraycopyName ∈ lw_all) (hk0 : (C q0).1 = 21) (hk : (C q).1 = 21) (h1 : ¬ sp < 0) (h2 : ¬ dp < 0) (h3 : ¬ x < 0) (h4 : sp.toNatClampNeg + x.toNatClampNeg ≤ (C q0).2) (h5 : dp.toNatClampNeg + x.toNatClampNeg ≤ (C q).2) (hf : 1 ≤ (gR Γ).frames) (hlo : (st.map acat).sum + (nativeFrameWords "java/lang/System" "arraycopy" 5 + 11) ≤ (gR Γ).locals) (d : decode cc pc = .ok (.invokestatic index, 3)) (h : AW Γ k n C I (va_up J q (va_cpy (J q0) (J q) sp.toNatClampNeg dp.toNatClampNeg x.toNatClampNeg)) R (pc + 3) lv st) : AW Γ k n C I J R pc lv (aI x :: aI dp :: aR (some q) :: aI sp :: aR (some q0) :: st) := by
  obtain ⟨⟨p, l, e, Rm, s, m, args, below, meth, c⟩, z, K⟩ := Γ
  intro ad H locs ls a1 a2 a3 a4
  have hty0 : ety (C q0).1 = .long := by rw [hk0]; rfl
  have hty : ety (C q).1 = .long := by rw [hk]; rfl
  have hkk : (C q).1 ≠ 0 ∧ (C q).1 ≠ 30 ∧ 20 ≤ (C q).1 ∧ (C q).1 < 30 ∧ 20 ≤ (C q0).1 ∧ (C q0).1 < 30 := by omega
  have hprim : refKind (ety (C q).1) = false := by rw [hty]; rfl
  have hvv : ∀ (o : Nat) (hko : ety (C o).1 = .long) (y : Nat), fval (ety (C o).1) ad (I o y) (J o y) (R o y) = .long (J o y) := fun o hko y => by rw [hko]; rfl
  have hff : ∀ i, i < x.toNatClampNeg → fits (ety (C q).1) (.long (J q0 (sp.toNatClampNeg + i))) = true := fun i _ => by rw [hty]; rfl
  have hKn := G.2.2.2.2.2.2.2.1
  have hlo2 : (st.map acat).sum + (nativeFrameWords "java/lang/System" "arraycopy" 5 + 11) ≤ Rm.locals := hlo
  have b0 := rp_arr (q := q0) a1.1 (by omega) (by omega)
  have b1 := rp_arr (q := q) a1.1 (by omega) (by omega)
  rw [show (fun y => fval (ety (C q0).1) ad (I q0 y) (J q0 y) (R q0 y)) = (fun y => .long (J q0 y)) from funext (hvv q0 hty0)] at b0
  rw [show (fun y => fval (ety (C q).1) ad (I q y) (J q y) (R q y)) = (fun y => .long (J q y)) from funext (hvv q hty)] at b1
  obtain ⟨-, k0, hk0', cm0, hkk0⟩ := (kn_arr hKn (x := (C q0).1) (by omega) (by omega)).1 (C q0).2 (fun y => .long (J q0 y))
  obtain ⟨-, k1, hk1', cm1, hkk1⟩ := (kn_arr hKn (x := (C q).1) (by omega) (by omega)).1 (C q).2 (fun y => .long (J q y))
  intro T hT X
  have hb := G.2.1
  obtain ⟨vm', X', step⟩ := X.arraycopy G.1 G.2.2.2.2.1 (G.2.2.2.1 _ hl) (G.2.2.2.1 _ q295) (G.2.2.2.1 _ q294) (G.2.2.2.1 _ q60) (src := ad q0) (dst := ad q) (srcPos := sp) (destPos := dp) (n := x) (by rw [hT]; exact b0) (by rw [hT]; exact b1)
    (fun _ w => by cases w) (fun _ w => by cases w) (fun w => by cases w) (fun w => by cases w) hk0' hk1' hkk0 hkk1 (by rw [hty0.trans hty.symm]; simp [hprim]) h1 h2 h3
    (by rw [nnI h1, nnI h3, arrV_size]; omega)
    (by rw [nnI h2, nnI h3, arrV_size]; omega)
    (fun vm₁ _ i hi => by
      have e : (arrV (z.2.1 (C q0).1) (C q0).2 (fun y => .long (J q0 y))).slots.getD (sp.toNatClampNeg + i) .null = .long (J q0 (sp.toNatClampNeg + i)) := by
        rw [Array.getD_eq_getD_getElem?, arrV_read _ _ (by omega)]
        rfl
      refine ⟨?_, ?_⟩
      · rw [e]
        exact hff i hi
      · rw [e]
        exact trivial)
    (g := F0 m pc ls ((aI x :: aI dp :: aR (some q) :: aI sp :: aR (some q0) :: st).map (cv ad))) rfl a2.1 (rest := st.map (cv ad)) rfl (by rw [hb]; exact d) hf (by show 2 * 0 + _ + _ ≤ _; rw [acat_ok]; omega)
  have e1 : copied (arrV (z.2.1 (C q0).1) (C q0).2 (fun y => .long (J q0 y))) (arrV (z.2.1 (C q).1) (C q).2 (fun y => .long (J q y))) sp dp x = arrV (z.2.1 (C q).1) (C q).2 (fun y => .long (va_cpy (J q0) (J q) sp.toNatClampNeg dp.toNatClampNeg x.toNatClampNeg y)) := va_copied (fun z => .long z) _ _ _ _ h4
  rw [e1] at X' step
  have hlt : ad q < H.size := a1.1.lt hkk.1
  have oq : ∀ a : Nat, a ≠ ad q → (H.setIfInBounds (ad q) (arrV (z.2.1 (C q).1) (C q).2 (fun y => .long (va_cpy (J q0) (J q) sp.toNatClampNeg dp.toNatClampNeg x.toNatClampNeg y))))[a]? = H[a]? := fun a ha => by simp [Array.getElem?_setIfInBounds, Ne.symm ha]
  have hs0 : Sit s z ad (H.setIfInBounds (ad q) (arrV (z.2.1 (C q).1) (C q).2 (fun y => .long (va_cpy (J q0) (J q) sp.toNatClampNeg dp.toNatClampNeg x.toNatClampNeg y)))) (locs ++ [⟨ad q, 0⟩]) C I (va_up J q (va_cpy (J q0) (J q) sp.toNatClampNeg dp.toNatClampNeg x.toNatClampNeg)) R := by
    refine a1.put ⟨hkk.1, hkk.2.1⟩ (by simp) oq (fun m hm => rfl) (fun m hm => va_up_ne _ _ hm) (fun m hm => rfl) (fun i w hw => a1.1.2.1 q i w hkk.1 hw) ?_
    refine ⟨by simpa using hlt, fun z1 => by omega, fun _ z1 => by omega, fun _ _ => ?_, fun z1 => absurd z1 hkk.2.1⟩
    rw [Array.getElem?_setIfInBounds, if_pos rfl, if_pos hlt]
    congr 2
    funext y
    rw [hty]; simp [fval, va_up]
  have hs1 : ∀ L : List Loc, (∀ y ∈ L, y.base = ad q) → Sit s z ad _ (locs ++ L) C I (va_up J q (va_cpy (J q0) (J q) sp.toNatClampNeg dp.toNatClampNeg x.toNatClampNeg)) R := fun L hL => ⟨hs0.1, hs0.2.1, ⟨hs0.2.2.1.1, hs0.2.2.1.2.1, fun y hy => (List.mem_append.mp hy).elim (a1.2.2.1.2.2 y) (fun w => by rw [hL y w]; exact a1.2.2.2 q ⟨hkk.1, hkk.2.1⟩)⟩, hs0.2.2.2⟩
  obtain ⟨t, c1, d1⟩ := h ad _ _ ls (hs1 _ (fun y hy => by obtain ⟨w, -, hw⟩ := List.mem_map.mp hy; rw [← hw])) a2 a3 (ok_t (ok_t (ok_t (ok_t (ok_t a4))))) _ (by rw [← hT]; rfl) X'
  exact ⟨t, step t c1, d1⟩
theorem aw_copyI (G : Gd Γ yy cc nL ret hh) {q0 : Nat} {sp dp x : Int32} (hl : Cond.methodLink yy.cls index arraycopyName ∈ lw_all) (hk0 : (C q0).1 = (C q).1) (hk : (C q).1 = 20 ∨ (C q).1 = 22 ∨ (C q).1 = 23) (hfit : ∀ i, i < x.toNatClampNeg → fits (ety (C q).1) (.int (I q0 (sp.toNatClampNeg + i))) = true) (h1 : ¬ sp < 0) (h2 : ¬ dp < 0) (h3 : ¬ x < 0) (h4 : sp.toNatClampNeg + x.toNatClampNeg ≤ (C q0).2) (h5 : dp.toNatClampNeg + x.toNatClampNeg ≤ (C q).2) (hf : 1 ≤ (gR Γ).frames) (hlo : (st.map acat).sum + (nativeFrameWords "java/lang/System" "arraycopy" 5 + 11) ≤ (gR Γ).locals) (d : decode cc pc = .ok (.invokestatic index, 3)) (h : AW Γ k n C (va_up I q (va_cpy (I q0) (I q) sp.toNatClampNeg dp.toNatClampNeg x.toNatClampNeg)) J R (pc + 3) lv st) : AW Γ k n C I J R pc lv (aI x :: aI dp :: aR (some q) :: aI sp :: aR (some q0) :: st) := by
  obtain ⟨⟨p, l, e, Rm, s, m, args, below, meth, c⟩, z, K⟩ := Γ
  intro ad H locs ls a1 a2 a3 a4
  have htt : tcd (ety (C q).1) = 0 ∨ (ety (C q).1) = .byte ∨ (ety (C q).1) = .short := by
    rcases hk with hk | hk | hk <;> rw [hk]
    · exact Or.inl rfl
    · exact Or.inr (Or.inl rfl)
    · exact Or.inr (Or.inr rfl)
  have hty0 : ety (C q0).1 = ety (C q).1 := by rw [hk0]
  have hty : ety (C q).1 = ety (C q).1 := rfl
  have hkk : (C q).1 ≠ 0 ∧ (C q).1 ≠ 30 ∧ 20 ≤ (C q).1 ∧ (C q).1 < 30 ∧ 20 ≤ (C q0).1 ∧ (C q0).1 < 30 := by omega
  have hprim : refKind (ety (C q).1) = false := by rcases hk with hk | hk | hk <;> rw [hk] <;> rfl
  have hvv : ∀ (o : Nat) (hko : ety (C o).1 = ety (C q).1) (y : Nat), fval (ety (C o).1) ad (I o y) (J o y) (R o y) = .int (I o y) := fun o hko y => by rw [hko]; rcases hk with hk | hk | hk <;> rw [hk] <;> rfl
  have hff : ∀ i, i < x.toNatClampNeg → fits (ety (C q).1) (.int (I q0 (sp.toNatClampNeg + i))) = true := hfit
  have hKn := G.2.2.2.2.2.2.2.1
  have hlo2 : (st.map acat).sum + (nativeFrameWords "java/lang/System" "arraycopy" 5 + 11) ≤ Rm.locals := hlo
  have b0 := rp_arr (q := q0) a1.1 (by omega) (by omega)
  have b1 := rp_arr (q := q) a1.1 (by omega) (by omega)
  rw [show (fun y => fval (ety (C q0).1) ad (I q0 y) (J q0 y) (R q0 y)) = (fun y => .int (I q0 y)) from funext (hvv q0 hty0)] at b0
  rw [show (fun y => fval (ety (C q).1) ad (I q y) (J q y) (R q y)) = (fun y => .int (I q y)) from funext (hvv q hty)] at b1
  obtain ⟨-, k0, hk0', cm0, hkk0⟩ := (kn_arr hKn (x := (C q0).1) (by omega) (by omega)).1 (C q0).2 (fun y => .int (I q0 y))
  obtain ⟨-, k1, hk1', cm1, hkk1⟩ := (kn_arr hKn (x := (C q).1) (by omega) (by omega)).1 (C q).2 (fun y => .int (I q y))
  intro T hT X
  have hb := G.2.1
  obtain ⟨vm', X', step⟩ := X.arraycopy G.1 G.2.2.2.2.1 (G.2.2.2.1 _ hl) (G.2.2.2.1 _ q295) (G.2.2.2.1 _ q294) (G.2.2.2.1 _ q60) (src := ad q0) (dst := ad q) (srcPos := sp) (destPos := dp) (n := x) (by rw [hT]; exact b0) (by rw [hT]; exact b1)
    (fun _ w => by cases w) (fun _ w => by cases w) (fun w => by cases w) (fun w => by cases w) hk0' hk1' hkk0 hkk1 (by rw [hty0.trans hty.symm]; simp [hprim]) h1 h2 h3
    (by rw [nnI h1, nnI h3, arrV_size]; omega)
    (by rw [nnI h2, nnI h3, arrV_size]; omega)
    (fun vm₁ _ i hi => by
      have e : (arrV (z.2.1 (C q0).1) (C q0).2 (fun y => .int (I q0 y))).slots.getD (sp.toNatClampNeg + i) .null = .int (I q0 (sp.toNatClampNeg + i)) := by
        rw [Array.getD_eq_getD_getElem?, arrV_read _ _ (by omega)]
        rfl
      refine ⟨?_, ?_⟩
      · rw [e]
        exact hff i hi
      · rw [e]
        exact trivial)
    (g := F0 m pc ls ((aI x :: aI dp :: aR (some q) :: aI sp :: aR (some q0) :: st).map (cv ad))) rfl a2.1 (rest := st.map (cv ad)) rfl (by rw [hb]; exact d) hf (by show 2 * 0 + _ + _ ≤ _; rw [acat_ok]; omega)
  have e1 : copied (arrV (z.2.1 (C q0).1) (C q0).2 (fun y => .int (I q0 y))) (arrV (z.2.1 (C q).1) (C q).2 (fun y => .int (I q y))) sp dp x = arrV (z.2.1 (C q).1) (C q).2 (fun y => .int (va_cpy (I q0) (I q) sp.toNatClampNeg dp.toNatClampNeg x.toNatClampNeg y)) := va_copied (fun z => .int z) _ _ _ _ h4
  rw [e1] at X' step
  have hlt : ad q < H.size := a1.1.lt hkk.1
  have oq : ∀ a : Nat, a ≠ ad q → (H.setIfInBounds (ad q) (arrV (z.2.1 (C q).1) (C q).2 (fun y => .int (va_cpy (I q0) (I q) sp.toNatClampNeg dp.toNatClampNeg x.toNatClampNeg y))))[a]? = H[a]? := fun a ha => by simp [Array.getElem?_setIfInBounds, Ne.symm ha]
  have hs0 : Sit s z ad (H.setIfInBounds (ad q) (arrV (z.2.1 (C q).1) (C q).2 (fun y => .int (va_cpy (I q0) (I q) sp.toNatClampNeg dp.toNatClampNeg x.toNatClampNeg y)))) (locs ++ [⟨ad q, 0⟩]) C (va_up I q (va_cpy (I q0) (I q) sp.toNatClampNeg dp.toNatClampNeg x.toNatClampNeg)) J R := by
    refine a1.put ⟨hkk.1, hkk.2.1⟩ (by simp) oq (fun m hm => va_up_ne _ _ hm) (fun m hm => rfl) (fun m hm => rfl) (fun i w hw => a1.1.2.1 q i w hkk.1 hw) ?_
    refine ⟨by simpa using hlt, fun z1 => by omega, fun _ z1 => by omega, fun _ _ => ?_, fun z1 => absurd z1 hkk.2.1⟩
    rw [Array.getElem?_setIfInBounds, if_pos rfl, if_pos hlt]
    congr 2
    funext y
    rw [va_up_self]; rcases hk with hk | hk | hk <;> rw [hk] <;> rfl
  have hs1 : ∀ L : List Loc, (∀ y ∈ L, y.base = ad q) → Sit s z ad _ (locs ++ L) C (va_up I q (va_cpy (I q0) (I q) sp.toNatClampNeg dp.toNatClampNeg x.toNatClampNeg)) J R := fun L hL => ⟨hs0.1, hs0.2.1, ⟨hs0.2.2.1.1, hs0.2.2.1.2.1, fun y hy => (List.mem_append.mp hy).elim (a1.2.2.1.2.2 y) (fun w => by rw [hL y w]; exact a1.2.2.2 q ⟨hkk.1, hkk.2.1⟩)⟩, hs0.2.2.2⟩
  obtain ⟨t, c1, d1⟩ := h ad _ _ ls (hs1 _ (fun y hy => by obtain ⟨w, -, hw⟩ := List.mem_map.mp hy; rw [← hw])) a2 a3 (ok_t (ok_t (ok_t (ok_t (ok_t a4))))) _ (by rw [← hT]; rfl) X'
  exact ⟨t, step t c1, d1⟩
end AWM
