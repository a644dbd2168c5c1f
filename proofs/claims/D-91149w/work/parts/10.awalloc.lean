/-! THE ABSTRACT LAYER 4: making cells, reference stores, casts, returns, throws (printed by gen/mkalloc.py) -/
set_option maxRecDepth 100000
def kcls : Nat → String := fun k => match k with
  | 1 => RX0
  | 2 => RX1
  | 3 => RX2
  | 4 => RX3
  | 5 => RX5
  | 6 => RX6
  | 7 => RX7
  | 8 => RX8
  | 9 => RX9
  | 10 => RX10
  | 11 => RX11
  | 12 => "java/lang/ArrayIndexOutOfBoundsException"
  | 13 => "java/lang/NegativeArraySizeException"
  | 20 => "[I"
  | 21 => "[J"
  | 22 => "[B"
  | 23 => "[S"
  | 24 => "[Z"
  | 25 => "[Ljava/lang/Object;"
  | 26 => "[LTickShare$Thing;"
  | 27 => "[LTickShare$Table;"
  | 28 => "[LTickShare$Leaf;"
  | _ => "[[J"
def ename : Nat → String := fun k => match k with
  | 25 => "java/lang/Object"
  | 26 => "TickShare$Thing"
  | 27 => "TickShare$Table"
  | _ => "TickShare$Leaf"
section AWA
variable {Γ : Gm} {k n k' n' : Nat} {C : MC} {I : MI} {J : MJ} {R : MR} {pc pc' : Nat} {lv lv' : List (Nat × AV)} {st st' : List AV} {yy : MethodName} {cc : ByteArray} {nL : Nat} {ret : Option FieldType} {hh : List (Nat × Nat × Nat × Nat)} {q : Nat} {index : Nat}
theorem kn_find {D : va_G} {dA : Nat → ClassId} {U : State} (h : Kn D dA U) {x : Nat} (h1 : 20 ≤ x) (h2 : x < 30) : U.vm.findClass (kcls x) = some (dA x) := by
  have hR := (kn_arr h h1 h2).2
  have h0 : x = 20 ∨ x = 21 ∨ x = 22 ∨ x = 23 ∨ x = 24 ∨ x = 25 ∨ x = 26 ∨ x = 27 ∨ x = 28 ∨ x = 29 := by omega
  rcases h0 with h0 | h0 | h0 | h0 | h0 | h0 | h0 | h0 | h0 | h0 <;> subst h0 <;> first | exact hR | exact hR.choose_spec.choose_spec.2.2.2
/-- the cell behind a name -/
theorem rp_cell {D : va_G} {dA : Nat → ClassId} {U : State} {H : Heap} {ad : Nat → Nat} (h : Rp D dA U H ad C I J R) (hK : Kn D dA U) (h1 : (1 ≤ (C q).1 ∧ (C q).1 ≤ 13) ∨ (20 ≤ (C q).1 ∧ (C q).1 < 30)) : ∃ cell : Cell, H[ad q]? = some cell ∧ cell.vm = .none ∧ U.vm.findClass (kcls (C q).1) = some cell.cls := by
  rcases h1 with ⟨h1, h2⟩ | ⟨h1, h2⟩
  · have hc := h.2.2 q (by omega)
    rcases Nat.lt_or_ge (C q).1 12 with h3 | h3
    · obtain ⟨x, V, b1, ⟨cell, g1, g2, g3, -⟩, -⟩ := hc.2.1 (by omega)
      refine ⟨cell, g1, g3, ?_⟩
      have hf := (hK.1.1 _ _ b1).2.1
      rw [g2, ← hf]
      congr 1
      have h0 : (C q).1 = 1 ∨ (C q).1 = 2 ∨ (C q).1 = 3 ∨ (C q).1 = 4 ∨ (C q).1 = 5 ∨ (C q).1 = 6 ∨ (C q).1 = 7 ∨ (C q).1 = 8 ∨ (C q).1 = 9 ∨ (C q).1 = 10 ∨ (C q).1 = 11 := by omega
      rcases h0 with h0 | h0 | h0 | h0 | h0 | h0 | h0 | h0 | h0 | h0 | h0 <;> rw [h0] at b1 ⊢ <;> cases b1 <;> rfl
    · obtain ⟨ce, g1, g2, g3⟩ := hc.2.2.1 h3 (by omega)
      refine ⟨ce, g1, g2, ?_⟩
      rw [← g3]
      congr 1
      have h0 : (C q).1 = 12 ∨ (C q).1 = 13 := by omega
      rcases h0 with h0 | h0 <;> rw [h0] <;> rfl
  · exact ⟨_, rp_arr h h1 h2, rfl, kn_find hK h1 h2⟩
/-- storing a reference into an array of references -/
theorem aw_aast (G : Gd Γ yy cc nL ret hh) {i : Int32} {v : Nat} (hk : 25 ≤ (C q).1 ∧ (C q).1 < 29) (hv1 : (1 ≤ (C v).1 ∧ (C v).1 ≤ 13) ∨ (20 ≤ (C v).1 ∧ (C v).1 < 30)) (hca : kcls (C v).1 = ename (C q).1 ∨ Cond.castable (kcls (C v).1) (ename (C q).1) ∈ lw_tbl) (hin : vp_in i (C q).2) (d : decode cc pc = .ok (.aastore, 1)) (h : AW Γ k n C I J (va_up R q (va_up (R q) i.toNatClampNeg (some v))) (pc + 1) lv st) : AW Γ k n C I J R pc lv (aR (some v) :: aI i :: aR (some q) :: st) := by
  obtain ⟨⟨p, l, e, Rm, s, m, args, below, meth, c⟩, z, K⟩ := Γ
  intro ad H locs ls a1 a2 a3 a4
  have hKn := G.2.2.2.2.2.2.2.1
  have hlt : i.toNatClampNeg < (C q).2 := Nat.not_le.mp fun w => hin (Or.inr w)
  have h0 : ¬ i < 0 := fun w => hin (Or.inl w)
  have b1 := rp_arr (q := q) a1.1 (by omega) (by omega)
  obtain ⟨cellV, g1, g3, g2⟩ := rp_cell (q := v) a1.1 hKn hv1
  have hRA := (kn_arr hKn (x := (C q).1) (by omega) (by omega)).2
  have hty : ety (C q).1 = .object (ename (C q).1) := by
    have h0 : (C q).1 = 25 ∨ (C q).1 = 26 ∨ (C q).1 = 27 ∨ (C q).1 = 28 := by omega
    rcases h0 with h0 | h0 | h0 | h0 <;> rw [h0] <;> rfl
  rw [hty] at hRA
  obtain ⟨kA, comp, k1, k2, k3, -⟩ := hRA
  obtain ⟨kV, hkV, -⟩ := Vm.findClass_spec g2
  obtain ⟨kC, hkC, -⟩ := Vm.findClass_spec k3
  have has : s.vm.assignable cellV.cls comp = true := by
    rcases hca with hca | hca
    · rw [hca] at g2
      rw [Option.some.inj (g2.symm.trans k3)]
      exact va_asg _ _
    · obtain ⟨c0, t0, f1, f2, f3⟩ := Cond.castable_spec (va_Nw.use (A := args) rfl (hKn.2.1 _ hca rfl))
      rw [Option.some.inj (g2.symm.trans f1), Option.some.inj (k3.symm.trans f2)]
      exact f3
  refine W.aast G.1 G.2.1 b1 (fun w hw => by cases hw) (fun hw => by cases hw) k1 k2 rfl hkC ⟨h0, by rw [arrV_size]; exact hlt⟩ g1 (fun w hw => by rw [g3] at hw; cases hw) hkV has rfl rfl d fun H' e1 e2 e3 => ?_
  have hq : (C q).1 ≠ 0 := by omega
  refine h ad H' _ ls (a1.put ⟨hq, by omega⟩ e2 e3 (fun m hm => rfl) (fun m hm => rfl) (fun m hm => va_up_ne _ _ hm) (fun j w hw => ?_) ?_) a2 a3 (ok_t (ok_t (ok_t a4)))
  · rw [va_up_self] at hw
    by_cases hj : j = i.toNatClampNeg
    · rw [hj, va_up_self] at hw
      cases hw
      exact okv_some (ok_h a4)
    · rw [va_up_ne _ _ hj] at hw
      exact a1.1.2.1 q j w hq hw
  · refine ⟨by rw [e2]; exact a1.1.lt hq, fun z1 => by omega, fun _ z1 => by omega, fun _ _ => ?_, fun z1 => by omega⟩
    rw [e1, arrV_store, hty]
    congr 2
    funext y
    by_cases hy : y = i.toNatClampNeg
    · subst hy
      simp [updV, va_up, fval, va_rf]
    · simp [updV, va_up, hy]
theorem aw_cast (G : Gd Γ yy cc nL ret hh) {nm : String} (hl : Cond.classLink yy.cls index nm ∈ lw_all) (hv1 : (1 ≤ (C q).1 ∧ (C q).1 ≤ 13) ∨ (20 ≤ (C q).1 ∧ (C q).1 < 30)) (hca : kcls (C q).1 = nm) (d : decode cc pc = .ok (.checkcast index, 3)) (h : AW Γ k n C I J R (pc + 3) lv (aR (some q) :: st)) : AW Γ k n C I J R pc lv (aR (some q) :: st) := by
  obtain ⟨⟨p, l, e, Rm, s, m, args, below, meth, c⟩, z, K⟩ := Γ
  intro ad H locs ls a1 a2 a3 a4
  obtain ⟨cell, g1, g3, g2⟩ := rp_cell (q := q) a1.1 G.2.2.2.2.2.2.2.1 hv1
  rw [hca] at g2
  have hw := h ad H locs ls a1 a2 a3 a4
  have hb := G.2.1
  intro T hT X
  obtain ⟨vm', X', st1⟩ := X.checkcastYes G.1 G.2.2.2.2.1 (G.2.2.2.1 _ hl) (by rw [hT]; exact g1) (by rw [g3]; rfl) g2 (va_asg _ _) (g := F0 m pc ls (.ref (ad q) :: st.map (cv ad))) rfl rfl (by rw [hb]; exact d)
  obtain ⟨t, b1, b2⟩ := hw (T.setVm vm') hT X'
  exact ⟨t, st1 t b1, b2⟩
theorem aw_inst1 (G : Gd Γ yy cc nL ret hh) {nm : String} (hl : Cond.classLink yy.cls index nm ∈ lw_all) (hv1 : (1 ≤ (C q).1 ∧ (C q).1 ≤ 13) ∨ (20 ≤ (C q).1 ∧ (C q).1 < 30)) (hca : kcls (C q).1 = nm) (d : decode cc pc = .ok (.instanceof index, 3)) (h : AW Γ k n C I J R (pc + 3) lv (aI 1 :: st)) : AW Γ k n C I J R pc lv (aR (some q) :: st) := by
  obtain ⟨⟨p, l, e, Rm, s, m, args, below, meth, c⟩, z, K⟩ := Γ
  intro ad H locs ls a1 a2 a3 a4
  obtain ⟨cell, g1, g3, g2⟩ := rp_cell (q := q) a1.1 G.2.2.2.2.2.2.2.1 hv1
  rw [hca] at g2
  have hw := h ad H locs ls a1 a2 a3 (ok_c (okv_I _) (ok_t a4))
  have hb := G.2.1
  intro T hT X
  obtain ⟨vm', X', st1⟩ := X.instanceofYes G.1 G.2.2.2.2.1 (G.2.2.2.1 _ hl) (by rw [hT]; exact g1) (by rw [g3]; rfl) g2 (va_asg _ _) (g := F0 m pc ls (.ref (ad q) :: st.map (cv ad))) rfl rfl (by rw [hb]; exact d)
  obtain ⟨t, b1, b2⟩ := hw (T.setVm vm') hT X'
  exact ⟨t, st1 t b1, b2⟩
theorem aw_inst0 (G : Gd Γ yy cc nL ret hh) {nm : String} (hl : Cond.classLink yy.cls index nm ∈ lw_all) (hv1 : (1 ≤ (C q).1 ∧ (C q).1 ≤ 13) ∨ (20 ≤ (C q).1 ∧ (C q).1 < 30)) (hca : (kcls (C q).1, nm) ∈ noC) (d : decode cc pc = .ok (.instanceof index, 3)) (h : AW Γ k n C I J R (pc + 3) lv (aI 0 :: st)) : AW Γ k n C I J R pc lv (aR (some q) :: st) := by
  obtain ⟨⟨p, l, e, Rm, s, m, args, below, meth, c⟩, z, K⟩ := Γ
  intro ad H locs ls a1 a2 a3 a4
  obtain ⟨cell, g1, g3, g2⟩ := rp_cell (q := q) a1.1 G.2.2.2.2.2.2.2.1 hv1
  exact va_instNo G.1 G.2.1 G.2.2.2.2.1 (G.2.2.2.1 _ hl) (G.2.2.2.2.2.2.2.1.2.2 _ hca) ⟨cell, g1, by rw [g3]; rfl, g2⟩ d (h ad H locs ls a1 a2 a3 (ok_c (okv_I _) (ok_t a4)))
/-- going on behind a new cell: the common end of the rows that make one -/
theorem aw_made {p : Program} {l : Launch} {e : Env} {Rm : Room} {s : State} {m : MethodId} {args : Array Value} {below : List Frame} {meth : Method} {c : Code} {z : Zd} {K : AK} {ad : Nat → Nat} {H H1 : Heap} {locs : List Loc} {ls : Array Slot} (hn : (C q).1 = 0) (kd : Nat × Nat) (hk0 : kd.1 ≠ 0) {i : Nat → Int32} {j : Nat → Int64}
    (h : AW ((p, l, e, Rm, s, m, args, below, meth, c), z, K) k' n' (va_up C q kd) (va_up I q i) (va_up J q j) (va_up R q (fun _ => none)) pc lv (aR (some q) :: st)) (a1 : Sit s z ad H locs C I J R) (a2 : lv_has ls c.maxLocals (lvm ad lv)) (a3 : ∀ q ∈ lv, okv C q.2) (a4 : ∀ v ∈ st, okv C v) (hz : H.size ≤ H1.size) (oq : ∀ q : Nat, q < H.size → H1[q]? = H[q]?)
    (hk : ∀ ad' : Nat → Nat, cellOk z.1 z.2.1 s H1 ad' kd i j (fun _ => none) H.size) (hk1 : k ≤ k') (hn1 : n ≤ n') :
    W p l e Rm s m args below meth c H1 locs k n (vx_MQ below (AQc z K s.heap.size) (AXC z K s.heap.size) args s Rm.cells Rm.slots (fA z.2.2.1 z.2.2.2.1 s.heap.size)) (F0 m pc ls (.ref H.size :: st.map (cv ad))) := by
  have hre : ∀ x, (C x).1 ≠ 0 → va_up ad q H.size x = ad x := fun x hx => va_up_ne _ _ (fun e => hx (by rw [e]; exact hn))
  have hmo : ∀ x, (C x).1 ≠ 0 → (va_up C q kd x).1 ≠ 0 := fun x hx => by rw [va_up_ne C _ (fun e => hx (by rw [e]; exact hn))]; exact hx
  have hw := h (va_up ad q H.size) H1 locs ls (a1.new hn kd hk0 i j hz oq hk) (by rw [lvm_re hre a3]; exact a2) (fun x hx => okv_kept hmo (a3 x hx)) (ok_c (okv_R (by rw [va_up_self]; exact hk0)) (fun x hx => okv_kept hmo (a4 x hx)))
  rw [List.map_cons, stm_re hre a4] at hw
  rw [show cv (va_up ad q H.size) (aR (some q)) = .ref H.size by simp [cv, va_rf, va_up]] at hw
  exact W.widen hk1 hn1 hw
theorem aw_newaI (G : Gd Γ yy cc nL ret hh) {x : Int32} {N : Nat} (hx : ¬ x < 0) (hN : x.toNatClampNeg = N) (hsm : N ≤ 60000000) (h1 : k + 1 ≤ k') (h2 : n + N ≤ n') (h3 : k' ≤ (gR Γ).cells) (h4 : n' ≤ (gR Γ).slots) (hn : (C q).1 = 0) (d : decode cc pc = .ok (.newarray .int, 2)) (h : AW Γ k' n' (va_up C q (20, N)) (va_up I q (fun _ => 0)) (va_up J q (fun _ => 0)) (va_up R q (fun _ => none)) (pc + 2) lv (aR (some q) :: st)) : AW Γ k n C I J R pc lv (aI x :: st) := by
  obtain ⟨⟨p, l, e, Rm, s, m, args, below, meth, c⟩, z, K⟩ := Γ
  intro ad H locs ls a1 a2 a3 a4
  have hKn := G.2.2.2.2.2.2.2.1
  refine va_newaK (atype := .int) G.1 G.2.1 (G.2.2.2.1 _ q238) rfl d rfl hx hN (Nat.le_trans (Nat.mul_le_mul hsm (show _ ≤ 8 by decide)) (by decide)) (Nat.le_trans h1 h3) (Nat.le_trans h2 h4) rfl (fun H1 cA e1 z1 o1 hAr hNm => ?_)
  have hcA : cA = z.2.1 20 := Option.some.inj ((show s.vm.findClass _ = some cA from hNm).symm.trans (kn_find hKn (x := 20) (by decide) (by decide)))
  subst hcA
  exact aw_made hn (20, N) (show (20 : Nat) ≠ 0 by decide) h a1 a2 a3 (ok_t a4) (by omega) o1 (fun ad' => ⟨by omega, fun w => absurd w (show ¬ (20 : Nat) ≤ 11 by decide), fun _ w => absurd w (show ¬ (20 : Nat) < 20 by decide), fun _ _ => e1, fun w => absurd w (show ¬ (20 : Nat) = 30 by decide)⟩) h1 h2
theorem aw_newaJ (G : Gd Γ yy cc nL ret hh) {x : Int32} {N : Nat} (hx : ¬ x < 0) (hN : x.toNatClampNeg = N) (hsm : N ≤ 60000000) (h1 : k + 1 ≤ k') (h2 : n + N ≤ n') (h3 : k' ≤ (gR Γ).cells) (h4 : n' ≤ (gR Γ).slots) (hn : (C q).1 = 0) (d : decode cc pc = .ok (.newarray .long, 2)) (h : AW Γ k' n' (va_up C q (21, N)) (va_up I q (fun _ => 0)) (va_up J q (fun _ => 0)) (va_up R q (fun _ => none)) (pc + 2) lv (aR (some q) :: st)) : AW Γ k n C I J R pc lv (aI x :: st) := by
  obtain ⟨⟨p, l, e, Rm, s, m, args, below, meth, c⟩, z, K⟩ := Γ
  intro ad H locs ls a1 a2 a3 a4
  have hKn := G.2.2.2.2.2.2.2.1
  refine va_newaK (atype := .long) G.1 G.2.1 (G.2.2.2.1 _ q150) rfl d rfl hx hN (Nat.le_trans (Nat.mul_le_mul hsm (show _ ≤ 8 by decide)) (by decide)) (Nat.le_trans h1 h3) (Nat.le_trans h2 h4) rfl (fun H1 cA e1 z1 o1 hAr hNm => ?_)
  have hcA : cA = z.2.1 21 := Option.some.inj ((show s.vm.findClass _ = some cA from hNm).symm.trans (kn_find hKn (x := 21) (by decide) (by decide)))
  subst hcA
  exact aw_made hn (21, N) (show (21 : Nat) ≠ 0 by decide) h a1 a2 a3 (ok_t a4) (by omega) o1 (fun ad' => ⟨by omega, fun w => absurd w (show ¬ (21 : Nat) ≤ 11 by decide), fun _ w => absurd w (show ¬ (21 : Nat) < 20 by decide), fun _ _ => e1, fun w => absurd w (show ¬ (21 : Nat) = 30 by decide)⟩) h1 h2
theorem aw_newaB (G : Gd Γ yy cc nL ret hh) {x : Int32} {N : Nat} (hx : ¬ x < 0) (hN : x.toNatClampNeg = N) (hsm : N ≤ 60000000) (h1 : k + 1 ≤ k') (h2 : n + N ≤ n') (h3 : k' ≤ (gR Γ).cells) (h4 : n' ≤ (gR Γ).slots) (hn : (C q).1 = 0) (d : decode cc pc = .ok (.newarray .byte, 2)) (h : AW Γ k' n' (va_up C q (22, N)) (va_up I q (fun _ => 0)) (va_up J q (fun _ => 0)) (va_up R q (fun _ => none)) (pc + 2) lv (aR (some q) :: st)) : AW Γ k n C I J R pc lv (aI x :: st) := by
  obtain ⟨⟨p, l, e, Rm, s, m, args, below, meth, c⟩, z, K⟩ := Γ
  intro ad H locs ls a1 a2 a3 a4
  have hKn := G.2.2.2.2.2.2.2.1
  refine va_newaK (atype := .byte) G.1 G.2.1 (G.2.2.2.1 _ q217) rfl d rfl hx hN (Nat.le_trans (Nat.mul_le_mul hsm (show _ ≤ 8 by decide)) (by decide)) (Nat.le_trans h1 h3) (Nat.le_trans h2 h4) rfl (fun H1 cA e1 z1 o1 hAr hNm => ?_)
  have hcA : cA = z.2.1 22 := Option.some.inj ((show s.vm.findClass _ = some cA from hNm).symm.trans (kn_find hKn (x := 22) (by decide) (by decide)))
  subst hcA
  exact aw_made hn (22, N) (show (22 : Nat) ≠ 0 by decide) h a1 a2 a3 (ok_t a4) (by omega) o1 (fun ad' => ⟨by omega, fun w => absurd w (show ¬ (22 : Nat) ≤ 11 by decide), fun _ w => absurd w (show ¬ (22 : Nat) < 20 by decide), fun _ _ => e1, fun w => absurd w (show ¬ (22 : Nat) = 30 by decide)⟩) h1 h2
theorem aw_newaS (G : Gd Γ yy cc nL ret hh) {x : Int32} {N : Nat} (hx : ¬ x < 0) (hN : x.toNatClampNeg = N) (hsm : N ≤ 60000000) (h1 : k + 1 ≤ k') (h2 : n + N ≤ n') (h3 : k' ≤ (gR Γ).cells) (h4 : n' ≤ (gR Γ).slots) (hn : (C q).1 = 0) (d : decode cc pc = .ok (.newarray .short, 2)) (h : AW Γ k' n' (va_up C q (23, N)) (va_up I q (fun _ => 0)) (va_up J q (fun _ => 0)) (va_up R q (fun _ => none)) (pc + 2) lv (aR (some q) :: st)) : AW Γ k n C I J R pc lv (aI x :: st) := by
  obtain ⟨⟨p, l, e, Rm, s, m, args, below, meth, c⟩, z, K⟩ := Γ
  intro ad H locs ls a1 a2 a3 a4
  have hKn := G.2.2.2.2.2.2.2.1
  refine va_newaK (atype := .short) G.1 G.2.1 (G.2.2.2.1 _ q237) rfl d rfl hx hN (Nat.le_trans (Nat.mul_le_mul hsm (show _ ≤ 8 by decide)) (by decide)) (Nat.le_trans h1 h3) (Nat.le_trans h2 h4) rfl (fun H1 cA e1 z1 o1 hAr hNm => ?_)
  have hcA : cA = z.2.1 23 := Option.some.inj ((show s.vm.findClass _ = some cA from hNm).symm.trans (kn_find hKn (x := 23) (by decide) (by decide)))
  subst hcA
  exact aw_made hn (23, N) (show (23 : Nat) ≠ 0 by decide) h a1 a2 a3 (ok_t a4) (by omega) o1 (fun ad' => ⟨by omega, fun w => absurd w (show ¬ (23 : Nat) ≤ 11 by decide), fun _ w => absurd w (show ¬ (23 : Nat) < 20 by decide), fun _ _ => e1, fun w => absurd w (show ¬ (23 : Nat) = 30 by decide)⟩) h1 h2
theorem aw_newaZ (G : Gd Γ yy cc nL ret hh) {x : Int32} {N : Nat} (hx : ¬ x < 0) (hN : x.toNatClampNeg = N) (hsm : N ≤ 60000000) (h1 : k + 1 ≤ k') (h2 : n + N ≤ n') (h3 : k' ≤ (gR Γ).cells) (h4 : n' ≤ (gR Γ).slots) (hn : (C q).1 = 0) (d : decode cc pc = .ok (.newarray .boolean, 2)) (h : AW Γ k' n' (va_up C q (24, N)) (va_up I q (fun _ => 0)) (va_up J q (fun _ => 0)) (va_up R q (fun _ => none)) (pc + 2) lv (aR (some q) :: st)) : AW Γ k n C I J R pc lv (aI x :: st) := by
  obtain ⟨⟨p, l, e, Rm, s, m, args, below, meth, c⟩, z, K⟩ := Γ
  intro ad H locs ls a1 a2 a3 a4
  have hKn := G.2.2.2.2.2.2.2.1
  refine va_newaK (atype := .boolean) G.1 G.2.1 (G.2.2.2.1 _ q1008) rfl d rfl hx hN (Nat.le_trans (Nat.mul_le_mul hsm (show _ ≤ 8 by decide)) (by decide)) (Nat.le_trans h1 h3) (Nat.le_trans h2 h4) rfl (fun H1 cA e1 z1 o1 hAr hNm => ?_)
  have hcA : cA = z.2.1 24 := Option.some.inj ((show s.vm.findClass _ = some cA from hNm).symm.trans (kn_find hKn (x := 24) (by decide) (by decide)))
  subst hcA
  exact aw_made hn (24, N) (show (24 : Nat) ≠ 0 by decide) h a1 a2 a3 (ok_t a4) (by omega) o1 (fun ad' => ⟨by omega, fun w => absurd w (show ¬ (24 : Nat) ≤ 11 by decide), fun _ w => absurd w (show ¬ (24 : Nat) < 20 by decide), fun _ _ => e1, fun w => absurd w (show ¬ (24 : Nat) = 30 by decide)⟩) h1 h2
theorem aw_newqO (G : Gd Γ yy cc nL ret hh) {x : Int32} {N : Nat} (hl : Cond.classLink yy.cls index "java/lang/Object" ∈ lw_all) (hx : ¬ x < 0) (hN : x.toNatClampNeg = N) (hsm : N ≤ 60000000) (h1 : k + 1 ≤ k') (h2 : n + N ≤ n') (h3 : k' ≤ (gR Γ).cells) (h4 : n' ≤ (gR Γ).slots) (hn : (C q).1 = 0) (d : decode cc pc = .ok (.anewarray index, 3)) (h : AW Γ k' n' (va_up C q (25, N)) (va_up I q (fun _ => 0)) (va_up J q (fun _ => 0)) (va_up R q (fun _ => none)) (pc + 3) lv (aR (some q) :: st)) : AW Γ k n C I J R pc lv (aI x :: st) := by
  obtain ⟨⟨p, l, e, Rm, s, m, args, below, meth, c⟩, z, K⟩ := Γ
  intro ad H locs ls a1 a2 a3 a4
  have hKn := G.2.2.2.2.2.2.2.1
  subst hN
  refine W.anew G.1 G.2.1 G.2.2.2.2.1 (G.2.2.2.1 _ hl) (va_AO.use (hKn.2.1 _ q81 rfl)) rfl d rfl hx (Nat.le_trans (Nat.mul_le_mul hsm (Nat.le_refl 4)) (by decide)) (Nat.le_trans h1 h3) (Nat.le_trans h2 h4) (fun cA kA comp f1 f2 f3 f4 => ?_)
  have hcA : cA = z.2.1 25 := Option.some.inj ((show s.vm.findClass _ = some cA from f1).symm.trans (kn_find hKn (x := 25) (by decide) (by decide)))
  subst hcA
  have e1 : (H.push ({ cls := z.2.1 25, slots := Array.replicate x.toNatClampNeg .null, vm := .none } : Cell))[H.size]? = some (arrV (z.2.1 25) x.toNatClampNeg (fun _ => .null)) := by rw [Array.getElem?_push_size, ← arrV_new]
  exact aw_made hn (25, x.toNatClampNeg) (show (25 : Nat) ≠ 0 by decide) h a1 a2 a3 (ok_t a4) (by rw [Array.size_push]; omega) (fun y hy => by rw [Array.getElem?_push, if_neg (Nat.ne_of_lt hy)]) (fun ad' => ⟨by rw [Array.size_push]; omega, fun w => absurd w (show ¬ (25 : Nat) ≤ 11 by decide), fun _ w => absurd w (show ¬ (25 : Nat) < 20 by decide), fun _ _ => e1, fun w => absurd w (show ¬ (25 : Nat) = 30 by decide)⟩) h1 h2
theorem aw_newqT (G : Gd Γ yy cc nL ret hh) {x : Int32} {N : Nat} (hl : Cond.classLink yy.cls index "TickShare$Thing" ∈ lw_all) (hx : ¬ x < 0) (hN : x.toNatClampNeg = N) (hsm : N ≤ 60000000) (h1 : k + 1 ≤ k') (h2 : n + N ≤ n') (h3 : k' ≤ (gR Γ).cells) (h4 : n' ≤ (gR Γ).slots) (hn : (C q).1 = 0) (d : decode cc pc = .ok (.anewarray index, 3)) (h : AW Γ k' n' (va_up C q (26, N)) (va_up I q (fun _ => 0)) (va_up J q (fun _ => 0)) (va_up R q (fun _ => none)) (pc + 3) lv (aR (some q) :: st)) : AW Γ k n C I J R pc lv (aI x :: st) := by
  obtain ⟨⟨p, l, e, Rm, s, m, args, below, meth, c⟩, z, K⟩ := Γ
  intro ad H locs ls a1 a2 a3 a4
  have hKn := G.2.2.2.2.2.2.2.1
  subst hN
  refine W.anew G.1 G.2.1 G.2.2.2.2.1 (G.2.2.2.1 _ hl) (va_AO.use (hKn.2.1 _ q83 rfl)) rfl d rfl hx (Nat.le_trans (Nat.mul_le_mul hsm (Nat.le_refl 4)) (by decide)) (Nat.le_trans h1 h3) (Nat.le_trans h2 h4) (fun cA kA comp f1 f2 f3 f4 => ?_)
  have hcA : cA = z.2.1 26 := Option.some.inj ((show s.vm.findClass _ = some cA from f1).symm.trans (kn_find hKn (x := 26) (by decide) (by decide)))
  subst hcA
  have e1 : (H.push ({ cls := z.2.1 26, slots := Array.replicate x.toNatClampNeg .null, vm := .none } : Cell))[H.size]? = some (arrV (z.2.1 26) x.toNatClampNeg (fun _ => .null)) := by rw [Array.getElem?_push_size, ← arrV_new]
  exact aw_made hn (26, x.toNatClampNeg) (show (26 : Nat) ≠ 0 by decide) h a1 a2 a3 (ok_t a4) (by rw [Array.size_push]; omega) (fun y hy => by rw [Array.getElem?_push, if_neg (Nat.ne_of_lt hy)]) (fun ad' => ⟨by rw [Array.size_push]; omega, fun w => absurd w (show ¬ (26 : Nat) ≤ 11 by decide), fun _ w => absurd w (show ¬ (26 : Nat) < 20 by decide), fun _ _ => e1, fun w => absurd w (show ¬ (26 : Nat) = 30 by decide)⟩) h1 h2
theorem aw_newqB (G : Gd Γ yy cc nL ret hh) {x : Int32} {N : Nat} (hl : Cond.classLink yy.cls index "TickShare$Table" ∈ lw_all) (hx : ¬ x < 0) (hN : x.toNatClampNeg = N) (hsm : N ≤ 60000000) (h1 : k + 1 ≤ k') (h2 : n + N ≤ n') (h3 : k' ≤ (gR Γ).cells) (h4 : n' ≤ (gR Γ).slots) (hn : (C q).1 = 0) (d : decode cc pc = .ok (.anewarray index, 3)) (h : AW Γ k' n' (va_up C q (27, N)) (va_up I q (fun _ => 0)) (va_up J q (fun _ => 0)) (va_up R q (fun _ => none)) (pc + 3) lv (aR (some q) :: st)) : AW Γ k n C I J R pc lv (aI x :: st) := by
  obtain ⟨⟨p, l, e, Rm, s, m, args, below, meth, c⟩, z, K⟩ := Γ
  intro ad H locs ls a1 a2 a3 a4
  have hKn := G.2.2.2.2.2.2.2.1
  subst hN
  refine W.anew G.1 G.2.1 G.2.2.2.2.1 (G.2.2.2.1 _ hl) (va_AO.use (hKn.2.1 _ q368 rfl)) rfl d rfl hx (Nat.le_trans (Nat.mul_le_mul hsm (Nat.le_refl 4)) (by decide)) (Nat.le_trans h1 h3) (Nat.le_trans h2 h4) (fun cA kA comp f1 f2 f3 f4 => ?_)
  have hcA : cA = z.2.1 27 := Option.some.inj ((show s.vm.findClass _ = some cA from f1).symm.trans (kn_find hKn (x := 27) (by decide) (by decide)))
  subst hcA
  have e1 : (H.push ({ cls := z.2.1 27, slots := Array.replicate x.toNatClampNeg .null, vm := .none } : Cell))[H.size]? = some (arrV (z.2.1 27) x.toNatClampNeg (fun _ => .null)) := by rw [Array.getElem?_push_size, ← arrV_new]
  exact aw_made hn (27, x.toNatClampNeg) (show (27 : Nat) ≠ 0 by decide) h a1 a2 a3 (ok_t a4) (by rw [Array.size_push]; omega) (fun y hy => by rw [Array.getElem?_push, if_neg (Nat.ne_of_lt hy)]) (fun ad' => ⟨by rw [Array.size_push]; omega, fun w => absurd w (show ¬ (27 : Nat) ≤ 11 by decide), fun _ w => absurd w (show ¬ (27 : Nat) < 20 by decide), fun _ _ => e1, fun w => absurd w (show ¬ (27 : Nat) = 30 by decide)⟩) h1 h2
theorem aw_newqL (G : Gd Γ yy cc nL ret hh) {x : Int32} {N : Nat} (hl : Cond.classLink yy.cls index "TickShare$Leaf" ∈ lw_all) (hx : ¬ x < 0) (hN : x.toNatClampNeg = N) (hsm : N ≤ 60000000) (h1 : k + 1 ≤ k') (h2 : n + N ≤ n') (h3 : k' ≤ (gR Γ).cells) (h4 : n' ≤ (gR Γ).slots) (hn : (C q).1 = 0) (d : decode cc pc = .ok (.anewarray index, 3)) (h : AW Γ k' n' (va_up C q (28, N)) (va_up I q (fun _ => 0)) (va_up J q (fun _ => 0)) (va_up R q (fun _ => none)) (pc + 3) lv (aR (some q) :: st)) : AW Γ k n C I J R pc lv (aI x :: st) := by
  obtain ⟨⟨p, l, e, Rm, s, m, args, below, meth, c⟩, z, K⟩ := Γ
  intro ad H locs ls a1 a2 a3 a4
  have hKn := G.2.2.2.2.2.2.2.1
  subst hN
  refine W.anew G.1 G.2.1 G.2.2.2.2.1 (G.2.2.2.1 _ hl) (va_AO.use (hKn.2.1 _ q858 rfl)) rfl d rfl hx (Nat.le_trans (Nat.mul_le_mul hsm (Nat.le_refl 4)) (by decide)) (Nat.le_trans h1 h3) (Nat.le_trans h2 h4) (fun cA kA comp f1 f2 f3 f4 => ?_)
  have hcA : cA = z.2.1 28 := Option.some.inj ((show s.vm.findClass _ = some cA from f1).symm.trans (kn_find hKn (x := 28) (by decide) (by decide)))
  subst hcA
  have e1 : (H.push ({ cls := z.2.1 28, slots := Array.replicate x.toNatClampNeg .null, vm := .none } : Cell))[H.size]? = some (arrV (z.2.1 28) x.toNatClampNeg (fun _ => .null)) := by rw [Array.getElem?_push_size, ← arrV_new]
  exact aw_made hn (28, x.toNatClampNeg) (show (28 : Nat) ≠ 0 by decide) h a1 a2 a3 (ok_t a4) (by rw [Array.size_push]; omega) (fun y hy => by rw [Array.getElem?_push, if_neg (Nat.ne_of_lt hy)]) (fun ad' => ⟨by rw [Array.size_push]; omega, fun w => absurd w (show ¬ (28 : Nat) ≤ 11 by decide), fun _ w => absurd w (show ¬ (28 : Nat) < 20 by decide), fun _ _ => e1, fun w => absurd w (show ¬ (28 : Nat) = 30 by decide)⟩) h1 h2
theorem dflt_f {t : FieldType} (h : tcd t ≠ 4) (ad : Nat → Nat) : defaultValue t = fval t ad 0 0 none := by
  cases t <;> first | rfl | exact absurd rfl h
theorem aw_new (G : Gd Γ yy cc nL ret hh) {ci N : Nat} {Cn : String} {T : u_T} (hc : ClsOk ci Cn T N) (hci : ci < 11) (hl : Cond.classLink yy.cls index Cn ∈ lw_all) (hi : Cond.instantiable Cn N ∈ lw_all) (hini : Cond.initialized Cn ∈ lw_all) (hd : ∀ f, f < N → tcd (cty ci f) ≠ 4) (h1 : k + 1 ≤ k') (h2 : n + N ≤ n') (h3 : k' ≤ (gR Γ).cells) (h4 : n' ≤ (gR Γ).slots) (hn : (C q).1 = 0) (d : decode cc pc = .ok (.new index, 3)) (h : AW Γ k' n' (va_up C q (ci + 1, 0)) (va_up I q (fun _ => 0)) (va_up J q (fun _ => 0)) (va_up R q (fun _ => none)) (pc + 3) lv (aR (some q) :: st)) : AW Γ k n C I J R pc lv st := by
  obtain ⟨⟨p, l, e, Rm, s, m, args, below, meth, c⟩, z, K⟩ := Γ
  intro ad H locs ls a1 a2 a3 a4
  obtain ⟨g1, g2, g3, g4⟩ := hc
  have hKn := G.2.2.2.2.2.2.2.1
  have hK1 := hKn.1.1 ci _ g1
  refine W.newcK G.1 G.2.1 G.2.2.2.2.1 (G.2.2.2.1 _ hl) (G.2.2.2.1 _ hi) (G.2.2.2.1 _ hini) rfl d (Nat.le_trans h1 h3) (Nat.le_trans h2 h4) hK1.2.1 rfl (fun H1 kC hkC e1 z1 o1 => ?_)
  refine aw_made hn (ci + 1, 0) (by omega) h a1 a2 a3 a4 (by omega) o1 (fun ad' => ⟨by omega, fun _ => ⟨_, _, (by rw [Nat.add_sub_cancel]; exact g1), (by rw [Nat.add_sub_cancel]; exact u_born (cty ci) G.2.2.2.1 g2 hK1 hkC e1 g3), fun f hf _ => ?_⟩, fun w => absurd w (by omega), fun w => absurd w (by omega), fun w => absurd w (by omega)⟩) h1 h2
  rw [Nat.add_sub_cancel]
  exact dflt_f (hd f hf) ad'
/-- what stands at a method's end -/
theorem end_ok {Rm : Room} {s : State} {args : Array Value} {z : Zd} {K : AK} {ad : Nat → Nat} {H : Heap} {locs : List Loc} {v : Option AV} (a1 : Sit s z ad H locs C I J R) (hv : ∀ w, v = some w → okv C w) (hK : K (.inl v) C I J R) (hk : k ≤ z.2.2.2.2.2.1 ∧ n ≤ z.2.2.2.2.2.2.1) {t : State} (ht : t.heap = H) (hW : s.WarmedH t.vm) (hs : s.sameButNew ({ t with vm := s.vm } : State) locs k n) : AQc z K s.heap.size args s (.returned (v.map (cv ad))) t := by
  refine ⟨v, ad, C, I, J, R, rfl, by rw [ht]; exact a1.1.moved hW.alike, a1.2.1, a1.2.2.2, hv, hK, a1.2.2.1.F ht, locs, hs.mono hk.1 hk.2⟩
section XR
variable {p : Program} {l : Launch} {e : Env} {Rm : Room} {s : State} {m : MethodId} {args : Array Value} {below : List Frame} {meth : Method} {c : Code} {H : Heap} {locs : List Loc} {Qc : Array Value → State → Outcome → State → Prop} {XC : String → Addr → State → State → Prop} {free : Addr → Prop} {mc ms : Nat} {ls : Array Slot}
theorem xr_i (hexec : p.tables.exec = Jvm.exec) (hb : c.code = cc) {v : Int32} {ty : FieldType} (hr : meth.sig.returnType = some ty) (hn : narrow ty (.int v) = .int v)
    (hq : ∀ t : State, t.heap = H → s.WarmedH t.vm → s.sameButNew ({ t with vm := s.vm } : State) locs k n → Qc args s (.returned (some (.int v))) t) (hf : ∀ q ∈ locs, free q.base) (h1 : k ≤ mc) (h2 : n ≤ ms)
    (hdg : decode cc pc = .ok (.ireturn, 1)) (hlocks : meth.locks = false) : W p l e Rm s m args below meth c H locs k n (vx_MQ below Qc XC args s mc ms free) (F0 m pc ls [.int v]) := by
  intro T hT X
  have hlocks : meth.locks = false := hlocks
  obtain ⟨fs, hret, hrun, hended, hW, hframe⟩ := X.leave (v := (some (.int v))) (fun h => by rw [hr] at h; cases h)
  have hmeth' : T.vm.method? m = some meth := X.method'
  refine ⟨T.setFrames fs, ?_, .returned (some (.int v)), hrun, hended, Or.inl ⟨hq _ hT hW hframe, locs, ⟨⟨_, rfl⟩, hW, hframe.mono h1 h2⟩, hf⟩⟩
  jvm_step X.here [X.here.top, hexec, hb, hdg, hmeth', hr, hn]
  (try refine ⟨rfl, ?_⟩); (try refine ⟨rfl, ?_⟩)
  first | (intro acts; rw [hret _ acts rfl rfl rfl]) | rw [hret _ _ rfl rfl rfl]
  exact Steps.refl _
theorem xr_l (hexec : p.tables.exec = Jvm.exec) (hb : c.code = cc) {v : Int64} (hr : meth.sig.returnType = some .long)
    (hq : ∀ t : State, t.heap = H → s.WarmedH t.vm → s.sameButNew ({ t with vm := s.vm } : State) locs k n → Qc args s (.returned (some (.long v))) t) (hf : ∀ q ∈ locs, free q.base) (h1 : k ≤ mc) (h2 : n ≤ ms)
    (hdg : decode cc pc = .ok (.lreturn, 1)) (hlocks : meth.locks = false) : W p l e Rm s m args below meth c H locs k n (vx_MQ below Qc XC args s mc ms free) (F0 m pc ls [.long v]) := by
  intro T hT X
  have hlocks : meth.locks = false := hlocks
  obtain ⟨fs, hret, hrun, hended, hW, hframe⟩ := X.leave (v := (some (.long v))) (fun h => by rw [hr] at h; cases h)
  have hmeth' : T.vm.method? m = some meth := X.method'
  refine ⟨T.setFrames fs, ?_, .returned (some (.long v)), hrun, hended, Or.inl ⟨hq _ hT hW hframe, locs, ⟨⟨_, rfl⟩, hW, hframe.mono h1 h2⟩, hf⟩⟩
  jvm_step X.here [X.here.top, hexec, hb, hdg, hmeth', hr, narrow]
  (try refine ⟨rfl, ?_⟩); (try refine ⟨rfl, ?_⟩)
  first | (intro acts; rw [hret _ acts rfl rfl rfl]) | rw [hret _ _ rfl rfl rfl]
  exact Steps.refl _
theorem xr_v (hexec : p.tables.exec = Jvm.exec) (hb : c.code = cc) (hr : meth.sig.returnType = none)
    (hq : ∀ t : State, t.heap = H → s.WarmedH t.vm → s.sameButNew ({ t with vm := s.vm } : State) locs k n → Qc args s (.returned none) t) (hf : ∀ q ∈ locs, free q.base) (h1 : k ≤ mc) (h2 : n ≤ ms)
    (hdg : decode cc pc = .ok (.return_, 1)) (hlocks : meth.locks = false) : W p l e Rm s m args below meth c H locs k n (vx_MQ below Qc XC args s mc ms free) (F0 m pc ls []) := by
  intro T hT X
  have hlocks : meth.locks = false := hlocks
  obtain ⟨fs, hret, hrun, hended, hW, hframe⟩ := X.leave (v := none) (fun _ => rfl)
  have hmeth' : T.vm.method? m = some meth := X.method'
  refine ⟨T.setFrames fs, ?_, .returned none, hrun, hended, Or.inl ⟨hq _ hT hW hframe, locs, ⟨⟨_, rfl⟩, hW, hframe.mono h1 h2⟩, hf⟩⟩
  jvm_step X.here [X.here.top, hexec, hb, hdg, hmeth', hr]
  (try refine ⟨rfl, ?_⟩); (try refine ⟨rfl, ?_⟩)
  first | (intro acts; rw [hret _ acts rfl rfl rfl]) | rw [hret _ _ rfl rfl rfl]
  exact Steps.refl _
theorem xr_a (hexec : p.tables.exec = Jvm.exec) (hb : c.code = cc) {v : Value} {rt : FieldType} (hr : meth.sig.returnType = some rt) (hrt : (∃ n, rt = .object n) ∨ ∃ t, rt = .array t) (hv : v = .null ∨ ∃ a, v = .ref a)
    (hq : ∀ t : State, t.heap = H → s.WarmedH t.vm → s.sameButNew ({ t with vm := s.vm } : State) locs k n → Qc args s (.returned (some v)) t) (hf : ∀ q ∈ locs, free q.base) (h1 : k ≤ mc) (h2 : n ≤ ms)
    (hdg : decode cc pc = .ok (.areturn, 1)) (hlocks : meth.locks = false) : W p l e Rm s m args below meth c H locs k n (vx_MQ below Qc XC args s mc ms free) (F0 m pc ls [v]) := by
  intro T hT X
  have hlocks : meth.locks = false := hlocks
  obtain ⟨fs, hret, hrun, hended, hW, hframe⟩ := X.leave (v := (some v)) (fun h => by rw [hr] at h; cases h)
  have hmeth' : T.vm.method? m = some meth := X.method'
  refine ⟨T.setFrames fs, ?_, .returned (some v), hrun, hended, Or.inl ⟨hq _ hT hW hframe, locs, ⟨⟨_, rfl⟩, hW, hframe.mono h1 h2⟩, hf⟩⟩
  rcases hrt with ⟨n, rfl⟩ | ⟨t, rfl⟩ <;> rcases hv with rfl | ⟨a, rfl⟩ <;>
    (jvm_step X.here [X.here.top, hexec, hb, hdg, hmeth', hr]
     (try refine ⟨rfl, ?_⟩); (try refine ⟨rfl, ?_⟩)
     first | (intro acts; rw [hret _ acts rfl rfl rfl]) | rw [hret _ _ rfl rfl rfl]
     exact Steps.refl _)
/-- thrown out of a method -/
theorem xr_out {E : String} {ce : Cell} {q : Addr} (hout : ∀ x ∈ c.exceptionTable.toList, covers x pc = false) (hlocks : meth.locks = false) (hcell : H[q]? = some ce) (hv : ce.vm = .none) (hcl : s.vm.findClass E = some ce.cls)
    (hx : ∀ t : State, t.heap = H → s.WarmedH t.vm → s.sameButNew ({ t with vm := s.vm } : State) locs k n → XC E q s t) (hf : ∀ z ∈ locs, free z.base) (hc : k ≤ mc) (hs : n ≤ ms) {rest : List Value} :
    vx_W p l e Rm s m args below meth c H locs k n (vx_MQ below Qc XC args s mc ms free) (F0 m pc ls rest) q := by
  intro T hT X
  obtain ⟨st1, hrun, hend, hW, hsm⟩ := X.leaveThrown q (g := F0 m pc ls rest) rfl rfl rfl hout hlocks
  exact ⟨_, st1, .threw q, hrun, hend, Or.inr ⟨q, rfl, E, ce, locs, hx _ hT hW hsm, by rw [← hT] at hcell; exact hcell, hv, hcl, hW, hsm.mono hc hs, hf⟩⟩
end XR
theorem aw_ireturn (G : Gd Γ yy cc nL ret hh) {x : Int32} (hr : ret = some .int ∨ (ret = some .boolean ∧ (x = 0 ∨ x = 1))) (hk : k ≤ (gZ Γ).2.2.2.2.2.1 ∧ n ≤ (gZ Γ).2.2.2.2.2.2.1) (hm : k ≤ (gR Γ).cells ∧ n ≤ (gR Γ).slots) (d : decode cc pc = .ok (.ireturn, 1)) (h : gK Γ (.inl (some (aI x))) C I J R) : AW Γ k n C I J R pc lv [aI x] := by
  obtain ⟨⟨p, l, e, Rm, s, m, args, below, meth, c⟩, z, K⟩ := Γ
  intro ad H locs ls a1 a2 a3 a4
  rcases hr with rfl | ⟨rfl, hx⟩
  · exact xr_i (ty := .int) G.1 G.2.1 G.2.2.2.2.2.1 rfl (fun t ht hW hs => end_ok (Rm := Rm) (v := some (aI x)) a1 (fun w hw => by cases hw; exact okv_I _) h hk ht hW hs) a1.2.2.1.2.2 hm.1 hm.2 d G.2.2.2.2.2.2.1
  · exact xr_i (ty := .boolean) G.1 G.2.1 G.2.2.2.2.2.1 (by rcases hx with rfl | rfl <;> rfl) (fun t ht hW hs => end_ok (Rm := Rm) (v := some (aI x)) a1 (fun w hw => by cases hw; exact okv_I _) h hk ht hW hs) a1.2.2.1.2.2 hm.1 hm.2 d G.2.2.2.2.2.2.1
theorem aw_lreturn (G : Gd Γ yy cc nL (some .long) hh) {x : Int64} (hk : k ≤ (gZ Γ).2.2.2.2.2.1 ∧ n ≤ (gZ Γ).2.2.2.2.2.2.1) (hm : k ≤ (gR Γ).cells ∧ n ≤ (gR Γ).slots) (d : decode cc pc = .ok (.lreturn, 1)) (h : gK Γ (.inl (some (aJ x))) C I J R) : AW Γ k n C I J R pc lv [aJ x] := by
  obtain ⟨⟨p, l, e, Rm, s, m, args, below, meth, c⟩, z, K⟩ := Γ
  intro ad H locs ls a1 a2 a3 a4
  exact xr_l G.1 G.2.1 G.2.2.2.2.2.1 (fun t ht hW hs => end_ok (Rm := Rm) (v := some (aJ x)) a1 (fun w hw => by cases hw; exact okv_J _) h hk ht hW hs) a1.2.2.1.2.2 hm.1 hm.2 d G.2.2.2.2.2.2.1
theorem aw_return (G : Gd Γ yy cc nL none hh) (hk : k ≤ (gZ Γ).2.2.2.2.2.1 ∧ n ≤ (gZ Γ).2.2.2.2.2.2.1) (hm : k ≤ (gR Γ).cells ∧ n ≤ (gR Γ).slots) (d : decode cc pc = .ok (.return_, 1)) (h : gK Γ (.inl none) C I J R) : AW Γ k n C I J R pc lv [] := by
  obtain ⟨⟨p, l, e, Rm, s, m, args, below, meth, c⟩, z, K⟩ := Γ
  intro ad H locs ls a1 a2 a3 a4
  exact xr_v G.1 G.2.1 G.2.2.2.2.2.1 (fun t ht hW hs => end_ok (Rm := Rm) (v := none) a1 (fun w hw => by cases hw) h hk ht hW hs) a1.2.2.1.2.2 hm.1 hm.2 d G.2.2.2.2.2.2.1
theorem aw_areturn (G : Gd Γ yy cc nL ret hh) {x : Option Nat} (hr : ∃ rt, ret = some rt ∧ tcd rt = 2) (hk : k ≤ (gZ Γ).2.2.2.2.2.1 ∧ n ≤ (gZ Γ).2.2.2.2.2.2.1) (hm : k ≤ (gR Γ).cells ∧ n ≤ (gR Γ).slots) (d : decode cc pc = .ok (.areturn, 1)) (h : gK Γ (.inl (some (aR x))) C I J R) : AW Γ k n C I J R pc lv [aR x] := by
  obtain ⟨⟨p, l, e, Rm, s, m, args, below, meth, c⟩, z, K⟩ := Γ
  intro ad H locs ls a1 a2 a3 a4
  obtain ⟨rt, rfl, hr⟩ := hr
  refine xr_a (v := cv ad (aR x)) (rt := rt) G.1 G.2.1 G.2.2.2.2.2.1 ?_ ?_ (fun t ht hW hs => end_ok (Rm := Rm) (v := some (aR x)) a1 (fun w hw => by cases hw; exact ok_h a4) h hk ht hW hs) a1.2.2.1.2.2 hm.1 hm.2 d G.2.2.2.2.2.2.1
  · cases rt <;> first | exact Or.inl ⟨_, rfl⟩ | exact Or.inr ⟨_, rfl⟩ | cases hr
  · cases x with
    | none => exact Or.inl rfl
    | some y => exact Or.inr ⟨_, rfl⟩
/-- forgetting names -/
theorem aw_drop (C' : MC) (h1 : ∀ q, (C' q).1 ≠ 0 → C' q = C q) (h2 : ∀ q, ((gZ Γ).2.2.2.1 q).1 ≠ 0 → (C' q).1 ≠ 0) (h3 : ∀ q i r, (C' q).1 ≠ 0 → R q i = some r → (C' r).1 ≠ 0) (h4 : ∀ x ∈ lv, okv C' x.2) (h5 : ∀ v ∈ st, okv C' v) (h : AW Γ k n C' I J R pc lv st) : AW Γ k n C I J R pc lv st := by
  obtain ⟨⟨p, l, e, Rm, s, m, args, below, meth, c⟩, z, K⟩ := Γ
  intro ad H locs ls a1 a2 a3 a4
  have hmo : ∀ q, (C' q).1 ≠ 0 → (C q).1 ≠ 0 := fun q hq => by rw [← h1 q hq]; exact hq
  refine h ad H locs ls ⟨⟨fun a b ha hb => a1.1.1 a b (hmo a ha) (hmo b hb), h3, fun x hx => by rw [h1 x hx]; exact a1.1.2.2 x (hmo x hx)⟩, fun q hq => ?_, a1.2.2.1, fun q hq => ?_⟩ a2 h4 h5
  · have h6 := a1.2.1 q hq
    exact ⟨h6.1, by rw [h1 q (h2 q hq)]; exact h6.2⟩
  · exact a1.2.2.2 q (by rw [← h1 q hq.1]; exact hq)
theorem aw_athrow (G : Gd Γ yy cc nL ret hh) (d : decode cc pc = .ok (.athrow, 1)) (h : AX Γ k n C I J R pc lv q) : AW Γ k n C I J R pc lv (aR (some q) :: st) := by
  obtain ⟨⟨p, l, e, Rm, s, m, args, below, meth, c⟩, z, K⟩ := Γ
  intro ad H locs ls a1 a2 a3 a4
  exact vx_athrow G.1 G.2.1 d (h ad H locs ls _ a1 a2 a3 (okv_some (ok_h a4)))
theorem ax_wide (h1 : k ≤ k') (h2 : n ≤ n') (h : AX Γ k' n' C I J R pc lv q) : AX Γ k n C I J R pc lv q := by
  obtain ⟨⟨p, l, e, Rm, s, m, args, below, meth, c⟩, z, K⟩ := Γ
  intro ad H locs ls rest a1 a2 a3 a4
  exact vx_widen h1 h2 (h ad H locs ls rest a1 a2 a3 a4)
theorem knm {x : Nat} (h : x = 2 ∨ x = 11 ∨ x = 12 ∨ x = 13) : kname x = kcls x := by rcases h with rfl | rfl | rfl | rfl <;> rfl
theorem ax_out (G : Gd Γ yy cc nL ret hh) (hout : (tableOf hh).all (fun x => !covers x pc) = true) (hq : (C q).1 = 2 ∨ (C q).1 = 11 ∨ (C q).1 = 12 ∨ (C q).1 = 13) (hk : k ≤ (gZ Γ).2.2.2.2.2.2.2.1 ∧ n ≤ (gZ Γ).2.2.2.2.2.2.2.2) (hm : k ≤ (gR Γ).cells ∧ n ≤ (gR Γ).slots) (h : gK Γ (.inr q) C I J R) : AX Γ k n C I J R pc lv q := by
  obtain ⟨⟨p, l, e, Rm, s, m, args, below, meth, c⟩, z, K⟩ := Γ
  intro ad H locs ls rest a1 a2 a3 a4
  obtain ⟨ce, g1, g3, g2⟩ := rp_cell (q := q) a1.1 G.2.2.2.2.2.2.2.1 (Or.inl (by omega))
  refine xr_out (E := kname (C q).1) (fun x hx => ?_) G.2.2.2.2.2.2.1 g1 g3 (by rw [knm hq]; exact g2) (fun t ht hW hs => ?_) a1.2.2.1.2.2 hm.1 hm.2
  · rw [G.2.2.2.2.2.2.2.2.2.2.1] at hx
    have h5 : (!covers x pc) = true := List.all_eq_true.mp hout x hx
    cases hcv : covers x pc with
    | false => rfl
    | true => rw [hcv] at h5; cases h5
  · exact ⟨q, ad, C, I, J, R, rfl, a4, rfl, by rw [ht]; exact a1.1.moved hW.alike, a1.2.1, a1.2.2.2, h, a1.2.2.1.F ht, locs, hs.mono hk.1 hk.2⟩
/-- caught by the handler at place i of the table -/
theorem ax_catch (G : Gd Γ yy cc nL ret hh) (i : Nat) {a b hp ct : Nat} {nm : String} (hi : hh[i]? = some (a, b, hp, ct)) (hpre : ∀ j, j < i → ∀ a' b' h' t', hh[j]? = some (a', b', h', t') → covers ⟨a', b', h', t'⟩ pc = false ∨ (t' ≠ 0 ∧ ∃ nm' : String, Cond.classLink yy.cls t' nm' ∈ lw_all ∧ (kcls (C q).1, nm') ∈ noC)) (hcov : covers ⟨a, b, hp, ct⟩ pc = true) (h0 : ct ≠ 0) (hl : Cond.classLink yy.cls ct nm ∈ lw_all) (hq : (C q).1 = 2 ∨ (C q).1 = 11 ∨ (C q).1 = 12 ∨ (C q).1 = 13) (hca : Cond.castable (kcls (C q).1) nm ∈ lw_tbl) (h : AW Γ k n C I J R hp lv [aR (some q)]) : AX Γ k n C I J R pc lv q := by
  obtain ⟨⟨p, l, e, Rm, s, m, args, below, meth, c⟩, z, K⟩ := Γ
  intro ad H locs ls rest a1 a2 a3 a4
  have hKn := G.2.2.2.2.2.2.2.1
  obtain ⟨ce, g1, g3, g2⟩ := rp_cell (q := q) a1.1 hKn (Or.inl (by omega))
  have hlen := (List.getElem?_eq_some_iff.mp hi).1
  refine vx_catch G.2.2.2.2.1 (tableOf (hh.take i)) ⟨a, b, hp, ct⟩ (tableOf (hh.drop (i + 1))) ?_ (fun x hx => ?_) hcov h0 (G.2.2.2.1 _ hl) (va_Nw.use rfl (hKn.2.1 _ hca rfl)) g1 g3 g2 (h ad H locs ls a1 a2 a3 (ok_c (okv_R a4) (fun _ hw => by cases hw)))
  · rw [G.2.2.2.2.2.2.2.2.2.2.1]
    have e1 : hh = hh.take i ++ (a, b, hp, ct) :: hh.drop (i + 1) := by
      have := (List.getElem?_eq_some_iff.mp hi).2
      rw [← this]
      rw [← List.drop_eq_getElem_cons hlen, List.take_append_drop]
    conv => lhs; rw [e1]
    simp [tableOf]
  · obtain ⟨w, hw, rfl⟩ := List.mem_map.mp hx
    obtain ⟨j, hj⟩ := List.getElem?_of_mem hw
    have hj1 : j < i := by
      have := (List.getElem?_eq_some_iff.mp hj).1
      rw [List.length_take] at this
      omega
    rw [List.getElem?_take, if_pos hj1] at hj
    rcases hpre j hj1 w.1 w.2.1 w.2.2.1 w.2.2.2 hj with h1 | ⟨h1, nm', h2, h3⟩
    · exact Or.inl h1
    · exact Or.inr ⟨h1, nm', G.2.2.2.1 _ h2, hKn.2.2 _ h3⟩
end AWA
