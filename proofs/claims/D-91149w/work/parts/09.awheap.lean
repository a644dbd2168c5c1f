/-! THE ABSTRACT LAYER 3: rows of the heap (printed by gen/mkheap.py) -/
set_option maxRecDepth 100000
def ClsOk (ci : Nat) (Cn : String) (T : u_T) (N : Nat) : Prop := clTab[ci]? = some (Cn, T, N) ∧ (∀ w ∈ u_ws Cn T N, w ∈ lw_all) ∧ (∀ k, k < N → parseFieldDescriptor (T k).2.2.1 = some (cty ci k)) ∧ ∀ a, a < N → ∀ b, b < N → a ≠ b → (T a).2.1 ≠ (T b).2.1
theorem cl_0 : ClsOk 0 RX0 TX0 8 := ⟨rfl, in_X0, tyX0_ok, nmX0⟩
theorem cl_1 : ClsOk 1 RX1 TX1 7 := ⟨rfl, in_X1, tyX1_ok, nmX1⟩
theorem cl_2 : ClsOk 2 RX2 TX2 38 := ⟨rfl, in_X2, tyX2_ok, nmX2⟩
theorem cl_3 : ClsOk 3 RX3 TX3 3 := ⟨rfl, in_X3, tyX3_ok, nmX3⟩
theorem cl_4 : ClsOk 4 RX5 TX5 13 := ⟨rfl, in_X5, tyX5_ok, nmX5⟩
theorem cl_5 : ClsOk 5 RX6 TX6 8 := ⟨rfl, in_X6, tyX6_ok, nmX6⟩
theorem cl_6 : ClsOk 6 RX7 TX7 12 := ⟨rfl, in_X7, tyX7_ok, nmX7⟩
theorem cl_7 : ClsOk 7 RX8 TX8 8 := ⟨rfl, in_X8, tyX8_ok, nmX8⟩
theorem cl_8 : ClsOk 8 RX9 TX9 10 := ⟨rfl, in_X9, tyX9_ok, nmX9⟩
theorem cl_9 : ClsOk 9 RX10 TX10 7 := ⟨rfl, in_X10, tyX10_ok, nmX10⟩
theorem cl_10 : ClsOk 10 RX11 TX11 6 := ⟨rfl, in_X11, tyX11_ok, nmX11⟩
/-- the link of a field's constant: a class's own, or a nest mate's -/
def FLk (own : String) (index : Nat) (ref name desc : String) : Prop := Cond.fieldLink own index ref name desc ∈ lw_all ∨ ∃ host, Cond.fieldLinkNest own index ref name desc host ∈ lw_tbl
def FSm (ref : String) (t : String × String × String × Bool) : Prop := ref = t.1 ∨ Cond.sameField ref t.1 t.2.1 t.2.2.1 ∈ lw_all
def tcd (t : FieldType) : Nat := match t with
  | .int => 0
  | .long => 1
  | .object _ => 2
  | .array _ => 2
  | .boolean => 3
  | _ => 4
/-- the constant 'index' of class 'own' reads field f of an object of this kind; its type is of sort tc -/
def FB (own : String) (index f tc kind : Nat) : Prop := ∃ (ci : Nat) (Cn ref : String) (T : u_T) (N : Nat), kind = ci + 1 ∧ ClsOk ci Cn T N ∧ f < N ∧ FLk own index ref (T f).2.1 (T f).2.2.1 ∧ FSm ref (T f) ∧ opq ci f = false ∧ tcd (cty ci f) = tc ∧ ci < 11
/-- .. and may write it, in a method of the name nm -/
def FP (own nm : String) (index f tc kind : Nat) : Prop := ∃ (ci : Nat) (Cn ref : String) (T : u_T) (N : Nat), kind = ci + 1 ∧ ClsOk ci Cn T N ∧ f < N ∧ FLk own index ref (T f).2.1 (T f).2.2.1 ∧ FSm ref (T f) ∧ opq ci f = false ∧ tcd (cty ci f) = tc ∧ ci < 11 ∧ ((T f).2.2.2 = false ∨ ((T f).2.2.2 = true ∧ nm = "<init>" ∧ (T f).1 = own ∧ Cond.fieldLink own index ref (T f).2.1 (T f).2.2.1 ∈ lw_all))
def kTh (k : Nat) : Prop := 5 ≤ k ∧ k ≤ 10
theorem kTh_cases {k : Nat} (h : kTh k) : k = 5 ∨ k = 6 ∨ k = 7 ∨ k = 8 ∨ k = 9 ∨ k = 10 := by
  obtain ⟨h1, h2⟩ := h
  omega
def kRF (k : Nat) : Prop := k = 6 ∨ k = 7
theorem fval_I {ty : FieldType} (h : tcd ty = 0 ∨ tcd ty = 3) (ad : Nat → Nat) (i : Int32) (j : Int64) (r : Option Nat) : fval ty ad i j r = .int i := by
  cases ty <;> first | rfl | (rcases h with h | h <;> cases h)
theorem fval_J {ty : FieldType} (h : tcd ty = 1) (ad : Nat → Nat) (i : Int32) (j : Int64) (r : Option Nat) : fval ty ad i j r = .long j := by
  cases ty <;> first | rfl | cases h
theorem fval_R {ty : FieldType} (h : tcd ty = 2) (ad : Nat → Nat) (i : Int32) (j : Int64) (r : Option Nat) : fval ty ad i j r = cv ad (aR r) := by
  cases ty <;> first | rfl | cases h
theorem fsm_same {args : Array Value} {s : State} {ref : String} {t : String × String × String × Bool} (hts : ∀ w ∈ lw_all, w.before args s = true) (h : FSm ref t) : ∀ x, s.fieldFound? t.1 t.2.1 t.2.2.1 = some x → s.fieldFound? ref t.2.1 t.2.2.1 = some x := by
  intro x hx
  rcases h with rfl | h
  · exact hx
  · exact u_same (hts _ h) x hx
theorem okv_kept {C C' : MC} (h : ∀ q, (C q).1 ≠ 0 → (C' q).1 ≠ 0) {v : AV} (hv : okv C v) : okv C' v := fun q e => h q (hv q e)
theorem lvm_re {C : MC} {ad ad' : Nat → Nat} {lv : List (Nat × AV)} (h : ∀ q, (C q).1 ≠ 0 → ad' q = ad q) (hv : ∀ q ∈ lv, okv C q.2) : lvm ad' lv = lvm ad lv := by
  unfold lvm
  refine List.map_congr_left (fun q hq => ?_)
  obtain ⟨i, x | x | x⟩ := q
  · rfl
  · rfl
  · cases x with
    | none => rfl
    | some a => simp [cv, h a (okv_some (hv _ hq))]
theorem stm_re {C : MC} {ad ad' : Nat → Nat} {st : List AV} (h : ∀ q, (C q).1 ≠ 0 → ad' q = ad q) (hv : ∀ q ∈ st, okv C q) : st.map (cv ad') = st.map (cv ad) := by
  refine List.map_congr_left (fun q hq => ?_)
  obtain x | x | x := q
  · rfl
  · rfl
  · cases x with
    | none => rfl
    | some a => simp [cv, h a (okv_some (hv _ hq))]
theorem Sit.put {s : State} {z : Zd} {ad : Nat → Nat} {H H1 : Heap} {locs : List Loc} {C : MC} {I I' : MI} {J J' : MJ} {R R' : MR} {n k : Nat} (h : Sit s z ad H locs C I J R) (hw : wr (C n).1) (hz : H1.size = H.size) (oq : ∀ q : Nat, q ≠ ad n → H1[q]? = H[q]?)
    (hI : ∀ m, m ≠ n → I' m = I m) (hJ : ∀ m, m ≠ n → J' m = J m) (hR : ∀ m, m ≠ n → R' m = R m) (hc : ∀ i q, R' n i = some q → (C q).1 ≠ 0) (hk : cellOk z.1 z.2.1 s H1 ad (C n) (I' n) (J' n) (R' n) (ad n)) : Sit s z ad H1 (locs ++ [⟨ad n, k⟩]) C I' J' R' :=
  ⟨h.1.put hw.1 oq hI hJ hR hc hk, h.2.1, h.2.2.1.put hz oq (h.2.2.2 n hw), h.2.2.2⟩
theorem Sit.new {s : State} {z : Zd} {ad : Nat → Nat} {H H1 : Heap} {locs : List Loc} {C : MC} {I : MI} {J : MJ} {R : MR} {n : Nat} (h : Sit s z ad H locs C I J R) (hn : (C n).1 = 0) (k : Nat × Nat) (hk0 : k.1 ≠ 0) (i : Nat → Int32) (j : Nat → Int64) (hz : H.size ≤ H1.size) (oq : ∀ q : Nat, q < H.size → H1[q]? = H[q]?)
    (hk : ∀ ad' : Nat → Nat, cellOk z.1 z.2.1 s H1 ad' k i j (fun _ => none) H.size) : Sit s z (va_up ad n H.size) H1 locs (va_up C n k) (va_up I n i) (va_up J n j) (va_up R n (fun _ => none)) := by
  obtain ⟨h1, h2, h3, h4⟩ := h
  refine ⟨h1.new hn k hk0 i j oq hk, fun q hq => ?_, ⟨Nat.le_trans h3.1 hz, fun q hq hA => ?_, h3.2.2⟩, fun q hq => ?_⟩
  · have h5 := h2 q hq
    have e : q ≠ n := fun e => hq (by rw [← h5.2, e, hn])
    rw [va_up_ne _ _ e, va_up_ne _ _ e]
    exact h5
  · rw [oq q (Nat.lt_of_lt_of_le hq h3.1)]
    exact h3.2.1 q hq hA
  · by_cases e : q = n
    · rw [e, va_up_self]
      exact Or.inr h3.1
    · rw [va_up_ne _ _ e] at hq ⊢
      exact h4 q hq
section AWH
variable {Γ : Gm} {k n : Nat} {C : MC} {I : MI} {J : MJ} {R : MR} {pc pc' : Nat} {lv lv' : List (Nat × AV)} {st st' : List AV} {yy : MethodName} {cc : ByteArray} {nL : Nat} {ret : Option FieldType} {hh : List (Nat × Nat × Nat × Nat)} {q : Nat} {index : Nat}
theorem aw_getI (G : Gd Γ yy cc nL ret hh) {f : Nat} (hF : FB yy.cls index f 0 (C q).1) (d : decode cc pc = .ok (.getfield index, 3)) (h : AW Γ k n C I J R (pc + 3) lv (aI (I q f) :: st)) : AW Γ k n C I J R pc lv (aR (some q) :: st) := by
  obtain ⟨⟨p, l, e, Rm, s, m, args, below, meth, c⟩, z, K⟩ := Γ
  intro ad H locs ls a1 a2 a3 a4
  have hq := okv_some (ok_h a4)
  obtain ⟨ci, Cn, ref, T, N, g0, ⟨g1, g2, g3, g4⟩, hf, hl, hs, g5, g6, hci⟩ := hF
  obtain ⟨-, b1, -⟩ := a1.1.2.2 q hq
  obtain ⟨x, V, b2, b3, b4⟩ := b1 (by omega)
  rw [g0, Nat.add_sub_cancel] at b2 b3 b4
  cases Option.some.inj (b2.symm.trans g1)
  have hP : va_P z.1 clTab [(ad q, .inr (ci, (List.range N).map V))] H := by
    intro i w hw
    match i, hw with
    | 0, hw => cases hw; exact ⟨_, g1, b3.to (fun f hf => by simp [vp_V, List.getD, hf])⟩
  have hv : ((List.range N).map V)[f]? = some (.int (I q f)) := by
    rw [List.getElem?_map, List.getElem?_range hf, Option.map_some, b4 f hf g5, fval_I (Or.inl g6)]
  have hw := h ad H locs ls a1 a2 a3 (ok_c (okv_I _) (ok_t a4))
  rcases hl with hl | ⟨host, hl⟩
  · exact va_get G.1 G.2.1 G.2.2.2.1 g2 G.2.2.2.2.1 G.2.2.2.2.2.2.2.1.1 hP 0 rfl g1 f hf (G.2.2.2.1 _ hl) (fsm_same G.2.2.2.1 hs) hv d hw
  · exact va_getN G.1 G.2.1 G.2.2.2.1 g2 G.2.2.2.2.1 G.2.2.2.2.2.2.2.1.1 hP 0 rfl g1 f hf (va_Nw.use rfl (G.2.2.2.2.2.2.2.1.2.1 _ hl rfl)) (fsm_same G.2.2.2.1 hs) hv d hw
theorem aw_getZ (G : Gd Γ yy cc nL ret hh) {f : Nat} (hF : FB yy.cls index f 3 (C q).1) (d : decode cc pc = .ok (.getfield index, 3)) (h : AW Γ k n C I J R (pc + 3) lv (aI (I q f) :: st)) : AW Γ k n C I J R pc lv (aR (some q) :: st) := by
  obtain ⟨⟨p, l, e, Rm, s, m, args, below, meth, c⟩, z, K⟩ := Γ
  intro ad H locs ls a1 a2 a3 a4
  have hq := okv_some (ok_h a4)
  obtain ⟨ci, Cn, ref, T, N, g0, ⟨g1, g2, g3, g4⟩, hf, hl, hs, g5, g6, hci⟩ := hF
  obtain ⟨-, b1, -⟩ := a1.1.2.2 q hq
  obtain ⟨x, V, b2, b3, b4⟩ := b1 (by omega)
  rw [g0, Nat.add_sub_cancel] at b2 b3 b4
  cases Option.some.inj (b2.symm.trans g1)
  have hP : va_P z.1 clTab [(ad q, .inr (ci, (List.range N).map V))] H := by
    intro i w hw
    match i, hw with
    | 0, hw => cases hw; exact ⟨_, g1, b3.to (fun f hf => by simp [vp_V, List.getD, hf])⟩
  have hv : ((List.range N).map V)[f]? = some (.int (I q f)) := by
    rw [List.getElem?_map, List.getElem?_range hf, Option.map_some, b4 f hf g5, fval_I (Or.inr g6)]
  have hw := h ad H locs ls a1 a2 a3 (ok_c (okv_I _) (ok_t a4))
  rcases hl with hl | ⟨host, hl⟩
  · exact va_get G.1 G.2.1 G.2.2.2.1 g2 G.2.2.2.2.1 G.2.2.2.2.2.2.2.1.1 hP 0 rfl g1 f hf (G.2.2.2.1 _ hl) (fsm_same G.2.2.2.1 hs) hv d hw
  · exact va_getN G.1 G.2.1 G.2.2.2.1 g2 G.2.2.2.2.1 G.2.2.2.2.2.2.2.1.1 hP 0 rfl g1 f hf (va_Nw.use rfl (G.2.2.2.2.2.2.2.1.2.1 _ hl rfl)) (fsm_same G.2.2.2.1 hs) hv d hw
theorem aw_getJ (G : Gd Γ yy cc nL ret hh) {f : Nat} (hF : FB yy.cls index f 1 (C q).1) (d : decode cc pc = .ok (.getfield index, 3)) (h : AW Γ k n C I J R (pc + 3) lv (aJ (J q f) :: st)) : AW Γ k n C I J R pc lv (aR (some q) :: st) := by
  obtain ⟨⟨p, l, e, Rm, s, m, args, below, meth, c⟩, z, K⟩ := Γ
  intro ad H locs ls a1 a2 a3 a4
  have hq := okv_some (ok_h a4)
  obtain ⟨ci, Cn, ref, T, N, g0, ⟨g1, g2, g3, g4⟩, hf, hl, hs, g5, g6, hci⟩ := hF
  obtain ⟨-, b1, -⟩ := a1.1.2.2 q hq
  obtain ⟨x, V, b2, b3, b4⟩ := b1 (by omega)
  rw [g0, Nat.add_sub_cancel] at b2 b3 b4
  cases Option.some.inj (b2.symm.trans g1)
  have hP : va_P z.1 clTab [(ad q, .inr (ci, (List.range N).map V))] H := by
    intro i w hw
    match i, hw with
    | 0, hw => cases hw; exact ⟨_, g1, b3.to (fun f hf => by simp [vp_V, List.getD, hf])⟩
  have hv : ((List.range N).map V)[f]? = some (.long (J q f)) := by
    rw [List.getElem?_map, List.getElem?_range hf, Option.map_some, b4 f hf g5, fval_J g6]
  have hw := h ad H locs ls a1 a2 a3 (ok_c (okv_J _) (ok_t a4))
  rcases hl with hl | ⟨host, hl⟩
  · exact va_get G.1 G.2.1 G.2.2.2.1 g2 G.2.2.2.2.1 G.2.2.2.2.2.2.2.1.1 hP 0 rfl g1 f hf (G.2.2.2.1 _ hl) (fsm_same G.2.2.2.1 hs) hv d hw
  · exact va_getN G.1 G.2.1 G.2.2.2.1 g2 G.2.2.2.2.1 G.2.2.2.2.2.2.2.1.1 hP 0 rfl g1 f hf (va_Nw.use rfl (G.2.2.2.2.2.2.2.1.2.1 _ hl rfl)) (fsm_same G.2.2.2.1 hs) hv d hw
theorem aw_getR (G : Gd Γ yy cc nL ret hh) {f : Nat} (hF : FB yy.cls index f 2 (C q).1) (d : decode cc pc = .ok (.getfield index, 3)) (h : AW Γ k n C I J R (pc + 3) lv (aR (R q f) :: st)) : AW Γ k n C I J R pc lv (aR (some q) :: st) := by
  obtain ⟨⟨p, l, e, Rm, s, m, args, below, meth, c⟩, z, K⟩ := Γ
  intro ad H locs ls a1 a2 a3 a4
  have hq := okv_some (ok_h a4)
  obtain ⟨ci, Cn, ref, T, N, g0, ⟨g1, g2, g3, g4⟩, hf, hl, hs, g5, g6, hci⟩ := hF
  obtain ⟨-, b1, -⟩ := a1.1.2.2 q hq
  obtain ⟨x, V, b2, b3, b4⟩ := b1 (by omega)
  rw [g0, Nat.add_sub_cancel] at b2 b3 b4
  cases Option.some.inj (b2.symm.trans g1)
  have hP : va_P z.1 clTab [(ad q, .inr (ci, (List.range N).map V))] H := by
    intro i w hw
    match i, hw with
    | 0, hw => cases hw; exact ⟨_, g1, b3.to (fun f hf => by simp [vp_V, List.getD, hf])⟩
  have hv : ((List.range N).map V)[f]? = some (cv ad (aR (R q f))) := by
    rw [List.getElem?_map, List.getElem?_range hf, Option.map_some, b4 f hf g5, fval_R g6]
  have hw := h ad H locs ls a1 a2 a3 (ok_c (a1.1.okR hq f) (ok_t a4))
  rcases hl with hl | ⟨host, hl⟩
  · exact va_get G.1 G.2.1 G.2.2.2.1 g2 G.2.2.2.2.1 G.2.2.2.2.2.2.2.1.1 hP 0 rfl g1 f hf (G.2.2.2.1 _ hl) (fsm_same G.2.2.2.1 hs) hv d hw
  · exact va_getN G.1 G.2.1 G.2.2.2.1 g2 G.2.2.2.2.1 G.2.2.2.2.2.2.2.1.1 hP 0 rfl g1 f hf (va_Nw.use rfl (G.2.2.2.2.2.2.2.1.2.1 _ hl rfl)) (fsm_same G.2.2.2.1 hs) hv d hw
theorem aw_putI (G : Gd Γ yy cc nL ret hh) {f : Nat} {x : Int32} (hF : FP yy.cls yy.name index f 0 (C q).1) (d : decode cc pc = .ok (.putfield index, 3)) (h : AW Γ k n C (va_up I q (va_up (I q) f x)) J R (pc + 3) lv st) : AW Γ k n C I J R pc lv (aI x :: aR (some q) :: st) := by
  obtain ⟨⟨p, l, e, Rm, s, m, args, below, meth, c⟩, z, K⟩ := Γ
  intro ad H locs ls a1 a2 a3 a4
  have hq := okv_some (ok_h (ok_t a4))
  obtain ⟨ci, Cn, ref, T, N, g0, ⟨g1, g2, g3, g4⟩, hf, hl, hs, g5, g6, hci, hfin⟩ := hF
  have hwr : wr (C q).1 := ⟨hq, by omega⟩
  obtain ⟨-, b1, -⟩ := a1.1.2.2 q hq
  obtain ⟨x0, V, b2, b3, b4⟩ := b1 (by omega)
  rw [g0, Nat.add_sub_cancel] at b2 b3 b4
  cases Option.some.inj (b2.symm.trans g1)
  have hKK := G.2.2.2.2.2.2.2.1.1
  have hts := G.2.2.2.1
  have hown := G.2.2.2.2.1
  have hap := va_apart (own := yy.cls) hts g2 (cty ci) g3 g4 hKK g1
  obtain ⟨cell, r1, r2, r3, r4⟩ := b3
  obtain ⟨hS, hfc, kC, hkC, hkind⟩ := hKK.1 ci _ g1
  obtain ⟨cf, kf, fi, fd, hi, hsl⟩ := hS f hf
  have hst := (u_facts hfc hkC (u_lays hts g2 hf) hi).1
  have hn : narrow (cty ci f) (cv ad (aI x)) = cv ad (aI x) := by cases hty : cty ci f <;> rw [hty] at g6 <;> first | rfl | cases g6
  have hfit : fits (cty ci f) (cv ad (aI x)) = true := by cases hty : cty ci f <;> rw [hty] at g6 <;> first | rfl | cases g6
  have hlt : fd.slot < cell.slots.size := by rw [hsl]; exact k2_hasslot (r4 f hf)
  have fin : ∀ (H' : Heap), H'[ad q]? = some (cell.setSlot fd.slot (cv ad (aI x))) → H'.size = H.size → (∀ a, a ≠ ad q → H'[a]? = H[a]?) → W p l e Rm s m args below meth c H' (locs ++ [⟨ad q, fd.slot⟩]) k n (vx_MQ below (AQc z K s.heap.size) (AXC z K s.heap.size) args s Rm.cells Rm.slots (fA z.2.2.1 z.2.2.2.1 s.heap.size)) (F0 m (pc + 3) ls (st.map (cv ad))) := by
    intro H' e1 e2 e3
    refine h ad H' _ ls (a1.put hwr e2 e3 (fun m hm => va_up_ne _ _ hm) (fun m hm => rfl) (fun m hm => rfl) (fun i w hw => a1.1.2.1 q i w hq hw) ?_) a2 a3 (ok_t (ok_t a4))
    refine ⟨by rw [e2]; exact a1.1.lt hq, fun _ => ⟨_, updV V f (cv ad (aI x)), by rw [g0, Nat.add_sub_cancel]; exact g1, ?_, fun f' hf' ho => ?_⟩, fun z1 _ => by omega, fun z1 _ => by omega, fun z1 => by omega⟩
    · rw [g0, Nat.add_sub_cancel]
      rw [hsl] at e1
      exact ⟨_, e1, r2, r3, t_set r4 hap hf _⟩
    · rw [g0, Nat.add_sub_cancel] at ho ⊢
      by_cases hff : f' = f
      · subst hff
        rw [fval_I (Or.inl g6)]
        simp [updV, va_up, cv]
      · rw [show updV V f (cv ad (aI x)) f' = V f' by simp [updV, hff], b4 f' hf' ho]
        simp [va_up, hff]
  rcases hfin with hfin | ⟨hfin, hin2, hdecl, hl2⟩
  · have hlay := hts _ (g2 _ (u_in_lay hf))
    unfold u_lay at hlay
    rw [if_neg (by rw [hfin]; decide)] at hlay
    have h6 := u_store hfc hkC hkind hlay hi (g3 f hf) hn hfit
    rcases hl with hl | ⟨host, hl⟩
    · exact W.putK G.1 G.2.1 (f := fd) ⟨hown, hts _ hl, ⟨_, _, _, fsm_same hts hs _ hi⟩, hst⟩ (by rw [r2]; exact h6) r1 r3 hlt rfl rfl d fin
    · exact va_WputK G.1 G.2.1 (f := fd) hown (va_Nw.use rfl (G.2.2.2.2.2.2.2.1.2.1 _ hl rfl)) (fsm_same hts hs _ hi) hst (by rw [r2]; exact h6) r1 r3 hlt rfl rfl d fin
  · have hlay := hts _ (g2 _ (u_in_lay hf))
    unfold u_lay at hlay
    rw [if_pos hfin] at hlay
    have hcf : m.cls = cf := by
      obtain ⟨_, _, c', _, _, _, -, -, hf', -, -, -, hown2, -⟩ := Cond.laysFinal_spec hlay
      have e1 : c' = cf := by have := hi.symm.trans hf'; simp at this; exact this.1.symm
      rw [hdecl] at hown2
      rw [← e1]; exact Option.some.inj (hown.symm.trans hown2)
    have h6 := u_fits hfc hkC hkind (Or.inr hlay) hi (g3 f hf) hn hfit
    exact W.putFinK G.1 G.2.1 hown (hts _ hl2) (fsm_same hts hs _ hi) hst hcf (G.2.2.2.2.2.2.2.2.2.2.2.trans hin2) (by rw [r2]; exact h6) r1 r3 hlt rfl rfl d fin
theorem aw_putZ (G : Gd Γ yy cc nL ret hh) {f : Nat} {x : Int32} (hx : x = 0 ∨ x = 1) (hF : FP yy.cls yy.name index f 3 (C q).1) (d : decode cc pc = .ok (.putfield index, 3)) (h : AW Γ k n C (va_up I q (va_up (I q) f x)) J R (pc + 3) lv st) : AW Γ k n C I J R pc lv (aI x :: aR (some q) :: st) := by
  obtain ⟨⟨p, l, e, Rm, s, m, args, below, meth, c⟩, z, K⟩ := Γ
  intro ad H locs ls a1 a2 a3 a4
  have hq := okv_some (ok_h (ok_t a4))
  obtain ⟨ci, Cn, ref, T, N, g0, ⟨g1, g2, g3, g4⟩, hf, hl, hs, g5, g6, hci, hfin⟩ := hF
  have hwr : wr (C q).1 := ⟨hq, by omega⟩
  obtain ⟨-, b1, -⟩ := a1.1.2.2 q hq
  obtain ⟨x0, V, b2, b3, b4⟩ := b1 (by omega)
  rw [g0, Nat.add_sub_cancel] at b2 b3 b4
  cases Option.some.inj (b2.symm.trans g1)
  have hKK := G.2.2.2.2.2.2.2.1.1
  have hts := G.2.2.2.1
  have hown := G.2.2.2.2.1
  have hap := va_apart (own := yy.cls) hts g2 (cty ci) g3 g4 hKK g1
  obtain ⟨cell, r1, r2, r3, r4⟩ := b3
  obtain ⟨hS, hfc, kC, hkC, hkind⟩ := hKK.1 ci _ g1
  obtain ⟨cf, kf, fi, fd, hi, hsl⟩ := hS f hf
  have hst := (u_facts hfc hkC (u_lays hts g2 hf) hi).1
  have hn : narrow (cty ci f) (cv ad (aI x)) = cv ad (aI x) := by cases hty : cty ci f <;> rw [hty] at g6 <;> first | (rcases hx with rfl | rfl <;> rfl) | cases g6
  have hfit : fits (cty ci f) (cv ad (aI x)) = true := by cases hty : cty ci f <;> rw [hty] at g6 <;> first | (rcases hx with rfl | rfl <;> rfl) | cases g6
  have hlt : fd.slot < cell.slots.size := by rw [hsl]; exact k2_hasslot (r4 f hf)
  have fin : ∀ (H' : Heap), H'[ad q]? = some (cell.setSlot fd.slot (cv ad (aI x))) → H'.size = H.size → (∀ a, a ≠ ad q → H'[a]? = H[a]?) → W p l e Rm s m args below meth c H' (locs ++ [⟨ad q, fd.slot⟩]) k n (vx_MQ below (AQc z K s.heap.size) (AXC z K s.heap.size) args s Rm.cells Rm.slots (fA z.2.2.1 z.2.2.2.1 s.heap.size)) (F0 m (pc + 3) ls (st.map (cv ad))) := by
    intro H' e1 e2 e3
    refine h ad H' _ ls (a1.put hwr e2 e3 (fun m hm => va_up_ne _ _ hm) (fun m hm => rfl) (fun m hm => rfl) (fun i w hw => a1.1.2.1 q i w hq hw) ?_) a2 a3 (ok_t (ok_t a4))
    refine ⟨by rw [e2]; exact a1.1.lt hq, fun _ => ⟨_, updV V f (cv ad (aI x)), by rw [g0, Nat.add_sub_cancel]; exact g1, ?_, fun f' hf' ho => ?_⟩, fun z1 _ => by omega, fun z1 _ => by omega, fun z1 => by omega⟩
    · rw [g0, Nat.add_sub_cancel]
      rw [hsl] at e1
      exact ⟨_, e1, r2, r3, t_set r4 hap hf _⟩
    · rw [g0, Nat.add_sub_cancel] at ho ⊢
      by_cases hff : f' = f
      · subst hff
        rw [fval_I (Or.inr g6)]
        simp [updV, va_up, cv]
      · rw [show updV V f (cv ad (aI x)) f' = V f' by simp [updV, hff], b4 f' hf' ho]
        simp [va_up, hff]
  rcases hfin with hfin | ⟨hfin, hin2, hdecl, hl2⟩
  · have hlay := hts _ (g2 _ (u_in_lay hf))
    unfold u_lay at hlay
    rw [if_neg (by rw [hfin]; decide)] at hlay
    have h6 := u_store hfc hkC hkind hlay hi (g3 f hf) hn hfit
    rcases hl with hl | ⟨host, hl⟩
    · exact W.putK G.1 G.2.1 (f := fd) ⟨hown, hts _ hl, ⟨_, _, _, fsm_same hts hs _ hi⟩, hst⟩ (by rw [r2]; exact h6) r1 r3 hlt rfl rfl d fin
    · exact va_WputK G.1 G.2.1 (f := fd) hown (va_Nw.use rfl (G.2.2.2.2.2.2.2.1.2.1 _ hl rfl)) (fsm_same hts hs _ hi) hst (by rw [r2]; exact h6) r1 r3 hlt rfl rfl d fin
  · have hlay := hts _ (g2 _ (u_in_lay hf))
    unfold u_lay at hlay
    rw [if_pos hfin] at hlay
    have hcf : m.cls = cf := by
      obtain ⟨_, _, c', _, _, _, -, -, hf', -, -, -, hown2, -⟩ := Cond.laysFinal_spec hlay
      have e1 : c' = cf := by have := hi.symm.trans hf'; simp at this; exact this.1.symm
      rw [hdecl] at hown2
      rw [← e1]; exact Option.some.inj (hown.symm.trans hown2)
    have h6 := u_fits hfc hkC hkind (Or.inr hlay) hi (g3 f hf) hn hfit
    exact W.putFinK G.1 G.2.1 hown (hts _ hl2) (fsm_same hts hs _ hi) hst hcf (G.2.2.2.2.2.2.2.2.2.2.2.trans hin2) (by rw [r2]; exact h6) r1 r3 hlt rfl rfl d fin
theorem aw_putJ (G : Gd Γ yy cc nL ret hh) {f : Nat} {x : Int64} (hF : FP yy.cls yy.name index f 1 (C q).1) (d : decode cc pc = .ok (.putfield index, 3)) (h : AW Γ k n C I (va_up J q (va_up (J q) f x)) R (pc + 3) lv st) : AW Γ k n C I J R pc lv (aJ x :: aR (some q) :: st) := by
  obtain ⟨⟨p, l, e, Rm, s, m, args, below, meth, c⟩, z, K⟩ := Γ
  intro ad H locs ls a1 a2 a3 a4
  have hq := okv_some (ok_h (ok_t a4))
  obtain ⟨ci, Cn, ref, T, N, g0, ⟨g1, g2, g3, g4⟩, hf, hl, hs, g5, g6, hci, hfin⟩ := hF
  have hwr : wr (C q).1 := ⟨hq, by omega⟩
  obtain ⟨-, b1, -⟩ := a1.1.2.2 q hq
  obtain ⟨x0, V, b2, b3, b4⟩ := b1 (by omega)
  rw [g0, Nat.add_sub_cancel] at b2 b3 b4
  cases Option.some.inj (b2.symm.trans g1)
  have hKK := G.2.2.2.2.2.2.2.1.1
  have hts := G.2.2.2.1
  have hown := G.2.2.2.2.1
  have hap := va_apart (own := yy.cls) hts g2 (cty ci) g3 g4 hKK g1
  obtain ⟨cell, r1, r2, r3, r4⟩ := b3
  obtain ⟨hS, hfc, kC, hkC, hkind⟩ := hKK.1 ci _ g1
  obtain ⟨cf, kf, fi, fd, hi, hsl⟩ := hS f hf
  have hst := (u_facts hfc hkC (u_lays hts g2 hf) hi).1
  have hn : narrow (cty ci f) (cv ad (aJ x)) = cv ad (aJ x) := by cases hty : cty ci f <;> rw [hty] at g6 <;> first | rfl | cases g6
  have hfit : fits (cty ci f) (cv ad (aJ x)) = true := by cases hty : cty ci f <;> rw [hty] at g6 <;> first | rfl | cases g6
  have hlt : fd.slot < cell.slots.size := by rw [hsl]; exact k2_hasslot (r4 f hf)
  have fin : ∀ (H' : Heap), H'[ad q]? = some (cell.setSlot fd.slot (cv ad (aJ x))) → H'.size = H.size → (∀ a, a ≠ ad q → H'[a]? = H[a]?) → W p l e Rm s m args below meth c H' (locs ++ [⟨ad q, fd.slot⟩]) k n (vx_MQ below (AQc z K s.heap.size) (AXC z K s.heap.size) args s Rm.cells Rm.slots (fA z.2.2.1 z.2.2.2.1 s.heap.size)) (F0 m (pc + 3) ls (st.map (cv ad))) := by
    intro H' e1 e2 e3
    refine h ad H' _ ls (a1.put hwr e2 e3 (fun m hm => rfl) (fun m hm => va_up_ne _ _ hm) (fun m hm => rfl) (fun i w hw => a1.1.2.1 q i w hq hw) ?_) a2 a3 (ok_t (ok_t a4))
    refine ⟨by rw [e2]; exact a1.1.lt hq, fun _ => ⟨_, updV V f (cv ad (aJ x)), by rw [g0, Nat.add_sub_cancel]; exact g1, ?_, fun f' hf' ho => ?_⟩, fun z1 _ => by omega, fun z1 _ => by omega, fun z1 => by omega⟩
    · rw [g0, Nat.add_sub_cancel]
      rw [hsl] at e1
      exact ⟨_, e1, r2, r3, t_set r4 hap hf _⟩
    · rw [g0, Nat.add_sub_cancel] at ho ⊢
      by_cases hff : f' = f
      · subst hff
        rw [fval_J g6]
        simp [updV, va_up, cv]
      · rw [show updV V f (cv ad (aJ x)) f' = V f' by simp [updV, hff], b4 f' hf' ho]
        simp [va_up, hff]
  rcases hfin with hfin | ⟨hfin, hin2, hdecl, hl2⟩
  · have hlay := hts _ (g2 _ (u_in_lay hf))
    unfold u_lay at hlay
    rw [if_neg (by rw [hfin]; decide)] at hlay
    have h6 := u_store hfc hkC hkind hlay hi (g3 f hf) hn hfit
    rcases hl with hl | ⟨host, hl⟩
    · exact W.putK G.1 G.2.1 (f := fd) ⟨hown, hts _ hl, ⟨_, _, _, fsm_same hts hs _ hi⟩, hst⟩ (by rw [r2]; exact h6) r1 r3 hlt rfl rfl d fin
    · exact va_WputK G.1 G.2.1 (f := fd) hown (va_Nw.use rfl (G.2.2.2.2.2.2.2.1.2.1 _ hl rfl)) (fsm_same hts hs _ hi) hst (by rw [r2]; exact h6) r1 r3 hlt rfl rfl d fin
  · have hlay := hts _ (g2 _ (u_in_lay hf))
    unfold u_lay at hlay
    rw [if_pos hfin] at hlay
    have hcf : m.cls = cf := by
      obtain ⟨_, _, c', _, _, _, -, -, hf', -, -, -, hown2, -⟩ := Cond.laysFinal_spec hlay
      have e1 : c' = cf := by have := hi.symm.trans hf'; simp at this; exact this.1.symm
      rw [hdecl] at hown2
      rw [← e1]; exact Option.some.inj (hown.symm.trans hown2)
    have h6 := u_fits hfc hkC hkind (Or.inr hlay) hi (g3 f hf) hn hfit
    exact W.putFinK G.1 G.2.1 hown (hts _ hl2) (fsm_same hts hs _ hi) hst hcf (G.2.2.2.2.2.2.2.2.2.2.2.trans hin2) (by rw [r2]; exact h6) r1 r3 hlt rfl rfl d fin
theorem aw_putR (G : Gd Γ yy cc nL ret hh) {f : Nat} {x : Option Nat} (hF : FP yy.cls yy.name index f 2 (C q).1) (d : decode cc pc = .ok (.putfield index, 3)) (h : AW Γ k n C I J (va_up R q (va_up (R q) f x)) (pc + 3) lv st) : AW Γ k n C I J R pc lv (aR x :: aR (some q) :: st) := by
  obtain ⟨⟨p, l, e, Rm, s, m, args, below, meth, c⟩, z, K⟩ := Γ
  intro ad H locs ls a1 a2 a3 a4
  have hq := okv_some (ok_h (ok_t a4))
  obtain ⟨ci, Cn, ref, T, N, g0, ⟨g1, g2, g3, g4⟩, hf, hl, hs, g5, g6, hci, hfin⟩ := hF
  have hwr : wr (C q).1 := ⟨hq, by omega⟩
  obtain ⟨-, b1, -⟩ := a1.1.2.2 q hq
  obtain ⟨x0, V, b2, b3, b4⟩ := b1 (by omega)
  rw [g0, Nat.add_sub_cancel] at b2 b3 b4
  cases Option.some.inj (b2.symm.trans g1)
  have hKK := G.2.2.2.2.2.2.2.1.1
  have hts := G.2.2.2.1
  have hown := G.2.2.2.2.1
  have hap := va_apart (own := yy.cls) hts g2 (cty ci) g3 g4 hKK g1
  obtain ⟨cell, r1, r2, r3, r4⟩ := b3
  obtain ⟨hS, hfc, kC, hkC, hkind⟩ := hKK.1 ci _ g1
  obtain ⟨cf, kf, fi, fd, hi, hsl⟩ := hS f hf
  have hst := (u_facts hfc hkC (u_lays hts g2 hf) hi).1
  have hn : narrow (cty ci f) (cv ad (aR x)) = cv ad (aR x) := by cases hty : cty ci f <;> rw [hty] at g6 <;> first | (cases x <;> rfl) | cases g6
  have hfit : fits (cty ci f) (cv ad (aR x)) = true := by cases hty : cty ci f <;> rw [hty] at g6 <;> first | (cases x <;> rfl) | cases g6
  have hlt : fd.slot < cell.slots.size := by rw [hsl]; exact k2_hasslot (r4 f hf)
  have fin : ∀ (H' : Heap), H'[ad q]? = some (cell.setSlot fd.slot (cv ad (aR x))) → H'.size = H.size → (∀ a, a ≠ ad q → H'[a]? = H[a]?) → W p l e Rm s m args below meth c H' (locs ++ [⟨ad q, fd.slot⟩]) k n (vx_MQ below (AQc z K s.heap.size) (AXC z K s.heap.size) args s Rm.cells Rm.slots (fA z.2.2.1 z.2.2.2.1 s.heap.size)) (F0 m (pc + 3) ls (st.map (cv ad))) := by
    intro H' e1 e2 e3
    refine h ad H' _ ls (a1.put hwr e2 e3 (fun m hm => rfl) (fun m hm => rfl) (fun m hm => va_up_ne _ _ hm) (fun i w hw => by
      rw [va_up_self] at hw
      by_cases hi : i = f
      · rw [hi, va_up_self] at hw
        exact ok_h a4 w (by rw [hw])
      · rw [va_up_ne _ _ hi] at hw
        exact a1.1.2.1 q i w hq hw) ?_) a2 a3 (ok_t (ok_t a4))
    refine ⟨by rw [e2]; exact a1.1.lt hq, fun _ => ⟨_, updV V f (cv ad (aR x)), by rw [g0, Nat.add_sub_cancel]; exact g1, ?_, fun f' hf' ho => ?_⟩, fun z1 _ => by omega, fun z1 _ => by omega, fun z1 => by omega⟩
    · rw [g0, Nat.add_sub_cancel]
      rw [hsl] at e1
      exact ⟨_, e1, r2, r3, t_set r4 hap hf _⟩
    · rw [g0, Nat.add_sub_cancel] at ho ⊢
      by_cases hff : f' = f
      · subst hff
        rw [fval_R g6]
        simp [updV, va_up, cv]
      · rw [show updV V f (cv ad (aR x)) f' = V f' by simp [updV, hff], b4 f' hf' ho]
        simp [va_up, hff]
  rcases hfin with hfin | ⟨hfin, hin2, hdecl, hl2⟩
  · have hlay := hts _ (g2 _ (u_in_lay hf))
    unfold u_lay at hlay
    rw [if_neg (by rw [hfin]; decide)] at hlay
    have h6 := u_store hfc hkC hkind hlay hi (g3 f hf) hn hfit
    rcases hl with hl | ⟨host, hl⟩
    · exact W.putK G.1 G.2.1 (f := fd) ⟨hown, hts _ hl, ⟨_, _, _, fsm_same hts hs _ hi⟩, hst⟩ (by rw [r2]; exact h6) r1 r3 hlt rfl rfl d fin
    · exact va_WputK G.1 G.2.1 (f := fd) hown (va_Nw.use rfl (G.2.2.2.2.2.2.2.1.2.1 _ hl rfl)) (fsm_same hts hs _ hi) hst (by rw [r2]; exact h6) r1 r3 hlt rfl rfl d fin
  · have hlay := hts _ (g2 _ (u_in_lay hf))
    unfold u_lay at hlay
    rw [if_pos hfin] at hlay
    have hcf : m.cls = cf := by
      obtain ⟨_, _, c', _, _, _, -, -, hf', -, -, -, hown2, -⟩ := Cond.laysFinal_spec hlay
      have e1 : c' = cf := by have := hi.symm.trans hf'; simp at this; exact this.1.symm
      rw [hdecl] at hown2
      rw [← e1]; exact Option.some.inj (hown.symm.trans hown2)
    have h6 := u_fits hfc hkC hkind (Or.inr hlay) hi (g3 f hf) hn hfit
    exact W.putFinK G.1 G.2.1 hown (hts _ hl2) (fsm_same hts hs _ hi) hst hcf (G.2.2.2.2.2.2.2.2.2.2.2.trans hin2) (by rw [r2]; exact h6) r1 r3 hlt rfl rfl d fin
theorem rp_arr {D : va_G} {dA : Nat → ClassId} {U : State} {H : Heap} {ad : Nat → Nat} (h : Rp D dA U H ad C I J R) (h1 : 20 ≤ (C q).1) (h2 : (C q).1 < 30) : H[ad q]? = some (arrV (dA (C q).1) (C q).2 (fun x => fval (ety (C q).1) ad (I q x) (J q x) (R q x))) := (h.2.2 q (by omega)).2.2.2.1 h1 h2
theorem kn_arr {D : va_G} {dA : Nat → ClassId} {U : State} (h : Kn D dA U) {x : Nat} (h1 : 20 ≤ x) (h2 : x < 30) : ArrOfT U (dA x) (ety x) ∧ va_RA U (dA x) (ety x) := h.1.2 _ _ (arTys_at dA h1 h2)
theorem aw_lald (G : Gd Γ yy cc nL ret hh) {i : Int32} (hk : (C q).1 = 21) (hin : vp_in i (C q).2) (d : decode cc pc = .ok (.laload, 1)) (h : AW Γ k n C I J R (pc + 1) lv (aJ (J q i.toNatClampNeg) :: st)) : AW Γ k n C I J R pc lv (aI i :: aR (some q) :: st) := by
  obtain ⟨⟨p, l, e, Rm, s, m, args, below, meth, c⟩, z, K⟩ := Γ
  intro ad H locs ls a1 a2 a3 a4
  have hlt : i.toNatClampNeg < (C q).2 := Nat.not_le.mp fun w => hin (Or.inr w)
  have b1 := rp_arr (q := q) a1.1 (by omega) (by omega)
  have hK := (kn_arr G.2.2.2.2.2.2.2.1 (x := 21) (by omega) (by omega)).1
  rw [hk] at b1
  exact W.lald (v := .long (J q i.toNatClampNeg)) G.1 G.2.1 b1 (hK _ _) (fun w => by cases w) (by rw [arrV_size]; exact hin) (by rw [arrV_read _ _ hlt]; rfl) rfl rfl d (h ad H locs ls a1 a2 a3 (ok_c (okv_J _) (ok_t (ok_t a4))))
theorem aw_bald (G : Gd Γ yy cc nL ret hh) {i : Int32} (hk : (C q).1 = 22) (hin : vp_in i (C q).2) (d : decode cc pc = .ok (.baload, 1)) (h : AW Γ k n C I J R (pc + 1) lv (aI (I q i.toNatClampNeg) :: st)) : AW Γ k n C I J R pc lv (aI i :: aR (some q) :: st) := by
  obtain ⟨⟨p, l, e, Rm, s, m, args, below, meth, c⟩, z, K⟩ := Γ
  intro ad H locs ls a1 a2 a3 a4
  have hlt : i.toNatClampNeg < (C q).2 := Nat.not_le.mp fun w => hin (Or.inr w)
  have b1 := rp_arr (q := q) a1.1 (by omega) (by omega)
  have hK := (kn_arr G.2.2.2.2.2.2.2.1 (x := 22) (by omega) (by omega)).1
  rw [hk] at b1
  exact W.bald (v := .int (I q i.toNatClampNeg)) G.1 G.2.1 b1 (hK _ _) (fun w => by cases w) (by rw [arrV_size]; exact hin) (by rw [arrV_read _ _ hlt]; rfl) rfl rfl d (h ad H locs ls a1 a2 a3 (ok_c (okv_I _) (ok_t (ok_t a4))))
theorem aw_sald (G : Gd Γ yy cc nL ret hh) {i : Int32} (hk : (C q).1 = 23) (hin : vp_in i (C q).2) (d : decode cc pc = .ok (.saload, 1)) (h : AW Γ k n C I J R (pc + 1) lv (aI (I q i.toNatClampNeg) :: st)) : AW Γ k n C I J R pc lv (aI i :: aR (some q) :: st) := by
  obtain ⟨⟨p, l, e, Rm, s, m, args, below, meth, c⟩, z, K⟩ := Γ
  intro ad H locs ls a1 a2 a3 a4
  have hlt : i.toNatClampNeg < (C q).2 := Nat.not_le.mp fun w => hin (Or.inr w)
  have b1 := rp_arr (q := q) a1.1 (by omega) (by omega)
  have hK := (kn_arr G.2.2.2.2.2.2.2.1 (x := 23) (by omega) (by omega)).1
  rw [hk] at b1
  exact W.sald (v := .int (I q i.toNatClampNeg)) G.1 G.2.1 b1 (hK _ _) (fun w => by cases w) (by rw [arrV_size]; exact hin) (by rw [arrV_read _ _ hlt]; rfl) rfl rfl d (h ad H locs ls a1 a2 a3 (ok_c (okv_I _) (ok_t (ok_t a4))))
theorem aw_zald (G : Gd Γ yy cc nL ret hh) {i : Int32} (hk : (C q).1 = 24) (hin : vp_in i (C q).2) (d : decode cc pc = .ok (.baload, 1)) (h : AW Γ k n C I J R (pc + 1) lv (aI (I q i.toNatClampNeg) :: st)) : AW Γ k n C I J R pc lv (aI i :: aR (some q) :: st) := by
  obtain ⟨⟨p, l, e, Rm, s, m, args, below, meth, c⟩, z, K⟩ := Γ
  intro ad H locs ls a1 a2 a3 a4
  have hlt : i.toNatClampNeg < (C q).2 := Nat.not_le.mp fun w => hin (Or.inr w)
  have b1 := rp_arr (q := q) a1.1 (by omega) (by omega)
  have hK := (kn_arr G.2.2.2.2.2.2.2.1 (x := 24) (by omega) (by omega)).1
  rw [hk] at b1
  exact W.zald (v := .int (I q i.toNatClampNeg)) G.1 G.2.1 b1 (hK _ _) (fun w => by cases w) (by rw [arrV_size]; exact hin) (by rw [arrV_read _ _ hlt]; rfl) rfl rfl d (h ad H locs ls a1 a2 a3 (ok_c (okv_I _) (ok_t (ok_t a4))))
theorem aw_iald0 (G : Gd Γ yy cc nL ret hh) {i : Int32} (hk : (C q).1 = 20) (hin : vp_in i (C q).2) (d : decode cc pc = .ok (.iaload, 1)) (h : AW Γ k n C I J R (pc + 1) lv (aI (I q i.toNatClampNeg) :: st)) : AW Γ k n C I J R pc lv (aI i :: aR (some q) :: st) := by
  obtain ⟨⟨p, l, e, Rm, s, m, args, below, meth, c⟩, z, K⟩ := Γ
  intro ad H locs ls a1 a2 a3 a4
  have hlt : i.toNatClampNeg < (C q).2 := Nat.not_le.mp fun w => hin (Or.inr w)
  have b1 := rp_arr (q := q) a1.1 (by omega) (by omega)
  have hK := (kn_arr G.2.2.2.2.2.2.2.1 (x := 20) (by omega) (by omega)).1
  rw [hk] at b1
  exact W.iald (v := .int (I q i.toNatClampNeg)) G.1 G.2.1 b1 (hK _ _) (fun w => by cases w) (by rw [arrV_size]; exact hin) (by rw [arrV_read _ _ hlt]; rfl) rfl rfl d (h ad H locs ls a1 a2 a3 (ok_c (okv_I _) (ok_t (ok_t a4))))
theorem aw_iald (G : Gd Γ yy cc nL ret hh) {i : Int32} (hk : (C q).1 = 20 ∨ (C q).1 = 30) (hin : vp_in i (C q).2) (d : decode cc pc = .ok (.iaload, 1)) (h : AW Γ k n C I J R (pc + 1) lv (aI (I q i.toNatClampNeg) :: st)) : AW Γ k n C I J R pc lv (aI i :: aR (some q) :: st) := by
  rcases hk with hk | hk
  · exact aw_iald0 G hk hin d h
  · obtain ⟨⟨p, l, e, Rm, s, m, args, below, meth, c⟩, z, K⟩ := Γ
    intro ad H locs ls a1 a2 a3 a4
    obtain ⟨scr, h1, h2, h3, h4, h5⟩ := (a1.1.2.2 q (by omega)).2.2.2.2 hk
    have hlt : i.toNatClampNeg < (C q).2 := Nat.not_le.mp fun w => hin (Or.inr w)
    exact W.iald (v := .int (I q i.toNatClampNeg)) G.1 G.2.1 h1 h2 h3 (by rw [h4]; exact hin) (h5 _ hlt) rfl rfl d (h ad H locs ls a1 a2 a3 (ok_c (okv_I _) (ok_t (ok_t a4))))
theorem aw_aald (G : Gd Γ yy cc nL ret hh) {i : Int32} (hk : 25 ≤ (C q).1 ∧ (C q).1 < 30) (hin : vp_in i (C q).2) (d : decode cc pc = .ok (.aaload, 1)) (h : AW Γ k n C I J R (pc + 1) lv (aR (R q i.toNatClampNeg) :: st)) : AW Γ k n C I J R pc lv (aI i :: aR (some q) :: st) := by
  obtain ⟨⟨p, l, e, Rm, s, m, args, below, meth, c⟩, z, K⟩ := Γ
  intro ad H locs ls a1 a2 a3 a4
  have hlt : i.toNatClampNeg < (C q).2 := Nat.not_le.mp fun w => hin (Or.inr w)
  have b1 := rp_arr (q := q) a1.1 (by omega) (by omega)
  have hK := (kn_arr G.2.2.2.2.2.2.2.1 (x := (C q).1) (by omega) (by omega)).1
  have hr : (ety (C q).1).isReference = true ∧ tcd (ety (C q).1) = 2 := by
    have h0 : (C q).1 = 25 ∨ (C q).1 = 26 ∨ (C q).1 = 27 ∨ (C q).1 = 28 ∨ (C q).1 = 29 := by omega
    rcases h0 with h0 | h0 | h0 | h0 | h0 <;> rw [h0] <;> exact ⟨rfl, rfl⟩
  exact W.aald (v := cv ad (aR (R q i.toNatClampNeg))) (ty := ety (C q).1) G.1 G.2.1 b1 (hK _ _) hr.1 (fun w => by cases w) (by rw [arrV_size]; exact hin) (by rw [arrV_read _ _ hlt, fval_R hr.2]) rfl rfl d (h ad H locs ls a1 a2 a3 (ok_c (a1.1.okR (by omega) _) (ok_t (ok_t a4))))
theorem aw_alen (G : Gd Γ yy cc nL ret hh) {v : Int32} (hk : 20 ≤ (C q).1 ∧ (C q).1 ≤ 30) (hv : Int32.ofNat (C q).2 = v) (d : decode cc pc = .ok (.arraylength, 1)) (h : AW Γ k n C I J R (pc + 1) lv (aI v :: st)) : AW Γ k n C I J R pc lv (aR (some q) :: st) := by
  obtain ⟨⟨p, l, e, Rm, s, m, args, below, meth, c⟩, z, K⟩ := Γ
  intro ad H locs ls a1 a2 a3 a4
  have hw := h ad H locs ls a1 a2 a3 (ok_c (okv_I _) (ok_t a4))
  by_cases hk2 : (C q).1 = 30
  · obtain ⟨scr, h1, h2, h3, h4, h5⟩ := (a1.1.2.2 q (by omega)).2.2.2.2 hk2
    exact W.alen (n := v) G.1 G.2.1 h1 h2 (by rw [h4]; exact hv) rfl rfl d hw
  · have b1 := rp_arr (q := q) a1.1 (by omega) (by omega)
    have hK := (kn_arr G.2.2.2.2.2.2.2.1 (x := (C q).1) (by omega) (by omega)).1
    exact W.alen (n := v) G.1 G.2.1 b1 (hK _ _) (by rw [arrV_size]; exact hv) rfl rfl d hw
theorem aw_iast (G : Gd Γ yy cc nL ret hh) {i : Int32} {x : Int32} (hk : (C q).1 = 20) (hin : vp_in i (C q).2) (d : decode cc pc = .ok (.iastore, 1)) (h : AW Γ k n C (va_up I q (va_up (I q) i.toNatClampNeg x)) J R (pc + 1) lv st) : AW Γ k n C I J R pc lv (aI x :: aI i :: aR (some q) :: st) := by
  obtain ⟨⟨p, l, e, Rm, s, m, args, below, meth, c⟩, z, K⟩ := Γ
  intro ad H locs ls a1 a2 a3 a4
  have hq : (C q).1 ≠ 0 := by omega
  have b1 := rp_arr (q := q) a1.1 (by omega) (by omega)
  have hK := (kn_arr G.2.2.2.2.2.2.2.1 (x := 20) (by omega) (by omega)).1
  rw [hk] at b1
  refine W.iast G.1 G.2.1 b1 (hK _ _) (fun w => by cases w) (by rw [arrV_size]; exact hin) rfl rfl d (fun H' e1 e2 e3 => ?_)
  refine h ad H' _ ls (a1.put ⟨hq, by omega⟩ e2 e3 (fun m hm => va_up_ne _ _ hm) (fun m hm => rfl) (fun m hm => rfl) (fun i w hw => a1.1.2.1 q i w hq hw) ?_) a2 a3 (ok_t (ok_t (ok_t a4)))
  refine ⟨by rw [e2]; exact a1.1.lt hq, fun z1 => by omega, fun _ z1 => by omega, fun _ _ => ?_, fun z1 => by omega⟩
  rw [e1, arrV_store, hk]
  congr 2
  funext y
  by_cases hy : y = i.toNatClampNeg
  · subst hy
    simp [updV, va_up, fval, ety]
  · simp [updV, va_up, hy]
theorem aw_last (G : Gd Γ yy cc nL ret hh) {i : Int32} {x : Int64} (hk : (C q).1 = 21) (hin : vp_in i (C q).2) (d : decode cc pc = .ok (.lastore, 1)) (h : AW Γ k n C I (va_up J q (va_up (J q) i.toNatClampNeg x)) R (pc + 1) lv st) : AW Γ k n C I J R pc lv (aJ x :: aI i :: aR (some q) :: st) := by
  obtain ⟨⟨p, l, e, Rm, s, m, args, below, meth, c⟩, z, K⟩ := Γ
  intro ad H locs ls a1 a2 a3 a4
  have hq : (C q).1 ≠ 0 := by omega
  have b1 := rp_arr (q := q) a1.1 (by omega) (by omega)
  have hK := (kn_arr G.2.2.2.2.2.2.2.1 (x := 21) (by omega) (by omega)).1
  rw [hk] at b1
  refine W.last G.1 G.2.1 b1 (hK _ _) (fun w => by cases w) (by rw [arrV_size]; exact hin) rfl rfl d (fun H' e1 e2 e3 => ?_)
  refine h ad H' _ ls (a1.put ⟨hq, by omega⟩ e2 e3 (fun m hm => rfl) (fun m hm => va_up_ne _ _ hm) (fun m hm => rfl) (fun i w hw => a1.1.2.1 q i w hq hw) ?_) a2 a3 (ok_t (ok_t (ok_t a4)))
  refine ⟨by rw [e2]; exact a1.1.lt hq, fun z1 => by omega, fun _ z1 => by omega, fun _ _ => ?_, fun z1 => by omega⟩
  rw [e1, arrV_store, hk]
  congr 2
  funext y
  by_cases hy : y = i.toNatClampNeg
  · subst hy
    simp [updV, va_up, fval, ety]
  · simp [updV, va_up, hy]
theorem aw_bast (G : Gd Γ yy cc nL ret hh) {i : Int32} {x : Int32} (hk : (C q).1 = 22) (hin : vp_in i (C q).2) (d : decode cc pc = .ok (.bastore, 1)) (h : AW Γ k n C (va_up I q (va_up (I q) i.toNatClampNeg x.toInt8.toInt32)) J R (pc + 1) lv st) : AW Γ k n C I J R pc lv (aI x :: aI i :: aR (some q) :: st) := by
  obtain ⟨⟨p, l, e, Rm, s, m, args, below, meth, c⟩, z, K⟩ := Γ
  intro ad H locs ls a1 a2 a3 a4
  have hq : (C q).1 ≠ 0 := by omega
  have b1 := rp_arr (q := q) a1.1 (by omega) (by omega)
  have hK := (kn_arr G.2.2.2.2.2.2.2.1 (x := 22) (by omega) (by omega)).1
  rw [hk] at b1
  refine W.bast G.1 G.2.1 b1 (hK _ _) (fun w => by cases w) (by rw [arrV_size]; exact hin) rfl rfl d (fun H' e1 e2 e3 => ?_)
  refine h ad H' _ ls (a1.put ⟨hq, by omega⟩ e2 e3 (fun m hm => va_up_ne _ _ hm) (fun m hm => rfl) (fun m hm => rfl) (fun i w hw => a1.1.2.1 q i w hq hw) ?_) a2 a3 (ok_t (ok_t (ok_t a4)))
  refine ⟨by rw [e2]; exact a1.1.lt hq, fun z1 => by omega, fun _ z1 => by omega, fun _ _ => ?_, fun z1 => by omega⟩
  rw [e1, arrV_store, hk]
  congr 2
  funext y
  by_cases hy : y = i.toNatClampNeg
  · subst hy
    simp [updV, va_up, fval, ety]
    rfl
  · simp [updV, va_up, hy]
theorem aw_sast (G : Gd Γ yy cc nL ret hh) {i : Int32} {x : Int32} (hk : (C q).1 = 23) (hin : vp_in i (C q).2) (d : decode cc pc = .ok (.sastore, 1)) (h : AW Γ k n C (va_up I q (va_up (I q) i.toNatClampNeg x.toInt16.toInt32)) J R (pc + 1) lv st) : AW Γ k n C I J R pc lv (aI x :: aI i :: aR (some q) :: st) := by
  obtain ⟨⟨p, l, e, Rm, s, m, args, below, meth, c⟩, z, K⟩ := Γ
  intro ad H locs ls a1 a2 a3 a4
  have hq : (C q).1 ≠ 0 := by omega
  have b1 := rp_arr (q := q) a1.1 (by omega) (by omega)
  have hK := (kn_arr G.2.2.2.2.2.2.2.1 (x := 23) (by omega) (by omega)).1
  rw [hk] at b1
  refine W.sast G.1 G.2.1 b1 (hK _ _) (fun w => by cases w) (by rw [arrV_size]; exact hin) rfl rfl d (fun H' e1 e2 e3 => ?_)
  refine h ad H' _ ls (a1.put ⟨hq, by omega⟩ e2 e3 (fun m hm => va_up_ne _ _ hm) (fun m hm => rfl) (fun m hm => rfl) (fun i w hw => a1.1.2.1 q i w hq hw) ?_) a2 a3 (ok_t (ok_t (ok_t a4)))
  refine ⟨by rw [e2]; exact a1.1.lt hq, fun z1 => by omega, fun _ z1 => by omega, fun _ _ => ?_, fun z1 => by omega⟩
  rw [e1, arrV_store, hk]
  congr 2
  funext y
  by_cases hy : y = i.toNatClampNeg
  · subst hy
    simp [updV, va_up, fval, ety]
    rfl
  · simp [updV, va_up, hy]
theorem aw_zast (G : Gd Γ yy cc nL ret hh) {i : Int32} {x : Int32} (hk : (C q).1 = 24) (hin : vp_in i (C q).2) (hx : x = 0 ∨ x = 1) (d : decode cc pc = .ok (.bastore, 1)) (h : AW Γ k n C (va_up I q (va_up (I q) i.toNatClampNeg x)) J R (pc + 1) lv st) : AW Γ k n C I J R pc lv (aI x :: aI i :: aR (some q) :: st) := by
  obtain ⟨⟨p, l, e, Rm, s, m, args, below, meth, c⟩, z, K⟩ := Γ
  intro ad H locs ls a1 a2 a3 a4
  have hq : (C q).1 ≠ 0 := by omega
  have b1 := rp_arr (q := q) a1.1 (by omega) (by omega)
  have hK := (kn_arr G.2.2.2.2.2.2.2.1 (x := 24) (by omega) (by omega)).1
  rw [hk] at b1
  refine W.zast G.1 G.2.1 b1 (hK _ _) (fun w => by cases w) (by rw [arrV_size]; exact hin) rfl rfl d (fun H' e1 e2 e3 => ?_)
  refine h ad H' _ ls (a1.put ⟨hq, by omega⟩ e2 e3 (fun m hm => va_up_ne _ _ hm) (fun m hm => rfl) (fun m hm => rfl) (fun i w hw => a1.1.2.1 q i w hq hw) ?_) a2 a3 (ok_t (ok_t (ok_t a4)))
  refine ⟨by rw [e2]; exact a1.1.lt hq, fun z1 => by omega, fun _ z1 => by omega, fun _ _ => ?_, fun z1 => by omega⟩
  rw [e1, arrV_store, hk]
  congr 2
  funext y
  by_cases hy : y = i.toNatClampNeg
  · subst hy
    simp [updV, va_up, fval, ety]
    rcases hx with rfl | rfl <;> rfl
  · simp [updV, va_up, hy]
end AWH
