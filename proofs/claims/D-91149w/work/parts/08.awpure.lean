/-! THE ABSTRACT LAYER 2: a method's context, the judgement AW, rows of stack, locals and branches (printed by gen/mkpure.py) -/
set_option maxRecDepth 100000
abbrev Cx : Type := Program × Launch × Env × Room × State × MethodId × Array Value × List Frame × Method × Code
abbrev AK : Type := (Option AV ⊕ Nat) → MC → MI → MJ → MR → Prop
/-- classes' numbers, array classes, the names' addresses at the start, their kinds, their references, and the bounds of what is made: cells and slots on a return, on a throw -/
abbrev Zd : Type := va_G × (Nat → ClassId) × (Nat → Nat) × MC × MR × (Nat × Nat × Nat × Nat)
abbrev Gm : Type := Cx × Zd × AK
def kb (w : Cond) : Bool := match w with
  | .fieldLinkNest .. => true
  | .methodLinkNest .. => true
  | .castable .. => true
  | .declares .. => true
  | .arrayOver _ => true
  | _ => false
def noC : List (String × String) := [("TickShare$Row", "TickShare$Leaf"), ("TickShare$Fan", "TickShare$Leaf"), ("TickShare$Cache", "TickShare$Leaf"), ("TickShare$Retry", "TickShare$Leaf"), ("TickShare$Hedge", "TickShare$Leaf"), ("[S", "[B"), ("[I", "[B"), ("[J", "[B"), ("[I", "[S"), ("[J", "[S"), ("[J", "[I"), ("TickShare$TooGreat", "TickShare$Refused"), ("TickShare$Refused", "java/lang/NegativeArraySizeException"), ("TickShare$Refused", "java/lang/ArrayIndexOutOfBoundsException")]
def Kn (D : va_G) (dA : Nat → ClassId) (U : State) : Prop := va_K D clTab (arTys dA) U ∧ (∀ w ∈ lw_tbl, kb w = true → va_Nw w U) ∧ ∀ q ∈ noC, va_Nc q.1 q.2 U
theorem aOv_warm {t : FieldType} {s U : State} (hW : s.WarmedH U.vm) (h : va_Nw (.arrayOver t) s) : va_Nw (.arrayOver t) U := by
  have h1 : (Cond.arrayOver t).before #[] (s.setVm U.vm) = true := by rw [Cond.arrayOver_setVmC hW.alike]; exact h
  exact h1
theorem Kn.warm {D : va_G} {dA : Nat → ClassId} {s U : State} (hW : s.WarmedH U.vm) (h : Kn D dA s) : Kn D dA U := by
  refine ⟨h.1.moved hW.alike, fun w hw hb => ?_, fun q hq => (h.2.2 q hq).moved hW.alike⟩
  have h1 := h.2.1 w hw hb
  unfold kb at hb
  split at hb
  · exact va_Nw.warmF hW h1
  · exact va_Nw.warmM hW h1
  · exact va_Nw.warmC hW h1
  · exact va_Nw.warmD hW h1
  · exact aOv_warm hW h1
  · cases hb
def Zst (A : Nat → Prop) (U : State) (H : Heap) : Prop := vx_Zq Bundle.tN "UNASSIGNED_STACK" Bundle.steD A U H ∧ vx_Zq Bundle.tN "SUPPRESSED_SENTINEL" Bundle.listD A U H
/-- kinds whose cells may be written: all but the script's -/
def wr (k : Nat) : Prop := k ≠ 0 ∧ k ≠ 30
def fA (ad : Nat → Nat) (C : MC) (sz : Nat) : Nat → Prop := fun q => (∃ n, wr (C n).1 ∧ q = ad n) ∨ sz ≤ q
def persist (ad0 : Nat → Nat) (C0 : MC) (ad : Nat → Nat) (C : MC) : Prop := ∀ q, (C0 q).1 ≠ 0 → ad q = ad0 q ∧ C q = C0 q
def AQc (z : Zd) (K : AK) (sz : Nat) : Array Value → State → Outcome → State → Prop := fun _ st o t =>
  ∃ (v : Option AV) (ad : Nat → Nat) (C : MC) (I : MI) (J : MJ) (R : MR), o = .returned (v.map (cv ad)) ∧ Rp z.1 z.2.1 t t.heap ad C I J R ∧ persist z.2.2.1 z.2.2.2.1 ad C ∧ (∀ q, wr (C q).1 → fA z.2.2.1 z.2.2.2.1 sz (ad q)) ∧ (∀ w, v = some w → okv C w) ∧
    K (.inl v) C I J R ∧ va_F (fA z.2.2.1 z.2.2.2.1 sz) st t ∧ ∃ L, st.sameButNew ({ t with vm := st.vm } : State) L z.2.2.2.2.2.1 z.2.2.2.2.2.2.1
def AXC (z : Zd) (K : AK) (sz : Nat) : String → Addr → State → State → Prop := fun E q st t =>
  ∃ (n : Nat) (ad : Nat → Nat) (C : MC) (I : MI) (J : MJ) (R : MR), q = ad n ∧ (C n).1 ≠ 0 ∧ E = kname (C n).1 ∧ Rp z.1 z.2.1 t t.heap ad C I J R ∧ persist z.2.2.1 z.2.2.2.1 ad C ∧ (∀ q, wr (C q).1 → fA z.2.2.1 z.2.2.2.1 sz (ad q)) ∧
    K (.inr n) C I J R ∧ va_F (fA z.2.2.1 z.2.2.2.1 sz) st t ∧ ∃ L, st.sameButNew ({ t with vm := st.vm } : State) L z.2.2.2.2.2.2.2.1 z.2.2.2.2.2.2.2.2
/-- how the heap stands in a walk -/
def Sit (s : State) (z : Zd) (ad : Nat → Nat) (H : Heap) (locs : List Loc) (C : MC) (I : MI) (J : MJ) (R : MR) : Prop :=
  Rp z.1 z.2.1 s H ad C I J R ∧ persist z.2.2.1 z.2.2.2.1 ad C ∧ va_S (fA z.2.2.1 z.2.2.2.1 s.heap.size) s.heap H locs ∧ ∀ q, wr (C q).1 → fA z.2.2.1 z.2.2.2.1 s.heap.size (ad q)
def lvm (ad : Nat → Nat) (lv : List (Nat × AV)) : List (Nat × Value) := lv.map fun q => (q.1, cv ad q.2)
def AW (Γ : Gm) (k n : Nat) (C : MC) (I : MI) (J : MJ) (R : MR) (pc : Nat) (lv : List (Nat × AV)) (st : List AV) : Prop := match Γ with
  | ((p, l, e, Rm, s, m, args, below, meth, c), z, K) => ∀ (ad : Nat → Nat) (H : Heap) (locs : List Loc) (ls : Array Slot), Sit s z ad H locs C I J R → lv_has ls c.maxLocals (lvm ad lv) → (∀ q ∈ lv, okv C q.2) → (∀ v ∈ st, okv C v) →
    W p l e Rm s m args below meth c H locs k n (vx_MQ below (AQc z K s.heap.size) (AXC z K s.heap.size) args s Rm.cells Rm.slots (fA z.2.2.1 z.2.2.2.1 s.heap.size)) (F0 m pc ls (st.map (cv ad)))
/-- a name has been thrown at pc -/
def AX (Γ : Gm) (k n : Nat) (C : MC) (I : MI) (J : MJ) (R : MR) (pc : Nat) (lv : List (Nat × AV)) (q : Nat) : Prop := match Γ with
  | ((p, l, e, Rm, s, m, args, below, meth, c), z, K) => ∀ (ad : Nat → Nat) (H : Heap) (locs : List Loc) (ls : Array Slot) (rest : List Value), Sit s z ad H locs C I J R → lv_has ls c.maxLocals (lvm ad lv) → (∀ q ∈ lv, okv C q.2) → (C q).1 ≠ 0 →
    vx_W p l e Rm s m args below meth c H locs k n (vx_MQ below (AQc z K s.heap.size) (AXC z K s.heap.size) args s Rm.cells Rm.slots (fA z.2.2.1 z.2.2.2.1 s.heap.size)) (F0 m pc ls rest) (ad q)
/-- what is known of a method's context all through its walk -/
def Gd (Γ : Gm) (y : MethodName) (cc : ByteArray) (nL : Nat) (ret : Option FieldType) (hh : List (Nat × Nat × Nat × Nat)) : Prop := match Γ with
  | ((p, l, _, _, s, m, args, _, meth, c), z, _) => p.tables.exec = Jvm.exec ∧ c.code = cc ∧ c.maxLocals = nL ∧ (∀ w ∈ lw_all, w.before args s = true) ∧ s.vm.findClass y.cls = some m.cls ∧ meth.sig.returnType = ret ∧ meth.locks = false ∧
    Kn z.1 z.2.1 s ∧ Zst (fA z.2.2.1 z.2.2.2.1 s.heap.size) s s.heap ∧ l.stackTraces = false ∧ c.exceptionTable.toList = tableOf hh ∧ meth.name = y.name
def gR (Γ : Gm) : Room := Γ.1.2.2.2.1
def gK (Γ : Gm) : AK := Γ.2.2
def gZ (Γ : Gm) : Zd := Γ.2.1
theorem cv_cat1 (ad : Nat → Nat) (x : Int32) : (cv ad (aI x)).category = 1 := rfl
theorem cv_cat2 (ad : Nat → Nat) (x : Int64) : (cv ad (aJ x)).category = 2 := rfl
theorem cv_catR (ad : Nat → Nat) (x : Option Nat) : (cv ad (aR x)).category = 1 := by cases x <;> rfl
def c2 (v : AV) : Bool := match v with
  | .inr (.inl _) => true
  | _ => false
theorem cv_c2 (ad : Nat → Nat) (v : AV) : ((cv ad v).category == 2) = c2 v := by
  rcases v with x | x | x
  · rfl
  · rfl
  · cases x <;> rfl
section AWP
variable {Γ : Gm} {k n : Nat} {C : MC} {I : MI} {J : MJ} {R : MR} {pc pc' : Nat} {lv lv' : List (Nat × AV)} {st st' : List AV} {yy : MethodName} {cc : ByteArray} {nL : Nat} {ret : Option FieldType} {hh : List (Nat × Nat × Nat × Nat)}
theorem ok_c {v : AV} {st : List AV} (h : okv C v) (hs : ∀ w ∈ st, okv C w) : ∀ w ∈ v :: st, okv C w := fun w hw => (List.mem_cons.mp hw).elim (fun e => e ▸ h) (hs w)
theorem ok_t {v : AV} {st : List AV} (hs : ∀ w ∈ v :: st, okv C w) : ∀ w ∈ st, okv C w := fun w hw => hs w (List.mem_cons_of_mem _ hw)
theorem ok_h {v : AV} {st : List AV} (hs : ∀ w ∈ v :: st, okv C w) : okv C v := hs v List.mem_cons_self
/-- a wider bound of what was made -/
theorem aw_wide {k' n' : Nat} (h1 : k ≤ k') (h2 : n ≤ n') (h : AW Γ k' n' C I J R pc lv st) : AW Γ k n C I J R pc lv st := by
  obtain ⟨⟨p, l, e, Rm, s, m, args, below, meth, c⟩, z, K⟩ := Γ
  intro ad H locs ls a1 a2 a3 a4
  exact W.widen h1 h2 (h ad H locs ls a1 a2 a3 a4)
/-- fewer locals, in another order, by their places -/
theorem aw_lv (ks : List Nat) (hl : ks.filterMap (fun i => lv[i]?) = lv') (h : AW Γ k n C I J R pc lv' st) : AW Γ k n C I J R pc lv st := by
  obtain ⟨⟨p, l, e, Rm, s, m, args, below, meth, c⟩, z, K⟩ := Γ
  intro ad H locs ls a1 a2 a3 a4
  have hm : ∀ q ∈ lv', q ∈ lv := by
    intro q hq
    rw [← hl] at hq
    obtain ⟨i, -, hi⟩ := List.mem_filterMap.mp hq
    exact List.mem_of_getElem? hi
  refine h ad H locs ls a1 ⟨a2.1, a2.2.1, fun q hq => ?_⟩ (fun q hq => a3 q (hm q hq)) a4
  obtain ⟨x, hx, rfl⟩ := List.mem_map.mp hq
  exact a2.2.2 _ (List.mem_map.mpr ⟨x, hm x hx, rfl⟩)
theorem aw_iconst (G : Gd Γ yy cc nL ret hh) {q : Int} {v : Int32} (d : decode cc pc = .ok (.iconst q, 1)) (hv : Int32.ofInt q = v) (h : AW Γ k n C I J R (pc + 1) lv (aI v :: st)) : AW Γ k n C I J R pc lv (st) := by
  obtain ⟨⟨p, l, e, Rm, s, m, args, below, meth, c⟩, z, K⟩ := Γ
  intro ad H locs ls a1 a2 a3 a4
  exact lv_iconst G.1 G.2.1 d hv (h ad H locs ls a1 a2 a3 (ok_c (okv_I _) a4))
theorem aw_bipush (G : Gd Γ yy cc nL ret hh) {q : Int} {v : Int32} (d : decode cc pc = .ok (.bipush q, 2)) (hv : (Int8.ofInt q).toInt32 = v) (h : AW Γ k n C I J R (pc + 2) lv (aI v :: st)) : AW Γ k n C I J R pc lv (st) := by
  obtain ⟨⟨p, l, e, Rm, s, m, args, below, meth, c⟩, z, K⟩ := Γ
  intro ad H locs ls a1 a2 a3 a4
  exact lv_bipush G.1 G.2.1 d hv (h ad H locs ls a1 a2 a3 (ok_c (okv_I _) a4))
theorem aw_sipush (G : Gd Γ yy cc nL ret hh) {q : Int} {v : Int32} (d : decode cc pc = .ok (.sipush q, 3)) (hv : (Int16.ofInt q).toInt32 = v) (h : AW Γ k n C I J R (pc + 3) lv (aI v :: st)) : AW Γ k n C I J R pc lv (st) := by
  obtain ⟨⟨p, l, e, Rm, s, m, args, below, meth, c⟩, z, K⟩ := Γ
  intro ad H locs ls a1 a2 a3 a4
  exact lv_sipush G.1 G.2.1 d hv (h ad H locs ls a1 a2 a3 (ok_c (okv_I _) a4))
theorem aw_lconst (G : Gd Γ yy cc nL ret hh) {q : Fin 2} {v : Int64} (d : decode cc pc = .ok (.lconst q, 1)) (hv : Int64.ofNat (q : Nat) = v) (h : AW Γ k n C I J R (pc + 1) lv (aJ v :: st)) : AW Γ k n C I J R pc lv (st) := by
  obtain ⟨⟨p, l, e, Rm, s, m, args, below, meth, c⟩, z, K⟩ := Γ
  intro ad H locs ls a1 a2 a3 a4
  exact lv_lconst G.1 G.2.1 d hv (h ad H locs ls a1 a2 a3 (ok_c (okv_J _) a4))
theorem aw_null (G : Gd Γ yy cc nL ret hh) (d : decode cc pc = .ok (.aconst_null, 1)) (h : AW Γ k n C I J R (pc + 1) lv (aR none :: st)) : AW Γ k n C I J R pc lv (st) := by
  obtain ⟨⟨p, l, e, Rm, s, m, args, below, meth, c⟩, z, K⟩ := Γ
  intro ad H locs ls a1 a2 a3 a4
  exact lv_null G.1 G.2.1 d (h ad H locs ls a1 a2 a3 (ok_c okv_N a4))
theorem aw_ldc (G : Gd Γ yy cc nL ret hh) {index : Nat} {v : Int32} (hw : Cond.constant yy.cls index v ∈ lw_all) (d : decode cc pc = .ok (.ldc index, 2)) (h : AW Γ k n C I J R (pc + 2) lv (aI v :: st)) : AW Γ k n C I J R pc lv st := by
  obtain ⟨⟨p, l, e, Rm, s, m, args, below, meth, c⟩, z, K⟩ := Γ
  intro ad H locs ls a1 a2 a3 a4
  exact lv_ldc G.1 G.2.1 G.2.2.2.2.1 (G.2.2.2.1 _ hw) d (h ad H locs ls a1 a2 a3 (ok_c (okv_I _) a4))
theorem aw_ldcw (G : Gd Γ yy cc nL ret hh) {index : Nat} {v : Int32} (hw : Cond.constant yy.cls index v ∈ lw_all) (d : decode cc pc = .ok (.ldc_w index, 3)) (h : AW Γ k n C I J R (pc + 3) lv (aI v :: st)) : AW Γ k n C I J R pc lv st := by
  obtain ⟨⟨p, l, e, Rm, s, m, args, below, meth, c⟩, z, K⟩ := Γ
  intro ad H locs ls a1 a2 a3 a4
  exact lv_ldcw G.1 G.2.1 G.2.2.2.2.1 (G.2.2.2.1 _ hw) d (h ad H locs ls a1 a2 a3 (ok_c (okv_I _) a4))
theorem aw_ldc2 (G : Gd Γ yy cc nL ret hh) {index : Nat} {v : Int64} (hw : Cond.constantLong yy.cls index v ∈ lw_all) (d : decode cc pc = .ok (.ldc2_w index, 3)) (h : AW Γ k n C I J R (pc + 3) lv (aJ v :: st)) : AW Γ k n C I J R pc lv st := by
  obtain ⟨⟨p, l, e, Rm, s, m, args, below, meth, c⟩, z, K⟩ := Γ
  intro ad H locs ls a1 a2 a3 a4
  exact lv_ldc2 G.1 G.2.1 G.2.2.2.2.1 (G.2.2.2.1 _ hw) d (h ad H locs ls a1 a2 a3 (ok_c (okv_J _) a4))
theorem aw_iload_n (G : Gd Γ yy cc nL ret hh) {w : Fin 4} (i : Nat) {x : Int32} (hk : lv[i]? = some ((w : Nat), aI x)) (d : decode cc pc = .ok (.iload_n w, 1)) (h : AW Γ k n C I J R (pc + 1) lv (aI x :: st)) : AW Γ k n C I J R pc lv st := by
  obtain ⟨⟨p, l, e, Rm, s, m, args, below, meth, c⟩, z, K⟩ := Γ
  intro ad H locs ls a1 a2 a3 a4
  exact lv_iload_n G.1 G.2.1 d rfl (lv_at a2 i (by simp [lvm, hk, cv])) (h ad H locs ls a1 a2 a3 (ok_c (okv_I _) a4))
theorem aw_iload (G : Gd Γ yy cc nL ret hh) {w : Nat} (i : Nat) {x : Int32} (hk : lv[i]? = some (w, aI x)) (d : decode cc pc = .ok (.iload w, 2)) (h : AW Γ k n C I J R (pc + 2) lv (aI x :: st)) : AW Γ k n C I J R pc lv st := by
  obtain ⟨⟨p, l, e, Rm, s, m, args, below, meth, c⟩, z, K⟩ := Γ
  intro ad H locs ls a1 a2 a3 a4
  exact lv_iload G.1 G.2.1 d (lv_at a2 i (by simp [lvm, hk, cv])) (h ad H locs ls a1 a2 a3 (ok_c (okv_I _) a4))
theorem aw_lload_n (G : Gd Γ yy cc nL ret hh) {w : Fin 4} (i : Nat) {x : Int64} (hk : lv[i]? = some ((w : Nat), aJ x)) (d : decode cc pc = .ok (.lload_n w, 1)) (h : AW Γ k n C I J R (pc + 1) lv (aJ x :: st)) : AW Γ k n C I J R pc lv st := by
  obtain ⟨⟨p, l, e, Rm, s, m, args, below, meth, c⟩, z, K⟩ := Γ
  intro ad H locs ls a1 a2 a3 a4
  exact lv_lload_n G.1 G.2.1 d rfl (lv_at a2 i (by simp [lvm, hk, cv])) (h ad H locs ls a1 a2 a3 (ok_c (okv_J _) a4))
theorem aw_lload (G : Gd Γ yy cc nL ret hh) {w : Nat} (i : Nat) {x : Int64} (hk : lv[i]? = some (w, aJ x)) (d : decode cc pc = .ok (.lload w, 2)) (h : AW Γ k n C I J R (pc + 2) lv (aJ x :: st)) : AW Γ k n C I J R pc lv st := by
  obtain ⟨⟨p, l, e, Rm, s, m, args, below, meth, c⟩, z, K⟩ := Γ
  intro ad H locs ls a1 a2 a3 a4
  exact lv_lload G.1 G.2.1 d (lv_at a2 i (by simp [lvm, hk, cv])) (h ad H locs ls a1 a2 a3 (ok_c (okv_J _) a4))
theorem aw_aload_n (G : Gd Γ yy cc nL ret hh) {w : Fin 4} (i : Nat) {x : Option Nat} (hk : lv[i]? = some ((w : Nat), aR x)) (d : decode cc pc = .ok (.aload_n w, 1)) (h : AW Γ k n C I J R (pc + 1) lv (aR x :: st)) : AW Γ k n C I J R pc lv st := by
  obtain ⟨⟨p, l, e, Rm, s, m, args, below, meth, c⟩, z, K⟩ := Γ
  intro ad H locs ls a1 a2 a3 a4
  have a5 := h ad H locs ls a1 a2 a3 (ok_c (a3 (_, aR x) (List.mem_of_getElem? hk)) a4)
  cases x with
  | none => exact lv_aload_nN G.1 G.2.1 d rfl (lv_at a2 i (by simp [lvm, hk, cv, va_rf])) a5
  | some q => exact lv_aload_n G.1 G.2.1 d rfl (lv_at a2 i (by simp [lvm, hk, cv, va_rf])) a5
theorem aw_aload (G : Gd Γ yy cc nL ret hh) {w : Nat} (i : Nat) {x : Option Nat} (hk : lv[i]? = some ((w : Nat), aR x)) (d : decode cc pc = .ok (.aload w, 2)) (h : AW Γ k n C I J R (pc + 2) lv (aR x :: st)) : AW Γ k n C I J R pc lv st := by
  obtain ⟨⟨p, l, e, Rm, s, m, args, below, meth, c⟩, z, K⟩ := Γ
  intro ad H locs ls a1 a2 a3 a4
  have a5 := h ad H locs ls a1 a2 a3 (ok_c (a3 (_, aR x) (List.mem_of_getElem? hk)) a4)
  cases x with
  | none => exact lv_aloadN G.1 G.2.1 d (lv_at a2 i (by simp [lvm, hk, cv, va_rf])) a5
  | some q => exact lv_aload G.1 G.2.1 d (lv_at a2 i (by simp [lvm, hk, cv, va_rf])) a5
def lvs (i : Nat) (v : AV) (lv : List (Nat × AV)) : List (Nat × AV) := (i, v) :: lv.filter (fun q => !(q.1 == i) && (!(c2 v && q.1 == i + 1) && !(q.1 + 1 == i && c2 q.2)))
theorem lvs_ok {i : Nat} {v : AV} (hv : okv C v) (h : ∀ q ∈ lv, okv C q.2) : ∀ q ∈ lvs i v lv, okv C q.2 := by
  intro q hq
  rcases List.mem_cons.mp hq with rfl | hq
  · exact hv
  · exact h q (List.mem_filter.mp hq).1
theorem lvs1 (ad : Nat → Nat) (i : Nat) (v : AV) (hv : c2 v = false) (lv : List (Nat × AV)) : (i, cv ad v) :: (lvm ad lv).filter (fun q => !(q.1 == i) && !(q.1 + 1 == i && q.2.category == 2)) = lvm ad (lvs i v lv) := by
  unfold lvm lvs
  rw [List.map_cons, List.filter_map]
  congr 2
  refine List.filter_congr (fun q _ => ?_)
  simp [hv, ← cv_c2 ad]
theorem lvs2 (ad : Nat → Nat) (i : Nat) (v : AV) (hv : c2 v = true) (lv : List (Nat × AV)) : (i, cv ad v) :: (lvm ad lv).filter (fun q => !(q.1 == i) && (!(q.1 == i + 1) && !(q.1 + 1 == i && q.2.category == 2))) = lvm ad (lvs i v lv) := by
  unfold lvm lvs
  rw [List.map_cons, List.filter_map]
  congr 2
  refine List.filter_congr (fun q _ => ?_)
  simp [hv, ← cv_c2 ad]
theorem aw_istore_n (G : Gd Γ yy cc nL ret hh) {w : Fin 4} {x : Int32} (hn : (w : Nat) < nL) (hl : lvs (w : Nat) (aI x) lv = lv') (d : decode cc pc = .ok (.istore_n w, 1)) (h : AW Γ k n C I J R (pc + 1) lv' st) : AW Γ k n C I J R pc lv (aI x :: st) := by
  obtain ⟨⟨p, l, e, Rm, s, m, args, below, meth, c⟩, z, K⟩ := Γ
  intro ad H locs ls a1 a2 a3 a4
  exact lv_istore_n (nL := c.maxLocals) G.1 G.2.1 d rfl a2 (by rw [G.2.2.1]; exact hn) (lvs1 ad _ (aI x) rfl lv) (fun ls2 a6 => h ad H locs ls2 a1 (by rw [← hl]; exact a6) (by rw [← hl]; exact lvs_ok (okv_I _) a3) (ok_t a4))
theorem aw_lstore_n (G : Gd Γ yy cc nL ret hh) {w : Fin 4} {x : Int64} (hn : (w : Nat) + 1 < nL) (hl : lvs (w : Nat) (aJ x) lv = lv') (d : decode cc pc = .ok (.lstore_n w, 1)) (h : AW Γ k n C I J R (pc + 1) lv' st) : AW Γ k n C I J R pc lv (aJ x :: st) := by
  obtain ⟨⟨p, l, e, Rm, s, m, args, below, meth, c⟩, z, K⟩ := Γ
  intro ad H locs ls a1 a2 a3 a4
  exact lv_lstore_n (nL := c.maxLocals) G.1 G.2.1 d rfl a2 (by rw [G.2.2.1]; exact hn) (lvs2 ad _ (aJ x) rfl lv) (fun ls2 a6 => h ad H locs ls2 a1 (by rw [← hl]; exact a6) (by rw [← hl]; exact lvs_ok (okv_J _) a3) (ok_t a4))
theorem aw_astore_n (G : Gd Γ yy cc nL ret hh) {w : Fin 4} {x : Option Nat} (hn : (w : Nat) < nL) (hl : lvs (w : Nat) (aR x) lv = lv') (d : decode cc pc = .ok (.astore_n w, 1)) (h : AW Γ k n C I J R (pc + 1) lv' st) : AW Γ k n C I J R pc lv (aR x :: st) := by
  obtain ⟨⟨p, l, e, Rm, s, m, args, below, meth, c⟩, z, K⟩ := Γ
  intro ad H locs ls a1 a2 a3 a4
  have a5 : ∀ ls2 : Array Slot, lv_has ls2 c.maxLocals (lvm ad (lvs (w : Nat) (aR x) lv)) → W p l e Rm s m args below meth c H locs k n _ (F0 m (pc + 1) ls2 (st.map (cv ad))) := fun ls2 a6 => h ad H locs ls2 a1 (by rw [← hl]; exact a6) (by rw [← hl]; exact lvs_ok (ok_h a4) a3) (ok_t a4)
  cases x with
  | none => exact lv_astore_nN (nL := c.maxLocals) G.1 G.2.1 d rfl a2 (by rw [G.2.2.1]; exact hn) (lvs1 ad _ (aR none) rfl lv) a5
  | some q => exact lv_astore_n (nL := c.maxLocals) G.1 G.2.1 d rfl a2 (by rw [G.2.2.1]; exact hn) (lvs1 ad _ (aR (some q)) rfl lv) a5
theorem aw_istore (G : Gd Γ yy cc nL ret hh) {w : Nat} {x : Int32} (hn : (w : Nat) < nL) (hl : lvs (w : Nat) (aI x) lv = lv') (d : decode cc pc = .ok (.istore w, 2)) (h : AW Γ k n C I J R (pc + 2) lv' st) : AW Γ k n C I J R pc lv (aI x :: st) := by
  obtain ⟨⟨p, l, e, Rm, s, m, args, below, meth, c⟩, z, K⟩ := Γ
  intro ad H locs ls a1 a2 a3 a4
  exact lv_istore (nL := c.maxLocals) G.1 G.2.1 d a2 (by rw [G.2.2.1]; exact hn) (lvs1 ad _ (aI x) rfl lv) (fun ls2 a6 => h ad H locs ls2 a1 (by rw [← hl]; exact a6) (by rw [← hl]; exact lvs_ok (okv_I _) a3) (ok_t a4))
theorem aw_lstore (G : Gd Γ yy cc nL ret hh) {w : Nat} {x : Int64} (hn : (w : Nat) + 1 < nL) (hl : lvs (w : Nat) (aJ x) lv = lv') (d : decode cc pc = .ok (.lstore w, 2)) (h : AW Γ k n C I J R (pc + 2) lv' st) : AW Γ k n C I J R pc lv (aJ x :: st) := by
  obtain ⟨⟨p, l, e, Rm, s, m, args, below, meth, c⟩, z, K⟩ := Γ
  intro ad H locs ls a1 a2 a3 a4
  exact lv_lstore (nL := c.maxLocals) G.1 G.2.1 d a2 (by rw [G.2.2.1]; exact hn) (lvs2 ad _ (aJ x) rfl lv) (fun ls2 a6 => h ad H locs ls2 a1 (by rw [← hl]; exact a6) (by rw [← hl]; exact lvs_ok (okv_J _) a3) (ok_t a4))
theorem aw_astore (G : Gd Γ yy cc nL ret hh) {w : Nat} {x : Option Nat} (hn : (w : Nat) < nL) (hl : lvs (w : Nat) (aR x) lv = lv') (d : decode cc pc = .ok (.astore w, 2)) (h : AW Γ k n C I J R (pc + 2) lv' st) : AW Γ k n C I J R pc lv (aR x :: st) := by
  obtain ⟨⟨p, l, e, Rm, s, m, args, below, meth, c⟩, z, K⟩ := Γ
  intro ad H locs ls a1 a2 a3 a4
  have a5 : ∀ ls2 : Array Slot, lv_has ls2 c.maxLocals (lvm ad (lvs (w : Nat) (aR x) lv)) → W p l e Rm s m args below meth c H locs k n _ (F0 m (pc + 2) ls2 (st.map (cv ad))) := fun ls2 a6 => h ad H locs ls2 a1 (by rw [← hl]; exact a6) (by rw [← hl]; exact lvs_ok (ok_h a4) a3) (ok_t a4)
  cases x with
  | none => exact lv_astoreN (nL := c.maxLocals) G.1 G.2.1 d a2 (by rw [G.2.2.1]; exact hn) (lvs1 ad _ (aR none) rfl lv) a5
  | some q => exact lv_astore (nL := c.maxLocals) G.1 G.2.1 d a2 (by rw [G.2.2.1]; exact hn) (lvs1 ad _ (aR (some q)) rfl lv) a5
theorem aw_iinc (G : Gd Γ yy cc nL ret hh) {w : Nat} {q : Int} (i : Nat) {x v : Int32} (hk : lv[i]? = some (w, aI x)) (hv : x + Int32.ofInt q = v) (hn : w < nL) (hl : lvs w (aI v) lv = lv') (d : decode cc pc = .ok (.iinc w q, 3)) (h : AW Γ k n C I J R (pc + 3) lv' st) : AW Γ k n C I J R pc lv st := by
  obtain ⟨⟨p, l, e, Rm, s, m, args, below, meth, c⟩, z, K⟩ := Γ
  intro ad H locs ls a1 a2 a3 a4
  exact lv_iinc (nL := c.maxLocals) (k := i) G.1 G.2.1 d a2 (by simp [lvm, hk, cv]) hv (by rw [G.2.2.1]; exact hn) (lvs1 ad _ (aI v) rfl lv) (fun ls2 a6 => h ad H locs ls2 a1 (by rw [← hl]; exact a6) (by rw [← hl]; exact lvs_ok (okv_I _) a3) a4)
theorem aw_iadd (G : Gd Γ yy cc nL ret hh) {x y : Int32} (d : decode cc pc = .ok (.iadd, 1)) (h : AW Γ k n C I J R (pc + 1) lv (aI (x + y) :: st)) : AW Γ k n C I J R pc lv (aI y :: aI x :: st) := by
  obtain ⟨⟨p, l, e, Rm, s, m, args, below, meth, c⟩, z, K⟩ := Γ
  intro ad H locs ls a1 a2 a3 a4
  exact lv_iadd G.1 G.2.1 d (h ad H locs ls a1 a2 a3 (ok_c (okv_I _) (ok_t (ok_t a4))))
theorem aw_isub (G : Gd Γ yy cc nL ret hh) {x y : Int32} (d : decode cc pc = .ok (.isub, 1)) (h : AW Γ k n C I J R (pc + 1) lv (aI (x - y) :: st)) : AW Γ k n C I J R pc lv (aI y :: aI x :: st) := by
  obtain ⟨⟨p, l, e, Rm, s, m, args, below, meth, c⟩, z, K⟩ := Γ
  intro ad H locs ls a1 a2 a3 a4
  exact lv_isub G.1 G.2.1 d (h ad H locs ls a1 a2 a3 (ok_c (okv_I _) (ok_t (ok_t a4))))
theorem aw_imul (G : Gd Γ yy cc nL ret hh) {x y : Int32} (d : decode cc pc = .ok (.imul, 1)) (h : AW Γ k n C I J R (pc + 1) lv (aI (x * y) :: st)) : AW Γ k n C I J R pc lv (aI y :: aI x :: st) := by
  obtain ⟨⟨p, l, e, Rm, s, m, args, below, meth, c⟩, z, K⟩ := Γ
  intro ad H locs ls a1 a2 a3 a4
  exact lv_imul G.1 G.2.1 d (h ad H locs ls a1 a2 a3 (ok_c (okv_I _) (ok_t (ok_t a4))))
theorem aw_iand (G : Gd Γ yy cc nL ret hh) {x y : Int32} (d : decode cc pc = .ok (.iand, 1)) (h : AW Γ k n C I J R (pc + 1) lv (aI (x &&& y) :: st)) : AW Γ k n C I J R pc lv (aI y :: aI x :: st) := by
  obtain ⟨⟨p, l, e, Rm, s, m, args, below, meth, c⟩, z, K⟩ := Γ
  intro ad H locs ls a1 a2 a3 a4
  exact lv_iand G.1 G.2.1 d (h ad H locs ls a1 a2 a3 (ok_c (okv_I _) (ok_t (ok_t a4))))
theorem aw_ishl (G : Gd Γ yy cc nL ret hh) {x y : Int32} (d : decode cc pc = .ok (.ishl, 1)) (h : AW Γ k n C I J R (pc + 1) lv (aI (x <<< (y &&& 31)) :: st)) : AW Γ k n C I J R pc lv (aI y :: aI x :: st) := by
  obtain ⟨⟨p, l, e, Rm, s, m, args, below, meth, c⟩, z, K⟩ := Γ
  intro ad H locs ls a1 a2 a3 a4
  exact lv_ishl G.1 G.2.1 d (h ad H locs ls a1 a2 a3 (ok_c (okv_I _) (ok_t (ok_t a4))))
theorem aw_ishr (G : Gd Γ yy cc nL ret hh) {x y : Int32} (d : decode cc pc = .ok (.ishr, 1)) (h : AW Γ k n C I J R (pc + 1) lv (aI (x >>> (y &&& 31)) :: st)) : AW Γ k n C I J R pc lv (aI y :: aI x :: st) := by
  obtain ⟨⟨p, l, e, Rm, s, m, args, below, meth, c⟩, z, K⟩ := Γ
  intro ad H locs ls a1 a2 a3 a4
  exact lv_ishr G.1 G.2.1 d (h ad H locs ls a1 a2 a3 (ok_c (okv_I _) (ok_t (ok_t a4))))
theorem aw_irem (G : Gd Γ yy cc nL ret hh) {x y : Int32} (hne : ¬ y = 0) (d : decode cc pc = .ok (.irem, 1)) (h : AW Γ k n C I J R (pc + 1) lv (aI (x - x / y * y) :: st)) : AW Γ k n C I J R pc lv (aI y :: aI x :: st) := by
  obtain ⟨⟨p, l, e, Rm, s, m, args, below, meth, c⟩, z, K⟩ := Γ
  intro ad H locs ls a1 a2 a3 a4
  exact lv_irem G.1 G.2.1 d hne (h ad H locs ls a1 a2 a3 (ok_c (okv_I _) (ok_t (ok_t a4))))
theorem aw_iushr (G : Gd Γ yy cc nL ret hh) {x y v : Int32} (hv : (x.toUInt32 >>> (y.toUInt32 &&& Int32.toUInt32 31)).toInt32 = v) (d : decode cc pc = .ok (.iushr, 1)) (h : AW Γ k n C I J R (pc + 1) lv (aI v :: st)) : AW Γ k n C I J R pc lv (aI y :: aI x :: st) := by
  obtain ⟨⟨p, l, e, Rm, s, m, args, below, meth, c⟩, z, K⟩ := Γ
  intro ad H locs ls a1 a2 a3 a4
  exact lv_iushr G.1 G.2.1 d hv (h ad H locs ls a1 a2 a3 (ok_c (okv_I _) (ok_t (ok_t a4))))
theorem aw_ladd (G : Gd Γ yy cc nL ret hh) {x y : Int64} (d : decode cc pc = .ok (.ladd, 1)) (h : AW Γ k n C I J R (pc + 1) lv (aJ (x + y) :: st)) : AW Γ k n C I J R pc lv (aJ y :: aJ x :: st) := by
  obtain ⟨⟨p, l, e, Rm, s, m, args, below, meth, c⟩, z, K⟩ := Γ
  intro ad H locs ls a1 a2 a3 a4
  exact lv_ladd G.1 G.2.1 d (h ad H locs ls a1 a2 a3 (ok_c (okv_J _) (ok_t (ok_t a4))))
theorem aw_lsub (G : Gd Γ yy cc nL ret hh) {x y : Int64} (d : decode cc pc = .ok (.lsub, 1)) (h : AW Γ k n C I J R (pc + 1) lv (aJ (x - y) :: st)) : AW Γ k n C I J R pc lv (aJ y :: aJ x :: st) := by
  obtain ⟨⟨p, l, e, Rm, s, m, args, below, meth, c⟩, z, K⟩ := Γ
  intro ad H locs ls a1 a2 a3 a4
  exact lv_lsub G.1 G.2.1 d (h ad H locs ls a1 a2 a3 (ok_c (okv_J _) (ok_t (ok_t a4))))
theorem aw_lmul (G : Gd Γ yy cc nL ret hh) {x y : Int64} (d : decode cc pc = .ok (.lmul, 1)) (h : AW Γ k n C I J R (pc + 1) lv (aJ (x * y) :: st)) : AW Γ k n C I J R pc lv (aJ y :: aJ x :: st) := by
  obtain ⟨⟨p, l, e, Rm, s, m, args, below, meth, c⟩, z, K⟩ := Γ
  intro ad H locs ls a1 a2 a3 a4
  exact lv_lmul G.1 G.2.1 d (h ad H locs ls a1 a2 a3 (ok_c (okv_J _) (ok_t (ok_t a4))))
theorem aw_land (G : Gd Γ yy cc nL ret hh) {x y : Int64} (d : decode cc pc = .ok (.land, 1)) (h : AW Γ k n C I J R (pc + 1) lv (aJ (x &&& y) :: st)) : AW Γ k n C I J R pc lv (aJ y :: aJ x :: st) := by
  obtain ⟨⟨p, l, e, Rm, s, m, args, below, meth, c⟩, z, K⟩ := Γ
  intro ad H locs ls a1 a2 a3 a4
  exact lv_land G.1 G.2.1 d (h ad H locs ls a1 a2 a3 (ok_c (okv_J _) (ok_t (ok_t a4))))
theorem aw_lor (G : Gd Γ yy cc nL ret hh) {x y : Int64} (d : decode cc pc = .ok (.lor, 1)) (h : AW Γ k n C I J R (pc + 1) lv (aJ (x ||| y) :: st)) : AW Γ k n C I J R pc lv (aJ y :: aJ x :: st) := by
  obtain ⟨⟨p, l, e, Rm, s, m, args, below, meth, c⟩, z, K⟩ := Γ
  intro ad H locs ls a1 a2 a3 a4
  exact lv_lor G.1 G.2.1 d (h ad H locs ls a1 a2 a3 (ok_c (okv_J _) (ok_t (ok_t a4))))
theorem aw_ldiv (G : Gd Γ yy cc nL ret hh) {x y : Int64} (hne : ¬ y = 0) (d : decode cc pc = .ok (.ldiv, 1)) (h : AW Γ k n C I J R (pc + 1) lv (aJ (x / y) :: st)) : AW Γ k n C I J R pc lv (aJ y :: aJ x :: st) := by
  obtain ⟨⟨p, l, e, Rm, s, m, args, below, meth, c⟩, z, K⟩ := Γ
  intro ad H locs ls a1 a2 a3 a4
  exact lv_ldiv G.1 G.2.1 d hne (h ad H locs ls a1 a2 a3 (ok_c (okv_J _) (ok_t (ok_t a4))))
theorem aw_lrem (G : Gd Γ yy cc nL ret hh) {x y : Int64} (hne : ¬ y = 0) (d : decode cc pc = .ok (.lrem, 1)) (h : AW Γ k n C I J R (pc + 1) lv (aJ (x - x / y * y) :: st)) : AW Γ k n C I J R pc lv (aJ y :: aJ x :: st) := by
  obtain ⟨⟨p, l, e, Rm, s, m, args, below, meth, c⟩, z, K⟩ := Γ
  intro ad H locs ls a1 a2 a3 a4
  exact lv_lrem G.1 G.2.1 d hne (h ad H locs ls a1 a2 a3 (ok_c (okv_J _) (ok_t (ok_t a4))))
theorem aw_lneg (G : Gd Γ yy cc nL ret hh) {x : Int64} (d : decode cc pc = .ok (.lneg, 1)) (h : AW Γ k n C I J R (pc + 1) lv (aJ (-x) :: st)) : AW Γ k n C I J R pc lv (aJ x :: st) := by
  obtain ⟨⟨p, l, e, Rm, s, m, args, below, meth, c⟩, z, K⟩ := Γ
  intro ad H locs ls a1 a2 a3 a4
  exact lv_lneg G.1 G.2.1 d (h ad H locs ls a1 a2 a3 (ok_c (okv_J _) (ok_t a4)))
theorem aw_lcmp (G : Gd Γ yy cc nL ret hh) {x y : Int64} (d : decode cc pc = .ok (.lcmp, 1)) (h : AW Γ k n C I J R (pc + 1) lv (aI (lg_cmp x y) :: st)) : AW Γ k n C I J R pc lv (aJ y :: aJ x :: st) := by
  obtain ⟨⟨p, l, e, Rm, s, m, args, below, meth, c⟩, z, K⟩ := Γ
  intro ad H locs ls a1 a2 a3 a4
  exact W.lcmp G.1 G.2.1 d (h ad H locs ls a1 a2 a3 (ok_c (okv_I _) (ok_t (ok_t a4))))
theorem aw_lshl (G : Gd Γ yy cc nL ret hh) {x : Int64} {y : Int32} (d : decode cc pc = .ok (.lshl, 1)) (h : AW Γ k n C I J R (pc + 1) lv (aJ (x <<< (y.toInt64 &&& 63)) :: st)) : AW Γ k n C I J R pc lv (aI y :: aJ x :: st) := by
  obtain ⟨⟨p, l, e, Rm, s, m, args, below, meth, c⟩, z, K⟩ := Γ
  intro ad H locs ls a1 a2 a3 a4
  exact lv_lshl G.1 G.2.1 d rfl (h ad H locs ls a1 a2 a3 (ok_c (okv_J _) (ok_t (ok_t a4))))
theorem aw_i2l (G : Gd Γ yy cc nL ret hh) {x : Int32} (d : decode cc pc = .ok (.i2l, 1)) (h : AW Γ k n C I J R (pc + 1) lv (aJ x.toInt64 :: st)) : AW Γ k n C I J R pc lv (aI x :: st) := by
  obtain ⟨⟨p, l, e, Rm, s, m, args, below, meth, c⟩, z, K⟩ := Γ
  intro ad H locs ls a1 a2 a3 a4
  exact lv_i2l G.1 G.2.1 d rfl (h ad H locs ls a1 a2 a3 (ok_c (okv_J _) (ok_t a4)))
theorem aw_l2i (G : Gd Γ yy cc nL ret hh) {x : Int64} (d : decode cc pc = .ok (.l2i, 1)) (h : AW Γ k n C I J R (pc + 1) lv (aI x.toInt32 :: st)) : AW Γ k n C I J R pc lv (aJ x :: st) := by
  obtain ⟨⟨p, l, e, Rm, s, m, args, below, meth, c⟩, z, K⟩ := Γ
  intro ad H locs ls a1 a2 a3 a4
  exact lv_l2i G.1 G.2.1 d rfl (h ad H locs ls a1 a2 a3 (ok_c (okv_I _) (ok_t a4)))
theorem aw_i2b (G : Gd Γ yy cc nL ret hh) {x : Int32} (d : decode cc pc = .ok (.i2b, 1)) (h : AW Γ k n C I J R (pc + 1) lv (aI x.toInt8.toInt32 :: st)) : AW Γ k n C I J R pc lv (aI x :: st) := by
  obtain ⟨⟨p, l, e, Rm, s, m, args, below, meth, c⟩, z, K⟩ := Γ
  intro ad H locs ls a1 a2 a3 a4
  exact lv_i2b G.1 G.2.1 d rfl (h ad H locs ls a1 a2 a3 (ok_c (okv_I _) (ok_t a4)))
theorem aw_i2s (G : Gd Γ yy cc nL ret hh) {x : Int32} (d : decode cc pc = .ok (.i2s, 1)) (h : AW Γ k n C I J R (pc + 1) lv (aI x.toInt16.toInt32 :: st)) : AW Γ k n C I J R pc lv (aI x :: st) := by
  obtain ⟨⟨p, l, e, Rm, s, m, args, below, meth, c⟩, z, K⟩ := Γ
  intro ad H locs ls a1 a2 a3 a4
  exact lv_i2s G.1 G.2.1 d rfl (h ad H locs ls a1 a2 a3 (ok_c (okv_I _) (ok_t a4)))
theorem aw_dupR (G : Gd Γ yy cc nL ret hh) {x : Option Nat} (d : decode cc pc = .ok (.dup, 1)) (h : AW Γ k n C I J R (pc + 1) lv (aR x :: aR x :: st)) : AW Γ k n C I J R pc lv (aR x :: st) := by
  obtain ⟨⟨p, l, e, Rm, s, m, args, below, meth, c⟩, z, K⟩ := Γ
  intro ad H locs ls a1 a2 a3 a4
  exact lv_dup G.1 G.2.1 d (cv_catR ad x) (h ad H locs ls a1 a2 a3 (ok_c (ok_h a4) a4))
theorem aw_dupI (G : Gd Γ yy cc nL ret hh) {x : Int32} (d : decode cc pc = .ok (.dup, 1)) (h : AW Γ k n C I J R (pc + 1) lv (aI x :: aI x :: st)) : AW Γ k n C I J R pc lv (aI x :: st) := by
  obtain ⟨⟨p, l, e, Rm, s, m, args, below, meth, c⟩, z, K⟩ := Γ
  intro ad H locs ls a1 a2 a3 a4
  exact lv_dup G.1 G.2.1 d rfl (h ad H locs ls a1 a2 a3 (ok_c (ok_h a4) a4))
theorem aw_popI (G : Gd Γ yy cc nL ret hh) {x : Int32} (d : decode cc pc = .ok (.pop, 1)) (h : AW Γ k n C I J R (pc + 1) lv (st)) : AW Γ k n C I J R pc lv (aI x :: st) := by
  obtain ⟨⟨p, l, e, Rm, s, m, args, below, meth, c⟩, z, K⟩ := Γ
  intro ad H locs ls a1 a2 a3 a4
  exact lv_pop G.1 G.2.1 d (cv_cat1 ad x) (h ad H locs ls a1 a2 a3 (ok_t a4))
theorem aw_popR (G : Gd Γ yy cc nL ret hh) {x : Option Nat} (d : decode cc pc = .ok (.pop, 1)) (h : AW Γ k n C I J R (pc + 1) lv (st)) : AW Γ k n C I J R pc lv (aR x :: st) := by
  obtain ⟨⟨p, l, e, Rm, s, m, args, below, meth, c⟩, z, K⟩ := Γ
  intro ad H locs ls a1 a2 a3 a4
  exact lv_pop G.1 G.2.1 d (cv_catR ad x) (h ad H locs ls a1 a2 a3 (ok_t a4))
theorem aw_dup2IR (G : Gd Γ yy cc nL ret hh) {x : Int32} {y : Option Nat} (d : decode cc pc = .ok (.dup2, 1)) (h : AW Γ k n C I J R (pc + 1) lv (aI x :: aR y :: aI x :: aR y :: st)) : AW Γ k n C I J R pc lv (aI x :: aR y :: st) := by
  obtain ⟨⟨p, l, e, Rm, s, m, args, below, meth, c⟩, z, K⟩ := Γ
  intro ad H locs ls a1 a2 a3 a4
  exact lv_dup2_11 G.1 G.2.1 d (cv_cat1 ad x) (cv_catR ad y) (h ad H locs ls a1 a2 a3 (ok_c (okv_I _) (ok_c (ok_h (ok_t a4)) a4)))
theorem aw_dup2J (G : Gd Γ yy cc nL ret hh) {x : Int64} (d : decode cc pc = .ok (.dup2, 1)) (h : AW Γ k n C I J R (pc + 1) lv (aJ x :: aJ x :: st)) : AW Γ k n C I J R pc lv (aJ x :: st) := by
  obtain ⟨⟨p, l, e, Rm, s, m, args, below, meth, c⟩, z, K⟩ := Γ
  intro ad H locs ls a1 a2 a3 a4
  exact lv_dup2_2 G.1 G.2.1 d rfl (h ad H locs ls a1 a2 a3 (ok_c (okv_J _) a4))
theorem aw_if_eq (G : Gd Γ yy cc nL ret hh) {x : Int32} {off : Int} (tgt : Nat) (d : decode cc pc = .ok (.ifCond .eq off, 3)) (ht : (pc : Int) + off = (tgt : Int)) (h1 : x = 0 → AW Γ k n C I J R tgt lv st) (h2 : ¬ x = 0 → AW Γ k n C I J R (pc + 3) lv st) : AW Γ k n C I J R pc lv (aI x :: st) := by
  obtain ⟨⟨p, l, e, Rm, s, m, args, below, meth, c⟩, z, K⟩ := Γ
  intro ad H locs ls a1 a2 a3 a4
  exact lv_if_eq G.1 G.2.1 d ht (fun q => h1 q ad H locs ls a1 a2 a3 (ok_t a4)) (fun q => h2 q ad H locs ls a1 a2 a3 (ok_t a4))
theorem aw_icmp_eq (G : Gd Γ yy cc nL ret hh) {x y : Int32} {off : Int} (tgt : Nat) (d : decode cc pc = .ok (.if_icmp .eq off, 3)) (ht : (pc : Int) + off = (tgt : Int)) (h1 : x = y → AW Γ k n C I J R tgt lv st) (h2 : ¬ x = y → AW Γ k n C I J R (pc + 3) lv st) : AW Γ k n C I J R pc lv (aI y :: aI x :: st) := by
  obtain ⟨⟨p, l, e, Rm, s, m, args, below, meth, c⟩, z, K⟩ := Γ
  intro ad H locs ls a1 a2 a3 a4
  exact lv_icmp_eq G.1 G.2.1 d ht (fun q => h1 q ad H locs ls a1 a2 a3 (ok_t (ok_t a4))) (fun q => h2 q ad H locs ls a1 a2 a3 (ok_t (ok_t a4)))
theorem aw_if_ne (G : Gd Γ yy cc nL ret hh) {x : Int32} {off : Int} (tgt : Nat) (d : decode cc pc = .ok (.ifCond .ne off, 3)) (ht : (pc : Int) + off = (tgt : Int)) (h1 : ¬ x = 0 → AW Γ k n C I J R tgt lv st) (h2 : x = 0 → AW Γ k n C I J R (pc + 3) lv st) : AW Γ k n C I J R pc lv (aI x :: st) := by
  obtain ⟨⟨p, l, e, Rm, s, m, args, below, meth, c⟩, z, K⟩ := Γ
  intro ad H locs ls a1 a2 a3 a4
  exact lv_if_ne G.1 G.2.1 d ht (fun q => h1 q ad H locs ls a1 a2 a3 (ok_t a4)) (fun q => h2 q ad H locs ls a1 a2 a3 (ok_t a4))
theorem aw_icmp_ne (G : Gd Γ yy cc nL ret hh) {x y : Int32} {off : Int} (tgt : Nat) (d : decode cc pc = .ok (.if_icmp .ne off, 3)) (ht : (pc : Int) + off = (tgt : Int)) (h1 : ¬ x = y → AW Γ k n C I J R tgt lv st) (h2 : x = y → AW Γ k n C I J R (pc + 3) lv st) : AW Γ k n C I J R pc lv (aI y :: aI x :: st) := by
  obtain ⟨⟨p, l, e, Rm, s, m, args, below, meth, c⟩, z, K⟩ := Γ
  intro ad H locs ls a1 a2 a3 a4
  exact lv_icmp_ne G.1 G.2.1 d ht (fun q => h1 q ad H locs ls a1 a2 a3 (ok_t (ok_t a4))) (fun q => h2 q ad H locs ls a1 a2 a3 (ok_t (ok_t a4)))
theorem aw_if_lt (G : Gd Γ yy cc nL ret hh) {x : Int32} {off : Int} (tgt : Nat) (d : decode cc pc = .ok (.ifCond .lt off, 3)) (ht : (pc : Int) + off = (tgt : Int)) (h1 : x < 0 → AW Γ k n C I J R tgt lv st) (h2 : ¬ x < 0 → AW Γ k n C I J R (pc + 3) lv st) : AW Γ k n C I J R pc lv (aI x :: st) := by
  obtain ⟨⟨p, l, e, Rm, s, m, args, below, meth, c⟩, z, K⟩ := Γ
  intro ad H locs ls a1 a2 a3 a4
  exact lv_if_lt G.1 G.2.1 d ht (fun q => h1 q ad H locs ls a1 a2 a3 (ok_t a4)) (fun q => h2 q ad H locs ls a1 a2 a3 (ok_t a4))
theorem aw_icmp_lt (G : Gd Γ yy cc nL ret hh) {x y : Int32} {off : Int} (tgt : Nat) (d : decode cc pc = .ok (.if_icmp .lt off, 3)) (ht : (pc : Int) + off = (tgt : Int)) (h1 : x < y → AW Γ k n C I J R tgt lv st) (h2 : ¬ x < y → AW Γ k n C I J R (pc + 3) lv st) : AW Γ k n C I J R pc lv (aI y :: aI x :: st) := by
  obtain ⟨⟨p, l, e, Rm, s, m, args, below, meth, c⟩, z, K⟩ := Γ
  intro ad H locs ls a1 a2 a3 a4
  exact lv_icmp_lt G.1 G.2.1 d ht (fun q => h1 q ad H locs ls a1 a2 a3 (ok_t (ok_t a4))) (fun q => h2 q ad H locs ls a1 a2 a3 (ok_t (ok_t a4)))
theorem aw_if_ge (G : Gd Γ yy cc nL ret hh) {x : Int32} {off : Int} (tgt : Nat) (d : decode cc pc = .ok (.ifCond .ge off, 3)) (ht : (pc : Int) + off = (tgt : Int)) (h1 : 0 ≤ x → AW Γ k n C I J R tgt lv st) (h2 : ¬ 0 ≤ x → AW Γ k n C I J R (pc + 3) lv st) : AW Γ k n C I J R pc lv (aI x :: st) := by
  obtain ⟨⟨p, l, e, Rm, s, m, args, below, meth, c⟩, z, K⟩ := Γ
  intro ad H locs ls a1 a2 a3 a4
  exact lv_if_ge G.1 G.2.1 d ht (fun q => h1 q ad H locs ls a1 a2 a3 (ok_t a4)) (fun q => h2 q ad H locs ls a1 a2 a3 (ok_t a4))
theorem aw_icmp_ge (G : Gd Γ yy cc nL ret hh) {x y : Int32} {off : Int} (tgt : Nat) (d : decode cc pc = .ok (.if_icmp .ge off, 3)) (ht : (pc : Int) + off = (tgt : Int)) (h1 : y ≤ x → AW Γ k n C I J R tgt lv st) (h2 : ¬ y ≤ x → AW Γ k n C I J R (pc + 3) lv st) : AW Γ k n C I J R pc lv (aI y :: aI x :: st) := by
  obtain ⟨⟨p, l, e, Rm, s, m, args, below, meth, c⟩, z, K⟩ := Γ
  intro ad H locs ls a1 a2 a3 a4
  exact lv_icmp_ge G.1 G.2.1 d ht (fun q => h1 q ad H locs ls a1 a2 a3 (ok_t (ok_t a4))) (fun q => h2 q ad H locs ls a1 a2 a3 (ok_t (ok_t a4)))
theorem aw_if_gt (G : Gd Γ yy cc nL ret hh) {x : Int32} {off : Int} (tgt : Nat) (d : decode cc pc = .ok (.ifCond .gt off, 3)) (ht : (pc : Int) + off = (tgt : Int)) (h1 : 0 < x → AW Γ k n C I J R tgt lv st) (h2 : ¬ 0 < x → AW Γ k n C I J R (pc + 3) lv st) : AW Γ k n C I J R pc lv (aI x :: st) := by
  obtain ⟨⟨p, l, e, Rm, s, m, args, below, meth, c⟩, z, K⟩ := Γ
  intro ad H locs ls a1 a2 a3 a4
  exact lv_if_gt G.1 G.2.1 d ht (fun q => h1 q ad H locs ls a1 a2 a3 (ok_t a4)) (fun q => h2 q ad H locs ls a1 a2 a3 (ok_t a4))
theorem aw_icmp_gt (G : Gd Γ yy cc nL ret hh) {x y : Int32} {off : Int} (tgt : Nat) (d : decode cc pc = .ok (.if_icmp .gt off, 3)) (ht : (pc : Int) + off = (tgt : Int)) (h1 : y < x → AW Γ k n C I J R tgt lv st) (h2 : ¬ y < x → AW Γ k n C I J R (pc + 3) lv st) : AW Γ k n C I J R pc lv (aI y :: aI x :: st) := by
  obtain ⟨⟨p, l, e, Rm, s, m, args, below, meth, c⟩, z, K⟩ := Γ
  intro ad H locs ls a1 a2 a3 a4
  exact lv_icmp_gt G.1 G.2.1 d ht (fun q => h1 q ad H locs ls a1 a2 a3 (ok_t (ok_t a4))) (fun q => h2 q ad H locs ls a1 a2 a3 (ok_t (ok_t a4)))
theorem aw_if_le (G : Gd Γ yy cc nL ret hh) {x : Int32} {off : Int} (tgt : Nat) (d : decode cc pc = .ok (.ifCond .le off, 3)) (ht : (pc : Int) + off = (tgt : Int)) (h1 : x ≤ 0 → AW Γ k n C I J R tgt lv st) (h2 : ¬ x ≤ 0 → AW Γ k n C I J R (pc + 3) lv st) : AW Γ k n C I J R pc lv (aI x :: st) := by
  obtain ⟨⟨p, l, e, Rm, s, m, args, below, meth, c⟩, z, K⟩ := Γ
  intro ad H locs ls a1 a2 a3 a4
  exact lv_if_le G.1 G.2.1 d ht (fun q => h1 q ad H locs ls a1 a2 a3 (ok_t a4)) (fun q => h2 q ad H locs ls a1 a2 a3 (ok_t a4))
theorem aw_icmp_le (G : Gd Γ yy cc nL ret hh) {x y : Int32} {off : Int} (tgt : Nat) (d : decode cc pc = .ok (.if_icmp .le off, 3)) (ht : (pc : Int) + off = (tgt : Int)) (h1 : x ≤ y → AW Γ k n C I J R tgt lv st) (h2 : ¬ x ≤ y → AW Γ k n C I J R (pc + 3) lv st) : AW Γ k n C I J R pc lv (aI y :: aI x :: st) := by
  obtain ⟨⟨p, l, e, Rm, s, m, args, below, meth, c⟩, z, K⟩ := Γ
  intro ad H locs ls a1 a2 a3 a4
  exact lv_icmp_le G.1 G.2.1 d ht (fun q => h1 q ad H locs ls a1 a2 a3 (ok_t (ok_t a4))) (fun q => h2 q ad H locs ls a1 a2 a3 (ok_t (ok_t a4)))
theorem aw_lif_eq (G : Gd Γ yy cc nL ret hh) {x y : Int64} {off : Int} (tgt : Nat) (d0 : decode cc pc = .ok (.lcmp, 1)) (d : decode cc (pc + 1) = .ok (.ifCond .eq off, 3)) (ht : ((pc + 1 : Nat) : Int) + off = (tgt : Int)) (h1 : x = y → AW Γ k n C I J R tgt lv st) (h2 : ¬ x = y → AW Γ k n C I J R (pc + 1 + 3) lv st) : AW Γ k n C I J R pc lv (aJ y :: aJ x :: st) := by
  refine aw_lcmp G d0 (aw_if_eq G tgt d ht (fun q => h1 ((lg_cmp_eq x y).mp q)) (fun q => h2 (fun z => q ((lg_cmp_eq x y).mpr z))))
theorem aw_lif_ne (G : Gd Γ yy cc nL ret hh) {x y : Int64} {off : Int} (tgt : Nat) (d0 : decode cc pc = .ok (.lcmp, 1)) (d : decode cc (pc + 1) = .ok (.ifCond .ne off, 3)) (ht : ((pc + 1 : Nat) : Int) + off = (tgt : Int)) (h1 : ¬ x = y → AW Γ k n C I J R tgt lv st) (h2 : x = y → AW Γ k n C I J R (pc + 1 + 3) lv st) : AW Γ k n C I J R pc lv (aJ y :: aJ x :: st) := by
  refine aw_lcmp G d0 (aw_if_ne G tgt d ht (fun q => h1 (fun z => q ((lg_cmp_eq x y).mpr z))) (fun q => h2 ((lg_cmp_eq x y).mp q)))
theorem aw_lif_lt (G : Gd Γ yy cc nL ret hh) {x y : Int64} {off : Int} (tgt : Nat) (d0 : decode cc pc = .ok (.lcmp, 1)) (d : decode cc (pc + 1) = .ok (.ifCond .lt off, 3)) (ht : ((pc + 1 : Nat) : Int) + off = (tgt : Int)) (h1 : x < y → AW Γ k n C I J R tgt lv st) (h2 : ¬ x < y → AW Γ k n C I J R (pc + 1 + 3) lv st) : AW Γ k n C I J R pc lv (aJ y :: aJ x :: st) := by
  refine aw_lcmp G d0 (aw_if_lt G tgt d ht (fun q => h1 ((lg_cmp_lt x y).mp q)) (fun q => h2 (fun z => q ((lg_cmp_lt x y).mpr z))))
theorem aw_lif_ge (G : Gd Γ yy cc nL ret hh) {x y : Int64} {off : Int} (tgt : Nat) (d0 : decode cc pc = .ok (.lcmp, 1)) (d : decode cc (pc + 1) = .ok (.ifCond .ge off, 3)) (ht : ((pc + 1 : Nat) : Int) + off = (tgt : Int)) (h1 : y ≤ x → AW Γ k n C I J R tgt lv st) (h2 : ¬ y ≤ x → AW Γ k n C I J R (pc + 1 + 3) lv st) : AW Γ k n C I J R pc lv (aJ y :: aJ x :: st) := by
  refine aw_lcmp G d0 (aw_if_ge G tgt d ht (fun q => h1 ((lg_cmp_ge x y).mp q)) (fun q => h2 (fun z => q ((lg_cmp_ge x y).mpr z))))
theorem aw_lif_gt (G : Gd Γ yy cc nL ret hh) {x y : Int64} {off : Int} (tgt : Nat) (d0 : decode cc pc = .ok (.lcmp, 1)) (d : decode cc (pc + 1) = .ok (.ifCond .gt off, 3)) (ht : ((pc + 1 : Nat) : Int) + off = (tgt : Int)) (h1 : y < x → AW Γ k n C I J R tgt lv st) (h2 : ¬ y < x → AW Γ k n C I J R (pc + 1 + 3) lv st) : AW Γ k n C I J R pc lv (aJ y :: aJ x :: st) := by
  refine aw_lcmp G d0 (aw_if_gt G tgt d ht (fun q => h1 ((lg_cmp_gt x y).mp q)) (fun q => h2 (fun z => q ((lg_cmp_gt x y).mpr z))))
theorem aw_lif_le (G : Gd Γ yy cc nL ret hh) {x y : Int64} {off : Int} (tgt : Nat) (d0 : decode cc pc = .ok (.lcmp, 1)) (d : decode cc (pc + 1) = .ok (.ifCond .le off, 3)) (ht : ((pc + 1 : Nat) : Int) + off = (tgt : Int)) (h1 : x ≤ y → AW Γ k n C I J R tgt lv st) (h2 : ¬ x ≤ y → AW Γ k n C I J R (pc + 1 + 3) lv st) : AW Γ k n C I J R pc lv (aJ y :: aJ x :: st) := by
  refine aw_lcmp G d0 (aw_if_le G tgt d ht (fun q => h1 ((lg_cmp_le x y).mp q)) (fun q => h2 (fun z => q ((lg_cmp_le x y).mpr z))))
theorem aw_goto (G : Gd Γ yy cc nL ret hh) {off : Int} (tgt : Nat) (d : decode cc pc = .ok (.goto off, 3)) (ht : (pc : Int) + off = (tgt : Int)) (h : AW Γ k n C I J R tgt lv st) : AW Γ k n C I J R pc lv st := by
  obtain ⟨⟨p, l, e, Rm, s, m, args, below, meth, c⟩, z, K⟩ := Γ
  intro ad H locs ls a1 a2 a3 a4
  exact lv_goto G.1 G.2.1 d ht (h ad H locs ls a1 a2 a3 a4)
theorem aw_ifnull (G : Gd Γ yy cc nL ret hh) {x : Option Nat} {off : Int} (tgt : Nat) (d : decode cc pc = .ok (.ifnull off, 3)) (ht : (pc : Int) + off = (tgt : Int)) (h1 : x = none → AW Γ k n C I J R tgt lv st) (h2 : ¬ x = none → AW Γ k n C I J R (pc + 3) lv st) : AW Γ k n C I J R pc lv (aR x :: st) := by
  obtain ⟨⟨p, l, e, Rm, s, m, args, below, meth, c⟩, z, K⟩ := Γ
  intro ad H locs ls a1 a2 a3 a4
  cases x with
  | none => exact lv_ifnullN G.1 G.2.1 d ht (h1 rfl ad H locs ls a1 a2 a3 (ok_t a4))
  | some q => exact lv_ifnull G.1 G.2.1 d (h2 (fun z => by cases z) ad H locs ls a1 a2 a3 (ok_t a4))
theorem aw_ifnonnull (G : Gd Γ yy cc nL ret hh) {x : Option Nat} {off : Int} (tgt : Nat) (d : decode cc pc = .ok (.ifnonnull off, 3)) (ht : (pc : Int) + off = (tgt : Int)) (h1 : ¬ x = none → AW Γ k n C I J R tgt lv st) (h2 : x = none → AW Γ k n C I J R (pc + 3) lv st) : AW Γ k n C I J R pc lv (aR x :: st) := by
  obtain ⟨⟨p, l, e, Rm, s, m, args, below, meth, c⟩, z, K⟩ := Γ
  intro ad H locs ls a1 a2 a3 a4
  cases x with
  | none => exact lv_ifnonnullN G.1 G.2.1 d (h2 rfl ad H locs ls a1 a2 a3 (ok_t a4))
  | some q => exact lv_ifnonnull G.1 G.2.1 d ht (h1 (fun z => by cases z) ad H locs ls a1 a2 a3 (ok_t a4))
/-- names are apart as their addresses are -/
theorem rp_inj {D : va_G} {dA : Nat → ClassId} {U : State} {H : Heap} {ad : Nat → Nat} (h : Rp D dA U H ad C I J R) {x y : Option Nat} (hx : okv C (aR x)) (hy : okv C (aR y)) : x.map ad = y.map ad ↔ x = y := by
  constructor
  · intro e
    cases x with
    | none => cases y with
      | none => rfl
      | some b => cases e
    | some a => cases y with
      | none => cases e
      | some b => rw [h.1 a b (okv_some hx) (okv_some hy) (Option.some.inj e)]
  · intro e; rw [e]
theorem aw_acmp_eq (G : Gd Γ yy cc nL ret hh) {x y : Option Nat} {off : Int} (tgt : Nat) (d : decode cc pc = .ok (.if_acmp .eq off, 3)) (ht : (pc : Int) + off = (tgt : Int)) (h1 : x = y → AW Γ k n C I J R tgt lv st) (h2 : ¬ x = y → AW Γ k n C I J R (pc + 3) lv st) : AW Γ k n C I J R pc lv (aR y :: aR x :: st) := by
  obtain ⟨⟨p, l, e, Rm, s, m, args, below, meth, c⟩, z, K⟩ := Γ
  intro ad H locs ls a1 a2 a3 a4
  have e := rp_inj a1.1 (ok_h (ok_t a4)) (ok_h a4)
  exact lv_acmp_eq G.1 G.2.1 d ht (fun q => h1 (e.mp q) ad H locs ls a1 a2 a3 (ok_t (ok_t a4))) (fun q => h2 (fun z => q (e.mpr z)) ad H locs ls a1 a2 a3 (ok_t (ok_t a4)))
theorem aw_acmp_ne (G : Gd Γ yy cc nL ret hh) {x y : Option Nat} {off : Int} (tgt : Nat) (d : decode cc pc = .ok (.if_acmp .ne off, 3)) (ht : (pc : Int) + off = (tgt : Int)) (h1 : ¬ x = y → AW Γ k n C I J R tgt lv st) (h2 : x = y → AW Γ k n C I J R (pc + 3) lv st) : AW Γ k n C I J R pc lv (aR y :: aR x :: st) := by
  obtain ⟨⟨p, l, e, Rm, s, m, args, below, meth, c⟩, z, K⟩ := Γ
  intro ad H locs ls a1 a2 a3 a4
  have e := rp_inj a1.1 (ok_h (ok_t a4)) (ok_h a4)
  exact lv_acmp_ne G.1 G.2.1 d ht (fun q => h1 (fun z => q (e.mpr z)) ad H locs ls a1 a2 a3 (ok_t (ok_t a4))) (fun q => h2 (e.mp q) ad H locs ls a1 a2 a3 (ok_t (ok_t a4)))
/-- a table switch: each of its places, or beside them -/
theorem aw_tsw (G : Gd Γ yy cc nL ret hh) {dflt lo hi : Int} {offs : Array Int} {len : Nat} {x : Int32} (d : decode cc pc = .ok (.tableswitch dflt lo hi offs, len)) (hsz : hi - lo < offs.size) (h1 : ∀ (i : Nat) (off : Int) (tgt : Nat), offs[i]? = some off → (pc : Int) + off = (tgt : Int) → x.toInt = lo + i → AW Γ k n C I J R tgt lv st) (hpos : ∀ (i : Nat) (off : Int), offs[i]? = some off → 0 ≤ (pc : Int) + off) (h2 : ∀ tgt : Nat, (pc : Int) + dflt = (tgt : Int) → (x.toInt < lo ∨ hi < x.toInt) → AW Γ k n C I J R tgt lv st) (hd : 0 ≤ (pc : Int) + dflt) : AW Γ k n C I J R pc lv (aI x :: st) := by
  obtain ⟨⟨p, l, e, Rm, s, m, args, below, meth, c⟩, z, K⟩ := Γ
  intro ad H locs ls a1 a2 a3 a4
  by_cases q : x.toInt < lo ∨ hi < x.toInt
  · exact lv_tableOut (tgt := ((pc : Int) + dflt).toNat) G.1 G.2.1 d q (Int.toNat_of_nonneg hd).symm (h2 _ (Int.toNat_of_nonneg hd).symm q ad H locs ls a1 a2 a3 (ok_t a4))
  · have hi1 : (x.toInt - lo).toNat < offs.size := by omega
    have ho : offs[(x.toInt - lo).toNat]? = some offs[(x.toInt - lo).toNat] := Array.getElem?_eq_getElem hi1
    have h0 := hpos _ _ ho
    exact lv_tableIn (tgt := ((pc : Int) + offs[(x.toInt - lo).toNat]).toNat) G.1 G.2.1 d (fun z => q (Or.inl z)) (fun z => q (Or.inr z)) ho (Int.toNat_of_nonneg h0).symm (h1 _ _ _ ho (Int.toNat_of_nonneg h0).symm (by omega) ad H locs ls a1 a2 a3 (ok_t a4))
end AWP
