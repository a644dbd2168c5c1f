/-! THE ABSTRACT LAYER 1: values, typed memory over names, what a heap must hold -/
set_option maxRecDepth 100000
abbrev AV : Type := Int32 ⊕ (Int64 ⊕ Option Nat)
abbrev aI (x : Int32) : AV := Sum.inl x
abbrev aJ (x : Int64) : AV := Sum.inr (Sum.inl x)
abbrev aR (x : Option Nat) : AV := Sum.inr (Sum.inr x)
def cv (ad : Nat → Nat) : AV → Value := fun v => match v with
  | .inl x => .int x
  | .inr (.inl x) => .long x
  | .inr (.inr r) => va_rf (r.map ad)
abbrev MC : Type := Nat → Nat × Nat
abbrev MI : Type := Nat → Nat → Int32
abbrev MJ : Type := Nat → Nat → Int64
abbrev MR : Type := Nat → Nat → Option Nat
def okv (C : MC) (v : AV) : Prop := ∀ q, v = aR (some q) → (C q).1 ≠ 0
theorem okv_I {C : MC} (x : Int32) : okv C (aI x) := fun _ h => by cases h
theorem okv_J {C : MC} (x : Int64) : okv C (aJ x) := fun _ h => by cases h
theorem okv_N {C : MC} : okv C (aR none) := fun _ h => by cases h
theorem okv_R {C : MC} {q : Nat} (h : (C q).1 ≠ 0) : okv C (aR (some q)) := fun _ e => by cases e; exact h
theorem okv_some {C : MC} {q : Nat} (h : okv C (aR (some q))) : (C q).1 ≠ 0 := h q rfl
/-- the classes whose objects have names; a name's kind is 1 + place -/
def clTab : List vw_C := [(RX0, TX0, 8), (RX1, TX1, 7), (RX2, TX2, 38), (RX3, TX3, 3), (RX5, TX5, 13), (RX6, TX6, 8), (RX7, TX7, 12), (RX8, TX8, 8), (RX9, TX9, 10), (RX10, TX10, 7), (RX11, TX11, 6)]
def cty : Nat → Nat → FieldType := fun ci => match ci with
  | 0 => tyX0
  | 1 => tyX1
  | 2 => tyX2
  | 3 => tyX3
  | 4 => tyX5
  | 5 => tyX6
  | 6 => tyX7
  | 7 => tyX8
  | 8 => tyX9
  | 9 => tyX10
  | _ => tyX11
/-- Throwable's own fields: nothing is said of them -/
def opq (ci f : Nat) : Bool := (ci == 1 || ci == 10) && Nat.blt f 6
/-- kinds of arrays, from 20 on -/
def ety : Nat → FieldType := fun k => match k with
  | 20 => .int
  | 21 => .long
  | 22 => .byte
  | 23 => .short
  | 24 => .boolean
  | 25 => .object "java/lang/Object"
  | 26 => .object "TickShare$Thing"
  | 27 => .object "TickShare$Table"
  | 28 => .object "TickShare$Leaf"
  | _ => .array .long
def kname : Nat → String := fun k => match k with
  | 2 => RX1
  | 11 => RX11
  | 12 => "java/lang/ArrayIndexOutOfBoundsException"
  | 13 => "java/lang/NegativeArraySizeException"
  | _ => ""
def fval (ty : FieldType) (ad : Nat → Nat) (i : Int32) (j : Int64) (r : Option Nat) : Value := match ty with
  | .long => .long j
  | .object _ => va_rf (r.map ad)
  | .array _ => va_rf (r.map ad)
  | _ => .int i
def aval (ty : FieldType) (i : Int32) (j : Int64) (r : Option Nat) : AV := match ty with
  | .long => aJ j
  | .object _ => aR r
  | .array _ => aR r
  | _ => aI i
theorem cv_aval (ty : FieldType) (ad : Nat → Nat) (i : Int32) (j : Int64) (r : Option Nat) : cv ad (aval ty i j r) = fval ty ad i j r := by cases ty <;> rfl
def arTys (dA : Nat → ClassId) : List (ClassId × FieldType) := (List.range 10).map fun x => (dA (20 + x), ety (20 + x))
theorem arTys_at (dA : Nat → ClassId) {k : Nat} (h1 : 20 ≤ k) (h2 : k < 30) : (arTys dA)[k - 20]? = some (dA k, ety k) := by
  obtain ⟨x, rfl⟩ : ∃ x, k = 20 + x := ⟨k - 20, by omega⟩
  rw [Nat.add_sub_cancel_left]
  simp [arTys, List.getElem?_range (show x < 10 by omega)]
def cellOk (D : va_G) (dA : Nat → ClassId) (U : State) (H : Heap) (ad : Nat → Nat) (k : Nat × Nat) (i : Nat → Int32) (j : Nat → Int64) (r : Nat → Option Nat) (a : Nat) : Prop :=
  a < H.size ∧
  (k.1 ≤ 11 → ∃ (q : vw_C) (V : Nat → Value), clTab[k.1 - 1]? = some q ∧ t_OB a (D.1 (k.1 - 1)) q.2.2 (D.2 (k.1 - 1)) H V ∧ ∀ f, f < q.2.2 → opq (k.1 - 1) f = false → V f = fval (cty (k.1 - 1) f) ad (i f) (j f) (r f)) ∧
  (12 ≤ k.1 → k.1 < 20 → ∃ ce : Cell, H[a]? = some ce ∧ ce.vm = .none ∧ U.vm.findClass (kname k.1) = some ce.cls) ∧
  (20 ≤ k.1 → k.1 < 30 → H[a]? = some (arrV (dA k.1) k.2 (fun x => fval (ety k.1) ad (i x) (j x) (r x)))) ∧
  (k.1 = 30 → va_X a k.2 i U H)
theorem cellOk.kept {D : va_G} {dA : Nat → ClassId} {U : State} {H H1 : Heap} {ad : Nat → Nat} {k : Nat × Nat} {i : Nat → Int32} {j : Nat → Int64} {r : Nat → Option Nat} {a : Nat} (h : cellOk D dA U H ad k i j r a) (hq : H1[a]? = H[a]?) : cellOk D dA U H1 ad k i j r a := by
  obtain ⟨h1, h2, h3, h4, h5⟩ := h
  have hs : a < H1.size := by
    rcases Nat.lt_or_ge a H1.size with h | h
    · exact h
    · have e : H1[a]? = none := by simp [h]
      rw [e, Array.getElem?_eq_getElem h1] at hq
      cases hq
  refine ⟨hs, fun h => ?_, fun h g => ?_, fun h g => ?_, fun h => ?_⟩
  · obtain ⟨q, V, a1, a2, a3⟩ := h2 h
    exact ⟨q, V, a1, a2.kept hq, a3⟩
  · obtain ⟨ce, a1, a2⟩ := h3 h g
    exact ⟨ce, hq.trans a1, a2⟩
  · exact hq.trans (h4 h g)
  · exact (h5 h).kept hq
theorem cellOk.moved {D : va_G} {dA : Nat → ClassId} {u U : State} {H : Heap} {ad : Nat → Nat} {k : Nat × Nat} {i : Nat → Int32} {j : Nat → Int64} {r : Nat → Option Nat} {a : Nat} (hvm : u.vm.Alike U.vm) (h : cellOk D dA u H ad k i j r a) : cellOk D dA U H ad k i j r a := by
  obtain ⟨h1, h2, h3, h4, h5⟩ := h
  refine ⟨h1, h2, fun h g => ?_, h4, fun h => (h5 h).moved hvm⟩
  obtain ⟨ce, a1, a2, a3⟩ := h3 h g
  exact ⟨ce, a1, a2, by rw [hvm.findClass]; exact a3⟩
theorem fval_re {ad ad' : Nat → Nat} {r : Option Nat} (h : ∀ q, r = some q → ad' q = ad q) (ty : FieldType) (i : Int32) (j : Int64) : fval ty ad' i j r = fval ty ad i j r := by
  have e : r.map ad' = r.map ad := by
    cases r with
    | none => rfl
    | some q => simp [h q rfl]
  unfold fval
  rw [e]
theorem cellOk.re {D : va_G} {dA : Nat → ClassId} {U : State} {H : Heap} {ad ad' : Nat → Nat} {k : Nat × Nat} {i : Nat → Int32} {j : Nat → Int64} {r : Nat → Option Nat} {a : Nat} (hr : ∀ x q, r x = some q → ad' q = ad q) (h : cellOk D dA U H ad k i j r a) : cellOk D dA U H ad' k i j r a := by
  obtain ⟨h1, h2, h3, h4, h5⟩ := h
  refine ⟨h1, fun h => ?_, h3, fun h g => ?_, h5⟩
  · obtain ⟨q, V, a1, a2, a3⟩ := h2 h
    exact ⟨q, V, a1, a2, fun f hf ho => by rw [a3 f hf ho]; exact (fval_re (hr f) _ _ _).symm⟩
  · rw [h4 h g]
    congr 2
    funext x
    exact (fval_re (hr x) _ _ _).symm
def Rp (D : va_G) (dA : Nat → ClassId) (U : State) (H : Heap) (ad : Nat → Nat) (C : MC) (I : MI) (J : MJ) (R : MR) : Prop :=
  (∀ n m, (C n).1 ≠ 0 → (C m).1 ≠ 0 → ad n = ad m → n = m) ∧ (∀ n i q, (C n).1 ≠ 0 → R n i = some q → (C q).1 ≠ 0) ∧
  ∀ n, (C n).1 ≠ 0 → cellOk D dA U H ad (C n) (I n) (J n) (R n) (ad n)
theorem Rp.moved {D : va_G} {dA : Nat → ClassId} {u U : State} {H : Heap} {ad : Nat → Nat} {C : MC} {I : MI} {J : MJ} {R : MR} (hvm : u.vm.Alike U.vm) (h : Rp D dA u H ad C I J R) : Rp D dA U H ad C I J R := ⟨h.1, h.2.1, fun n hn => (h.2.2 n hn).moved hvm⟩
theorem Rp.lt {D : va_G} {dA : Nat → ClassId} {U : State} {H : Heap} {ad : Nat → Nat} {C : MC} {I : MI} {J : MJ} {R : MR} (h : Rp D dA U H ad C I J R) {n : Nat} (hn : (C n).1 ≠ 0) : ad n < H.size := (h.2.2 n hn).1
theorem Rp.okR {D : va_G} {dA : Nat → ClassId} {U : State} {H : Heap} {ad : Nat → Nat} {C : MC} {I : MI} {J : MJ} {R : MR} (h : Rp D dA U H ad C I J R) {n : Nat} (hn : (C n).1 ≠ 0) (i : Nat) : okv C (aR (R n i)) := fun q e => h.2.1 n i q hn (Sum.inr.inj (Sum.inr.inj e))
/-- a store into the cell of one name -/
theorem Rp.put {D : va_G} {dA : Nat → ClassId} {U : State} {H H1 : Heap} {ad : Nat → Nat} {C : MC} {I I' : MI} {J J' : MJ} {R R' : MR} (h : Rp D dA U H ad C I J R) {n : Nat} (hn : (C n).1 ≠ 0) (oq : ∀ q : Nat, q ≠ ad n → H1[q]? = H[q]?)
    (hI : ∀ m, m ≠ n → I' m = I m) (hJ : ∀ m, m ≠ n → J' m = J m) (hR : ∀ m, m ≠ n → R' m = R m) (hc : ∀ i q, R' n i = some q → (C q).1 ≠ 0) (hk : cellOk D dA U H1 ad (C n) (I' n) (J' n) (R' n) (ad n)) : Rp D dA U H1 ad C I' J' R' := by
  refine ⟨h.1, fun m i q hm hq => ?_, fun m hm => ?_⟩
  · by_cases e : m = n
    · subst e
      exact hc i q hq
    · rw [hR m e] at hq
      exact h.2.1 m i q hm hq
  · by_cases e : m = n
    · subst e
      exact hk
    · rw [hI m e, hJ m e, hR m e]
      exact (h.2.2 m hm).kept (oq _ (fun z => e (h.1 m n hm hn z)))
/-- a new cell, under a free name -/
theorem Rp.new {D : va_G} {dA : Nat → ClassId} {U : State} {H H1 : Heap} {ad : Nat → Nat} {C : MC} {I : MI} {J : MJ} {R : MR} (h : Rp D dA U H ad C I J R) {n : Nat} (hn : (C n).1 = 0) (k : Nat × Nat) (hk0 : k.1 ≠ 0) (i : Nat → Int32) (j : Nat → Int64) (oq : ∀ q : Nat, q < H.size → H1[q]? = H[q]?)
    (hk : ∀ ad' : Nat → Nat, cellOk D dA U H1 ad' k i j (fun _ => none) H.size) : Rp D dA U H1 (va_up ad n H.size) (va_up C n k) (va_up I n i) (va_up J n j) (va_up R n (fun _ => none)) := by
  have hl : ∀ m, (C m).1 ≠ 0 → m ≠ n := fun m hm e => hm (by rw [e]; exact hn)
  have hc : ∀ m, (va_up C n k m).1 ≠ 0 → m = n ∨ (C m).1 ≠ 0 := fun m hm => by
    by_cases e : m = n
    · exact Or.inl e
    · rw [va_up_ne C k e] at hm
      exact Or.inr hm
  refine ⟨fun a b ha hb hab => ?_, fun m x q hm hq => ?_, fun m hm => ?_⟩
  · rcases hc a ha with rfl | h1 <;> rcases hc b hb with rfl | h2
    · rfl
    · rw [va_up_self, va_up_ne ad _ (hl b h2)] at hab
      have := h.lt h2
      omega
    · rw [va_up_self, va_up_ne ad _ (hl a h1)] at hab
      have := h.lt h1
      omega
    · rw [va_up_ne ad _ (hl a h1), va_up_ne ad _ (hl b h2)] at hab
      exact h.1 a b h1 h2 hab
  · by_cases e : m = n
    · subst e
      rw [va_up_self] at hq
      cases hq
    · rw [va_up_ne R _ e] at hq
      rw [va_up_ne C _ e] at hm
      have h1 := h.2.1 m x q hm hq
      by_cases e2 : q = n
      · rw [e2, va_up_self]
        exact hk0
      · rw [va_up_ne C _ e2]
        exact h1
  · rcases hc m hm with rfl | h1
    · rw [va_up_self, va_up_self, va_up_self, va_up_self, va_up_self]
      exact hk _
    · have e := hl m h1
      rw [va_up_ne C _ e, va_up_ne I _ e, va_up_ne J _ e, va_up_ne R _ e, va_up_ne ad _ e]
      refine ((h.2.2 m h1).kept (oq _ (h.lt h1))).re (fun x q hx => ?_)
      exact va_up_ne ad _ (hl q (h.2.1 m x q h1 hx))
