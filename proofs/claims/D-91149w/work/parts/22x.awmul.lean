/-! THE ABSTRACT LAYER 8: an array of arrays of longs, all made at once -/
set_option maxRecDepth 100000
def mup {β : Type} (f : Nat → β) (nm : Nat → Nat) (v : Nat → β) : Nat → Nat → β
  | 0 => f
  | i + 1 => va_up (mup f nm v i) (nm i) (v i)
theorem mup_ne {β : Type} (f : Nat → β) (nm : Nat → Nat) (v : Nat → β) {x : Nat} : ∀ i, (∀ j, j < i → x ≠ nm j) → mup f nm v i x = f x
  | 0, _ => rfl
  | i + 1, h => by
    show va_up (mup f nm v i) (nm i) (v i) x = f x
    rw [va_up_ne _ _ (h i (Nat.lt_succ_self i))]
    exact mup_ne f nm v i (fun j hj => h j (Nat.lt_succ_of_lt hj))
theorem mup_at {β : Type} (f : Nat → β) (nm : Nat → Nat) (v : Nat → β) {N : Nat} (hinj : ∀ a b, a < N → b < N → nm a = nm b → a = b) : ∀ i, i ≤ N → ∀ j, j < i → mup f nm v i (nm j) = v j
  | 0, _, j, h => absurd h (Nat.not_lt_zero j)
  | i + 1, hi, j, h => by
    show va_up (mup f nm v i) (nm i) (v i) (nm j) = v j
    by_cases e : j = i
    · subst e
      rw [va_up_self]
    · rw [va_up_ne _ _ (fun w => e (hinj j i (by omega) (by omega) w))]
      exact mup_at f nm v hinj i (by omega) j (by omega)
/-- a cell of the heap gets a name -/
theorem Rp.newX {D : va_G} {dA : Nat → ClassId} {U : State} {H : Heap} {ad : Nat → Nat} {C : MC} {I : MI} {J : MJ} {R : MR} (h : Rp D dA U H ad C I J R) {n a : Nat} (hn : (C n).1 = 0) (k : Nat × Nat) (hk0 : k.1 ≠ 0) (i : Nat → Int32) (j : Nat → Int64) (r : Nat → Option Nat) (ha : ∀ m, (C m).1 ≠ 0 → ad m ≠ a) (hr : ∀ x w, r x = some w → (C w).1 ≠ 0) (hk : cellOk D dA U H (va_up ad n a) k i j r a) :
    Rp D dA U H (va_up ad n a) (va_up C n k) (va_up I n i) (va_up J n j) (va_up R n r) := by
  have hl : ∀ m, (C m).1 ≠ 0 → m ≠ n := fun m hm e => hm (by rw [e]; exact hn)
  have hc : ∀ m, (va_up C n k m).1 ≠ 0 → m = n ∨ (C m).1 ≠ 0 := fun m hm => by
    by_cases e : m = n
    · exact Or.inl e
    · rw [va_up_ne C k e] at hm
      exact Or.inr hm
  have hup : ∀ m, (C m).1 ≠ 0 → (va_up C n k m).1 ≠ 0 := fun m hm => by
    rw [va_up_ne C _ (hl m hm)]
    exact hm
  refine ⟨fun x b hx hb hab => ?_, fun m x q hm hq => ?_, fun m hm => ?_⟩
  · rcases hc x hx with rfl | h1 <;> rcases hc b hb with rfl | h2
    · rfl
    · rw [va_up_self, va_up_ne ad _ (hl b h2)] at hab
      exact absurd hab.symm (ha b h2)
    · rw [va_up_self, va_up_ne ad _ (hl x h1)] at hab
      exact absurd hab (ha x h1)
    · rw [va_up_ne ad _ (hl x h1), va_up_ne ad _ (hl b h2)] at hab
      exact h.1 x b h1 h2 hab
  · by_cases e : m = n
    · subst e
      rw [va_up_self] at hq
      exact hup q (hr x q hq)
    · rw [va_up_ne R _ e] at hq
      rw [va_up_ne C _ e] at hm
      exact hup q (h.2.1 m x q hm hq)
  · rcases hc m hm with rfl | h1
    · rw [va_up_self, va_up_self, va_up_self, va_up_self, va_up_self]
      exact hk
    · have e := hl m h1
      rw [va_up_ne C _ e, va_up_ne I _ e, va_up_ne J _ e, va_up_ne R _ e, va_up_ne ad _ e]
      exact (h.2.2 m h1).re (fun x q hx => va_up_ne ad _ (hl q (h.2.1 m x q h1 hx)))
theorem Rp.addN {D : va_G} {dA : Nat → ClassId} {U : State} {H : Heap} {ad : Nat → Nat} {C : MC} {I : MI} {J : MJ} {R : MR} (h : Rp D dA U H ad C I J R) {N M b : Nat} {nm : Nat → Nat} (hfr : ∀ j, j < N → (C (nm j)).1 = 0) (hinj : ∀ x y, x < N → y < N → nm x = nm y → x = y) (hb : ∀ m, (C m).1 ≠ 0 → ad m < b)
    (hc : ∀ j, j < N → H[b + j]? = some (arrV (dA 21) M (fun _ => .long 0))) : ∀ i, i ≤ N → Rp D dA U H (mup ad nm (fun j => b + j) i) (mup C nm (fun _ => (21, M)) i) (mup I nm (fun _ _ => 0) i) (mup J nm (fun _ _ => 0) i) (mup R nm (fun _ _ => none) i) ∧ ∀ m, (mup C nm (fun _ => (21, M)) i m).1 ≠ 0 → mup ad nm (fun j => b + j) i m < b + i
  | 0, _ => ⟨h, fun m hm => hb m hm⟩
  | i + 1, hi => by
    obtain ⟨ih, ib⟩ := Rp.addN h hfr hinj hb hc i (by omega)
    have hn0 : (mup C nm (fun _ => (21, M)) i (nm i)).1 = 0 := by
      rw [mup_ne C nm _ i (fun j hj e => absurd (hinj i j (by omega) (by omega) e) (by omega))]
      exact hfr i (by omega)
    have hsz : b + i < H.size := (Array.getElem?_eq_some_iff.mp (hc i (by omega))).1
    refine ⟨ih.newX hn0 (21, M) (show (21 : Nat) ≠ 0 by decide) (fun _ => 0) (fun _ => 0) (fun _ => none) (fun m hm => Nat.ne_of_lt (ib m hm)) (fun _ _ w => by cases w) ⟨hsz, fun w => absurd w (show ¬ (21 : Nat) ≤ 11 by decide), fun _ w => absurd w (show ¬ (21 : Nat) < 20 by decide), fun _ _ => hc i (by omega), fun w => absurd w (show ¬ (21 : Nat) = 30 by decide)⟩, fun m hm => ?_⟩
    show va_up (mup ad nm (fun j => b + j) i) (nm i) (b + i) m < b + (i + 1)
    by_cases e : m = nm i
    · rw [e, va_up_self]
      omega
    · rw [va_up_ne _ _ e]
      have hm2 : (va_up (mup C nm (fun _ => (21, M)) i) (nm i) (21, M) m).1 ≠ 0 := hm
      rw [va_up_ne _ _ e] at hm2
      have := ib m hm2
      omega
theorem outerC_is (c : ClassId) (N h0 : Nat) : ∀ i, ∃ sl : Array Value, Jvm.Free.Multi.outerC c N h0 i = { cls := c, slots := sl, vm := .none }
  | 0 => ⟨_, rfl⟩
  | i + 1 => by
    obtain ⟨sl, h⟩ := outerC_is c N h0 i
    refine ⟨sl.setIfInBounds i (.ref (h0 + 1 + i)), ?_⟩
    show (Jvm.Free.Multi.outerC c N h0 i).setSlot i (.ref (h0 + 1 + i)) = _
    rw [h]
    rfl
section AWM
variable {Γ : Gm} {k n k' n' : Nat} {C : MC} {I : MI} {J : MJ} {R : MR} {pc : Nat} {lv : List (Nat × AV)} {st : List AV} {yy : MethodName} {cc : ByteArray} {nL : Nat} {ret : Option FieldType} {hh : List (Nat × Nat × Nat × Nat)} {q index : Nat}
theorem aw_mulJ (G : Gd Γ yy cc nL ret hh) {x y : Int32} {N M : Nat} (nm : Nat → Nat) (hl : Cond.classLink yy.cls index "[[J" ∈ lw_all) (hx : ¬ x < 0) (hy : ¬ y < 0) (hN : x.toNatClampNeg = N) (hM : y.toNatClampNeg = M) (hN1 : N ≤ 1000) (hM1 : M ≤ 1000) (h1 : k + 1 + N ≤ k') (h2 : n + N + N * M ≤ n') (h3 : k' ≤ (gR Γ).cells) (h4 : n' ≤ (gR Γ).slots)
    (hfr : ∀ j, j < N → (C (nm j)).1 = 0) (hinj : ∀ a b, a < N → b < N → nm a = nm b → a = b) (hq : (C q).1 = 0) (hqn : ∀ j, j < N → q ≠ nm j) (d : decode cc pc = .ok (.multianewarray index 2, 4))
    (h : AW Γ k' n' (va_up (mup C nm (fun _ => (21, M)) N) q (29, N)) (va_up (mup I nm (fun _ _ => 0) N) q (fun _ => 0)) (va_up (mup J nm (fun _ _ => 0) N) q (fun _ => 0)) (va_up (mup R nm (fun _ _ => none) N) q (fun j => if j < N then some (nm j) else none)) (pc + 4) lv (aR (some q) :: st)) : AW Γ k n C I J R pc lv (aI y :: aI x :: st) := by
  obtain ⟨⟨p, l, e, Rm, s, m, args, below, meth, c⟩, z, K⟩ := Γ
  intro ad H locs ls a1 a2 a3 a4
  have hKn := G.2.2.2.2.2.2.2.1
  subst hN
  subst hM
  intro T hT X
  obtain ⟨vm₁, cA, comp, hW, hfA, hfC, hO, hI, X1, step⟩ := X.multianewarray2F G.1 (ty := .long) G.2.2.2.2.1 (G.2.2.2.1 _ hl) (show (Cond.arrayOver (.array .long)).before args s = true from hKn.2.1 _ q468 rfl) (G.2.2.2.1 _ q150) (g := F0 m pc ls (.int y :: .int x :: st.map (cv ad))) rfl (by rw [G.2.1]; exact d) rfl hx hy (by omega) (by simp only [componentBytes]; omega) (by omega) rfl rfl (by have h3' : k' ≤ Rm.cells := h3; omega) (by have h4' : n' ≤ Rm.slots := h4; omega)
  obtain ⟨f1, f2, f3, f4⟩ := Jvm.Free.Multi.fill_facts (T.setVm vm₁) cA comp x.toNatClampNeg y.toNatClampNeg (defaultValue .long) x.toNatClampNeg
  have fo := fun (a : Addr) (ha : a < T.heap.size) => Jvm.Free.Multi.fill_old (T.setVm vm₁) cA comp x.toNatClampNeg y.toNatClampNeg (defaultValue .long) (a := a) ha x.toNatClampNeg
  have fi := fun (j : Nat) (hj : j < x.toNatClampNeg) => Jvm.Free.Multi.fill_inner (T.setVm vm₁) cA comp x.toNatClampNeg y.toNatClampNeg (defaultValue .long) x.toNatClampNeg j hj
  obtain ⟨o1, o2, o3⟩ := Jvm.Free.Multi.outerC_facts cA x.toNatClampNeg T.heap.size x.toNatClampNeg
  have os := fun (j : Nat) (hj : j < x.toNatClampNeg) => Jvm.Free.Multi.outerC_slot cA x.toNatClampNeg T.heap.size x.toNatClampNeg j hj
  have hcA : cA = z.2.1 29 := Option.some.inj (hfA.symm.trans (kn_find hKn (x := 29) (by decide) (by decide)))
  have hcI : comp = z.2.1 21 := Option.some.inj (hfC.symm.trans (kn_find hKn (x := 21) (by decide) (by decide)))
  subst hcA
  subst hcI
  generalize hU : Jvm.Free.Multi.fill (T.setVm vm₁) (z.2.1 29) (z.2.1 21) x.toNatClampNeg y.toNatClampNeg (defaultValue .long) x.toNatClampNeg = U at *
  have f1 : U.heap.size = H.size + 1 + x.toNatClampNeg := by rw [f1]; show T.heap.size + 1 + _ = _; rw [hT]
  have hold : ∀ a : Nat, a < H.size → U.heap[a]? = H[a]? := fun a ha => by
    have := fo a (by rw [hT]; exact ha)
    rw [this]
    show T.heap[a]? = _
    rw [hT]
  have hin : ∀ j, j < x.toNatClampNeg → U.heap[H.size + 1 + j]? = some (arrV (z.2.1 21) y.toNatClampNeg (fun _ => .long 0)) := fun j hj => by
    have := fi j hj
    rw [← arrV_new, ← hT]
    exact this
  have hout : U.heap[H.size]? = some (arrV (z.2.1 29) x.toNatClampNeg (fun j => va_rf ((if j < x.toNatClampNeg then some (nm j) else none).map (va_up (mup ad nm (fun j => H.size + 1 + j) x.toNatClampNeg) q H.size)))) := by
    have e0 : U.heap[H.size]? = some (Jvm.Free.Multi.outerC (z.2.1 29) x.toNatClampNeg T.heap.size x.toNatClampNeg) := by
      rw [← hT]
      exact f2
    rw [e0]
    congr 1
    obtain ⟨sl, hsl⟩ := outerC_is (z.2.1 29) x.toNatClampNeg T.heap.size x.toNatClampNeg
    rw [hsl] at o3 os ⊢
    unfold arrV
    congr 1
    apply Array.ext
    · simp [o3]
    · intro j g1 g2
      have hj : j < x.toNatClampNeg := by rw [← o3]; exact g1
      have h9 := os j hj
      rw [Array.getElem?_eq_getElem g1] at h9
      have h9 := Option.some.inj h9
      rw [h9, if_pos hj]
      simp only [Array.getElem_ofFn]
      rw [if_pos hj]
      show _ = va_rf (some (va_up (mup ad nm (fun j => H.size + 1 + j) x.toNatClampNeg) q H.size (nm j)))
      rw [va_up_ne _ _ (fun e => hqn j hj e.symm), mup_at ad nm _ hinj _ (Nat.le_refl _) j hj, hT]
      rfl
  have hkept : Rp z.1 z.2.1 s U.heap ad C I J R := ⟨a1.1.1, a1.1.2.1, fun w hw => (a1.1.2.2 w hw).kept (hold _ (a1.1.lt hw))⟩
  obtain ⟨r1, r2⟩ := hkept.addN (b := H.size + 1) (M := y.toNatClampNeg) hfr hinj (fun w hw => Nat.lt_succ_of_lt (a1.1.lt hw)) hin x.toNatClampNeg (Nat.le_refl _)
  have hCq : (mup C nm (fun _ => (21, y.toNatClampNeg)) x.toNatClampNeg q).1 = 0 := by
    rw [mup_ne C nm _ _ hqn]
    exact hq
  have hadr : ∀ w, (mup C nm (fun _ => (21, y.toNatClampNeg)) x.toNatClampNeg w).1 ≠ 0 → mup ad nm (fun j => H.size + 1 + j) x.toNatClampNeg w ≠ H.size := by
    intro w hw
    by_cases e : ∃ j, j < x.toNatClampNeg ∧ w = nm j
    · obtain ⟨j, hj, rfl⟩ := e
      rw [mup_at ad nm _ hinj _ (Nat.le_refl _) j hj]
      omega
    · have e2 : ∀ j, j < x.toNatClampNeg → w ≠ nm j := fun j hj z => e ⟨j, hj, z⟩
      rw [mup_ne C nm _ _ e2] at hw
      rw [mup_ne ad nm _ _ e2]
      have := a1.1.lt hw
      omega
  have r3 := r1.newX hCq (29, x.toNatClampNeg) (show (29 : Nat) ≠ 0 by decide) (fun _ => 0) (fun _ => 0) (fun j => if j < x.toNatClampNeg then some (nm j) else none) hadr (fun j w hw => by
    by_cases e : j < x.toNatClampNeg
    · rw [if_pos e] at hw
      cases hw
      rw [mup_at C nm _ hinj _ (Nat.le_refl _) j e]
      show (21 : Nat) ≠ 0
      decide
    · rw [if_neg e] at hw
      cases hw) ⟨by omega, fun w => absurd w (show ¬ (29 : Nat) ≤ 11 by decide), fun _ w => absurd w (show ¬ (29 : Nat) < 20 by decide), fun _ _ => hout, fun w => absurd w (show ¬ (29 : Nat) = 30 by decide)⟩
  have hre : ∀ w, (C w).1 ≠ 0 → va_up (mup ad nm (fun j => H.size + 1 + j) x.toNatClampNeg) q H.size w = ad w ∧ va_up (mup C nm (fun _ => (21, y.toNatClampNeg)) x.toNatClampNeg) q (29, x.toNatClampNeg) w = C w := fun w hw => by
    have e1 : w ≠ q := fun e => hw (by rw [e]; exact hq)
    have e2 : ∀ j, j < x.toNatClampNeg → w ≠ nm j := fun j hj z => hw (by rw [z]; exact hfr j hj)
    rw [va_up_ne _ _ e1, va_up_ne _ _ e1, mup_ne ad nm _ _ e2, mup_ne C nm _ _ e2]
    exact ⟨rfl, rfl⟩
  have hmo : ∀ w, (C w).1 ≠ 0 → (va_up (mup C nm (fun _ => (21, y.toNatClampNeg)) x.toNatClampNeg) q (29, x.toNatClampNeg) w).1 ≠ 0 := fun w hw => by rw [(hre w hw).2]; exact hw
  have hSit : Sit s z (va_up (mup ad nm (fun j => H.size + 1 + j) x.toNatClampNeg) q H.size) U.heap locs (va_up (mup C nm (fun _ => (21, y.toNatClampNeg)) x.toNatClampNeg) q (29, x.toNatClampNeg)) (va_up (mup I nm (fun _ _ => 0) x.toNatClampNeg) q (fun _ => 0)) (va_up (mup J nm (fun _ _ => 0) x.toNatClampNeg) q (fun _ => 0)) (va_up (mup R nm (fun _ _ => none) x.toNatClampNeg) q (fun j => if j < x.toNatClampNeg then some (nm j) else none)) := by
    obtain ⟨b1, b2, b3, b4⟩ := a1
    refine ⟨r3, fun w hw => ?_, ⟨by have := b3.1; omega, fun w hw hA => ?_, b3.2.2⟩, fun w hw => ?_⟩
    · have h5 := b2 w hw
      have h6 : (C w).1 ≠ 0 := by rw [h5.2]; exact hw
      rw [(hre w h6).1, (hre w h6).2]
      exact h5
    · rw [hold w (Nat.lt_of_lt_of_le hw b3.1)]
      exact b3.2.1 w hw hA
    · by_cases e1 : w = q
      · rw [e1, va_up_self]
        exact Or.inr b3.1
      · rw [va_up_ne _ _ e1] at hw ⊢
        by_cases e : ∃ j, j < x.toNatClampNeg ∧ w = nm j
        · obtain ⟨j, hj, rfl⟩ := e
          rw [mup_at ad nm _ hinj _ (Nat.le_refl _) j hj]
          exact Or.inr (by have := b3.1; omega)
        · have e2 : ∀ j, j < x.toNatClampNeg → w ≠ nm j := fun j hj z => e ⟨j, hj, z⟩
          rw [mup_ne C nm _ _ e2] at hw
          rw [mup_ne ad nm _ _ e2]
          exact b4 w hw
  have hw := h _ U.heap locs ls hSit (by rw [lvm_re (fun w hw => (hre w hw).1) a3]; exact a2) (fun w hw => okv_kept hmo (a3 w hw)) (ok_c (okv_R (by rw [va_up_self]; show (29 : Nat) ≠ 0; decide)) (fun w hw => okv_kept hmo (ok_t (ok_t a4) w hw)))
  rw [List.map_cons, stm_re (fun w hw => (hre w hw).1) (ok_t (ok_t a4))] at hw
  rw [show cv (va_up (mup ad nm (fun j => H.size + 1 + j) x.toNatClampNeg) q H.size) (aR (some q)) = .ref H.size by simp [cv, va_rf, va_up]] at hw
  obtain ⟨t, st1, q1⟩ := hw U rfl (X1.more (by omega) (by omega))
  refine ⟨t, step t ?_, q1⟩
  rw [hT]
  exact st1
end AWM
