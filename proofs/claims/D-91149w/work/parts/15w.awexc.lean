/-! THE ABSTRACT LAYER 7: exceptions that the machine itself makes -/
set_option maxRecDepth 100000
theorem Rp.newAt {D : va_G} {dA : Nat → ClassId} {U : State} {H H1 : Heap} {ad : Nat → Nat} {C : MC} {I : MI} {J : MJ} {R : MR} (h : Rp D dA U H ad C I J R) {n a : Nat} (hn : (C n).1 = 0) (k : Nat × Nat) (hk0 : k.1 ≠ 0) (i : Nat → Int32) (j : Nat → Int64) (ha : H.size ≤ a) (oq : ∀ q : Nat, q < H.size → H1[q]? = H[q]?)
    (hk : ∀ ad' : Nat → Nat, cellOk D dA U H1 ad' k i j (fun _ => none) a) : Rp D dA U H1 (va_up ad n a) (va_up C n k) (va_up I n i) (va_up J n j) (va_up R n (fun _ => none)) := by
  have hl : ∀ m, (C m).1 ≠ 0 → m ≠ n := fun m hm e => hm (by rw [e]; exact hn)
  have hc : ∀ m, (va_up C n k m).1 ≠ 0 → m = n ∨ (C m).1 ≠ 0 := fun m hm => by
    by_cases e : m = n
    · exact Or.inl e
    · rw [va_up_ne C k e] at hm
      exact Or.inr hm
  refine ⟨fun x b hx hb hab => ?_, fun m x q hm hq => ?_, fun m hm => ?_⟩
  · rcases hc x hx with rfl | h1 <;> rcases hc b hb with rfl | h2
    · rfl
    · rw [va_up_self, va_up_ne ad _ (hl b h2)] at hab
      have := h.lt h2
      omega
    · rw [va_up_self, va_up_ne ad _ (hl x h1)] at hab
      have := h.lt h1
      omega
    · rw [va_up_ne ad _ (hl x h1), va_up_ne ad _ (hl b h2)] at hab
      exact h.1 x b h1 h2 hab
  · by_cases e : m = n
    · subst e
      rw [va_up_self] at hq
      cases hq
    · rw [va_up_ne R _ e] at hq
      rw [va_up_ne C _ e] at hm
      have h1 := h.2.1 m x q hm hq
      by_cases e2 : q = n
      · rw [e2, va_up_self]
        exact hk0
      · rw [va_up_ne C _ e2]
        exact h1
  · rcases hc m hm with rfl | h1
    · rw [va_up_self, va_up_self, va_up_self, va_up_self, va_up_self]
      exact hk _
    · have e := hl m h1
      rw [va_up_ne C _ e, va_up_ne I _ e, va_up_ne J _ e, va_up_ne R _ e, va_up_ne ad _ e]
      refine ((h.2.2 m h1).kept (oq _ (h.lt h1))).re (fun x q hx => ?_)
      exact va_up_ne ad _ (hl q (h.2.1 m x q h1 hx))
theorem Sit.newAt {s : State} {z : Zd} {ad : Nat → Nat} {H H1 : Heap} {locs : List Loc} {C : MC} {I : MI} {J : MJ} {R : MR} {n a : Nat} (h : Sit s z ad H locs C I J R) (hn : (C n).1 = 0) (k : Nat × Nat) (hk0 : k.1 ≠ 0) (i : Nat → Int32) (j : Nat → Int64) (ha : H.size ≤ a) (hS : va_S (fA z.2.2.1 z.2.2.2.1 s.heap.size) s.heap H1 locs) (oq : ∀ q : Nat, q < H.size → H1[q]? = H[q]?)
    (hk : ∀ ad' : Nat → Nat, cellOk z.1 z.2.1 s H1 ad' k i j (fun _ => none) a) : Sit s z (va_up ad n a) H1 locs (va_up C n k) (va_up I n i) (va_up J n j) (va_up R n (fun _ => none)) := by
  obtain ⟨h1, h2, h3, h4⟩ := h
  refine ⟨h1.newAt hn k hk0 i j ha oq hk, fun q hq => ?_, hS, fun q hq => ?_⟩
  · have h5 := h2 q hq
    have e : q ≠ n := fun e => hq (by rw [← h5.2, e, hn])
    rw [va_up_ne _ _ e, va_up_ne _ _ e]
    exact h5
  · by_cases e : q = n
    · rw [e, va_up_self]
      exact Or.inr (Nat.le_trans h3.1 ha)
    · rw [va_up_ne _ _ e] at hq ⊢
      exact h4 q hq
def exN : Nat → List String := fun k => if k = 12 then ["java/lang/IndexOutOfBoundsException", "java/lang/RuntimeException", "java/lang/Exception"] else ["java/lang/RuntimeException", "java/lang/Exception"]
theorem ex_w12 : ∀ w ∈ (vx_atM (kname 12) (exN 12)).filter goodWord, w ∈ lw_tbl := by decide +kernel
theorem ex_w13 : ∀ w ∈ (vx_atM (kname 13) (exN 13)).filter goodWord, w ∈ lw_tbl := by decide +kernel
theorem ex_b12 : ∀ w ∈ (vx_atM (kname 12) (exN 12)).filter (fun w => !goodWord w), w ∈ lw_tbl ∧ kb w = true ∧ w.onTables = true := by decide +kernel
theorem ex_b13 : ∀ w ∈ (vx_atM (kname 13) (exN 13)).filter (fun w => !goodWord w), w ∈ lw_tbl ∧ kb w = true ∧ w.onTables = true := by decide +kernel
theorem ex_t12 : ∀ w ∈ vx_atM (kname 12) (exN 12), vx_ot w = true := by decide +kernel
theorem ex_t13 : ∀ w ∈ vx_atM (kname 13) (exN 13), vx_ot w = true := by decide +kernel
section AWE
variable {p : Program} {l : Launch} {e : Env} {Rm : Room} {s : State} {m : MethodId} {args : Array Value} {below : List Frame} {meth : Method} {c : Code} {z : Zd} {K : AK} {k n k' n' : Nat} {C : MC} {I : MI} {J : MJ} {R : MR} {pc : Nat} {lv : List (Nat × AV)} {st : List AV} {yy : MethodName} {cc : ByteArray} {nL : Nat} {ret : Option FieldType} {hh : List (Nat × Nat × Nat × Nat)} {q x : Nat} {ad : Nat → Nat} {H : Heap} {locs : List Loc} {ls : Array Slot}
theorem aw_note (G : Gd ((p, l, e, Rm, s, m, args, below, meth, c), z, K) yy cc nL ret hh) (kd : Nat) (hkd : kd = 12 ∨ kd = 13) {tx : String} (htx : (tx == notModelled) = false) (hnb : (stringBytes (stringToUtf16 tx)).size ≤ 212) (hst : (st.map acat).sum ≤ 40) (h1 : k + 3 ≤ k') (h2 : n + 222 ≤ n') (h3 : k' ≤ Rm.cells) (h4 : n' ≤ Rm.slots) (h5 : 8 ≤ Rm.frames) (h6 : 10300 ≤ Rm.locals) (hn : (C x).1 = 0)
    (h : AX ((p, l, e, Rm, s, m, args, below, meth, c), z, K) k' n' (va_up C x (kd, 0)) (va_up I x (fun _ => 0)) (va_up J x (fun _ => 0)) (va_up R x (fun _ => none)) pc lv x) (a1 : Sit s z ad H locs C I J R) (a2 : lv_has ls c.maxLocals (lvm ad lv)) (a3 : ∀ q ∈ lv, okv C q.2) :
    vx_Note p l e Rm s m args below meth c H locs k n (vx_MQ below (AQc z K s.heap.size) (AXC z K s.heap.size) args s Rm.cells Rm.slots (fA z.2.2.1 z.2.2.2.1 s.heap.size)) (F0 m pc ls (st.map (cv ad))) (kname kd) tx := by
  have hKn := G.2.2.2.2.2.2.2.1
  have hws := G.2.2.2.1
  have hre : ∀ w, (C w).1 ≠ 0 → ∀ a, va_up ad x a w = ad w := fun w hw a => va_up_ne _ _ (fun e => hw (by rw [e]; exact hn))
  have hat : ∀ w ∈ vx_atM (kname kd) (exN kd), w.before args s = true := by
    intro w hw
    by_cases g : goodWord w = true
    · refine hws w (List.mem_filter.mpr ⟨?_, g⟩)
      rcases hkd with rfl | rfl
      · exact ex_w12 w (List.mem_filter.mpr ⟨hw, g⟩)
      · exact ex_w13 w (List.mem_filter.mpr ⟨hw, g⟩)
    · have g2 : (!goodWord w) = true := by
        cases hg : goodWord w with
        | true => exact absurd hg g
        | false => rfl
      rcases hkd with rfl | rfl
      · have e := ex_b12 w (List.mem_filter.mpr ⟨hw, g2⟩)
        exact va_Nw.use e.2.2 (hKn.2.1 _ e.1 e.2.1)
      · have e := ex_b13 w (List.mem_filter.mpr ⟨hw, g2⟩)
        exact va_Nw.use e.2.2 (hKn.2.1 _ e.1 e.2.1)
  have hcat : ((st.map (cv ad)).map fun v => v.category).sum = (st.map acat).sum := by rw [acat_ok]
  refine vx_vm G.1 G.2.2.2.2.2.2.2.2.2.1 (nb := 212) (A := fA z.2.2.1 z.2.2.2.1 s.heap.size) (names := exN kd) ?_ ?_ ?_ ?_ hat ?_ G.2.2.2.2.2.2.2.2.1.1 G.2.2.2.2.2.2.2.2.1.2 a1.2.2.1 a2.1 htx hnb (by decide) ?_ (by rw [hcat]; omega) ?_ (by omega) (by omega) G.2.2.2.2.2.2.1 (fun H1 q9 ce z1 z2 oq hS hce hvm hcl => ?_)
  · rcases hkd with rfl | rfl <;> decide
  · rcases hkd with rfl | rfl <;> decide
  · rcases hkd with rfl | rfl <;> decide
  · rcases hkd with rfl | rfl <;> decide
  · rcases hkd with rfl | rfl
    · exact ex_t12
    · exact ex_t13
  · rcases hkd with rfl | rfl
    · show 3 + 4 < _
      omega
    · show 2 + 4 < _
      omega
  · rcases hkd with rfl | rfl
    · show 13 * 3 + 55 ≤ 10240
      decide
    · show 13 * 2 + 55 ≤ 10240
      decide
  · have hb9 : q9 < H1.size := (Array.getElem?_eq_some_iff.mp hce).1
    have hSit := a1.newAt (n := x) (a := q9) hn (kd, 0) (show kd ≠ 0 by omega) (fun _ => 0) (fun _ => 0) z2 hS oq (fun ad' => ⟨hb9, fun w => absurd (show kd ≤ 11 from w) (by omega), fun _ _ => ⟨ce, hce, hvm, hcl⟩, fun w => absurd (show 20 ≤ kd from w) (by omega), fun w => absurd (show kd = 30 from w) (by omega)⟩)
    have hmo : ∀ w, (C w).1 ≠ 0 → (va_up C x (kd, 0) w).1 ≠ 0 := fun w hw => by rw [va_up_ne C _ (fun e => hw (by rw [e]; exact hn))]; exact hw
    have hw := h (va_up ad x q9) H1 locs ls (st.map (cv ad)) hSit (by rw [lvm_re (fun w hw => hre w hw q9) a3]; exact a2) (fun w hw => okv_kept hmo (a3 w hw)) (by rw [va_up_self]; show kd ≠ 0; omega)
    rw [va_up_self] at hw
    exact vx_widen h1 h2 hw
end AWE
section AWE2
variable {Γ : Gm} {k n k' n' : Nat} {C : MC} {I : MI} {J : MJ} {R : MR} {pc : Nat} {lv : List (Nat × AV)} {st : List AV} {yy : MethodName} {cc : ByteArray} {nL : Nat} {ret : Option FieldType} {hh : List (Nat × Nat × Nat × Nat)} {q x : Nat}
theorem aw_baldZ (G : Gd Γ yy cc nL ret hh) {i : Int32} (hk : (C q).1 = 22) (hout : ¬ vp_in i (C q).2) (hn2 : (C q).2 ≤ 1000) (hst : (st.map acat).sum ≤ 40) (h1 : k + 3 ≤ k') (h2 : n + 222 ≤ n') (h3 : k' ≤ (gR Γ).cells ∧ n' ≤ (gR Γ).slots) (h5 : 8 ≤ (gR Γ).frames ∧ 10300 ≤ (gR Γ).locals) (hn : (C x).1 = 0) (d : decode cc pc = .ok (.baload, 1)) (h : AX Γ k' n' (va_up C x (12, 0)) (va_up I x (fun _ => 0)) (va_up J x (fun _ => 0)) (va_up R x (fun _ => none)) pc lv x) : AW Γ k n C I J R pc lv (aI i :: aR (some q) :: st) := by
  obtain ⟨⟨p, l, e, Rm, s, m, args, below, meth, c⟩, z, K⟩ := Γ
  intro ad H locs ls a1 a2 a3 a4
  have b1 := rp_arr (q := q) a1.1 (by omega) (by omega)
  have hK := (kn_arr G.2.2.2.2.2.2.2.1 (x := 22) (by omega) (by omega)).1
  rw [hk] at b1
  intro T hT X
  obtain ⟨t, st1, q1⟩ := aw_note (st := st) G 12 (Or.inl rfl) (index_text_modelled i (C q).2) (index_text_bytes i (by omega)) hst h1 h2 h3.1 h3.2 h5.1 h5.2 hn h a1 a2 a3 T hT X
  refine ⟨t, ?_, q1⟩
  have h9 := X.baloadOut G.1 (by rw [hT]; exact b1) (hK _ _) (j := i) (by show (i < 0 ∨ (arrV _ _ _).slots.size ≤ _); rw [arrV_size]; exact Classical.byContradiction hout) (g := F0 m pc ls (.int i :: .ref (ad q) :: st.map (cv ad))) rfl (rest := st.map (cv ad)) rfl (by rw [G.2.1]; exact d) t
  simp only [arrV_size] at h9
  exact h9 st1
theorem aw_saldZ (G : Gd Γ yy cc nL ret hh) {i : Int32} (hk : (C q).1 = 23) (hout : ¬ vp_in i (C q).2) (hn2 : (C q).2 ≤ 1000) (hst : (st.map acat).sum ≤ 40) (h1 : k + 3 ≤ k') (h2 : n + 222 ≤ n') (h3 : k' ≤ (gR Γ).cells ∧ n' ≤ (gR Γ).slots) (h5 : 8 ≤ (gR Γ).frames ∧ 10300 ≤ (gR Γ).locals) (hn : (C x).1 = 0) (d : decode cc pc = .ok (.saload, 1)) (h : AX Γ k' n' (va_up C x (12, 0)) (va_up I x (fun _ => 0)) (va_up J x (fun _ => 0)) (va_up R x (fun _ => none)) pc lv x) : AW Γ k n C I J R pc lv (aI i :: aR (some q) :: st) := by
  obtain ⟨⟨p, l, e, Rm, s, m, args, below, meth, c⟩, z, K⟩ := Γ
  intro ad H locs ls a1 a2 a3 a4
  have b1 := rp_arr (q := q) a1.1 (by omega) (by omega)
  have hK := (kn_arr G.2.2.2.2.2.2.2.1 (x := 23) (by omega) (by omega)).1
  rw [hk] at b1
  intro T hT X
  obtain ⟨t, st1, q1⟩ := aw_note (st := st) G 12 (Or.inl rfl) (index_text_modelled i (C q).2) (index_text_bytes i (by omega)) hst h1 h2 h3.1 h3.2 h5.1 h5.2 hn h a1 a2 a3 T hT X
  refine ⟨t, ?_, q1⟩
  have h9 := X.saloadOut G.1 (by rw [hT]; exact b1) (hK _ _) (j := i) (by show (i < 0 ∨ (arrV _ _ _).slots.size ≤ _); rw [arrV_size]; exact Classical.byContradiction hout) (g := F0 m pc ls (.int i :: .ref (ad q) :: st.map (cv ad))) rfl (rest := st.map (cv ad)) rfl (by rw [G.2.1]; exact d) t
  simp only [arrV_size] at h9
  exact h9 st1
theorem aw_ialdZ (G : Gd Γ yy cc nL ret hh) {i : Int32} (hk : (C q).1 = 20) (hout : ¬ vp_in i (C q).2) (hn2 : (C q).2 ≤ 1000) (hst : (st.map acat).sum ≤ 40) (h1 : k + 3 ≤ k') (h2 : n + 222 ≤ n') (h3 : k' ≤ (gR Γ).cells ∧ n' ≤ (gR Γ).slots) (h5 : 8 ≤ (gR Γ).frames ∧ 10300 ≤ (gR Γ).locals) (hn : (C x).1 = 0) (d : decode cc pc = .ok (.iaload, 1)) (h : AX Γ k' n' (va_up C x (12, 0)) (va_up I x (fun _ => 0)) (va_up J x (fun _ => 0)) (va_up R x (fun _ => none)) pc lv x) : AW Γ k n C I J R pc lv (aI i :: aR (some q) :: st) := by
  obtain ⟨⟨p, l, e, Rm, s, m, args, below, meth, c⟩, z, K⟩ := Γ
  intro ad H locs ls a1 a2 a3 a4
  have b1 := rp_arr (q := q) a1.1 (by omega) (by omega)
  have hK := (kn_arr G.2.2.2.2.2.2.2.1 (x := 20) (by omega) (by omega)).1
  rw [hk] at b1
  intro T hT X
  obtain ⟨t, st1, q1⟩ := aw_note (st := st) G 12 (Or.inl rfl) (index_text_modelled i (C q).2) (index_text_bytes i (by omega)) hst h1 h2 h3.1 h3.2 h5.1 h5.2 hn h a1 a2 a3 T hT X
  refine ⟨t, ?_, q1⟩
  have h9 := X.ialoadOut G.1 (by rw [hT]; exact b1) (hK _ _) (j := i) (by show (i < 0 ∨ (arrV _ _ _).slots.size ≤ _); rw [arrV_size]; exact Classical.byContradiction hout) (g := F0 m pc ls (.int i :: .ref (ad q) :: st.map (cv ad))) rfl (rest := st.map (cv ad)) rfl (by rw [G.2.1]; exact d) t
  simp only [arrV_size] at h9
  exact h9 st1
theorem aw_laldZ (G : Gd Γ yy cc nL ret hh) {i : Int32} (hk : (C q).1 = 21) (hout : ¬ vp_in i (C q).2) (hn2 : (C q).2 ≤ 1000) (hst : (st.map acat).sum ≤ 40) (h1 : k + 3 ≤ k') (h2 : n + 222 ≤ n') (h3 : k' ≤ (gR Γ).cells ∧ n' ≤ (gR Γ).slots) (h5 : 8 ≤ (gR Γ).frames ∧ 10300 ≤ (gR Γ).locals) (hn : (C x).1 = 0) (d : decode cc pc = .ok (.laload, 1)) (h : AX Γ k' n' (va_up C x (12, 0)) (va_up I x (fun _ => 0)) (va_up J x (fun _ => 0)) (va_up R x (fun _ => none)) pc lv x) : AW Γ k n C I J R pc lv (aI i :: aR (some q) :: st) := by
  obtain ⟨⟨p, l, e, Rm, s, m, args, below, meth, c⟩, z, K⟩ := Γ
  intro ad H locs ls a1 a2 a3 a4
  have b1 := rp_arr (q := q) a1.1 (by omega) (by omega)
  have hK := (kn_arr G.2.2.2.2.2.2.2.1 (x := 21) (by omega) (by omega)).1
  rw [hk] at b1
  intro T hT X
  obtain ⟨t, st1, q1⟩ := aw_note (st := st) G 12 (Or.inl rfl) (index_text_modelled i (C q).2) (index_text_bytes i (by omega)) hst h1 h2 h3.1 h3.2 h5.1 h5.2 hn h a1 a2 a3 T hT X
  refine ⟨t, ?_, q1⟩
  have h9 := X.laloadOut G.1 (by rw [hT]; exact b1) (hK _ _) (j := i) (by show (i < 0 ∨ (arrV _ _ _).slots.size ≤ _); rw [arrV_size]; exact Classical.byContradiction hout) (g := F0 m pc ls (.int i :: .ref (ad q) :: st.map (cv ad))) rfl (rest := st.map (cv ad)) rfl (by rw [G.2.1]; exact d) t
  simp only [arrV_size] at h9
  exact h9 st1
theorem aw_bastZ (G : Gd Γ yy cc nL ret hh) {i : Int32} {v : Int32} (hk : (C q).1 = 22) (hout : ¬ vp_in i (C q).2) (hn2 : (C q).2 ≤ 1000) (hst : (st.map acat).sum ≤ 40) (h1 : k + 3 ≤ k') (h2 : n + 222 ≤ n') (h3 : k' ≤ (gR Γ).cells ∧ n' ≤ (gR Γ).slots) (h5 : 8 ≤ (gR Γ).frames ∧ 10300 ≤ (gR Γ).locals) (hn : (C x).1 = 0) (d : decode cc pc = .ok (.bastore, 1)) (h : AX Γ k' n' (va_up C x (12, 0)) (va_up I x (fun _ => 0)) (va_up J x (fun _ => 0)) (va_up R x (fun _ => none)) pc lv x) : AW Γ k n C I J R pc lv (aI v :: aI i :: aR (some q) :: st) := by
  obtain ⟨⟨p, l, e, Rm, s, m, args, below, meth, c⟩, z, K⟩ := Γ
  intro ad H locs ls a1 a2 a3 a4
  have b1 := rp_arr (q := q) a1.1 (by omega) (by omega)
  have hK := (kn_arr G.2.2.2.2.2.2.2.1 (x := 22) (by omega) (by omega)).1
  rw [hk] at b1
  intro T hT X
  obtain ⟨t, st1, q1⟩ := aw_note (st := st) G 12 (Or.inl rfl) (index_text_modelled i (C q).2) (index_text_bytes i (by omega)) hst h1 h2 h3.1 h3.2 h5.1 h5.2 hn h a1 a2 a3 T hT X
  refine ⟨t, ?_, q1⟩
  have h9 := X.bastoreOut G.1 (by rw [hT]; exact b1) (hK _ _) (j := i) (by show (i < 0 ∨ (arrV _ _ _).slots.size ≤ _); rw [arrV_size]; exact Classical.byContradiction hout) (g := F0 m pc ls (.int v :: .int i :: .ref (ad q) :: st.map (cv ad))) rfl (rest := st.map (cv ad)) rfl (by rw [G.2.1]; exact d) t
  simp only [arrV_size] at h9
  exact h9 st1
theorem aw_sastZ (G : Gd Γ yy cc nL ret hh) {i : Int32} {v : Int32} (hk : (C q).1 = 23) (hout : ¬ vp_in i (C q).2) (hn2 : (C q).2 ≤ 1000) (hst : (st.map acat).sum ≤ 40) (h1 : k + 3 ≤ k') (h2 : n + 222 ≤ n') (h3 : k' ≤ (gR Γ).cells ∧ n' ≤ (gR Γ).slots) (h5 : 8 ≤ (gR Γ).frames ∧ 10300 ≤ (gR Γ).locals) (hn : (C x).1 = 0) (d : decode cc pc = .ok (.sastore, 1)) (h : AX Γ k' n' (va_up C x (12, 0)) (va_up I x (fun _ => 0)) (va_up J x (fun _ => 0)) (va_up R x (fun _ => none)) pc lv x) : AW Γ k n C I J R pc lv (aI v :: aI i :: aR (some q) :: st) := by
  obtain ⟨⟨p, l, e, Rm, s, m, args, below, meth, c⟩, z, K⟩ := Γ
  intro ad H locs ls a1 a2 a3 a4
  have b1 := rp_arr (q := q) a1.1 (by omega) (by omega)
  have hK := (kn_arr G.2.2.2.2.2.2.2.1 (x := 23) (by omega) (by omega)).1
  rw [hk] at b1
  intro T hT X
  obtain ⟨t, st1, q1⟩ := aw_note (st := st) G 12 (Or.inl rfl) (index_text_modelled i (C q).2) (index_text_bytes i (by omega)) hst h1 h2 h3.1 h3.2 h5.1 h5.2 hn h a1 a2 a3 T hT X
  refine ⟨t, ?_, q1⟩
  have h9 := X.sastoreOut G.1 (by rw [hT]; exact b1) (hK _ _) (j := i) (by show (i < 0 ∨ (arrV _ _ _).slots.size ≤ _); rw [arrV_size]; exact Classical.byContradiction hout) (g := F0 m pc ls (.int v :: .int i :: .ref (ad q) :: st.map (cv ad))) rfl (rest := st.map (cv ad)) rfl (by rw [G.2.1]; exact d) t
  simp only [arrV_size] at h9
  exact h9 st1
theorem aw_iastZ (G : Gd Γ yy cc nL ret hh) {i : Int32} {v : Int32} (hk : (C q).1 = 20) (hout : ¬ vp_in i (C q).2) (hn2 : (C q).2 ≤ 1000) (hst : (st.map acat).sum ≤ 40) (h1 : k + 3 ≤ k') (h2 : n + 222 ≤ n') (h3 : k' ≤ (gR Γ).cells ∧ n' ≤ (gR Γ).slots) (h5 : 8 ≤ (gR Γ).frames ∧ 10300 ≤ (gR Γ).locals) (hn : (C x).1 = 0) (d : decode cc pc = .ok (.iastore, 1)) (h : AX Γ k' n' (va_up C x (12, 0)) (va_up I x (fun _ => 0)) (va_up J x (fun _ => 0)) (va_up R x (fun _ => none)) pc lv x) : AW Γ k n C I J R pc lv (aI v :: aI i :: aR (some q) :: st) := by
  obtain ⟨⟨p, l, e, Rm, s, m, args, below, meth, c⟩, z, K⟩ := Γ
  intro ad H locs ls a1 a2 a3 a4
  have b1 := rp_arr (q := q) a1.1 (by omega) (by omega)
  have hK := (kn_arr G.2.2.2.2.2.2.2.1 (x := 20) (by omega) (by omega)).1
  rw [hk] at b1
  intro T hT X
  obtain ⟨t, st1, q1⟩ := aw_note (st := st) G 12 (Or.inl rfl) (index_text_modelled i (C q).2) (index_text_bytes i (by omega)) hst h1 h2 h3.1 h3.2 h5.1 h5.2 hn h a1 a2 a3 T hT X
  refine ⟨t, ?_, q1⟩
  have h9 := X.iastoreOut G.1 (by rw [hT]; exact b1) (hK _ _) (j := i) (by show (i < 0 ∨ (arrV _ _ _).slots.size ≤ _); rw [arrV_size]; exact Classical.byContradiction hout) (g := F0 m pc ls (.int v :: .int i :: .ref (ad q) :: st.map (cv ad))) rfl (rest := st.map (cv ad)) rfl (by rw [G.2.1]; exact d) t
  simp only [arrV_size] at h9
  exact h9 st1
theorem aw_lastZ (G : Gd Γ yy cc nL ret hh) {i : Int32} {v : Int64} (hk : (C q).1 = 21) (hout : ¬ vp_in i (C q).2) (hn2 : (C q).2 ≤ 1000) (hst : (st.map acat).sum ≤ 40) (h1 : k + 3 ≤ k') (h2 : n + 222 ≤ n') (h3 : k' ≤ (gR Γ).cells ∧ n' ≤ (gR Γ).slots) (h5 : 8 ≤ (gR Γ).frames ∧ 10300 ≤ (gR Γ).locals) (hn : (C x).1 = 0) (d : decode cc pc = .ok (.lastore, 1)) (h : AX Γ k' n' (va_up C x (12, 0)) (va_up I x (fun _ => 0)) (va_up J x (fun _ => 0)) (va_up R x (fun _ => none)) pc lv x) : AW Γ k n C I J R pc lv (aJ v :: aI i :: aR (some q) :: st) := by
  obtain ⟨⟨p, l, e, Rm, s, m, args, below, meth, c⟩, z, K⟩ := Γ
  intro ad H locs ls a1 a2 a3 a4
  have b1 := rp_arr (q := q) a1.1 (by omega) (by omega)
  have hK := (kn_arr G.2.2.2.2.2.2.2.1 (x := 21) (by omega) (by omega)).1
  rw [hk] at b1
  intro T hT X
  obtain ⟨t, st1, q1⟩ := aw_note (st := st) G 12 (Or.inl rfl) (index_text_modelled i (C q).2) (index_text_bytes i (by omega)) hst h1 h2 h3.1 h3.2 h5.1 h5.2 hn h a1 a2 a3 T hT X
  refine ⟨t, ?_, q1⟩
  have h9 := X.lastoreOut G.1 (by rw [hT]; exact b1) (hK _ _) (j := i) (by show (i < 0 ∨ (arrV _ _ _).slots.size ≤ _); rw [arrV_size]; exact Classical.byContradiction hout) (g := F0 m pc ls (.long v :: .int i :: .ref (ad q) :: st.map (cv ad))) rfl (rest := st.map (cv ad)) rfl (by rw [G.2.1]; exact d) t
  simp only [arrV_size] at h9
  exact h9 st1
theorem aw_newaN (G : Gd Γ yy cc nL ret hh) {i : Int32} {atype : ArrayType} (hi : i < 0) (hst : (st.map acat).sum ≤ 40) (h1 : k + 3 ≤ k') (h2 : n + 222 ≤ n') (h3 : k' ≤ (gR Γ).cells ∧ n' ≤ (gR Γ).slots) (h5 : 8 ≤ (gR Γ).frames ∧ 10300 ≤ (gR Γ).locals) (hn : (C x).1 = 0) (d : decode cc pc = .ok (.newarray atype, 2)) (h : AX Γ k' n' (va_up C x (13, 0)) (va_up I x (fun _ => 0)) (va_up J x (fun _ => 0)) (va_up R x (fun _ => none)) pc lv x) : AW Γ k n C I J R pc lv (aI i :: st) := by
  obtain ⟨⟨p, l, e, Rm, s, m, args, below, meth, c⟩, z, K⟩ := Γ
  intro ad H locs ls a1 a2 a3 a4
  intro T hT X
  obtain ⟨t, st1, q1⟩ := aw_note (st := st) G 13 (Or.inr rfl) (negative_text_modelled hi) (Nat.le_trans (negative_text_bytes i) (by decide)) hst h1 h2 h3.1 h3.2 h5.1 h5.2 hn h a1 a2 a3 T hT X
  exact ⟨t, X.newarrayNegative G.1 (g := F0 m pc ls (.int i :: st.map (cv ad))) rfl hi (rest := st.map (cv ad)) rfl (by rw [G.2.1]; exact d) t st1, q1⟩
end AWE2
