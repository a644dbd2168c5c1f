/-! THE ABSTRACT LAYER 5: contracts (Spec), calls of every kind, a method out of its walk (printed by gen/mkcall.py) -/
set_option maxRecDepth 100000
def gL (Γ : Gm) : Launch := Γ.1.2.1
/-- a callee's start: the heap holds the abstract memory, the arguments are these -/
def APc (D : va_G) (dA : Nat → ClassId) (ad : Nat → Nat) (C : MC) (I : MI) (J : MJ) (R : MR) (As : List AV) (sz : Nat) : Array Value → State → Prop :=
  va_Pc (As.map (cv ad)) (fun U => U.heap.size = sz ∧ Rp D dA U U.heap ad C I J R ∧ Kn D dA U ∧ Zst (fA ad C sz) U U.heap ∧ ∀ v ∈ As, okv C v)
/-- method y's CONTRACT: from every memory and arguments where F holds of K, y ends, and K holds of its end; b: cells and slots made at most on a return, on a throw -/
def Spec (l : Launch) (y : MethodName) (ws : List Cond) (rm : Room) (b : Nat × Nat × Nat × Nat) (F : List AV → MC → MI → MJ → MR → AK → Prop) : Prop :=
  l.stackTraces = false → ∀ (D : va_G) (dA : Nat → ClassId) (ad : Nat → Nat) (C : MC) (I : MI) (J : MJ) (R : MR) (As : List AV) (K : AK) (sz : Nat), F As C I J R K →
    vx_Met l y ws rm (APc D dA ad C I J R As sz) (AQc (D, dA, ad, C, R, b) K sz) (AXC (D, dA, ad, C, R, b) K sz) rm.cells rm.slots (fA ad C sz)
theorem APc_blind {D : va_G} {dA : Nat → ClassId} {ad : Nat → Nat} {C : MC} {I : MI} {J : MJ} {R : MR} {As : List AV} {sz : Nat} : FrameBlind (APc D dA ad C I J R As sz) := by
  intro a U g mk h
  obtain ⟨h1, h2, h3, h4, h5, h6⟩ := h
  exact ⟨h1, h2, Rp.moved (u := U) (U := U.calling g mk a) (Vm.Alike.refl U.vm) h3, Kn.warm (s := U) (U := U.calling g mk a) (State.WarmedH.refl U) h4, ⟨vx_Zq.moved (u := U) (U := U.calling g mk a) (Vm.Alike.refl U.vm) h5.1, vx_Zq.moved (u := U) (U := U.calling g mk a) (Vm.Alike.refl U.vm) h5.2⟩, h6⟩
theorem Zst.to {A B : Nat → Prop} {s U : State} {H : Heap} (hvm : s.vm.Alike U.vm) (h : Zst A s s.heap) (hq : ∀ a : Nat, a < s.heap.size → ¬ A a → H[a]? = s.heap[a]?) (hAB : ∀ q, B q → A q) : Zst B U H :=
  ⟨(vx_Zq.kept (vx_Zq.moved hvm h.1) hq).narrow hAB, (vx_Zq.kept (vx_Zq.moved hvm h.2) hq).narrow hAB⟩
section AWC
variable {p : Program} {l : Launch} {e : Env} {Rm : Room} {s : State} {m : MethodId} {args : Array Value} {below : List Frame} {meth : Method} {c : Code} {T T' : State} {locs locs' : List Loc} {k n k' n' : Nat}
theorem sum_split (A B : List Nat) (i : Nat) (h : i ≤ A.length) : ((A ++ B).drop i).sum = (A.drop i).sum + B.sum := by
  rw [List.drop_append_of_le_length h, List.sum_append]
/-- a callee that made less than its bound: the rest comes back -/
theorem refund {st t : State} {L : List Loc} {a b : Nat} (X : Stand p l e Rm s m args below meth c T locs k n) (X' : Stand p l e Rm s m args below meth c T' locs' k' n') (h : st.sameButNew ({ t with vm := st.vm } : State) L a b) (e0 : st.heap = T.heap) (e1 : T'.heap = t.heap) : Stand p l e Rm s m args below meth c T' locs' (k + a) (n + b) := by
  obtain ⟨x1, x2, x3, x4, x5, x6⟩ := X.same
  obtain ⟨y1, y2, y3, y4, y5, y6⟩ := X'.same
  obtain ⟨z1, z2, z3, z4, z5, z6⟩ := h
  have x2 : s.heap.size ≤ T.heap.size := x2
  have x3 : T.heap.size ≤ s.heap.size + k := x3
  have x5 : ((T.heap.toList.drop s.heap.size).map (·.slots.size)).sum ≤ n := x5
  have z2 : st.heap.size ≤ t.heap.size := z2
  have z3 : t.heap.size ≤ st.heap.size + a := z3
  have z5 : ((t.heap.toList.drop st.heap.size).map (·.slots.size)).sum ≤ b := z5
  have z6 : ∀ (a0 : Nat) (c0 : Cell), st.heap[a0]? = some c0 → ∃ c' : Cell, t.heap[a0]? = some c' ∧ c' = { c0 with slots := c'.slots } ∧ c'.slots.size = c0.slots.size ∧ ∀ i, (⟨a0, i⟩ : Loc) ∉ L → c'.slots[i]? = c0.slots[i]? := z6
  rw [e0] at z2 z3 z5 z6
  rw [← e1] at z2 z3 z5 z6
  have key : T'.heap.toList.map (·.slots.size) = T.heap.toList.map (·.slots.size) ++ (T'.heap.toList.drop T.heap.size).map (·.slots.size) := by
    have h1 : T'.heap.toList.map (·.slots.size) = (T'.heap.toList.take T.heap.size).map (·.slots.size) ++ (T'.heap.toList.drop T.heap.size).map (·.slots.size) := by
      rw [← List.map_append, List.take_append_drop]
    rw [h1]
    congr 1
    refine List.ext_getElem? (fun i => ?_)
    rw [List.getElem?_map, List.getElem?_map, List.getElem?_take]
    by_cases hi : i < T.heap.size
    · rw [if_pos hi]
      have h2 : T.heap[i]? = some T.heap[i] := Array.getElem?_eq_getElem hi
      obtain ⟨c', g1, -, g3, -⟩ := z6 i _ h2
      rw [Array.getElem?_toList, Array.getElem?_toList, g1, h2]
      simp [g3]
    · rw [if_neg hi, Array.getElem?_toList, Array.getElem?_eq_none (by omega)]
  have hsum : ((T'.heap.toList.drop s.heap.size).map (·.slots.size)).sum ≤ n + b := by
    rw [List.map_drop, key, sum_split _ _ _ (by simpa using x2), ← List.map_drop]
    exact Nat.add_le_add x5 z5
  have hcells : T'.heap.size ≤ s.heap.size + (k + a) := by omega
  exact { X' with same := ⟨y1, y2, hcells, y4, hsum, y6⟩ }
end AWC
def acat (v : AV) : Nat := match v with
  | .inr (.inl _) => 2
  | _ => 1
theorem acat_ok (ad : Nat → Nat) (st : List AV) : (st.map (cv ad)).map (fun v => v.category) = st.map acat := by
  rw [List.map_map]
  refine List.map_congr_left (fun v _ => ?_)
  rcases v with x | x | x
  · rfl
  · rfl
  · cases x <;> rfl
section AWD
variable {Γ : Gm} {k n k1 n1 k2 n2 : Nat} {C : MC} {I : MI} {J : MJ} {R : MR} {pc pc' : Nat} {lv lv' : List (Nat × AV)} {st st' stk : List AV} {yy : MethodName} {cc : ByteArray} {nL : Nat} {ret : Option FieldType} {hh : List (Nat × Nat × Nat × Nat)} {q : Nat} {index : Nat}
/-- where a walk goes on behind a call -/
def CK (Γ : Gm) (k1 n1 k2 n2 : Nat) (pc : Nat) (lv : List (Nat × AV)) (st : List AV) : AK := fun o C I J R => match o with
  | .inl v => AW Γ k1 n1 C I J R (pc + 3) lv (v.toList ++ st)
  | .inr q => AX Γ k2 n2 C I J R pc lv q
theorem fA_sub {s : State} {z : Zd} {ad : Nat → Nat} {H : Heap} {locs : List Loc} (a1 : Sit s z ad H locs C I J R) : ∀ a, fA ad C H.size a → fA z.2.2.1 z.2.2.2.1 s.heap.size a := by
  intro a h
  rcases h with ⟨w, h1, rfl⟩ | h
  · exact a1.2.2.2 w h1
  · exact Or.inr (Nat.le_trans a1.2.2.1.1 h)
/-- from a run of the callee to the walk's going on -/
theorem aw_run {p : Program} {l : Launch} {e : Env} {Rm : Room} {s : State} {m : MethodId} {args : Array Value} {below : List Frame} {meth : Method} {c : Code} {z : Zd} {K Kp : AK} {ad : Nat → Nat} {H : Heap} {locs : List Loc} {ls : Array Slot} {b : Nat × Nat × Nat × Nat} {mc ms : Nat} {st0 : List Value} {a : Array Value}
    (hr : vx_Run p l e Rm s m args below meth c H locs k n mc ms (F0 m pc ls st0) (st.map (cv ad)) (AQc (z.1, z.2.1, ad, C, R, b) Kp H.size a) (AXC (z.1, z.2.1, ad, C, R, b) Kp H.size) (fA ad C H.size))
    (a1 : Sit s z ad H locs C I J R) (a2 : lv_has ls c.maxLocals (lvm ad lv)) (a3 : ∀ q ∈ lv, okv C q.2) (a4 : ∀ v ∈ st, okv C v)
    (hb : k + b.1 ≤ k1 ∧ n + b.2.1 ≤ n1 ∧ k + b.2.2.1 ≤ k2 ∧ n + b.2.2.2 ≤ n2)
    (hK : ∀ o C' I' J' R', Kp o C' I' J' R' → CK ((p, l, e, Rm, s, m, args, below, meth, c), z, K) k1 n1 k2 n2 pc lv st o C' I' J' R') :
    W p l e Rm s m args below meth c H locs k n (vx_MQ below (AQc z K s.heap.size) (AXC z K s.heap.size) args s Rm.cells Rm.slots (fA z.2.2.1 z.2.2.2.1 s.heap.size)) (F0 m pc ls st0) := by
  intro T hT X
  have sub := fA_sub a1
  have common : ∀ {st₀ t T' : State} {L : List Loc} {ad' : Nat → Nat} {C' : MC} {I' : MI} {J' : MJ} {R' : MR}, T'.heap = t.heap → T'.vm = t.vm → st₀.heap = H → s.WarmedH T'.vm → (∀ x ∈ L, fA ad C H.size x.base) → Rp z.1 z.2.1 t t.heap ad' C' I' J' R' → persist ad C ad' C' → (∀ x, wr (C' x).1 → fA ad C H.size (ad' x)) → va_F (fA ad C H.size) st₀ t → Sit s z ad' T'.heap (locs ++ L) C' I' J' R' := by
    intro st₀ t T' L ad' C' I' J' R' e1 e2 h0 hW hL g1 g2 g3 g4
    refine ⟨?_, fun x hx => ?_, ⟨?_, fun x hx hA => ?_, fun x hx => ?_⟩, fun x hx => sub _ (g3 x hx)⟩
    · rw [e1]
      exact Rp.moved (u := t) (U := s) (by rw [← e2]; exact hW.alike.symm) g1
    · have h5 := a1.2.1 x hx
      have h6 := g2 x (by rw [h5.2]; exact hx)
      exact ⟨h6.1.trans h5.1, h6.2.trans h5.2⟩
    · rw [e1]
      exact Nat.le_trans a1.2.2.1.1 (by rw [← h0]; exact g4.1)
    · have hx2 : x < H.size := Nat.lt_of_lt_of_le hx a1.2.2.1.1
      rw [e1, g4.2 x (by rw [h0]; exact hx2) (fun w => hA (sub x w)), h0]
      exact a1.2.2.1.2.1 x hx hA
    · rcases List.mem_append.mp hx with h | h
      · exact a1.2.2.1.2.2 x h
      · exact sub _ (hL x h)
  rcases hr T hT X with ⟨v, st₀, t, T', L, h0, X', hL, e1, e2, ⟨v', ad', C', I', J', R', hv, g1, g2, g3, g5, g6, g4, L2, g7⟩, st1⟩ | ⟨q, st₀, t, T', L, E, ce, h0, X', hL, e1, e2, ⟨w, ad', C', I', J', R', hq, gw, hE, g1, g2, g3, g6, g4, L2, g7⟩, hce, hcv, hcl, st1⟩
  · cases hv
    have hW := X'.warmed
    have X2 := stand_widen (refund X X' g7 (h0.trans hT.symm) e1) hb.1 hb.2.1
    have hs := common e1 e2 h0 hW hL g1 g2 g3 g4
    have hre : ∀ x, (C x).1 ≠ 0 → ad' x = ad x := fun x hx => (g2 x hx).1
    have hmo : ∀ x, (C x).1 ≠ 0 → (C' x).1 ≠ 0 := fun x hx => by rw [(g2 x hx).2]; exact hx
    have hw := hK _ _ _ _ _ g6 ad' T'.heap (locs ++ L) ls hs (by rw [lvm_re hre a3]; exact a2) (fun x hx => okv_kept hmo (a3 x hx)) (fun x hx => by
      rcases List.mem_append.mp hx with h | h
      · exact g5 x (by cases v' with
          | none => cases h
          | some y => rw [List.mem_singleton.mp h])
      · exact okv_kept hmo (a4 x h)) T' rfl X2
    obtain ⟨t2, a5, b5⟩ := hw
    refine ⟨t2, st1 t2 ?_, b5⟩
    rw [List.map_append, stm_re hre a4] at a5
    cases v' with
    | none => exact a5
    | some y => exact a5
  · have hW := X'.warmed
    have X2 := stand_widen (refund X X' g7 (h0.trans hT.symm) e1) hb.2.2.1 hb.2.2.2
    have hs := common e1 e2 h0 hW hL g1 g2 g3 g4
    have hre : ∀ x, (C x).1 ≠ 0 → ad' x = ad x := fun x hx => (g2 x hx).1
    have hmo : ∀ x, (C x).1 ≠ 0 → (C' x).1 ≠ 0 := fun x hx => by rw [(g2 x hx).2]; exact hx
    have hw := hK _ _ _ _ _ g6 ad' T'.heap (locs ++ L) ls (st.map (cv ad)) hs (by rw [lvm_re hre a3]; exact a2) (fun x hx => okv_kept hmo (a3 x hx)) gw T' rfl X2
    obtain ⟨t2, a5, b5⟩ := hw
    subst hq
    exact ⟨t2, st1.trans a5, b5⟩
theorem pc_ok {p : Program} {l : Launch} {e : Env} {Rm : Room} {s : State} {m : MethodId} {args : Array Value} {below : List Frame} {meth : Method} {c : Code} {z : Zd} {K : AK} {ad : Nat → Nat} {H : Heap} {locs : List Loc} {As : List AV} (G : Gd ((p, l, e, Rm, s, m, args, below, meth, c), z, K) yy cc nL ret hh) (a1 : Sit s z ad H locs C I J R) (hAs : ∀ v ∈ As, okv C v) : ∀ U : State, U.heap = H → s.WarmedH U.vm → APc z.1 z.2.1 ad C I J R As H.size (As.map (cv ad)).toArray U := by
  intro U hU hW
  refine ⟨rfl, by rw [hU], by rw [hU]; exact a1.1.moved hW.alike, G.2.2.2.2.2.2.2.1.warm hW, ?_, hAs⟩
  rw [hU]
  exact Zst.to hW.alike G.2.2.2.2.2.2.2.2.1 (fun a h1 h2 => a1.2.2.1.2.1 a h1 h2) (fA_sub a1)
theorem ok_rev {As : List AV} (h : ∀ v ∈ As.reverse ++ st, okv C v) : (∀ v ∈ As, okv C v) ∧ ∀ v ∈ st, okv C v := ⟨fun v hv => h v (List.mem_append_left _ (List.mem_reverse.mpr hv)), fun v hv => h v (List.mem_append_right _ hv)⟩
theorem mh {y : MethodName} {nn : Nat} (h : decide (y.cls ≠ "java/lang/invoke/MethodHandle") && (decide (y.cls ≠ "java/lang/invoke/VarHandle") && decide ((parseMethodDescriptor y.desc).map (fun d => d.parameters.length) = some nn)) = true) : y.cls ≠ "java/lang/invoke/MethodHandle" ∧ y.cls ≠ "java/lang/invoke/VarHandle" ∧ (parseMethodDescriptor y.desc).map (fun d => d.parameters.length) = some nn := by
  simp only [Bool.and_eq_true, decide_eq_true_eq] at h
  exact h
theorem aw_callS (G : Gd Γ yy cc nL ret hh) {nA : Nat} {y : MethodName} {bytes : ByteArray} {maxL : Nat} {rY : Option FieldType} {rm : Room} {b : Nat × Nat × Nat × Nat} {F : List AV → MC → MI → MJ → MR → AK → Prop} (hS : Spec (gL Γ) y (ws_ y bytes maxL rY) rm b F) (hT : GoodIn lw_all (va_wsS yy.cls index y (ws_ y bytes maxL rY))) (hd : y.cls ≠ "java/lang/invoke/MethodHandle" ∧ y.cls ≠ "java/lang/invoke/VarHandle" ∧ (parseMethodDescriptor y.desc).map (fun d => d.parameters.length) = some nA) (hst : (st.map acat).sum ≤ 8) (hb : k + b.1 ≤ k1 ∧ n + b.2.1 ≤ n1 ∧ k + b.2.2.1 ≤ k2 ∧ n + b.2.2.2 ≤ n2) (hm : k + rm.cells ≤ (gR Γ).cells ∧ n + rm.slots ≤ (gR Γ).slots) (hR : rm.frames + 1 ≤ (gR Γ).frames ∧ 8 + (maxL + 11) + rm.locals ≤ (gR Γ).locals) (As : List AV) (hnA : As.length = nA) (hstk : stk = As.reverse ++ st) (d : decode cc pc = .ok (.invokestatic index, 3)) {Kp : AK} (hF : F (As) C I J R Kp) (hK : ∀ o C' I' J' R', Kp o C' I' J' R' → CK Γ k1 n1 k2 n2 pc lv st o C' I' J' R') : AW Γ k n C I J R pc lv stk := by
  obtain ⟨⟨p, l, e, Rm, s, m, args, below, meth, c⟩, z, K⟩ := Γ
  intro ad H locs ls a1 a2 a3 a4
  subst hstk
  have b0 := ok_rev (As := As) (st := st) a4
  have hM := hS G.2.2.2.2.2.2.2.2.2.1 z.1 z.2.1 ad C I J R As Kp H.size hF
  refine aw_run (st := st) (vx_runS (As := As.map (cv ad)) (rest := st.map (cv ad)) ⟨G.1, G.2.1, G.2.2.1, G.2.2.2.2.1, G.2.2.2.1⟩ hM (va_cwS nA G.2.2.2.1 hT rfl rfl rfl hd hR) ⟨APc_blind, pc_ok G a1 b0.1⟩ rfl (by rw [List.length_map]; exact hnA) (a2.1.trans G.2.2.1) (by rw [← List.map_reverse]; exact List.map_append) (lv_room (by rw [acat_ok]; exact hst)) d hm) a1 a2 a3 b0.2 hb hK
theorem aw_callSN (G : Gd Γ yy cc nL ret hh) {nA : Nat} {y : MethodName} {bytes : ByteArray} {maxL : Nat} {rY : Option FieldType} {rm : Room} {b : Nat × Nat × Nat × Nat} {F : List AV → MC → MI → MJ → MR → AK → Prop} (hS : Spec (gL Γ) y (ws_ y bytes maxL rY) rm b F) {host : String} (hln : Cond.methodLinkNest yy.cls index y host ∈ lw_tbl) (hst0 : Cond.static y ∈ lw_all) (hini : Cond.initialized y.cls ∈ lw_all) (hT : GoodIn lw_all (ws_ y bytes maxL rY)) (hd : y.cls ≠ "java/lang/invoke/MethodHandle" ∧ y.cls ≠ "java/lang/invoke/VarHandle" ∧ (parseMethodDescriptor y.desc).map (fun d => d.parameters.length) = some nA) (hst : (st.map acat).sum ≤ 8) (hb : k + b.1 ≤ k1 ∧ n + b.2.1 ≤ n1 ∧ k + b.2.2.1 ≤ k2 ∧ n + b.2.2.2 ≤ n2) (hm : k + rm.cells ≤ (gR Γ).cells ∧ n + rm.slots ≤ (gR Γ).slots) (hR : rm.frames + 1 ≤ (gR Γ).frames ∧ 8 + (maxL + 11) + rm.locals ≤ (gR Γ).locals) (As : List AV) (hnA : As.length = nA) (hstk : stk = As.reverse ++ st) (d : decode cc pc = .ok (.invokestatic index, 3)) {Kp : AK} (hF : F (As) C I J R Kp) (hK : ∀ o C' I' J' R', Kp o C' I' J' R' → CK Γ k1 n1 k2 n2 pc lv st o C' I' J' R') : AW Γ k n C I J R pc lv stk := by
  obtain ⟨⟨p, l, e, Rm, s, m, args, below, meth, c⟩, z, K⟩ := Γ
  intro ad H locs ls a1 a2 a3 a4
  subst hstk
  have b0 := ok_rev (As := As) (st := st) a4
  have hM := hS G.2.2.2.2.2.2.2.2.2.1 z.1 z.2.1 ad C I J R As Kp H.size hF
  refine aw_run (st := st) (vx_runSN (As := As.map (cv ad)) (rest := st.map (cv ad)) ⟨G.1, G.2.1, G.2.2.1, G.2.2.2.2.1, G.2.2.2.1⟩ hM ⟨va_cnB nA G.2.2.2.1 hT rfl rfl rfl (G.2.2.2.2.2.2.2.1.2.1 _ hln rfl) (G.2.2.2.1 _ hini) hd hR, G.2.2.2.1 _ hst0, trivial⟩ ⟨APc_blind, pc_ok G a1 b0.1⟩ rfl (by rw [List.length_map]; exact hnA) (a2.1.trans G.2.2.1) (by rw [← List.map_reverse]; exact List.map_append) (lv_room (by rw [acat_ok]; exact hst)) d hm) a1 a2 a3 b0.2 hb hK
theorem aw_callI (G : Gd Γ yy cc nL ret hh) {nA : Nat} {y : MethodName} {bytes : ByteArray} {maxL : Nat} {rm : Room} {b : Nat × Nat × Nat × Nat} {F : List AV → MC → MI → MJ → MR → AK → Prop} (hS : Spec (gL Γ) y (ws_ y bytes maxL none) rm b F) (hT : GoodIn lw_all (ws_ y bytes maxL none)) (hini : Cond.initialized y.cls ∈ lw_all) (hlk : Cond.methodLink yy.cls index y ∈ lw_all) (hin : Cond.instanceMethod y ∈ lw_all) (hy1 : y.name = "<init>") (hd : y.cls ≠ "java/lang/invoke/MethodHandle" ∧ y.cls ≠ "java/lang/invoke/VarHandle" ∧ (parseMethodDescriptor y.desc).map (fun d => d.parameters.length) = some nA) (hst : (st.map acat).sum ≤ 8) (hb : k + b.1 ≤ k1 ∧ n + b.2.1 ≤ n1 ∧ k + b.2.2.1 ≤ k2 ∧ n + b.2.2.2 ≤ n2) (hm : k + rm.cells ≤ (gR Γ).cells ∧ n + rm.slots ≤ (gR Γ).slots) (hR : rm.frames + 1 ≤ (gR Γ).frames ∧ 8 + (maxL + 11) + rm.locals ≤ (gR Γ).locals) (As : List AV) (hnA : As.length = nA) (hstk : stk = As.reverse ++ aR (some q) :: st) (d : decode cc pc = .ok (.invokespecial index, 3)) {Kp : AK} (hF : F (aR (some q) :: As) C I J R Kp) (hK : ∀ o C' I' J' R', Kp o C' I' J' R' → CK Γ k1 n1 k2 n2 pc lv st o C' I' J' R') : AW Γ k n C I J R pc lv stk := by
  obtain ⟨⟨p, l, e, Rm, s, m, args, below, meth, c⟩, z, K⟩ := Γ
  intro ad H locs ls a1 a2 a3 a4
  subst hstk
  have b0 : ∀ v ∈ aR (some q) :: st, okv C v := (ok_rev (As := As) (st := aR (some q) :: st) a4).2
  have b1 : ∀ v ∈ aR (some q) :: As, okv C v := ok_c (ok_h b0) (ok_rev (As := As) (st := aR (some q) :: st) a4).1
  have hM := hS G.2.2.2.2.2.2.2.2.2.1 z.1 z.2.1 ad C I J R (aR (some q) :: As) Kp H.size hF
  refine aw_run (st := st) (vx_runI (As := As.map (cv ad)) (rest := st.map (cv ad)) ⟨G.1, G.2.1, G.2.2.1, G.2.2.2.2.1, G.2.2.2.1⟩ hM (cwI nA G.2.2.2.1 hT rfl rfl rfl (G.2.2.2.1 _ hini) (G.2.2.2.1 _ hlk) (G.2.2.2.1 _ hin) hy1 hd hR) ⟨APc_blind, pc_ok G a1 b1⟩ rfl (by rw [List.length_map]; exact hnA) (a2.1.trans G.2.2.1) (by rw [← List.map_reverse]; exact List.map_append) (lv_room (by rw [acat_ok]; exact hst)) d hm) a1 a2 a3 (ok_t b0) hb hK
theorem aw_callIN (G : Gd Γ yy cc nL ret hh) {nA : Nat} {y : MethodName} {bytes : ByteArray} {maxL : Nat} {rm : Room} {b : Nat × Nat × Nat × Nat} {F : List AV → MC → MI → MJ → MR → AK → Prop} (hS : Spec (gL Γ) y (ws_ y bytes maxL none) rm b F) {host : String} (hln : Cond.methodLinkNest yy.cls index y host ∈ lw_tbl) (hT : GoodIn lw_all (ws_ y bytes maxL none)) (hini : Cond.initialized y.cls ∈ lw_all) (hin : Cond.instanceMethod y ∈ lw_all) (hy1 : y.name = "<init>") (hd : y.cls ≠ "java/lang/invoke/MethodHandle" ∧ y.cls ≠ "java/lang/invoke/VarHandle" ∧ (parseMethodDescriptor y.desc).map (fun d => d.parameters.length) = some nA) (hst : (st.map acat).sum ≤ 8) (hb : k + b.1 ≤ k1 ∧ n + b.2.1 ≤ n1 ∧ k + b.2.2.1 ≤ k2 ∧ n + b.2.2.2 ≤ n2) (hm : k + rm.cells ≤ (gR Γ).cells ∧ n + rm.slots ≤ (gR Γ).slots) (hR : rm.frames + 1 ≤ (gR Γ).frames ∧ 8 + (maxL + 11) + rm.locals ≤ (gR Γ).locals) (As : List AV) (hnA : As.length = nA) (hstk : stk = As.reverse ++ aR (some q) :: st) (d : decode cc pc = .ok (.invokespecial index, 3)) {Kp : AK} (hF : F (aR (some q) :: As) C I J R Kp) (hK : ∀ o C' I' J' R', Kp o C' I' J' R' → CK Γ k1 n1 k2 n2 pc lv st o C' I' J' R') : AW Γ k n C I J R pc lv stk := by
  obtain ⟨⟨p, l, e, Rm, s, m, args, below, meth, c⟩, z, K⟩ := Γ
  intro ad H locs ls a1 a2 a3 a4
  subst hstk
  have b0 : ∀ v ∈ aR (some q) :: st, okv C v := (ok_rev (As := As) (st := aR (some q) :: st) a4).2
  have b1 : ∀ v ∈ aR (some q) :: As, okv C v := ok_c (ok_h b0) (ok_rev (As := As) (st := aR (some q) :: st) a4).1
  have hM := hS G.2.2.2.2.2.2.2.2.2.1 z.1 z.2.1 ad C I J R (aR (some q) :: As) Kp H.size hF
  refine aw_run (st := st) (vx_runIN (As := As.map (cv ad)) (rest := st.map (cv ad)) ⟨G.1, G.2.1, G.2.2.1, G.2.2.2.2.1, G.2.2.2.1⟩ hM ⟨va_cnB nA G.2.2.2.1 hT rfl rfl rfl (G.2.2.2.2.2.2.2.1.2.1 _ hln rfl) (G.2.2.2.1 _ hini) hd hR, hy1, G.2.2.2.1 _ hin⟩ ⟨APc_blind, pc_ok G a1 b1⟩ rfl (by rw [List.length_map]; exact hnA) (a2.1.trans G.2.2.1) (by rw [← List.map_reverse]; exact List.map_append) (lv_room (by rw [acat_ok]; exact hst)) d hm) a1 a2 a3 (ok_t b0) hb hK
theorem aw_callV (G : Gd Γ yy cc nL ret hh) {nA : Nat} {y : MethodName} {bytes : ByteArray} {maxL : Nat} {rY : Option FieldType} {rm : Room} {b : Nat × Nat × Nat × Nat} {F : List AV → MC → MI → MJ → MR → AK → Prop} (hS : Spec (gL Γ) y (ws_ y bytes maxL rY) rm b F) (hT : GoodIn lw_all (wsV yy.cls index y.cls y (ws_ y bytes maxL rY))) (hkd : (1 ≤ (C q).1 ∧ (C q).1 ≤ 13) ∨ (20 ≤ (C q).1 ∧ (C q).1 < 30)) (hkc : kcls (C q).1 = y.cls) (hd : y.cls ≠ "java/lang/invoke/MethodHandle" ∧ y.cls ≠ "java/lang/invoke/VarHandle" ∧ (parseMethodDescriptor y.desc).map (fun d => d.parameters.length) = some nA) (hst : (st.map acat).sum ≤ 8) (hb : k + b.1 ≤ k1 ∧ n + b.2.1 ≤ n1 ∧ k + b.2.2.1 ≤ k2 ∧ n + b.2.2.2 ≤ n2) (hm : k + rm.cells ≤ (gR Γ).cells ∧ n + rm.slots ≤ (gR Γ).slots) (hR : rm.frames + 1 ≤ (gR Γ).frames ∧ 8 + (maxL + 11) + rm.locals ≤ (gR Γ).locals) (As : List AV) (hnA : As.length = nA) (hstk : stk = As.reverse ++ aR (some q) :: st) (d : decode cc pc = .ok (.invokevirtual index, 3)) {Kp : AK} (hF : F (aR (some q) :: As) C I J R Kp) (hK : ∀ o C' I' J' R', Kp o C' I' J' R' → CK Γ k1 n1 k2 n2 pc lv st o C' I' J' R') : AW Γ k n C I J R pc lv stk := by
  obtain ⟨⟨p, l, e, Rm, s, m, args, below, meth, c⟩, z, K⟩ := Γ
  intro ad H locs ls a1 a2 a3 a4
  subst hstk
  have b0 : ∀ v ∈ aR (some q) :: st, okv C v := (ok_rev (As := As) (st := aR (some q) :: st) a4).2
  have b1 : ∀ v ∈ aR (some q) :: As, okv C v := ok_c (ok_h b0) (ok_rev (As := As) (st := aR (some q) :: st) a4).1
  have hM := hS G.2.2.2.2.2.2.2.2.2.1 z.1 z.2.1 ad C I J R (aR (some q) :: As) Kp H.size hF
  obtain ⟨cellB, g1, g3, g2⟩ := rp_cell (q := q) a1.1 G.2.2.2.2.2.2.2.1 hkd
  rw [hkc] at g2
  refine aw_run (st := st) (vx_runV (As := As.map (cv ad)) (rest := st.map (cv ad)) ⟨G.1, G.2.1, G.2.2.1, G.2.2.2.2.1, G.2.2.2.1⟩ hM (cwV nA G.2.2.2.1 hT rfl rfl rfl ⟨rfl, hd⟩ hR) ⟨APc_blind, ⟨cellB, g1, by rw [g3]; rfl, g2⟩, pc_ok G a1 b1⟩ rfl (by rw [List.length_map]; exact hnA) (a2.1.trans G.2.2.1) (by rw [← List.map_reverse]; exact List.map_append) (lv_room (by rw [acat_ok]; exact hst)) d hm) a1 a2 a3 (ok_t b0) hb hK
theorem aw_callVX (G : Gd Γ yy cc nL ret hh) {nA : Nat} {hY : List (Nat × Nat × Nat × Nat)} {y : MethodName} {bytes : ByteArray} {maxL : Nat} {rY : Option FieldType} {rm : Room} {b : Nat × Nat × Nat × Nat} {F : List AV → MC → MI → MJ → MR → AK → Prop} (hS : Spec (gL Γ) y (wsW_ y bytes maxL rY hY) rm b F) (hT : GoodIn lw_all (wsV yy.cls index y.cls y (wsW_ y bytes maxL rY hY))) (hkd : (1 ≤ (C q).1 ∧ (C q).1 ≤ 13) ∨ (20 ≤ (C q).1 ∧ (C q).1 < 30)) (hkc : kcls (C q).1 = y.cls) (hd : y.cls ≠ "java/lang/invoke/MethodHandle" ∧ y.cls ≠ "java/lang/invoke/VarHandle" ∧ (parseMethodDescriptor y.desc).map (fun d => d.parameters.length) = some nA) (hst : (st.map acat).sum ≤ 8) (hb : k + b.1 ≤ k1 ∧ n + b.2.1 ≤ n1 ∧ k + b.2.2.1 ≤ k2 ∧ n + b.2.2.2 ≤ n2) (hm : k + rm.cells ≤ (gR Γ).cells ∧ n + rm.slots ≤ (gR Γ).slots) (hR : rm.frames + 1 ≤ (gR Γ).frames ∧ 8 + (maxL + 11) + rm.locals ≤ (gR Γ).locals) (As : List AV) (hnA : As.length = nA) (hstk : stk = As.reverse ++ aR (some q) :: st) (d : decode cc pc = .ok (.invokevirtual index, 3)) {Kp : AK} (hF : F (aR (some q) :: As) C I J R Kp) (hK : ∀ o C' I' J' R', Kp o C' I' J' R' → CK Γ k1 n1 k2 n2 pc lv st o C' I' J' R') : AW Γ k n C I J R pc lv stk := by
  obtain ⟨⟨p, l, e, Rm, s, m, args, below, meth, c⟩, z, K⟩ := Γ
  intro ad H locs ls a1 a2 a3 a4
  subst hstk
  have b0 : ∀ v ∈ aR (some q) :: st, okv C v := (ok_rev (As := As) (st := aR (some q) :: st) a4).2
  have b1 : ∀ v ∈ aR (some q) :: As, okv C v := ok_c (ok_h b0) (ok_rev (As := As) (st := aR (some q) :: st) a4).1
  have hM := hS G.2.2.2.2.2.2.2.2.2.1 z.1 z.2.1 ad C I J R (aR (some q) :: As) Kp H.size hF
  obtain ⟨cellB, g1, g3, g2⟩ := rp_cell (q := q) a1.1 G.2.2.2.2.2.2.2.1 hkd
  rw [hkc] at g2
  refine aw_run (st := st) (vx_runVX (As := As.map (cv ad)) (rest := st.map (cv ad)) ⟨G.1, G.2.1, G.2.2.1, G.2.2.2.2.1, G.2.2.2.1⟩ hM (vx_cwVW nA G.2.2.2.1 hT rfl rfl rfl ⟨rfl, hd⟩ hR) ⟨APc_blind, ⟨cellB, g1, by rw [g3]; rfl, g2⟩, pc_ok G a1 b1⟩ rfl (by rw [List.length_map]; exact hnA) (a2.1.trans G.2.2.1) (by rw [← List.map_reverse]; exact List.map_append) (lv_room (by rw [acat_ok]; exact hst)) d hm) a1 a2 a3 (ok_t b0) hb hK
theorem aw_callU (G : Gd Γ yy cc nL ret hh) {nA : Nat} {x : MethodName} {Cn owner : String} {y : MethodName} {bytes : ByteArray} {maxL : Nat} {rY : Option FieldType} {rm : Room} {b : Nat × Nat × Nat × Nat} {F : List AV → MC → MI → MJ → MR → AK → Prop} (hS : Spec (gL Γ) y (ws_ y bytes maxL rY) rm b F) (hT : GoodIn lw_all (va_wsU yy.cls index Cn owner x y (ws_ y bytes maxL rY))) (hyx : y = ⟨owner, x.name, x.desc⟩) (hkd : (1 ≤ (C q).1 ∧ (C q).1 ≤ 13) ∨ (20 ≤ (C q).1 ∧ (C q).1 < 30)) (hkc : kcls (C q).1 = Cn) (hd : owner ≠ "java/lang/invoke/MethodHandle" ∧ owner ≠ "java/lang/invoke/VarHandle" ∧ (parseMethodDescriptor x.desc).map (fun d => d.parameters.length) = some nA) (hst : (st.map acat).sum ≤ 8) (hb : k + b.1 ≤ k1 ∧ n + b.2.1 ≤ n1 ∧ k + b.2.2.1 ≤ k2 ∧ n + b.2.2.2 ≤ n2) (hm : k + rm.cells ≤ (gR Γ).cells ∧ n + rm.slots ≤ (gR Γ).slots) (hR : rm.frames + 1 ≤ (gR Γ).frames ∧ 8 + (maxL + 11) + rm.locals ≤ (gR Γ).locals) (As : List AV) (hnA : As.length = nA) (hstk : stk = As.reverse ++ aR (some q) :: st) (d : decode cc pc = .ok (.invokevirtual index, 3)) {Kp : AK} (hF : F (aR (some q) :: As) C I J R Kp) (hK : ∀ o C' I' J' R', Kp o C' I' J' R' → CK Γ k1 n1 k2 n2 pc lv st o C' I' J' R') : AW Γ k n C I J R pc lv stk := by
  obtain ⟨⟨p, l, e, Rm, s, m, args, below, meth, c⟩, z, K⟩ := Γ
  intro ad H locs ls a1 a2 a3 a4
  subst hstk
  have b0 : ∀ v ∈ aR (some q) :: st, okv C v := (ok_rev (As := As) (st := aR (some q) :: st) a4).2
  have b1 : ∀ v ∈ aR (some q) :: As, okv C v := ok_c (ok_h b0) (ok_rev (As := As) (st := aR (some q) :: st) a4).1
  have hM := hS G.2.2.2.2.2.2.2.2.2.1 z.1 z.2.1 ad C I J R (aR (some q) :: As) Kp H.size hF
  obtain ⟨cellB, g1, g3, g2⟩ := rp_cell (q := q) a1.1 G.2.2.2.2.2.2.2.1 hkd
  rw [hkc] at g2
  refine aw_run (st := st) (vx_runU (As := As.map (cv ad)) (rest := st.map (cv ad)) ⟨G.1, G.2.1, G.2.2.1, G.2.2.2.2.1, G.2.2.2.1⟩ hM (va_cwU nA G.2.2.2.1 hT rfl rfl rfl hyx hd hR) ⟨APc_blind, ⟨cellB, g1, by rw [g3]; rfl, g2⟩, pc_ok G a1 b1⟩ rfl (by rw [List.length_map]; exact hnA) (a2.1.trans G.2.2.1) (by rw [← List.map_reverse]; exact List.map_append) (lv_room (by rw [acat_ok]; exact hst)) d hm) a1 a2 a3 (ok_t b0) hb hK
theorem aw_callO (G : Gd Γ yy cc nL ret hh) {nA : Nat} {x : MethodName} {Cn owner : String} {y : MethodName} {bytes : ByteArray} {maxL : Nat} {rY : Option FieldType} {rm : Room} {b : Nat × Nat × Nat × Nat} {F : List AV → MC → MI → MJ → MR → AK → Prop} (hS : Spec (gL Γ) y (ws_ y bytes maxL rY) rm b F) {b0 : ByteArray} {m0 : Nat} {r0 : Option FieldType} (hT : GoodIn lw_all (va_wsO yy.cls index Cn owner x y (ws_ y bytes maxL rY))) (h0 : Cond.code ⟨owner, x.name, x.desc⟩ b0 m0 r0 ∈ lw_all) (hkd : (1 ≤ (C q).1 ∧ (C q).1 ≤ 13) ∨ (20 ≤ (C q).1 ∧ (C q).1 < 30)) (hkc : kcls (C q).1 = Cn) (hd : owner ≠ "java/lang/invoke/MethodHandle" ∧ owner ≠ "java/lang/invoke/VarHandle" ∧ (parseMethodDescriptor x.desc).map (fun d => d.parameters.length) = some nA) (hst : (st.map acat).sum ≤ 8) (hb : k + b.1 ≤ k1 ∧ n + b.2.1 ≤ n1 ∧ k + b.2.2.1 ≤ k2 ∧ n + b.2.2.2 ≤ n2) (hm : k + rm.cells ≤ (gR Γ).cells ∧ n + rm.slots ≤ (gR Γ).slots) (hR : rm.frames + 1 ≤ (gR Γ).frames ∧ 8 + (maxL + 11) + rm.locals ≤ (gR Γ).locals) (As : List AV) (hnA : As.length = nA) (hstk : stk = As.reverse ++ aR (some q) :: st) (d : decode cc pc = .ok (.invokevirtual index, 3)) {Kp : AK} (hF : F (aR (some q) :: As) C I J R Kp) (hK : ∀ o C' I' J' R', Kp o C' I' J' R' → CK Γ k1 n1 k2 n2 pc lv st o C' I' J' R') : AW Γ k n C I J R pc lv stk := by
  obtain ⟨⟨p, l, e, Rm, s, m, args, below, meth, c⟩, z, K⟩ := Γ
  intro ad H locs ls a1 a2 a3 a4
  subst hstk
  have b0 : ∀ v ∈ aR (some q) :: st, okv C v := (ok_rev (As := As) (st := aR (some q) :: st) a4).2
  have b1 : ∀ v ∈ aR (some q) :: As, okv C v := ok_c (ok_h b0) (ok_rev (As := As) (st := aR (some q) :: st) a4).1
  have hM := hS G.2.2.2.2.2.2.2.2.2.1 z.1 z.2.1 ad C I J R (aR (some q) :: As) Kp H.size hF
  obtain ⟨cellB, g1, g3, g2⟩ := rp_cell (q := q) a1.1 G.2.2.2.2.2.2.2.1 hkd
  rw [hkc] at g2
  refine aw_run (st := st) (vx_runU (As := As.map (cv ad)) (rest := st.map (cv ad)) ⟨G.1, G.2.1, G.2.2.1, G.2.2.2.2.1, G.2.2.2.1⟩ hM (va_cwO nA G.2.2.2.1 hT rfl rfl rfl h0 hd hR) ⟨APc_blind, ⟨cellB, g1, by rw [g3]; rfl, g2⟩, pc_ok G a1 b1⟩ rfl (by rw [List.length_map]; exact hnA) (a2.1.trans G.2.2.1) (by rw [← List.map_reverse]; exact List.map_append) (lv_room (by rw [acat_ok]; exact hst)) d hm) a1 a2 a3 (ok_t b0) hb hK
theorem aw_callA (G : Gd Γ yy cc nL ret hh) {nA : Nat} {x : MethodName} {Cn owner : String} {y : MethodName} {bytes : ByteArray} {maxL : Nat} {rY : Option FieldType} {rm : Room} {b : Nat × Nat × Nat × Nat} {F : List AV → MC → MI → MJ → MR → AK → Prop} (hS : Spec (gL Γ) y (ws_ y bytes maxL rY) rm b F) (hT : GoodIn lw_all (va_wsU yy.cls index Cn owner x y (ws_ y bytes maxL rY))) (hdc : Cond.declares ⟨owner, x.name, x.desc⟩ ∈ lw_tbl) (hkd : (1 ≤ (C q).1 ∧ (C q).1 ≤ 13) ∨ (20 ≤ (C q).1 ∧ (C q).1 < 30)) (hkc : kcls (C q).1 = Cn) (hd : owner ≠ "java/lang/invoke/MethodHandle" ∧ owner ≠ "java/lang/invoke/VarHandle" ∧ (parseMethodDescriptor x.desc).map (fun d => d.parameters.length) = some nA) (hst : (st.map acat).sum ≤ 8) (hb : k + b.1 ≤ k1 ∧ n + b.2.1 ≤ n1 ∧ k + b.2.2.1 ≤ k2 ∧ n + b.2.2.2 ≤ n2) (hm : k + rm.cells ≤ (gR Γ).cells ∧ n + rm.slots ≤ (gR Γ).slots) (hR : rm.frames + 1 ≤ (gR Γ).frames ∧ 8 + (maxL + 11) + rm.locals ≤ (gR Γ).locals) (As : List AV) (hnA : As.length = nA) (hstk : stk = As.reverse ++ aR (some q) :: st) (d : decode cc pc = .ok (.invokevirtual index, 3)) {Kp : AK} (hF : F (aR (some q) :: As) C I J R Kp) (hK : ∀ o C' I' J' R', Kp o C' I' J' R' → CK Γ k1 n1 k2 n2 pc lv st o C' I' J' R') : AW Γ k n C I J R pc lv stk := by
  obtain ⟨⟨p, l, e, Rm, s, m, args, below, meth, c⟩, z, K⟩ := Γ
  intro ad H locs ls a1 a2 a3 a4
  subst hstk
  have b0 : ∀ v ∈ aR (some q) :: st, okv C v := (ok_rev (As := As) (st := aR (some q) :: st) a4).2
  have b1 : ∀ v ∈ aR (some q) :: As, okv C v := ok_c (ok_h b0) (ok_rev (As := As) (st := aR (some q) :: st) a4).1
  have hM := hS G.2.2.2.2.2.2.2.2.2.1 z.1 z.2.1 ad C I J R (aR (some q) :: As) Kp H.size hF
  obtain ⟨cellB, g1, g3, g2⟩ := rp_cell (q := q) a1.1 G.2.2.2.2.2.2.2.1 hkd
  rw [hkc] at g2
  refine aw_run (st := st) (vx_runU (As := As.map (cv ad)) (rest := st.map (cv ad)) ⟨G.1, G.2.1, G.2.2.1, G.2.2.2.2.1, G.2.2.2.1⟩ hM (va_cwA nA G.2.2.2.1 hT rfl rfl rfl (G.2.2.2.2.2.2.2.1.2.1 _ hdc rfl) hd hR) ⟨APc_blind, ⟨cellB, g1, by rw [g3]; rfl, g2⟩, pc_ok G a1 b1⟩ rfl (by rw [List.length_map]; exact hnA) (a2.1.trans G.2.2.1) (by rw [← List.map_reverse]; exact List.map_append) (lv_room (by rw [acat_ok]; exact hst)) d hm) a1 a2 a3 (ok_t b0) hb hK
/-- the arguments as locals -/
def avs : Nat → List AV → List (Nat × AV)
  | _, [] => []
  | i, v :: l => (i, v) :: avs (i + (if c2 v then 2 else 1)) l
theorem avs_ok (ad : Nat → Nat) : ∀ (As : List AV) (i : Nat), lv_args i (As.map (cv ad)) = lvm ad (avs i As)
  | [], i => rfl
  | v :: l, i => by
    show lv_args i (cv ad v :: l.map (cv ad)) = (i, cv ad v) :: lvm ad (avs (i + (if c2 v then 2 else 1)) l)
    rw [← avs_ok ad l]
    rcases v with x | x | x
    · rfl
    · rfl
    · cases x <;> rfl
theorem avs_mem : ∀ (As : List AV) (i : Nat), ∀ q ∈ avs i As, q.2 ∈ As
  | [], _, q, h => by cases h
  | v :: l, i, q, h => by
    rcases List.mem_cons.mp h with rfl | h
    · exact List.mem_cons_self
    · exact List.mem_cons_of_mem _ (avs_mem l _ q h)
def alen (As : List AV) : Nat := (As.map acat).sum
theorem alen_ok (ad : Nat → Nat) (As : List AV) : (lg_sl (As.map (cv ad))).length = alen As := by
  induction As with
  | nil => rfl
  | cons v l ih =>
    unfold lg_sl alen at *
    rw [List.map_cons, List.flatMap_cons, List.length_append, ih, List.map_cons, List.sum_cons]
    congr 1
    rcases v with x | x | x
    · rfl
    · rfl
    · cases x <;> rfl
/-- a contract out of the walk of a method without handlers -/
theorem Spec.of {l : Launch} {y : MethodName} {bytes : ByteArray} {maxL : Nat} {rY : Option FieldType} {rm : Room} {b : Nat × Nat × Nat × Nat} {F : List AV → MC → MI → MJ → MR → AK → Prop} (hy : plainName y.cls = true)
    (h : ∀ (Γ : Gm) (C : MC) (I : MI) (J : MJ) (R : MR) (As : List AV), Gd Γ y bytes maxL rY [] → gL Γ = l → gR Γ = rm → (gZ Γ).2.2.2.1 = C → (gZ Γ).2.2.2.2.1 = R → (gZ Γ).2.2.2.2.2 = b → F As C I J R (gK Γ) → alen As ≤ maxL ∧ AW Γ 0 0 C I J R 0 (avs 0 As) []) : Spec l y (ws_ y bytes maxL rY) rm b F := by
  intro hl D dA ad C I J R As K sz hF
  refine vx_ofW hy rfl ?_
  intro p e s m args below meth c s₁ B hml htab hv
  obtain ⟨rfl, hsz, hP, hKn, hZ, hok⟩ := hv
  have hts := atoms_spec (ws := ws_ y bytes maxL rY) B.pre
  have hts : ∀ w ∈ lw_all, w.before _ s = true := fun w h => hts w (List.mem_cons_of_mem _ h)
  subst hsz
  have htab2 : c.exceptionTable.toList = tableOf [] := by
    cases ht : c.exceptionTable.toList with
    | nil => rfl
    | cons x xs => exact absurd (htab x (by rw [ht]; exact List.mem_cons_self)) id
  obtain ⟨hlen, hw⟩ := h ((p, l, e, rm, s, m, (As.map (cv ad)).toArray, below, meth, c), (D, dA, ad, C, R, b), K) C I J R As ⟨B.exec, B.bytes, hml, hts, findClass_of_methodNamed B.named, B.returns, B.notSynchronized, hKn, hZ, hl, htab2, (name_of_methodNamed B.named B.method).1⟩ rfl rfl rfl rfl rfl hF
  have hl2 := lv_entry (As.map (cv ad)) (n := maxL) (by rw [alen_ok]; exact hlen)
  rw [lg_entry_eq]
  refine hw ad s.heap [] _ ⟨hP, fun q _ => ⟨rfl, rfl⟩, va_S.rf, fun q hq => Or.inl ⟨q, hq, rfl⟩⟩ ?_ (fun q hq => hok _ (avs_mem As 0 q hq)) (fun v hv => by cases hv)
  rw [← avs_ok, hml]
  exact hl2
/-- .. with handlers -/
theorem Spec.ofH {l : Launch} {y : MethodName} {bytes : ByteArray} {maxL : Nat} {rY : Option FieldType} {hY : List (Nat × Nat × Nat × Nat)} {rm : Room} {b : Nat × Nat × Nat × Nat} {F : List AV → MC → MI → MJ → MR → AK → Prop} (hy : plainName y.cls = true)
    (h : ∀ (Γ : Gm) (C : MC) (I : MI) (J : MJ) (R : MR) (As : List AV), Gd Γ y bytes maxL rY hY → gL Γ = l → gR Γ = rm → (gZ Γ).2.2.2.1 = C → (gZ Γ).2.2.2.2.1 = R → (gZ Γ).2.2.2.2.2 = b → F As C I J R (gK Γ) → alen As ≤ maxL ∧ AW Γ 0 0 C I J R 0 (avs 0 As) []) : Spec l y (wsW_ y bytes maxL rY hY) rm b F := by
  intro hl D dA ad C I J R As K sz hF
  refine vx_ofWH hy rfl ?_
  intro p e s m args below meth c s₁ B hml hv
  obtain ⟨rfl, hsz, hP, hKn, hZ, hok⟩ := hv
  have hts0 := atoms_spec (ws := wsW_ y bytes maxL rY hY) B.pre
  have hts : ∀ w ∈ lw_all, w.before _ s = true := fun w h => hts0 w (List.mem_cons_of_mem _ h)
  subst hsz
  have htab2 : c.exceptionTable.toList = tableOf hY := vx_table (x := y) B (hts0 _ List.mem_cons_self)
  obtain ⟨hlen, hw⟩ := h ((p, l, e, rm, s, m, (As.map (cv ad)).toArray, below, meth, c), (D, dA, ad, C, R, b), K) C I J R As ⟨B.exec, B.bytes, hml, hts, findClass_of_methodNamed B.named, B.returns, B.notSynchronized, hKn, hZ, hl, htab2, (name_of_methodNamed B.named B.method).1⟩ rfl rfl rfl rfl rfl hF
  have hl2 := lv_entry (As.map (cv ad)) (n := maxL) (by rw [alen_ok]; exact hlen)
  rw [lg_entry_eq]
  refine hw ad s.heap [] _ ⟨hP, fun q _ => ⟨rfl, rfl⟩, va_S.rf, fun q hq => Or.inl ⟨q, hq, rfl⟩⟩ ?_ (fun q hq => hok _ (avs_mem As 0 q hq)) (fun v hv => by cases hv)
  rw [← avs_ok, hml]
  exact hl2
end AWD
