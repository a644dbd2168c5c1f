/-! THE ABSTRACT LAYER 9: Throwable's own fields (of which nothing is said), its constructor of four -/
set_option maxRecDepth 100000
def FO (own : String) (index f kind : Nat) : Prop := ∃ (ci : Nat) (Cn ref : String) (T : u_T) (N : Nat), kind = ci + 1 ∧ ClsOk ci Cn T N ∧ f < N ∧ FLk own index ref (T f).2.1 (T f).2.2.1 ∧ FSm ref (T f) ∧ opq ci f = true ∧ tcd (cty ci f) = 2 ∧ ci < 11 ∧ (T f).2.2.2 = false
section AWO
variable {p : Program} {l : Launch} {e : Env} {Rm : Room} {s : State} {m : MethodId} {args : Array Value} {below : List Frame} {meth : Method} {c : Code} {z : Zd} {K : AK} {k n k' n' : Nat} {C : MC} {I : MI} {J : MJ} {R : MR} {pc : Nat} {lv : List (Nat × AV)} {st : List AV} {yy : MethodName} {cc : ByteArray} {nL : Nat} {ret : Option FieldType} {hh : List (Nat × Nat × Nat × Nat)} {q index : Nat} {ad : Nat → Nat} {H : Heap} {locs : List Loc} {ls : Array Slot}
theorem raw_putO (G : Gd ((p, l, e, Rm, s, m, args, below, meth, c), z, K) yy cc nL ret hh) {f : Nat} (hF : FO yy.cls index f (C q).1) (v : Value) (hv : v = .null ∨ ∃ a, v = .ref a) (d : decode cc pc = .ok (.putfield index, 3)) (h : AW ((p, l, e, Rm, s, m, args, below, meth, c), z, K) k n C I J R (pc + 3) lv st) (a1 : Sit s z ad H locs C I J R) (a2 : lv_has ls c.maxLocals (lvm ad lv)) (a3 : ∀ q ∈ lv, okv C q.2) (a4 : ∀ v ∈ st, okv C v) :
    W p l e Rm s m args below meth c H locs k n (vx_MQ below (AQc z K s.heap.size) (AXC z K s.heap.size) args s Rm.cells Rm.slots (fA z.2.2.1 z.2.2.2.1 s.heap.size)) (F0 m pc ls (v :: .ref (ad q) :: st.map (cv ad))) := by
  obtain ⟨ci, Cn, ref, T, N, g0, ⟨g1, g2, g3, g4⟩, hf, hl, hs, g5, g6, hci, hfin⟩ := hF
  have hq : (C q).1 ≠ 0 := by omega
  have hwr : wr (C q).1 := ⟨hq, by omega⟩
  obtain ⟨-, b1, -⟩ := a1.1.2.2 q hq
  obtain ⟨x0, V, b2, b3, b4⟩ := b1 (by omega)
  rw [g0, Nat.add_sub_cancel] at b2 b3 b4
  cases Option.some.inj (b2.symm.trans g1)
  have hKK := G.2.2.2.2.2.2.2.1.1
  have hts := G.2.2.2.1
  have hown := G.2.2.2.2.1
  have hap := va_apart (own := yy.cls) hts g2 (cty ci) g3 g4 hKK g1
  obtain ⟨cell, r1, r2, r3, r4⟩ := b3
  obtain ⟨hS, hfc, kC, hkC, hkind⟩ := hKK.1 ci _ g1
  obtain ⟨cf, kf, fi, fd, hi, hsl⟩ := hS f hf
  have hst := (u_facts hfc hkC (u_lays hts g2 hf) hi).1
  have hn : narrow (cty ci f) v = v := by cases hty : cty ci f <;> rw [hty] at g6 <;> first | (rcases hv with rfl | ⟨a, rfl⟩ <;> rfl) | cases g6
  have hfit : fits (cty ci f) v = true := by cases hty : cty ci f <;> rw [hty] at g6 <;> first | (rcases hv with rfl | ⟨a, rfl⟩ <;> rfl) | cases g6
  have hlt : fd.slot < cell.slots.size := by rw [hsl]; exact k2_hasslot (r4 f hf)
  have fin : ∀ (H' : Heap), H'[ad q]? = some (cell.setSlot fd.slot v) → H'.size = H.size → (∀ a, a ≠ ad q → H'[a]? = H[a]?) → W p l e Rm s m args below meth c H' (locs ++ [⟨ad q, fd.slot⟩]) k n (vx_MQ below (AQc z K s.heap.size) (AXC z K s.heap.size) args s Rm.cells Rm.slots (fA z.2.2.1 z.2.2.2.1 s.heap.size)) (F0 m (pc + 3) ls (st.map (cv ad))) := by
    intro H' e1 e2 e3
    refine h ad H' _ ls (a1.put hwr e2 e3 (fun m hm => rfl) (fun m hm => rfl) (fun m hm => rfl) (fun i w hw => a1.1.2.1 q i w hq hw) ?_) a2 a3 a4
    refine ⟨by rw [e2]; exact a1.1.lt hq, fun _ => ⟨_, updV V f v, by rw [g0, Nat.add_sub_cancel]; exact g1, ?_, fun f' hf' ho => ?_⟩, fun z1 _ => by omega, fun z1 _ => by omega, fun z1 => by omega⟩
    · rw [g0, Nat.add_sub_cancel]
      rw [hsl] at e1
      exact ⟨_, e1, r2, r3, t_set r4 hap hf _⟩
    · rw [g0, Nat.add_sub_cancel] at ho ⊢
      by_cases hff : f' = f
      · subst hff
        rw [g5] at ho
        cases ho
      · rw [show updV V f v f' = V f' by simp [updV, hff], b4 f' hf' ho]
  have hlay := hts _ (g2 _ (u_in_lay hf))
  unfold u_lay at hlay
  rw [if_neg (by rw [hfin]; decide)] at hlay
  have h6 := u_store hfc hkC hkind hlay hi (g3 f hf) hn hfit
  rcases hl with hl | ⟨host, hl⟩
  · exact W.putK G.1 G.2.1 (f := fd) ⟨hown, hts _ hl, ⟨_, _, _, fsm_same hts hs _ hi⟩, hst⟩ (by rw [r2]; exact h6) r1 r3 hlt rfl rfl d fin
  · exact va_WputK G.1 G.2.1 (f := fd) hown (va_Nw.use rfl (G.2.2.2.2.2.2.2.1.2.1 _ hl rfl)) (fsm_same hts hs _ hi) hst (by rw [r2]; exact h6) r1 r3 hlt rfl rfl d fin
end AWO
section AWO2
variable {Γ : Gm} {k n k' n' : Nat} {C : MC} {I : MI} {J : MJ} {R : MR} {pc : Nat} {lv : List (Nat × AV)} {st : List AV} {yy : MethodName} {cc : ByteArray} {nL : Nat} {ret : Option FieldType} {hh : List (Nat × Nat × Nat × Nat)} {q index index2 : Nat}
theorem aw_putO (G : Gd Γ yy cc nL ret hh) {f : Nat} {x : Option Nat} (hF : FO yy.cls index f (C q).1) (d : decode cc pc = .ok (.putfield index, 3)) (h : AW Γ k n C I J R (pc + 3) lv st) : AW Γ k n C I J R pc lv (aR x :: aR (some q) :: st) := by
  obtain ⟨⟨p, l, e, Rm, s, m, args, below, meth, c⟩, z, K⟩ := Γ
  intro ad H locs ls a1 a2 a3 a4
  exact raw_putO G hF (cv ad (aR x)) (by cases x <;> first | exact Or.inl rfl | exact Or.inr ⟨_, rfl⟩) d h a1 a2 a3 (ok_t (ok_t a4))
/-- one of Throwable's two statics, stored into a field of its own -/
theorem aw_gsputO (G : Gd Γ yy cc nL ret hh) {f : Nat} {nm ds : String} (hnd : (nm = "UNASSIGNED_STACK" ∧ ds = Bundle.steD) ∨ (nm = "SUPPRESSED_SENTINEL" ∧ ds = Bundle.listD)) (hl : Cond.fieldLink yy.cls index Bundle.tN nm ds ∈ lw_all) (hF : FO yy.cls index2 f (C q).1) (d : decode cc pc = .ok (.getstatic index, 3)) (d2 : decode cc (pc + 3) = .ok (.putfield index2, 3)) (h : AW Γ k n C I J R (pc + 3 + 3) lv st) : AW Γ k n C I J R pc lv (aR (some q) :: st) := by
  obtain ⟨⟨p, l, e, Rm, s, m, args, below, meth, c⟩, z, K⟩ := Γ
  intro ad H locs ls a1 a2 a3 a4
  have hZ : vx_Zq Bundle.tN nm ds (fA z.2.2.1 z.2.2.2.1 s.heap.size) s s.heap := by
    rcases hnd with ⟨rfl, rfl⟩ | ⟨rfl, rfl⟩
    · exact G.2.2.2.2.2.2.2.2.1.1
    · exact G.2.2.2.2.2.2.2.2.1.2
  rcases hZ.1 with h9 | ⟨t, h9⟩
  · exact va_gets G.1 G.2.1 h9 a1.2.2.1 G.2.2.2.2.1 (G.2.2.2.1 _ hl) (fun _ w => w) d (raw_putO G hF .null (Or.inl rfl) d2 h a1 a2 a3 (ok_t a4))
  · exact va_gets G.1 G.2.1 h9 a1.2.2.1 G.2.2.2.2.1 (G.2.2.2.1 _ hl) (fun _ w => w) d (raw_putO G hF (.ref t) (Or.inr ⟨t, rfl⟩) d2 h a1 a2 a3 (ok_t a4))
end AWO2
def kThr (k : Nat) : Prop := k = 2 ∨ k = 11
theorem fo_7 {k : Nat} (h : kThr k) : FO RJ0 7 0 k := by
  rcases h with rfl | rfl
  · exact ⟨1, RX1, RJ0, TX1, 7, rfl, cl_1, by decide, Or.inl q137, Or.inl rfl, rfl, rfl, by decide, rfl⟩
  · exact ⟨10, RX11, RJ0, TX11, 6, rfl, cl_10, by decide, Or.inl q137, Or.inl rfl, rfl, rfl, by decide, rfl⟩
theorem fo_17 {k : Nat} (h : kThr k) : FO RJ0 17 1 k := by
  rcases h with rfl | rfl
  · exact ⟨1, RX1, RJ0, TX1, 7, rfl, cl_1, by decide, Or.inl q138, Or.inl rfl, rfl, rfl, by decide, rfl⟩
  · exact ⟨10, RX11, RJ0, TX11, 6, rfl, cl_10, by decide, Or.inl q138, Or.inl rfl, rfl, rfl, by decide, rfl⟩
theorem fo_24 {k : Nat} (h : kThr k) : FO RJ0 24 2 k := by
  rcases h with rfl | rfl
  · exact ⟨1, RX1, RJ0, TX1, 7, rfl, cl_1, by decide, Or.inl q139, Or.inl rfl, rfl, rfl, by decide, rfl⟩
  · exact ⟨10, RX11, RJ0, TX11, 6, rfl, cl_10, by decide, Or.inl q139, Or.inl rfl, rfl, rfl, by decide, rfl⟩
theorem fo_31 {k : Nat} (h : kThr k) : FO RJ0 31 3 k := by
  rcases h with rfl | rfl
  · exact ⟨1, RX1, RJ0, TX1, 7, rfl, cl_1, by decide, Or.inl q136, Or.inl rfl, rfl, rfl, by decide, rfl⟩
  · exact ⟨10, RX11, RJ0, TX11, 6, rfl, cl_10, by decide, Or.inl q136, Or.inl rfl, rfl, rfl, by decide, rfl⟩
/-- Throwable's constructor of four, with neither trace nor suppression -/
def F_J0_init_2 : SPF := fun As C I J R K => ∃ (q : Nat) (a b : Option Nat), As = [aR (some q), aR a, aR b, aI 0, aI 0] ∧ kThr (C q).1 ∧ K (.inl none) C I J R
theorem S_J0_init_2 (l : Launch) : SpJ0_init_2 l F_J0_init_2 := by
  refine Spec.of (by rfl) ?_
  intro Γ C I J R As Gd gl gr _ _ gb hF
  obtain ⟨q, a, b, rfl, hk, h⟩ := hF
  refine ⟨Nat.le_of_ble_eq_true rfl, ?_⟩
  show AW Γ 0 0 C I J R 0 [(0, aR (some q)), (1, aR a), (2, aR b), (3, aI 0), (4, aI 0)] []
  refine aw_aload_n Gd 0 rfl dJ0_init_2_0 ?_
  refine aw_objinit Gd q107 q78 q79 (by rw [gr]; decide) (by rw [gr]; exact Nat.le_of_ble_eq_true rfl) dJ0_init_2_1 ?_
  refine aw_aload_n Gd 0 rfl dJ0_init_2_4 ?_
  refine aw_aload_n Gd 0 rfl dJ0_init_2_5 ?_
  refine aw_putO Gd (fo_7 hk) dJ0_init_2_6 ?_
  refine aw_aload_n Gd 0 rfl dJ0_init_2_9 ?_
  refine aw_gsputO Gd (Or.inl ⟨rfl, rfl⟩) q108 (fo_17 hk) dJ0_init_2_10 dJ0_init_2_13 ?_
  refine aw_aload_n Gd 0 rfl dJ0_init_2_16 ?_
  refine aw_gsputO Gd (Or.inr ⟨rfl, rfl⟩) q110 (fo_24 hk) dJ0_init_2_17 dJ0_init_2_20 ?_
  refine aw_iload Gd 4 rfl dJ0_init_2_23 ?_
  refine aw_if_eq Gd 36 dJ0_init_2_25 (by decide) (fun _ => ?_) (fun w => absurd rfl w)
  refine aw_aload_n Gd 0 rfl dJ0_init_2_36 ?_
  refine aw_null Gd dJ0_init_2_37 ?_
  refine aw_putO Gd (fo_17 hk) dJ0_init_2_38 ?_
  refine aw_aload_n Gd 0 rfl dJ0_init_2_41 ?_
  refine aw_aload_n Gd 1 rfl dJ0_init_2_42 ?_
  refine aw_putO Gd (fo_31 hk) dJ0_init_2_43 ?_
  refine aw_aload_n Gd 0 rfl dJ0_init_2_46 ?_
  refine aw_aload_n Gd 2 rfl dJ0_init_2_47 ?_
  refine aw_putO Gd (fo_7 hk) dJ0_init_2_48 ?_
  refine aw_iload_n Gd 3 rfl dJ0_init_2_51 ?_
  refine aw_if_ne Gd 60 dJ0_init_2_52 (by decide) (fun w => absurd rfl w) (fun _ => ?_)
  refine aw_aload_n Gd 0 rfl dJ0_init_2_55 ?_
  refine aw_null Gd dJ0_init_2_56 ?_
  refine aw_putO Gd (fo_24 hk) dJ0_init_2_57 ?_
  exact aw_return Gd (by rw [gb]; decide) (by rw [gr]; decide) dJ0_init_2_60 h
