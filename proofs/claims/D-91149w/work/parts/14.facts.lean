/-! ROOMS, BOUNDS, CONTRACTS' NAMES, CALL LINKS (printed by gen/blocks.py) -/
set_option maxRecDepth 100000
abbrev SPF : Type := List AV → MC → MI → MJ → MR → AK → Prop
abbrev rmLv (d : Nat) : Room := { frames := 4 + d, cells := 0, slots := 0, locals := 200 + 60 * d }
abbrev rmTb (d : Nat) : Room := { frames := 12 + d, cells := 1, slots := 6, locals := 1200 + 100 * d }
abbrev rmBo (d : Nat) : Room := { frames := 20 + 4 * d, cells := 1, slots := 6, locals := 1400 + 400 * d }
abbrev rmTo (d : Nat) : Room := { frames := 18 + 4 * d, cells := 1, slots := 6, locals := 1300 + 400 * d }
abbrev bdv : Nat := 0
theorem nfw : nativeFrameWords "java/lang/System" "arraycopy" 5 ≤ 100 := by decide +kernel
def Gb (Γ : Gm) (y : MethodName) (cc : ByteArray) (nL : Nat) (ret : Option FieldType) (hh : List (Nat × Nat × Nat × Nat)) (rm : Room) (b : Nat × Nat × Nat × Nat) : Prop := Gd Γ y cc nL ret hh ∧ gR Γ = rm ∧ (gZ Γ).2.2.2.2.2 = b
section AWR
variable {Γ : Gm} {k n : Nat} {C : MC} {I : MI} {J : MJ} {R : MR} {pc : Nat} {lv : List (Nat × AV)} {st : List AV} {t : Option Nat} {q : Nat} {v0 v1 v2 v3 v4 v5 v6 : AV}
theorem aw_dr0 (e : t = some q) (h : AW Γ k n C I J R pc lv (aR (some q) :: st)) : AW Γ k n C I J R pc lv (aR t :: st) := by rw [e]; exact h
theorem aw_dr1 (e : t = some q) (h : AW Γ k n C I J R pc lv (v0 :: aR (some q) :: st)) : AW Γ k n C I J R pc lv (v0 :: aR t :: st) := by rw [e]; exact h
theorem aw_dr2 (e : t = some q) (h : AW Γ k n C I J R pc lv (v0 :: v1 :: aR (some q) :: st)) : AW Γ k n C I J R pc lv (v0 :: v1 :: aR t :: st) := by rw [e]; exact h
theorem aw_dr3 (e : t = some q) (h : AW Γ k n C I J R pc lv (v0 :: v1 :: v2 :: aR (some q) :: st)) : AW Γ k n C I J R pc lv (v0 :: v1 :: v2 :: aR t :: st) := by rw [e]; exact h
theorem aw_dr4 (e : t = some q) (h : AW Γ k n C I J R pc lv (v0 :: v1 :: v2 :: v3 :: aR (some q) :: st)) : AW Γ k n C I J R pc lv (v0 :: v1 :: v2 :: v3 :: aR t :: st) := by rw [e]; exact h
end AWR
/-- which values fit an array of references -/
def kFit (ka kv : Nat) : Prop := (ka = 25 ∧ (kv = 20 ∨ kv = 21 ∨ kv = 22 ∨ kv = 23)) ∨ (ka = 26 ∧ kTh kv) ∨ (ka = 27 ∧ kv = 4) ∨ (ka = 28 ∧ kv = 5)
theorem kFit_1 {ka kv : Nat} (h : kFit ka kv) : (1 ≤ kv ∧ kv ≤ 13) ∨ (20 ≤ kv ∧ kv < 30) := by
  rcases h with ⟨-, h⟩ | ⟨-, h⟩ | ⟨-, h⟩ | ⟨-, h⟩
  · omega
  · unfold kTh at h; omega
  · omega
  · omega
theorem kFit_2 {ka kv : Nat} (h : kFit ka kv) : kcls kv = ename ka ∨ Cond.castable (kcls kv) (ename ka) ∈ lw_tbl := by
  rcases h with ⟨rfl, h⟩ | ⟨rfl, h⟩ | ⟨rfl, rfl⟩ | ⟨rfl, rfl⟩
  · rcases h with rfl | rfl | rfl | rfl
    · exact Or.inr q1319
    · exact Or.inr q1316
    · exact Or.inr q1317
    · exact Or.inr q1318
  · rcases kTh_cases h with rfl | rfl | rfl | rfl | rfl | rfl
    · exact Or.inr q1308
    · exact Or.inr q1309
    · exact Or.inr q1310
    · exact Or.inr q1311
    · exact Or.inr q1312
    · exact Or.inr q1313
  · exact Or.inl rfl
  · exact Or.inl rfl
def kPr (k : Nat) : Prop := k = 20 ∨ k = 21 ∨ k = 22 ∨ k = 23
theorem ki_thr {k : Nat} (h : kTh k) : (1 ≤ k ∧ k ≤ 13) ∨ (20 ≤ k ∧ k < 30) := by unfold kTh at h; omega
theorem ki_thn {k : Nat} (h : kTh k) (h5 : ¬ k = 5) : (kcls k, "TickShare$Leaf") ∈ noC := by
  rcases kTh_cases h with rfl | rfl | rfl | rfl | rfl | rfl
  · exact absurd rfl h5
  all_goals decide
theorem ki_22r {k : Nat} (h : kPr k) : (1 ≤ k ∧ k ≤ 13) ∨ (20 ≤ k ∧ k < 30) := by unfold kPr at h; omega
theorem ki_23r {k : Nat} (h : kPr k) : (1 ≤ k ∧ k ≤ 13) ∨ (20 ≤ k ∧ k < 30) := ki_22r h
theorem ki_20r {k : Nat} (h : kPr k) : (1 ≤ k ∧ k ≤ 13) ∨ (20 ≤ k ∧ k < 30) := ki_22r h
theorem ki_22n {k : Nat} (h : kPr k) (h5 : ¬ k = 22) : (kcls k, "[B") ∈ noC := by
  rcases h with rfl | rfl | rfl | rfl
  · decide
  · decide
  · exact absurd rfl h5
  · decide
theorem ki_23n {k : Nat} (h : kPr k) (h2 : ¬ k = 22) (h5 : ¬ k = 23) : (kcls k, "[S") ∈ noC := by
  rcases h with rfl | rfl | rfl | rfl
  · decide
  · decide
  · exact absurd rfl h2
  · exact absurd rfl h5
theorem ki_20n {k : Nat} (h : kPr k) (h2 : ¬ k = 22) (h3 : ¬ k = 23) (h5 : ¬ k = 20) : (kcls k, "[I") ∈ noC := by
  rcases h with rfl | rfl | rfl | rfl
  · exact absurd rfl h5
  · decide
  · exact absurd rfl h2
  · exact absurd rfl h3
theorem nt_0 : ∀ f, f < 8 → tcd (cty 0 f) ≠ 4 := by decide +kernel
theorem nt_1 : ∀ f, f < 7 → tcd (cty 1 f) ≠ 4 := by decide +kernel
theorem nt_2 : ∀ f, f < 38 → tcd (cty 2 f) ≠ 4 := by decide +kernel
theorem nt_3 : ∀ f, f < 3 → tcd (cty 3 f) ≠ 4 := by decide +kernel
theorem nt_4 : ∀ f, f < 13 → tcd (cty 4 f) ≠ 4 := by decide +kernel
theorem nt_5 : ∀ f, f < 8 → tcd (cty 5 f) ≠ 4 := by decide +kernel
theorem nt_6 : ∀ f, f < 12 → tcd (cty 6 f) ≠ 4 := by decide +kernel
theorem nt_7 : ∀ f, f < 8 → tcd (cty 7 f) ≠ 4 := by decide +kernel
theorem nt_8 : ∀ f, f < 10 → tcd (cty 8 f) ≠ 4 := by decide +kernel
theorem nt_9 : ∀ f, f < 7 → tcd (cty 9 f) ≠ 4 := by decide +kernel
theorem nt_10 : ∀ f, f < 6 → tcd (cty 10 f) ≠ 4 := by decide +kernel
abbrev bdJ0_init_2 : Nat × Nat × Nat × Nat := (0, 0, 0, 0)
abbrev rmJ0_init_2 : Room := { frames := 2, cells := 0, slots := 0, locals := 80 }
abbrev SpJ0_init_2 (l : Launch) (F : SPF) : Prop := Spec l yJ0_init_2 (ws_ yJ0_init_2 cJ0_init_2 5 (none)) rmJ0_init_2 bdJ0_init_2 F
abbrev bdJ1_init : Nat × Nat × Nat × Nat := (0, 0, 0, 0)
abbrev rmJ1_init : Room := { frames := 3, cells := 0, slots := 0, locals := 104 }
abbrev SpJ1_init (l : Launch) (F : SPF) : Prop := Spec l yJ1_init (ws_ yJ1_init cJ1_init 5 (none)) rmJ1_init bdJ1_init F
abbrev bdJ2_init_2 : Nat × Nat × Nat × Nat := (0, 0, 0, 0)
abbrev rmJ2_init_2 : Room := { frames := 4, cells := 0, slots := 0, locals := 128 }
abbrev SpJ2_init_2 (l : Launch) (F : SPF) : Prop := Spec l yJ2_init_2 (ws_ yJ2_init_2 cJ2_init_2 5 (none)) rmJ2_init_2 bdJ2_init_2 F
abbrev bdJ8_bitCount : Nat × Nat × Nat × Nat := (0, 0, 0, 0)
abbrev rmJ8_bitCount : Room := { frames := 2, cells := 0, slots := 0, locals := 80 }
abbrev SpJ8_bitCount (l : Launch) (F : SPF) : Prop := Spec l yJ8_bitCount (ws_ yJ8_bitCount cJ8_bitCount 1 (some .int)) rmJ8_bitCount bdJ8_bitCount F
abbrev bdX0_init : Nat × Nat × Nat × Nat := (4, 152, 0, 0)
abbrev rmX0_init : Room := { frames := 5, cells := 4, slots := 152, locals := 148 }
abbrev SpX0_init (l : Launch) (F : SPF) : Prop := Spec l yX0_init (ws_ yX0_init cX0_init 1 (none)) rmX0_init bdX0_init F
abbrev bdX0_status : Nat × Nat × Nat × Nat := (0, 0, 0, 0)
abbrev rmX0_status : Room := { frames := 2, cells := 0, slots := 0, locals := 80 }
abbrev SpX0_status (l : Launch) (F : SPF) : Prop := Spec l yX0_status (ws_ yX0_status cX0_status 1 (some .int)) rmX0_status bdX0_status F
abbrev bdX0_top : Nat × Nat × Nat × Nat := (0, 0, 0, 0)
abbrev rmX0_top : Room := { frames := 2, cells := 0, slots := 0, locals := 80 }
abbrev SpX0_top (l : Launch) (F : SPF) : Prop := Spec l yX0_top (ws_ yX0_top cX0_top 1 (some .long)) rmX0_top bdX0_top F
abbrev bdX0_bottom : Nat × Nat × Nat × Nat := (0, 0, 0, 0)
abbrev rmX0_bottom : Room := { frames := 2, cells := 0, slots := 0, locals := 80 }
abbrev SpX0_bottom (l : Launch) (F : SPF) : Prop := Spec l yX0_bottom (ws_ yX0_bottom cX0_bottom 1 (some .long)) rmX0_bottom bdX0_bottom F
abbrev bdX0_tray : Nat × Nat × Nat × Nat := (3, 222, 0, 0)
abbrev rmX0_tray : Room := { frames := 15, cells := 3, slots := 222, locals := 10421 }
abbrev SpX0_tray (l : Launch) (F : SPF) : Prop := Spec l yX0_tray (wsW_ yX0_tray cX0_tray 5 (some .boolean) [(5, 51, 52, 95), (5, 51, 61, 53)]) rmX0_tray bdX0_tray F
abbrev bdX0_want : Nat × Nat × Nat × Nat := (0, 0, 0, 0)
abbrev rmX0_want : Room := { frames := 3, cells := 0, slots := 0, locals := 101 }
abbrev SpX0_want (l : Launch) (F : SPF) : Prop := Spec l yX0_want (ws_ yX0_want cX0_want 3 (none)) rmX0_want bdX0_want F
abbrev bdX0_row : Nat × Nat × Nat × Nat := (1, 60, 3, 222)
abbrev rmX0_row : Room := { frames := 14, cells := 3, slots := 222, locals := 10400 }
abbrev SpX0_row (l : Launch) (F : SPF) : Prop := Spec l yX0_row (ws_ yX0_row cX0_row 2 (some (.object "java/lang/Object"))) rmX0_row bdX0_row F
abbrev bdX0_no : Nat × Nat × Nat × Nat := (0, 0, 0, 0)
abbrev rmX0_no : Room := { frames := 2, cells := 0, slots := 0, locals := 80 }
abbrev SpX0_no (l : Launch) (F : SPF) : Prop := Spec l yX0_no (ws_ yX0_no cX0_no 2 (some .boolean)) rmX0_no bdX0_no F
abbrev bdX0_write : Nat × Nat × Nat × Nat := (3, 222, 0, 0)
abbrev rmX0_write : Room := { frames := 15, cells := 3, slots := 222, locals := 10426 }
abbrev SpX0_write (l : Launch) (F : SPF) : Prop := Spec l yX0_write (wsW_ yX0_write cX0_write 6 (some .boolean) [(5, 16, 17, 109), (5, 16, 26, 53)]) rmX0_write bdX0_write F
abbrev bdX0_on : Nat × Nat × Nat × Nat := (0, 0, 0, 0)
abbrev rmX0_on : Room := { frames := 4, cells := 0, slots := 0, locals := 123 }
abbrev SpX0_on (l : Launch) (F : SPF) : Prop := Spec l yX0_on (ws_ yX0_on cX0_on 2 (some (.object "java/lang/Object"))) rmX0_on bdX0_on F
abbrev bdX0_put : Nat × Nat × Nat × Nat := (0, 0, 3, 222)
abbrev rmX0_put : Room := { frames := 14, cells := 3, slots := 222, locals := 10400 }
abbrev SpX0_put (l : Launch) (F : SPF) : Prop := Spec l yX0_put (ws_ yX0_put cX0_put 7 (none)) rmX0_put bdX0_put F
abbrev bdX0_read : Nat × Nat × Nat × Nat := (3, 222, 0, 0)
abbrev rmX0_read : Room := { frames := 15, cells := 3, slots := 222, locals := 10422 }
abbrev SpX0_read (l : Launch) (F : SPF) : Prop := Spec l yX0_read (wsW_ yX0_read cX0_read 4 (some .long) [(5, 14, 15, 109), (5, 14, 25, 53)]) rmX0_read bdX0_read F
abbrev bdX0_number : Nat × Nat × Nat × Nat := (0, 0, 3, 222)
abbrev rmX0_number : Room := { frames := 14, cells := 3, slots := 222, locals := 10400 }
abbrev SpX0_number (l : Launch) (F : SPF) : Prop := Spec l yX0_number (ws_ yX0_number cX0_number 3 (some .long)) rmX0_number bdX0_number F
abbrev bdX0_none : Nat × Nat × Nat × Nat := (0, 0, 0, 0)
abbrev rmX0_none : Room := { frames := 2, cells := 0, slots := 0, locals := 80 }
abbrev SpX0_none (l : Launch) (F : SPF) : Prop := Spec l yX0_none (ws_ yX0_none cX0_none 2 (some .int)) rmX0_none bdX0_none F
abbrev bdX0_pour : Nat × Nat × Nat × Nat := (3, 600, 0, 0)
abbrev rmX0_pour : Room := { frames := 14, cells := 3, slots := 600, locals := 10400 }
abbrev SpX0_pour (l : Launch) (F : SPF) : Prop := Spec l yX0_pour (wsW_ yX0_pour cX0_pour 9 (some .boolean) [(85, 97, 100, 131), (5, 112, 113, 53)]) rmX0_pour bdX0_pour F
abbrev bdX0_sortOf : Nat × Nat × Nat × Nat := (0, 0, 0, 0)
abbrev rmX0_sortOf : Room := { frames := 2, cells := 0, slots := 0, locals := 80 }
abbrev SpX0_sortOf (l : Launch) (F : SPF) : Prop := Spec l yX0_sortOf (ws_ yX0_sortOf cX0_sortOf 1 (some .int)) rmX0_sortOf bdX0_sortOf F
abbrev bdX0_leaf : Nat × Nat × Nat × Nat := (13, 754, 0, 0)
abbrev rmX0_leaf : Room := { frames := 16, cells := 13, slots := 754, locals := 10447 }
abbrev SpX0_leaf (l : Launch) (F : SPF) : Prop := Spec l yX0_leaf (wsW_ yX0_leaf cX0_leaf 4 (some .int) [(5, 67, 68, 53)]) rmX0_leaf bdX0_leaf F
abbrev bdX0_wantMany : Nat × Nat × Nat × Nat := (0, 0, 0, 0)
abbrev rmX0_wantMany : Room := { frames := 4, cells := 0, slots := 0, locals := 123 }
abbrev SpX0_wantMany (l : Launch) (F : SPF) : Prop := Spec l yX0_wantMany (ws_ yX0_wantMany cX0_wantMany 2 (none)) rmX0_wantMany bdX0_wantMany F
abbrev bdX0_weights : Nat × Nat × Nat × Nat := (3, 245, 3, 245)
abbrev rmX0_weights : Room := { frames := 15, cells := 6, slots := 467, locals := 10422 }
abbrev SpX0_weights (l : Launch) (F : SPF) : Prop := Spec l yX0_weights (ws_ yX0_weights cX0_weights 6 (some (.object "TickShare$Table"))) rmX0_weights bdX0_weights F
abbrev bdX0_sizeOf : Nat × Nat × Nat × Nat := (0, 0, 0, 0)
abbrev rmX0_sizeOf : Room := { frames := 2, cells := 0, slots := 0, locals := 80 }
abbrev SpX0_sizeOf (l : Launch) (F : SPF) : Prop := Spec l yX0_sizeOf (ws_ yX0_sizeOf cX0_sizeOf 2 (some .int)) rmX0_sizeOf bdX0_sizeOf F
abbrev bdX0_common : Nat × Nat × Nat × Nat := (0, 0, 0, 0)
abbrev rmX0_common : Room := { frames := 2, cells := 0, slots := 0, locals := 80 }
abbrev SpX0_common (l : Launch) (F : SPF) : Prop := Spec l yX0_common (ws_ yX0_common cX0_common 10 (some .long)) rmX0_common bdX0_common F
abbrev bdX0_adds : Nat × Nat × Nat × Nat := (0, 0, 0, 0)
abbrev rmX0_adds : Room := { frames := 2, cells := 0, slots := 0, locals := 80 }
abbrev SpX0_adds (l : Launch) (F : SPF) : Prop := Spec l yX0_adds (ws_ yX0_adds cX0_adds 2 (some .int)) rmX0_adds bdX0_adds F
abbrev bdX0_row_2 : Nat × Nat × Nat × Nat := (16, 1120, 0, 0)
abbrev rmX0_row_2 : Room := { frames := 6, cells := 16, slots := 1120, locals := 168 }
abbrev SpX0_row_2 (l : Launch) (F : SPF) : Prop := Spec l yX0_row_2 (wsW_ yX0_row_2 cX0_row_2 6 (some .int) [(5, 67, 68, 53)]) rmX0_row_2 bdX0_row_2 F
abbrev bdX0_free : Nat × Nat × Nat × Nat := (1, 4, 1, 4)
abbrev rmX0_free : Room := { frames := 5, cells := 1, slots := 4, locals := 144 }
abbrev SpX0_free (l : Launch) (F : SPF) : Prop := Spec l yX0_free (ws_ yX0_free cX0_free 5 (some (.array (.object "TickShare$Thing")))) rmX0_free bdX0_free F
abbrev bdX0_thing : Nat × Nat × Nat × Nat := (0, 0, 0, 0)
abbrev rmX0_thing : Room := { frames := 4, cells := 0, slots := 0, locals := 123 }
abbrev SpX0_thing (l : Launch) (F : SPF) : Prop := Spec l yX0_thing (ws_ yX0_thing cX0_thing 2 (some (.object "TickShare$Thing"))) rmX0_thing bdX0_thing F
abbrev bdX0_wantFree : Nat × Nat × Nat × Nat := (0, 0, 0, 0)
abbrev rmX0_wantFree : Room := { frames := 4, cells := 0, slots := 0, locals := 123 }
abbrev SpX0_wantFree (l : Launch) (F : SPF) : Prop := Spec l yX0_wantFree (ws_ yX0_wantFree cX0_wantFree 4 (none)) rmX0_wantFree bdX0_wantFree F
abbrev bdX0_fan : Nat × Nat × Nat × Nat := (19, 1136, 0, 0)
abbrev rmX0_fan : Room := { frames := 6, cells := 19, slots := 1136, locals := 168 }
abbrev SpX0_fan (l : Launch) (F : SPF) : Prop := Spec l yX0_fan (wsW_ yX0_fan cX0_fan 7 (some .int) [(5, 81, 82, 53)]) rmX0_fan bdX0_fan F
abbrev bdX0_cache : Nat × Nat × Nat × Nat := (9, 502, 0, 0)
abbrev rmX0_cache : Room := { frames := 5, cells := 9, slots := 502, locals := 149 }
abbrev SpX0_cache (l : Launch) (F : SPF) : Prop := Spec l yX0_cache (wsW_ yX0_cache cX0_cache 7 (some .int) [(5, 88, 89, 53)]) rmX0_cache bdX0_cache F
abbrev bdX0_retry : Nat × Nat × Nat × Nat := (11, 744, 0, 0)
abbrev rmX0_retry : Room := { frames := 5, cells := 11, slots := 744, locals := 148 }
abbrev SpX0_retry (l : Launch) (F : SPF) : Prop := Spec l yX0_retry (wsW_ yX0_retry cX0_retry 5 (some .int) [(5, 71, 72, 53)]) rmX0_retry bdX0_retry F
abbrev bdX0_hedge : Nat × Nat × Nat × Nat := (9, 499, 0, 0)
abbrev rmX0_hedge : Room := { frames := 5, cells := 9, slots := 499, locals := 147 }
abbrev SpX0_hedge (l : Launch) (F : SPF) : Prop := Spec l yX0_hedge (wsW_ yX0_hedge cX0_hedge 4 (some .int) [(5, 56, 57, 53)]) rmX0_hedge bdX0_hedge F
abbrev bdX0_told : Nat × Nat × Nat × Nat := (1, 6, 0, 0)
abbrev rmX0_told : Room := { frames := 41, cells := 1, slots := 6, locals := 4038 }
abbrev SpX0_told (l : Launch) (F : SPF) : Prop := Spec l yX0_told (wsW_ yX0_told cX0_told 4 (some .int) [(5, 68, 102, 53), (69, 73, 102, 53), (74, 82, 102, 53), (83, 88, 102, 53), (89, 93, 102, 53), (94, 101, 102, 53), (5, 68, 109, 13), (69, 73, 109, 13), (74, 82, 109, 13), (83, 88, 109, 13), (89, 93, 109, 13), (94, 101, 109, 13)]) rmX0_told bdX0_told F
abbrev bdX0_numberOf : Nat × Nat × Nat × Nat := (0, 0, 0, 0)
abbrev rmX0_numberOf : Room := { frames := 2, cells := 0, slots := 0, locals := 80 }
abbrev SpX0_numberOf (l : Launch) (F : SPF) : Prop := Spec l yX0_numberOf (ws_ yX0_numberOf cX0_numberOf 3 (some .int)) rmX0_numberOf bdX0_numberOf F
abbrev bdX0_times : Nat × Nat × Nat × Nat := (0, 0, 1, 6)
abbrev rmX0_times : Room := { frames := 6, cells := 1, slots := 6, locals := 172 }
abbrev SpX0_times (l : Launch) (F : SPF) : Prop := Spec l yX0_times (ws_ yX0_times cX0_times 4 (some .long)) rmX0_times bdX0_times F
abbrev bdX0_fold : Nat × Nat × Nat × Nat := (0, 0, 1, 6)
abbrev rmX0_fold : Room := { frames := 7, cells := 1, slots := 6, locals := 196 }
abbrev SpX0_fold (l : Launch) (F : SPF) : Prop := Spec l yX0_fold (ws_ yX0_fold cX0_fold 7 (none)) rmX0_fold bdX0_fold F
abbrev bdX0_great : Nat × Nat × Nat × Nat := (0, 0, 0, 0)
abbrev rmX0_great : Room := { frames := 2, cells := 0, slots := 0, locals := 80 }
abbrev SpX0_great (l : Launch) (F : SPF) : Prop := Spec l yX0_great (ws_ yX0_great cX0_great 1 (some .int)) rmX0_great bdX0_great F
abbrev bdX0_weight : Nat × Nat × Nat × Nat := (1, 6, 0, 0)
abbrev rmX0_weight : Room := { frames := 41, cells := 1, slots := 6, locals := 4038 }
abbrev SpX0_weight (l : Launch) (F : SPF) : Prop := Spec l yX0_weight (wsW_ yX0_weight cX0_weight 5 (some .long) [(5, 59, 60, 53), (5, 59, 70, 13)]) rmX0_weight bdX0_weight F
abbrev bdX0_whole : Nat × Nat × Nat × Nat := (1, 6, 0, 0)
abbrev rmX0_whole : Room := { frames := 41, cells := 1, slots := 6, locals := 4038 }
abbrev SpX0_whole (l : Launch) (F : SPF) : Prop := Spec l yX0_whole (wsW_ yX0_whole cX0_whole 3 (some .long) [(5, 16, 17, 53), (5, 16, 25, 13)]) rmX0_whole bdX0_whole F
abbrev bdX0_by : Nat × Nat × Nat × Nat := (1, 6, 0, 0)
abbrev rmX0_by : Room := { frames := 41, cells := 1, slots := 6, locals := 4038 }
abbrev SpX0_by (l : Launch) (F : SPF) : Prop := Spec l yX0_by (wsW_ yX0_by cX0_by 5 (some .int) [(5, 52, 53, 53), (5, 52, 60, 13)]) rmX0_by bdX0_by F
abbrev bdX0_tells : Nat × Nat × Nat × Nat := (0, 0, 0, 0)
abbrev rmX0_tells : Room := { frames := 3, cells := 0, slots := 0, locals := 109 }
abbrev SpX0_tells (l : Launch) (F : SPF) : Prop := Spec l yX0_tells (ws_ yX0_tells cX0_tells 7 (some .int)) rmX0_tells bdX0_tells F
abbrev bdX0_fails : Nat × Nat × Nat × Nat := (1, 6, 0, 0)
abbrev rmX0_fails : Room := { frames := 41, cells := 1, slots := 6, locals := 4038 }
abbrev SpX0_fails (l : Launch) (F : SPF) : Prop := Spec l yX0_fails (wsW_ yX0_fails cX0_fails 3 (some .int) [(5, 26, 27, 53), (5, 26, 34, 13)]) rmX0_fails bdX0_fails F
abbrev bdX0_promise : Nat × Nat × Nat × Nat := (1, 6, 0, 0)
abbrev rmX0_promise : Room := { frames := 41, cells := 1, slots := 6, locals := 4038 }
abbrev SpX0_promise (l : Launch) (F : SPF) : Prop := Spec l yX0_promise (wsW_ yX0_promise cX0_promise 7 (some .int) [(5, 87, 88, 53), (5, 87, 97, 13)]) rmX0_promise bdX0_promise F
abbrev bdX0_isShare : Nat × Nat × Nat × Nat := (0, 0, 0, 0)
abbrev rmX0_isShare : Room := { frames := 2, cells := 0, slots := 0, locals := 80 }
abbrev SpX0_isShare (l : Launch) (F : SPF) : Prop := Spec l yX0_isShare (ws_ yX0_isShare cX0_isShare 2 (some .boolean)) rmX0_isShare bdX0_isShare F
abbrev bdX0_isEnough : Nat × Nat × Nat × Nat := (0, 0, 0, 0)
abbrev rmX0_isEnough : Room := { frames := 2, cells := 0, slots := 0, locals := 80 }
abbrev SpX0_isEnough (l : Launch) (F : SPF) : Prop := Spec l yX0_isEnough (ws_ yX0_isEnough cX0_isEnough 21 (some .boolean)) rmX0_isEnough bdX0_isEnough F
abbrev bdX0_bound : Nat × Nat × Nat × Nat := (1, 6, 0, 0)
abbrev rmX0_bound : Room := { frames := 121, cells := 1, slots := 6, locals := 12029 }
abbrev SpX0_bound (l : Launch) (F : SPF) : Prop := Spec l yX0_bound (wsW_ yX0_bound cX0_bound 6 (some .int) [(5, 58, 59, 53), (5, 58, 66, 13)]) rmX0_bound bdX0_bound F
abbrev bdX0_bounded : Nat × Nat × Nat × Nat := (0, 0, 1, 6)
abbrev rmX0_bounded : Room := { frames := 6, cells := 1, slots := 6, locals := 172 }
abbrev SpX0_bounded (l : Launch) (F : SPF) : Prop := Spec l yX0_bounded (ws_ yX0_bounded cX0_bounded 2 (some .long)) rmX0_bounded bdX0_bounded F
abbrev bdX0_asks : Nat × Nat × Nat × Nat := (0, 0, 0, 0)
abbrev rmX0_asks : Room := { frames := 5, cells := 0, slots := 0, locals := 144 }
abbrev SpX0_asks (l : Launch) (F : SPF) : Prop := Spec l yX0_asks (wsW_ yX0_asks cX0_asks 7 (some .int) [(5, 64, 65, 53)]) rmX0_asks bdX0_asks F
abbrev bdX0_leafOf : Nat × Nat × Nat × Nat := (0, 0, 0, 0)
abbrev rmX0_leafOf : Room := { frames := 4, cells := 0, slots := 0, locals := 123 }
abbrev SpX0_leafOf (l : Launch) (F : SPF) : Prop := Spec l yX0_leafOf (ws_ yX0_leafOf cX0_leafOf 2 (some (.object "TickShare$Leaf"))) rmX0_leafOf bdX0_leafOf F
abbrev bdX0_isIn : Nat × Nat × Nat × Nat := (0, 0, 0, 0)
abbrev rmX0_isIn : Room := { frames := 2, cells := 0, slots := 0, locals := 80 }
abbrev SpX0_isIn (l : Launch) (F : SPF) : Prop := Spec l yX0_isIn (ws_ yX0_isIn cX0_isIn 3 (some .boolean)) rmX0_isIn bdX0_isIn F
abbrev bdX0_change : Nat × Nat × Nat × Nat := (3, 245, 0, 0)
abbrev rmX0_change : Room := { frames := 16, cells := 6, slots := 467, locals := 10447 }
abbrev SpX0_change (l : Launch) (F : SPF) : Prop := Spec l yX0_change (wsW_ yX0_change cX0_change 5 (some .boolean) [(5, 50, 51, 53)]) rmX0_change bdX0_change F
abbrev bdX0_price : Nat × Nat × Nat × Nat := (0, 0, 0, 0)
abbrev rmX0_price : Room := { frames := 5, cells := 0, slots := 0, locals := 144 }
abbrev SpX0_price (l : Launch) (F : SPF) : Prop := Spec l yX0_price (wsW_ yX0_price cX0_price 4 (some .boolean) [(5, 40, 41, 53)]) rmX0_price bdX0_price F
abbrev bdX0_grade : Nat × Nat × Nat × Nat := (3, 245, 0, 0)
abbrev rmX0_grade : Room := { frames := 16, cells := 6, slots := 467, locals := 10447 }
abbrev SpX0_grade (l : Launch) (F : SPF) : Prop := Spec l yX0_grade (wsW_ yX0_grade cX0_grade 7 (some .int) [(5, 137, 138, 53)]) rmX0_grade bdX0_grade F
abbrev bdX0_choosers : Nat × Nat × Nat × Nat := (0, 0, 0, 0)
abbrev rmX0_choosers : Room := { frames := 2, cells := 0, slots := 0, locals := 80 }
abbrev SpX0_choosers (l : Launch) (F : SPF) : Prop := Spec l yX0_choosers (ws_ yX0_choosers cX0_choosers 5 (some .int)) rmX0_choosers bdX0_choosers F
abbrev bdX0_best : Nat × Nat × Nat × Nat := (4, 46, 0, 0)
abbrev rmX0_best : Room := { frames := 42, cells := 4, slots := 46, locals := 4038 }
abbrev SpX0_best (l : Launch) (F : SPF) : Prop := Spec l yX0_best (wsW_ yX0_best cX0_best 21 (some .int) [(11, 307, 348, 53), (11, 307, 399, 13), (11, 307, 448, 0), (348, 358, 448, 0), (399, 407, 448, 0), (448, 450, 448, 0)]) rmX0_best bdX0_best F
abbrev bdX0_leaves : Nat × Nat × Nat × Nat := (1, 20, 0, 0)
abbrev rmX0_leaves : Room := { frames := 41, cells := 1, slots := 20, locals := 3025 }
abbrev SpX0_leaves (l : Launch) (F : SPF) : Prop := Spec l yX0_leaves (ws_ yX0_leaves cX0_leaves 7 (some (.array (.object "TickShare$Leaf")))) rmX0_leaves bdX0_leaves F
abbrev bdX0_next : Nat × Nat × Nat × Nat := (0, 0, 0, 0)
abbrev rmX0_next : Room := { frames := 2, cells := 0, slots := 0, locals := 80 }
abbrev SpX0_next (l : Launch) (F : SPF) : Prop := Spec l yX0_next (ws_ yX0_next cX0_next 2 (some .boolean)) rmX0_next bdX0_next F
abbrev bdX0_chosen : Nat × Nat × Nat × Nat := (0, 0, 0, 0)
abbrev rmX0_chosen : Room := { frames := 5, cells := 0, slots := 0, locals := 144 }
abbrev SpX0_chosen (l : Launch) (F : SPF) : Prop := Spec l yX0_chosen (wsW_ yX0_chosen cX0_chosen 3 (some .int) [(5, 33, 34, 53)]) rmX0_chosen bdX0_chosen F
abbrev bdX0_part : Nat × Nat × Nat × Nat := (0, 0, 0, 0)
abbrev rmX0_part : Room := { frames := 5, cells := 0, slots := 0, locals := 144 }
abbrev SpX0_part (l : Launch) (F : SPF) : Prop := Spec l yX0_part (wsW_ yX0_part cX0_part 4 (some .boolean) [(5, 38, 39, 53)]) rmX0_part bdX0_part F
abbrev bdX0_trace : Nat × Nat × Nat × Nat := (1, 20, 0, 0)
abbrev rmX0_trace : Room := { frames := 42, cells := 4, slots := 242, locals := 10422 }
abbrev SpX0_trace (l : Launch) (F : SPF) : Prop := Spec l yX0_trace (wsW_ yX0_trace cX0_trace 9 (some .int) [(5, 146, 218, 53), (147, 217, 218, 53)]) rmX0_trace bdX0_trace F
abbrev bdX0_traces : Nat × Nat × Nat × Nat := (0, 0, 0, 0)
abbrev rmX0_traces : Room := { frames := 5, cells := 0, slots := 0, locals := 144 }
abbrev SpX0_traces (l : Launch) (F : SPF) : Prop := Spec l yX0_traces (wsW_ yX0_traces cX0_traces 4 (some .int) [(5, 45, 46, 53)]) rmX0_traces bdX0_traces F
abbrev bdX0_over : Nat × Nat × Nat × Nat := (0, 0, 0, 0)
abbrev rmX0_over : Room := { frames := 5, cells := 0, slots := 0, locals := 144 }
abbrev SpX0_over (l : Launch) (F : SPF) : Prop := Spec l yX0_over (wsW_ yX0_over cX0_over 3 (some .int) [(5, 13, 14, 53)]) rmX0_over bdX0_over F
abbrev bdX1_init : Nat × Nat × Nat × Nat := (0, 0, 0, 0)
abbrev rmX1_init : Room := { frames := 4, cells := 0, slots := 0, locals := 128 }
abbrev SpX1_init (l : Launch) (F : SPF) : Prop := Spec l yX1_init (ws_ yX1_init cX1_init 1 (none)) rmX1_init bdX1_init F
abbrev bdX1_by : Nat × Nat × Nat × Nat := (0, 0, 0, 0)
abbrev rmX1_by : Room := { frames := 2, cells := 0, slots := 0, locals := 80 }
abbrev SpX1_by (l : Launch) (F : SPF) : Prop := Spec l yX1_by (ws_ yX1_by cX1_by 2 (some (.object "TickShare$Refused"))) rmX1_by bdX1_by F
abbrev bdX10_init : Nat × Nat × Nat × Nat := (7, 491, 0, 0)
abbrev rmX10_init : Room := { frames := 4, cells := 7, slots := 491, locals := 125 }
abbrev SpX10_init (l : Launch) (F : SPF) : Prop := Spec l yX10_init (ws_ yX10_init cX10_init 3 (none)) rmX10_init bdX10_init F
abbrev bdX10_kind : Nat × Nat × Nat × Nat := (0, 0, 0, 0)
abbrev rmX10_kind : Room := { frames := 2, cells := 0, slots := 0, locals := 80 }
abbrev SpX10_kind (l : Launch) (F : SPF) : Prop := Spec l yX10_kind (ws_ yX10_kind cX10_kind 1 (some .int)) rmX10_kind bdX10_kind F
abbrev bdX10_table : Nat × Nat × Nat × Nat := (0, 0, 1, 6)
abbrev SpX10_table (l : Launch) (d : Nat) (F : SPF) : Prop := Spec l yX10_table (ws_ yX10_table cX10_table 6 (some (.object "TickShare$Table"))) (rmTb (d)) bdX10_table F
abbrev bdX10_asks : Nat × Nat × Nat × Nat := (0, 0, 0, 0)
abbrev rmX10_asks : Room := { frames := 2, cells := 0, slots := 0, locals := 80 }
abbrev SpX10_asks (l : Launch) (F : SPF) : Prop := Spec l yX10_asks (ws_ yX10_asks cX10_asks 1 (some .int)) rmX10_asks bdX10_asks F
abbrev bdX11_init : Nat × Nat × Nat × Nat := (0, 0, 0, 0)
abbrev rmX11_init : Room := { frames := 5, cells := 0, slots := 0, locals := 152 }
abbrev SpX11_init (l : Launch) (F : SPF) : Prop := Spec l yX11_init (ws_ yX11_init cX11_init 1 (none)) rmX11_init bdX11_init F
abbrev bdX2_init : Nat × Nat × Nat × Nat := (32, 14215, 0, 0)
abbrev rmX2_init : Room := { frames := 2, cells := 32, slots := 14215, locals := 80 }
abbrev SpX2_init (l : Launch) (F : SPF) : Prop := Spec l yX2_init (ws_ yX2_init cX2_init 1 (none)) rmX2_init bdX2_init F
abbrev bdX2_status : Nat × Nat × Nat × Nat := (0, 0, 0, 0)
abbrev rmX2_status : Room := { frames := 2, cells := 0, slots := 0, locals := 80 }
abbrev SpX2_status (l : Launch) (F : SPF) : Prop := Spec l yX2_status (ws_ yX2_status cX2_status 1 (some .int)) rmX2_status bdX2_status F
abbrev bdX2_top : Nat × Nat × Nat × Nat := (0, 0, 0, 0)
abbrev rmX2_top : Room := { frames := 2, cells := 0, slots := 0, locals := 80 }
abbrev SpX2_top (l : Launch) (F : SPF) : Prop := Spec l yX2_top (ws_ yX2_top cX2_top 1 (some .long)) rmX2_top bdX2_top F
abbrev bdX2_bottom : Nat × Nat × Nat × Nat := (0, 0, 0, 0)
abbrev rmX2_bottom : Room := { frames := 2, cells := 0, slots := 0, locals := 80 }
abbrev SpX2_bottom (l : Launch) (F : SPF) : Prop := Spec l yX2_bottom (ws_ yX2_bottom cX2_bottom 1 (some .long)) rmX2_bottom bdX2_bottom F
abbrev bdX2_tray : Nat × Nat × Nat × Nat := (0, 0, 0, 0)
abbrev rmX2_tray : Room := { frames := 3, cells := 0, slots := 0, locals := 101 }
abbrev SpX2_tray (l : Launch) (F : SPF) : Prop := Spec l yX2_tray (ws_ yX2_tray cX2_tray 5 (some .boolean)) rmX2_tray bdX2_tray F
abbrev bdX2_isTray : Nat × Nat × Nat × Nat := (0, 0, 0, 0)
abbrev rmX2_isTray : Room := { frames := 2, cells := 0, slots := 0, locals := 80 }
abbrev SpX2_isTray (l : Launch) (F : SPF) : Prop := Spec l yX2_isTray (ws_ yX2_isTray cX2_isTray 1 (some .boolean)) rmX2_isTray bdX2_isTray F
abbrev bdX2_is : Nat × Nat × Nat × Nat := (0, 0, 0, 0)
abbrev rmX2_is : Room := { frames := 2, cells := 0, slots := 0, locals := 80 }
abbrev SpX2_is (l : Launch) (F : SPF) : Prop := Spec l yX2_is (ws_ yX2_is cX2_is 2 (some .boolean)) rmX2_is bdX2_is F
abbrev bdX2_write : Nat × Nat × Nat × Nat := (0, 0, 0, 0)
abbrev rmX2_write : Room := { frames := 4, cells := 0, slots := 0, locals := 122 }
abbrev SpX2_write (l : Launch) (F : SPF) : Prop := Spec l yX2_write (ws_ yX2_write cX2_write 6 (some .boolean)) rmX2_write bdX2_write F
abbrev bdX2_wrong : Nat × Nat × Nat × Nat := (0, 0, 0, 0)
abbrev rmX2_wrong : Room := { frames := 3, cells := 0, slots := 0, locals := 100 }
abbrev SpX2_wrong (l : Launch) (F : SPF) : Prop := Spec l yX2_wrong (ws_ yX2_wrong cX2_wrong 3 (some .int)) rmX2_wrong bdX2_wrong F
abbrev bdX2_cut : Nat × Nat × Nat × Nat := (0, 0, 0, 0)
abbrev rmX2_cut : Room := { frames := 2, cells := 0, slots := 0, locals := 80 }
abbrev SpX2_cut (l : Launch) (F : SPF) : Prop := Spec l yX2_cut (ws_ yX2_cut cX2_cut 3 (some .long)) rmX2_cut bdX2_cut F
abbrev bdX2_read : Nat × Nat × Nat × Nat := (0, 0, 0, 0)
abbrev rmX2_read : Room := { frames := 4, cells := 0, slots := 0, locals := 122 }
abbrev SpX2_read (l : Launch) (F : SPF) : Prop := Spec l yX2_read (ws_ yX2_read cX2_read 3 (some .long)) rmX2_read bdX2_read F
abbrev bdX2_pour : Nat × Nat × Nat × Nat := (0, 0, 0, 0)
abbrev rmX2_pour : Room := { frames := 3, cells := 0, slots := 0, locals := 101 }
abbrev SpX2_pour (l : Launch) (F : SPF) : Prop := Spec l yX2_pour (ws_ yX2_pour cX2_pour 8 (some .boolean)) rmX2_pour bdX2_pour F
abbrev bdX2_leaf : Nat × Nat × Nat × Nat := (0, 0, 0, 0)
abbrev rmX2_leaf : Room := { frames := 4, cells := 0, slots := 0, locals := 127 }
abbrev SpX2_leaf (l : Launch) (F : SPF) : Prop := Spec l yX2_leaf (ws_ yX2_leaf cX2_leaf 4 (some .int)) rmX2_leaf bdX2_leaf F
abbrev bdX2_wrongWeights : Nat × Nat × Nat × Nat := (0, 0, 0, 0)
abbrev rmX2_wrongWeights : Room := { frames := 3, cells := 0, slots := 0, locals := 100 }
abbrev SpX2_wrongWeights (l : Launch) (F : SPF) : Prop := Spec l yX2_wrongWeights (ws_ yX2_wrongWeights cX2_wrongWeights 8 (some .int)) rmX2_wrongWeights bdX2_wrongWeights F
abbrev bdX2_refuse : Nat × Nat × Nat × Nat := (0, 0, 0, 0)
abbrev rmX2_refuse : Room := { frames := 2, cells := 0, slots := 0, locals := 80 }
abbrev SpX2_refuse (l : Launch) (F : SPF) : Prop := Spec l yX2_refuse (ws_ yX2_refuse cX2_refuse 2 (some .int)) rmX2_refuse bdX2_refuse F
abbrev bdX2_takeWeights : Nat × Nat × Nat × Nat := (0, 0, 0, 0)
abbrev rmX2_takeWeights : Room := { frames := 2, cells := 0, slots := 0, locals := 80 }
abbrev SpX2_takeWeights (l : Launch) (F : SPF) : Prop := Spec l yX2_takeWeights (ws_ yX2_takeWeights cX2_takeWeights 6 (none)) rmX2_takeWeights bdX2_takeWeights F
abbrev bdX2_adds : Nat × Nat × Nat × Nat := (0, 0, 0, 0)
abbrev rmX2_adds : Room := { frames := 2, cells := 0, slots := 0, locals := 80 }
abbrev SpX2_adds (l : Launch) (F : SPF) : Prop := Spec l yX2_adds (ws_ yX2_adds cX2_adds 10 (some .int)) rmX2_adds bdX2_adds F
abbrev bdX2_row : Nat × Nat × Nat × Nat := (1, 4, 0, 0)
abbrev rmX2_row : Room := { frames := 4, cells := 1, slots := 4, locals := 130 }
abbrev SpX2_row (l : Launch) (F : SPF) : Prop := Spec l yX2_row (ws_ yX2_row cX2_row 6 (some .int)) rmX2_row bdX2_row F
abbrev bdX2_wrongParts : Nat × Nat × Nat × Nat := (1, 4, 0, 0)
abbrev rmX2_wrongParts : Room := { frames := 3, cells := 1, slots := 4, locals := 101 }
abbrev SpX2_wrongParts (l : Launch) (F : SPF) : Prop := Spec l yX2_wrongParts (ws_ yX2_wrongParts cX2_wrongParts 10 (some .int)) rmX2_wrongParts bdX2_wrongParts F
abbrev bdX2_isThing : Nat × Nat × Nat × Nat := (0, 0, 0, 0)
abbrev rmX2_isThing : Room := { frames := 2, cells := 0, slots := 0, locals := 80 }
abbrev SpX2_isThing (l : Launch) (F : SPF) : Prop := Spec l yX2_isThing (ws_ yX2_isThing cX2_isThing 2 (some .boolean)) rmX2_isThing bdX2_isThing F
abbrev bdX2_fan : Nat × Nat × Nat × Nat := (1, 4, 0, 0)
abbrev rmX2_fan : Room := { frames := 4, cells := 1, slots := 4, locals := 130 }
abbrev SpX2_fan (l : Launch) (F : SPF) : Prop := Spec l yX2_fan (ws_ yX2_fan cX2_fan 8 (some .int)) rmX2_fan bdX2_fan F
abbrev bdX2_cache : Nat × Nat × Nat × Nat := (1, 4, 0, 0)
abbrev rmX2_cache : Room := { frames := 4, cells := 1, slots := 4, locals := 130 }
abbrev SpX2_cache (l : Launch) (F : SPF) : Prop := Spec l yX2_cache (ws_ yX2_cache cX2_cache 6 (some .int)) rmX2_cache bdX2_cache F
abbrev bdX2_retry : Nat × Nat × Nat × Nat := (1, 4, 0, 0)
abbrev rmX2_retry : Room := { frames := 4, cells := 1, slots := 4, locals := 130 }
abbrev SpX2_retry (l : Launch) (F : SPF) : Prop := Spec l yX2_retry (ws_ yX2_retry cX2_retry 5 (some .int)) rmX2_retry bdX2_retry F
abbrev bdX2_hedge : Nat × Nat × Nat × Nat := (1, 4, 0, 0)
abbrev rmX2_hedge : Room := { frames := 4, cells := 1, slots := 4, locals := 130 }
abbrev SpX2_hedge (l : Launch) (F : SPF) : Prop := Spec l yX2_hedge (ws_ yX2_hedge cX2_hedge 4 (some .int)) rmX2_hedge bdX2_hedge F
abbrev bdX2_told : Nat × Nat × Nat × Nat := (0, 0, 0, 0)
abbrev rmX2_told : Room := { frames := 8, cells := 0, slots := 0, locals := 232 }
abbrev SpX2_told (l : Launch) (F : SPF) : Prop := Spec l yX2_told (ws_ yX2_told cX2_told 5 (some .int)) rmX2_told bdX2_told F
abbrev bdX2_wrongTable : Nat × Nat × Nat × Nat := (0, 0, 0, 0)
abbrev rmX2_wrongTable : Room := { frames := 7, cells := 0, slots := 0, locals := 211 }
abbrev SpX2_wrongTable (l : Launch) (F : SPF) : Prop := Spec l yX2_wrongTable (ws_ yX2_wrongTable cX2_wrongTable 2 (some .int)) rmX2_wrongTable bdX2_wrongTable F
abbrev bdX2_usual : Nat × Nat × Nat × Nat := (0, 0, 0, 0)
abbrev rmX2_usual : Room := { frames := 2, cells := 0, slots := 0, locals := 80 }
abbrev SpX2_usual (l : Launch) (F : SPF) : Prop := Spec l yX2_usual (ws_ yX2_usual cX2_usual 2 (none)) rmX2_usual bdX2_usual F
abbrev bdX2_tables : Nat × Nat × Nat × Nat := (0, 0, 0, 0)
abbrev rmX2_tables : Room := { frames := 6, cells := 0, slots := 0, locals := 187 }
abbrev SpX2_tables (l : Launch) (F : SPF) : Prop := Spec l yX2_tables (ws_ yX2_tables cX2_tables 5 (none)) rmX2_tables bdX2_tables F
abbrev bdX2_clear : Nat × Nat × Nat × Nat := (0, 0, 0, 0)
abbrev rmX2_clear : Room := { frames := 2, cells := 0, slots := 0, locals := 80 }
abbrev SpX2_clear (l : Launch) (F : SPF) : Prop := Spec l yX2_clear (ws_ yX2_clear cX2_clear 3 (none)) rmX2_clear bdX2_clear F
abbrev bdX2_wholeOf : Nat × Nat × Nat × Nat := (0, 0, 0, 0)
abbrev rmX2_wholeOf : Room := { frames := 3, cells := 0, slots := 0, locals := 104 }
abbrev SpX2_wholeOf (l : Launch) (F : SPF) : Prop := Spec l yX2_wholeOf (ws_ yX2_wholeOf cX2_wholeOf 7 (some .long)) rmX2_wholeOf bdX2_wholeOf F
abbrev bdX2_product : Nat × Nat × Nat × Nat := (0, 0, 0, 0)
abbrev rmX2_product : Room := { frames := 2, cells := 0, slots := 0, locals := 80 }
abbrev SpX2_product (l : Launch) (F : SPF) : Prop := Spec l yX2_product (ws_ yX2_product cX2_product 5 (some .long)) rmX2_product bdX2_product F
abbrev bdX2_make : Nat × Nat × Nat × Nat := (0, 0, 0, 0)
abbrev rmX2_make : Room := { frames := 5, cells := 0, slots := 0, locals := 160 }
abbrev SpX2_make (l : Launch) (F : SPF) : Prop := Spec l yX2_make (ws_ yX2_make cX2_make 8 (none)) rmX2_make bdX2_make F
abbrev bdX2_makeRow : Nat × Nat × Nat × Nat := (0, 0, 0, 0)
abbrev rmX2_makeRow : Room := { frames := 3, cells := 0, slots := 0, locals := 102 }
abbrev SpX2_makeRow (l : Launch) (F : SPF) : Prop := Spec l yX2_makeRow (ws_ yX2_makeRow cX2_makeRow 7 (none)) rmX2_makeRow bdX2_makeRow F
abbrev bdX2_at : Nat × Nat × Nat × Nat := (0, 0, 0, 0)
abbrev rmX2_at : Room := { frames := 2, cells := 0, slots := 0, locals := 80 }
abbrev SpX2_at (l : Launch) (F : SPF) : Prop := Spec l yX2_at (ws_ yX2_at cX2_at 2 (some .int)) rmX2_at bdX2_at F
abbrev bdX2_makeFan : Nat × Nat × Nat × Nat := (0, 0, 0, 0)
abbrev rmX2_makeFan : Room := { frames := 4, cells := 0, slots := 0, locals := 131 }
abbrev SpX2_makeFan (l : Launch) (F : SPF) : Prop := Spec l yX2_makeFan (ws_ yX2_makeFan cX2_makeFan 10 (none)) rmX2_makeFan bdX2_makeFan F
abbrev bdX2_count : Nat × Nat × Nat × Nat := (0, 0, 0, 0)
abbrev rmX2_count : Room := { frames := 3, cells := 0, slots := 0, locals := 101 }
abbrev SpX2_count (l : Launch) (F : SPF) : Prop := Spec l yX2_count (ws_ yX2_count cX2_count 11 (none)) rmX2_count bdX2_count F
abbrev bdX2_makeRetry : Nat × Nat × Nat × Nat := (0, 0, 0, 0)
abbrev rmX2_makeRetry : Room := { frames := 3, cells := 0, slots := 0, locals := 102 }
abbrev SpX2_makeRetry (l : Launch) (F : SPF) : Prop := Spec l yX2_makeRetry (ws_ yX2_makeRetry cX2_makeRetry 8 (none)) rmX2_makeRetry bdX2_makeRetry F
abbrev bdX2_makeHedge : Nat × Nat × Nat × Nat := (0, 0, 0, 0)
abbrev rmX2_makeHedge : Room := { frames := 3, cells := 0, slots := 0, locals := 101 }
abbrev SpX2_makeHedge (l : Launch) (F : SPF) : Prop := Spec l yX2_makeHedge (ws_ yX2_makeHedge cX2_makeHedge 6 (none)) rmX2_makeHedge bdX2_makeHedge F
abbrev bdX2_settle : Nat × Nat × Nat × Nat := (0, 0, 0, 0)
abbrev rmX2_settle : Room := { frames := 3, cells := 0, slots := 0, locals := 109 }
abbrev SpX2_settle (l : Launch) (F : SPF) : Prop := Spec l yX2_settle (ws_ yX2_settle cX2_settle 8 (none)) rmX2_settle bdX2_settle F
abbrev bdX2_common : Nat × Nat × Nat × Nat := (0, 0, 0, 0)
abbrev rmX2_common : Room := { frames := 2, cells := 0, slots := 0, locals := 80 }
abbrev SpX2_common (l : Launch) (F : SPF) : Prop := Spec l yX2_common (ws_ yX2_common cX2_common 10 (some .long)) rmX2_common bdX2_common F
abbrev bdX2_leaves : Nat × Nat × Nat × Nat := (0, 0, 0, 0)
abbrev rmX2_leaves : Room := { frames := 3, cells := 0, slots := 0, locals := 103 }
abbrev SpX2_leaves (l : Launch) (F : SPF) : Prop := Spec l yX2_leaves (ws_ yX2_leaves cX2_leaves 4 (some .int)) rmX2_leaves bdX2_leaves F
abbrev bdX2_has : Nat × Nat × Nat × Nat := (0, 0, 0, 0)
abbrev rmX2_has : Room := { frames := 2, cells := 0, slots := 0, locals := 80 }
abbrev SpX2_has (l : Launch) (F : SPF) : Prop := Spec l yX2_has (ws_ yX2_has cX2_has 4 (some .boolean)) rmX2_has bdX2_has F
abbrev bdX2_weight : Nat × Nat × Nat × Nat := (0, 0, 0, 0)
abbrev rmX2_weight : Room := { frames := 8, cells := 0, slots := 0, locals := 232 }
abbrev SpX2_weight (l : Launch) (F : SPF) : Prop := Spec l yX2_weight (ws_ yX2_weight cX2_weight 5 (some .long)) rmX2_weight bdX2_weight F
abbrev bdX2_whole : Nat × Nat × Nat × Nat := (0, 0, 0, 0)
abbrev rmX2_whole : Room := { frames := 8, cells := 0, slots := 0, locals := 232 }
abbrev SpX2_whole (l : Launch) (F : SPF) : Prop := Spec l yX2_whole (ws_ yX2_whole cX2_whole 3 (some .long)) rmX2_whole bdX2_whole F
abbrev bdX2_by : Nat × Nat × Nat × Nat := (0, 0, 0, 0)
abbrev rmX2_by : Room := { frames := 8, cells := 0, slots := 0, locals := 232 }
abbrev SpX2_by (l : Launch) (F : SPF) : Prop := Spec l yX2_by (ws_ yX2_by cX2_by 4 (some .int)) rmX2_by bdX2_by F
abbrev bdX2_by0 : Nat × Nat × Nat × Nat := (0, 0, 0, 0)
abbrev rmX2_by0 : Room := { frames := 3, cells := 0, slots := 0, locals := 101 }
abbrev SpX2_by0 (l : Launch) (F : SPF) : Prop := Spec l yX2_by0 (ws_ yX2_by0 cX2_by0 6 (some .long)) rmX2_by0 bdX2_by0 F
abbrev bdX2_tells : Nat × Nat × Nat × Nat := (0, 0, 0, 0)
abbrev rmX2_tells : Room := { frames := 3, cells := 0, slots := 0, locals := 109 }
abbrev SpX2_tells (l : Launch) (F : SPF) : Prop := Spec l yX2_tells (ws_ yX2_tells cX2_tells 7 (some .int)) rmX2_tells bdX2_tells F
abbrev bdX2_fails : Nat × Nat × Nat × Nat := (0, 0, 0, 0)
abbrev rmX2_fails : Room := { frames := 8, cells := 0, slots := 0, locals := 232 }
abbrev SpX2_fails (l : Launch) (F : SPF) : Prop := Spec l yX2_fails (ws_ yX2_fails cX2_fails 3 (some .int)) rmX2_fails bdX2_fails F
abbrev bdX2_promise : Nat × Nat × Nat × Nat := (0, 0, 0, 0)
abbrev rmX2_promise : Room := { frames := 8, cells := 0, slots := 0, locals := 232 }
abbrev SpX2_promise (l : Launch) (F : SPF) : Prop := Spec l yX2_promise (ws_ yX2_promise cX2_promise 6 (some .int)) rmX2_promise bdX2_promise F
abbrev bdX2_isShare : Nat × Nat × Nat × Nat := (0, 0, 0, 0)
abbrev rmX2_isShare : Room := { frames := 2, cells := 0, slots := 0, locals := 80 }
abbrev SpX2_isShare (l : Launch) (F : SPF) : Prop := Spec l yX2_isShare (ws_ yX2_isShare cX2_isShare 2 (some .boolean)) rmX2_isShare bdX2_isShare F
abbrev bdX2_isEnough : Nat × Nat × Nat × Nat := (0, 0, 0, 0)
abbrev rmX2_isEnough : Room := { frames := 2, cells := 0, slots := 0, locals := 80 }
abbrev SpX2_isEnough (l : Launch) (F : SPF) : Prop := Spec l yX2_isEnough (ws_ yX2_isEnough cX2_isEnough 26 (some .boolean)) rmX2_isEnough bdX2_isEnough F
abbrev bdX2_bound : Nat × Nat × Nat × Nat := (0, 0, 0, 0)
abbrev rmX2_bound : Room := { frames := 8, cells := 0, slots := 0, locals := 232 }
abbrev SpX2_bound (l : Launch) (F : SPF) : Prop := Spec l yX2_bound (ws_ yX2_bound cX2_bound 4 (some .int)) rmX2_bound bdX2_bound F
abbrev bdX2_bounds : Nat × Nat × Nat × Nat := (0, 0, 0, 0)
abbrev rmX2_bounds : Room := { frames := 4, cells := 0, slots := 0, locals := 132 }
abbrev SpX2_bounds (l : Launch) (F : SPF) : Prop := Spec l yX2_bounds (ws_ yX2_bounds cX2_bounds 6 (some .boolean)) rmX2_bounds bdX2_bounds F
abbrev bdX2_told0 : Nat × Nat × Nat × Nat := (0, 0, 0, 0)
abbrev rmX2_told0 : Room := { frames := 2, cells := 0, slots := 0, locals := 80 }
abbrev SpX2_told0 (l : Launch) (F : SPF) : Prop := Spec l yX2_told0 (ws_ yX2_told0 cX2_told0 4 (some .int)) rmX2_told0 bdX2_told0 F
abbrev bdX2_boundRow : Nat × Nat × Nat × Nat := (0, 0, 0, 0)
abbrev rmX2_boundRow : Room := { frames := 3, cells := 0, slots := 0, locals := 101 }
abbrev SpX2_boundRow (l : Launch) (F : SPF) : Prop := Spec l yX2_boundRow (ws_ yX2_boundRow cX2_boundRow 10 (none)) rmX2_boundRow bdX2_boundRow F
abbrev bdX2_boundFan : Nat × Nat × Nat × Nat := (0, 0, 0, 0)
abbrev rmX2_boundFan : Room := { frames := 3, cells := 0, slots := 0, locals := 103 }
abbrev SpX2_boundFan (l : Launch) (F : SPF) : Prop := Spec l yX2_boundFan (ws_ yX2_boundFan cX2_boundFan 10 (some .long)) rmX2_boundFan bdX2_boundFan F
abbrev bdX2_asks : Nat × Nat × Nat × Nat := (0, 0, 0, 0)
abbrev rmX2_asks : Room := { frames := 4, cells := 0, slots := 0, locals := 122 }
abbrev SpX2_asks (l : Launch) (F : SPF) : Prop := Spec l yX2_asks (ws_ yX2_asks cX2_asks 5 (some .int)) rmX2_asks bdX2_asks F
abbrev bdX2_isLeaf : Nat × Nat × Nat × Nat := (0, 0, 0, 0)
abbrev rmX2_isLeaf : Room := { frames := 3, cells := 0, slots := 0, locals := 101 }
abbrev SpX2_isLeaf (l : Launch) (F : SPF) : Prop := Spec l yX2_isLeaf (ws_ yX2_isLeaf cX2_isLeaf 2 (some .boolean)) rmX2_isLeaf bdX2_isLeaf F
abbrev bdX2_factor : Nat × Nat × Nat × Nat := (0, 0, 0, 0)
abbrev rmX2_factor : Room := { frames := 2, cells := 0, slots := 0, locals := 80 }
abbrev SpX2_factor (l : Launch) (F : SPF) : Prop := Spec l yX2_factor (ws_ yX2_factor cX2_factor 2 (some .int)) rmX2_factor bdX2_factor F
abbrev bdX2_change : Nat × Nat × Nat × Nat := (0, 0, 0, 0)
abbrev rmX2_change : Room := { frames := 4, cells := 0, slots := 0, locals := 127 }
abbrev SpX2_change (l : Launch) (F : SPF) : Prop := Spec l yX2_change (ws_ yX2_change cX2_change 5 (some .boolean)) rmX2_change bdX2_change F
abbrev bdX2_price : Nat × Nat × Nat × Nat := (0, 0, 0, 0)
abbrev rmX2_price : Room := { frames := 4, cells := 0, slots := 0, locals := 122 }
abbrev SpX2_price (l : Launch) (F : SPF) : Prop := Spec l yX2_price (ws_ yX2_price cX2_price 3 (some .boolean)) rmX2_price bdX2_price F
abbrev bdX2_isPrice : Nat × Nat × Nat × Nat := (0, 0, 0, 0)
abbrev rmX2_isPrice : Room := { frames := 2, cells := 0, slots := 0, locals := 80 }
abbrev SpX2_isPrice (l : Launch) (F : SPF) : Prop := Spec l yX2_isPrice (ws_ yX2_isPrice cX2_isPrice 1 (some .boolean)) rmX2_isPrice bdX2_isPrice F
abbrev bdX2_grade : Nat × Nat × Nat × Nat := (0, 0, 0, 0)
abbrev rmX2_grade : Room := { frames := 4, cells := 0, slots := 0, locals := 127 }
abbrev SpX2_grade (l : Launch) (F : SPF) : Prop := Spec l yX2_grade (ws_ yX2_grade cX2_grade 8 (some .int)) rmX2_grade bdX2_grade F
abbrev bdX2_best : Nat × Nat × Nat × Nat := (0, 0, 0, 0)
abbrev rmX2_best : Room := { frames := 7, cells := 0, slots := 0, locals := 211 }
abbrev SpX2_best (l : Launch) (F : SPF) : Prop := Spec l yX2_best (ws_ yX2_best cX2_best 9 (some .int)) rmX2_best bdX2_best F
abbrev bdX2_next : Nat × Nat × Nat × Nat := (0, 0, 0, 0)
abbrev rmX2_next : Room := { frames := 3, cells := 0, slots := 0, locals := 103 }
abbrev SpX2_next (l : Launch) (F : SPF) : Prop := Spec l yX2_next (ws_ yX2_next cX2_next 3 (some .boolean)) rmX2_next bdX2_next F
abbrev bdX2_chosen : Nat × Nat × Nat × Nat := (0, 0, 0, 0)
abbrev rmX2_chosen : Room := { frames := 4, cells := 0, slots := 0, locals := 122 }
abbrev SpX2_chosen (l : Launch) (F : SPF) : Prop := Spec l yX2_chosen (ws_ yX2_chosen cX2_chosen 2 (some .int)) rmX2_chosen bdX2_chosen F
abbrev bdX2_part : Nat × Nat × Nat × Nat := (0, 0, 0, 0)
abbrev rmX2_part : Room := { frames := 4, cells := 0, slots := 0, locals := 122 }
abbrev SpX2_part (l : Launch) (F : SPF) : Prop := Spec l yX2_part (ws_ yX2_part cX2_part 3 (some .boolean)) rmX2_part bdX2_part F
abbrev bdX2_trace : Nat × Nat × Nat × Nat := (0, 0, 0, 0)
abbrev rmX2_trace : Room := { frames := 4, cells := 0, slots := 0, locals := 126 }
abbrev SpX2_trace (l : Launch) (F : SPF) : Prop := Spec l yX2_trace (ws_ yX2_trace cX2_trace 11 (some .int)) rmX2_trace bdX2_trace F
abbrev bdX2_traces : Nat × Nat × Nat × Nat := (0, 0, 0, 0)
abbrev rmX2_traces : Room := { frames := 3, cells := 0, slots := 0, locals := 101 }
abbrev SpX2_traces (l : Launch) (F : SPF) : Prop := Spec l yX2_traces (ws_ yX2_traces cX2_traces 3 (some .int)) rmX2_traces bdX2_traces F
abbrev bdX2_over : Nat × Nat × Nat × Nat := (0, 0, 0, 0)
abbrev rmX2_over : Room := { frames := 4, cells := 0, slots := 0, locals := 122 }
abbrev SpX2_over (l : Launch) (F : SPF) : Prop := Spec l yX2_over (ws_ yX2_over cX2_over 2 (some .int)) rmX2_over bdX2_over F
abbrev bdX3_init : Nat × Nat × Nat × Nat := (2, 242, 0, 0)
abbrev rmX3_init : Room := { frames := 2, cells := 2, slots := 242, locals := 80 }
abbrev SpX3_init (l : Launch) (F : SPF) : Prop := Spec l yX3_init (ws_ yX3_init cX3_init 1 (none)) rmX3_init bdX3_init F
abbrev bdX3_less : Nat × Nat × Nat × Nat := (0, 0, 0, 0)
abbrev rmX3_less : Room := { frames := 3, cells := 0, slots := 0, locals := 109 }
abbrev SpX3_less (l : Launch) (F : SPF) : Prop := Spec l yX3_less (ws_ yX3_less cX3_less 4 (some (.object "TickShare$Table"))) rmX3_less bdX3_less F
abbrev bdX3_anew : Nat × Nat × Nat × Nat := (0, 0, 0, 0)
abbrev rmX3_anew : Room := { frames := 2, cells := 0, slots := 0, locals := 80 }
abbrev SpX3_anew (l : Launch) (F : SPF) : Prop := Spec l yX3_anew (ws_ yX3_anew cX3_anew 4 (some (.object "TickShare$Table"))) rmX3_anew bdX3_anew F
abbrev bdX3_add : Nat × Nat × Nat × Nat := (0, 0, 1, 6)
abbrev rmX3_add : Room := { frames := 6, cells := 1, slots := 6, locals := 172 }
abbrev SpX3_add (l : Launch) (F : SPF) : Prop := Spec l yX3_add (ws_ yX3_add cX3_add 5 (none)) rmX3_add bdX3_add F
abbrev bdX3_last : Nat × Nat × Nat × Nat := (0, 0, 0, 0)
abbrev rmX3_last : Room := { frames := 2, cells := 0, slots := 0, locals := 80 }
abbrev SpX3_last (l : Launch) (F : SPF) : Prop := Spec l yX3_last (ws_ yX3_last cX3_last 2 (some .int)) rmX3_last bdX3_last F
abbrev bdX3_by : Nat × Nat × Nat × Nat := (0, 0, 0, 0)
abbrev rmX3_by : Room := { frames := 2, cells := 0, slots := 0, locals := 80 }
abbrev SpX3_by (l : Launch) (F : SPF) : Prop := Spec l yX3_by (ws_ yX3_by cX3_by 5 (some .long)) rmX3_by bdX3_by F
abbrev bdX3_failed : Nat × Nat × Nat × Nat := (0, 0, 0, 0)
abbrev rmX3_failed : Room := { frames := 2, cells := 0, slots := 0, locals := 80 }
abbrev SpX3_failed (l : Launch) (F : SPF) : Prop := Spec l yX3_failed (ws_ yX3_failed cX3_failed 4 (some .long)) rmX3_failed bdX3_failed F
abbrev bdX4_init : Nat × Nat × Nat × Nat := (6, 490, 0, 0)
abbrev rmX4_init : Room := { frames := 3, cells := 6, slots := 490, locals := 100 }
abbrev SpX4_init (l : Launch) (F : SPF) : Prop := Spec l yX4_init (ws_ yX4_init cX4_init 6 (none)) rmX4_init bdX4_init F
abbrev bdX4_leaves : Nat × Nat × Nat × Nat := (0, 0, 0, 0)
abbrev SpX4_leaves (l : Launch) (d : Nat) (F : SPF) : Prop := Spec l yX4_leaves (ws_ yX4_leaves cX4_leaves 6 (some .int)) (rmLv (d)) bdX4_leaves F
abbrev bdX4_bounds : Nat × Nat × Nat × Nat := (0, 0, 1, 6)
abbrev SpX4_bounds (l : Launch) (d : Nat) (F : SPF) : Prop := Spec l yX4_bounds (ws_ yX4_bounds cX4_bounds 4 (some .long)) (rmBo d) bdX4_bounds F
abbrev bdX4_asks : Nat × Nat × Nat × Nat := (0, 0, 0, 0)
abbrev rmX4_asks : Room := { frames := 2, cells := 0, slots := 0, locals := 80 }
abbrev SpX4_asks (l : Launch) (F : SPF) : Prop := Spec l yX4_asks (ws_ yX4_asks cX4_asks 1 (some .int)) rmX4_asks bdX4_asks F
abbrev bdX5_init : Nat × Nat × Nat × Nat := (9, 496, 0, 0)
abbrev rmX5_init : Room := { frames := 4, cells := 9, slots := 496, locals := 125 }
abbrev SpX5_init (l : Launch) (F : SPF) : Prop := Spec l yX5_init (ws_ yX5_init cX5_init 2 (none)) rmX5_init bdX5_init F
abbrev bdX5_kind : Nat × Nat × Nat × Nat := (0, 0, 0, 0)
abbrev rmX5_kind : Room := { frames := 2, cells := 0, slots := 0, locals := 80 }
abbrev SpX5_kind (l : Launch) (F : SPF) : Prop := Spec l yX5_kind (ws_ yX5_kind cX5_kind 1 (some .int)) rmX5_kind bdX5_kind F
abbrev bdX5_leaves : Nat × Nat × Nat × Nat := (0, 0, 0, 0)
abbrev SpX5_leaves (l : Launch) (d : Nat) (F : SPF) : Prop := Spec l yX5_leaves (ws_ yX5_leaves cX5_leaves 1 (some .int)) (rmLv d) bdX5_leaves F
abbrev bdX5_table : Nat × Nat × Nat × Nat := (0, 0, 1, 6)
abbrev SpX5_table (l : Launch) (d : Nat) (F : SPF) : Prop := Spec l yX5_table (ws_ yX5_table cX5_table 1 (some (.object "TickShare$Table"))) (rmTb d) bdX5_table F
abbrev bdX6_init : Nat × Nat × Nat × Nat := (13, 1104, 0, 0)
abbrev rmX6_init : Room := { frames := 4, cells := 13, slots := 1104, locals := 125 }
abbrev SpX6_init (l : Launch) (F : SPF) : Prop := Spec l yX6_init (ws_ yX6_init cX6_init 2 (none)) rmX6_init bdX6_init F
abbrev bdX6_kind : Nat × Nat × Nat × Nat := (0, 0, 0, 0)
abbrev rmX6_kind : Room := { frames := 2, cells := 0, slots := 0, locals := 80 }
abbrev SpX6_kind (l : Launch) (F : SPF) : Prop := Spec l yX6_kind (ws_ yX6_kind cX6_kind 1 (some .int)) rmX6_kind bdX6_kind F
abbrev bdX6_table : Nat × Nat × Nat × Nat := (0, 0, 1, 6)
abbrev SpX6_table (l : Launch) (d : Nat) (F : SPF) : Prop := Spec l yX6_table (ws_ yX6_table cX6_table 5 (some (.object "TickShare$Table"))) (rmTb (d)) bdX6_table F
abbrev bdX6_tops : Nat × Nat × Nat × Nat := (0, 0, 1, 6)
abbrev SpX6_tops (l : Launch) (d : Nat) (F : SPF) : Prop := Spec l yX6_tops (ws_ yX6_tops cX6_tops 5 (some (.array (.array (.long))))) (rmTo (d)) bdX6_tops F
abbrev bdX6_bounds : Nat × Nat × Nat × Nat := (0, 0, 1, 6)
abbrev SpX6_bounds (l : Launch) (d : Nat) (F : SPF) : Prop := Spec l yX6_bounds (ws_ yX6_bounds cX6_bounds 10 (some .long)) (rmBo (d)) bdX6_bounds F
abbrev bdX7_init : Nat × Nat × Nat × Nat := (16, 1116, 0, 0)
abbrev rmX7_init : Room := { frames := 5, cells := 16, slots := 1116, locals := 146 }
abbrev SpX7_init (l : Launch) (F : SPF) : Prop := Spec l yX7_init (ws_ yX7_init cX7_init 3 (none)) rmX7_init bdX7_init F
abbrev bdX7_kind : Nat × Nat × Nat × Nat := (0, 0, 0, 0)
abbrev rmX7_kind : Room := { frames := 2, cells := 0, slots := 0, locals := 80 }
abbrev SpX7_kind (l : Launch) (F : SPF) : Prop := Spec l yX7_kind (ws_ yX7_kind cX7_kind 1 (some .int)) rmX7_kind bdX7_kind F
abbrev bdX7_table : Nat × Nat × Nat × Nat := (0, 0, 1, 6)
abbrev SpX7_table (l : Launch) (d : Nat) (F : SPF) : Prop := Spec l yX7_table (ws_ yX7_table cX7_table 19 (some (.object "TickShare$Table"))) (rmTb (d)) bdX7_table F
abbrev bdX7_bounds : Nat × Nat × Nat × Nat := (0, 0, 1, 6)
abbrev SpX7_bounds (l : Launch) (d : Nat) (F : SPF) : Prop := Spec l yX7_bounds (ws_ yX7_bounds cX7_bounds 10 (some .long)) (rmBo (d)) bdX7_bounds F
abbrev bdX8_init : Nat × Nat × Nat × Nat := (7, 492, 0, 0)
abbrev rmX8_init : Room := { frames := 4, cells := 7, slots := 492, locals := 125 }
abbrev SpX8_init (l : Launch) (F : SPF) : Prop := Spec l yX8_init (ws_ yX8_init cX8_init 5 (none)) rmX8_init bdX8_init F
abbrev bdX8_kind : Nat × Nat × Nat × Nat := (0, 0, 0, 0)
abbrev rmX8_kind : Room := { frames := 2, cells := 0, slots := 0, locals := 80 }
abbrev SpX8_kind (l : Launch) (F : SPF) : Prop := Spec l yX8_kind (ws_ yX8_kind cX8_kind 1 (some .int)) rmX8_kind bdX8_kind F
abbrev bdX8_table : Nat × Nat × Nat × Nat := (0, 0, 1, 6)
abbrev SpX8_table (l : Launch) (d : Nat) (F : SPF) : Prop := Spec l yX8_table (ws_ yX8_table cX8_table 5 (some (.object "TickShare$Table"))) (rmTb (d)) bdX8_table F
abbrev bdX9_init : Nat × Nat × Nat × Nat := (9, 733, 0, 0)
abbrev rmX9_init : Room := { frames := 4, cells := 9, slots := 733, locals := 125 }
abbrev SpX9_init (l : Launch) (F : SPF) : Prop := Spec l yX9_init (ws_ yX9_init cX9_init 4 (none)) rmX9_init bdX9_init F
abbrev bdX9_kind : Nat × Nat × Nat × Nat := (0, 0, 0, 0)
abbrev rmX9_kind : Room := { frames := 2, cells := 0, slots := 0, locals := 80 }
abbrev SpX9_kind (l : Launch) (F : SPF) : Prop := Spec l yX9_kind (ws_ yX9_kind cX9_kind 1 (some .int)) rmX9_kind bdX9_kind F
abbrev bdX9_table : Nat × Nat × Nat × Nat := (0, 0, 1, 6)
abbrev SpX9_table (l : Launch) (d : Nat) (F : SPF) : Prop := Spec l yX9_table (ws_ yX9_table cX9_table 9 (some (.object "TickShare$Table"))) (rmTb (d)) bdX9_table F
abbrev bdX9_asks : Nat × Nat × Nat × Nat := (0, 0, 0, 0)
abbrev rmX9_asks : Room := { frames := 2, cells := 0, slots := 0, locals := 80 }
abbrev SpX9_asks (l : Launch) (F : SPF) : Prop := Spec l yX9_asks (ws_ yX9_asks cX9_asks 1 (some .int)) rmX9_asks bdX9_asks F
theorem md_J0_init_2 : yJ0_init_2.cls ≠ "java/lang/invoke/MethodHandle" ∧ yJ0_init_2.cls ≠ "java/lang/invoke/VarHandle" ∧ (parseMethodDescriptor yJ0_init_2.desc).map (fun d => d.parameters.length) = some 4 := mh (by decide +kernel)
theorem gw_J0_init_2 : GoodIn lw_all (ws_ yJ0_init_2 cJ0_init_2 5 (none)) := lw_meth q132
theorem md_J1_init : yJ1_init.cls ≠ "java/lang/invoke/MethodHandle" ∧ yJ1_init.cls ≠ "java/lang/invoke/VarHandle" ∧ (parseMethodDescriptor yJ1_init.desc).map (fun d => d.parameters.length) = some 4 := mh (by decide +kernel)
theorem gw_J1_init : GoodIn lw_all (ws_ yJ1_init cJ1_init 5 (none)) := lw_meth q129
theorem md_X0_init : yX0_init.cls ≠ "java/lang/invoke/MethodHandle" ∧ yX0_init.cls ≠ "java/lang/invoke/VarHandle" ∧ (parseMethodDescriptor yX0_init.desc).map (fun d => d.parameters.length) = some 0 := mh (by decide +kernel)
theorem gw_X0_init : GoodIn lw_all (ws_ yX0_init cX0_init 1 (none)) := lw_meth q76
theorem md_X2_init : yX2_init.cls ≠ "java/lang/invoke/MethodHandle" ∧ yX2_init.cls ≠ "java/lang/invoke/VarHandle" ∧ (parseMethodDescriptor yX2_init.desc).map (fun d => d.parameters.length) = some 0 := mh (by decide +kernel)
theorem gw_X2_init : GoodIn lw_all (ws_ yX2_init cX2_init 1 (none)) := lw_meth q891
theorem md_X0_status : yX0_status.cls ≠ "java/lang/invoke/MethodHandle" ∧ yX0_status.cls ≠ "java/lang/invoke/VarHandle" ∧ (parseMethodDescriptor yX0_status.desc).map (fun d => d.parameters.length) = some 0 := mh (by decide +kernel)
theorem gw_X0_status : GoodIn lw_all (ws_ yX0_status cX0_status 1 (some .int)) := lw_meth q179
theorem gi_L_13 : GoodIn lw_all (wsV "TickShareLaw" 13 yX0_status.cls yX0_status (ws_ yX0_status cX0_status 1 (some .int))) := lw_V q176 q177 q178 q50 q179
theorem md_X2_status : yX2_status.cls ≠ "java/lang/invoke/MethodHandle" ∧ yX2_status.cls ≠ "java/lang/invoke/VarHandle" ∧ (parseMethodDescriptor yX2_status.desc).map (fun d => d.parameters.length) = some 0 := mh (by decide +kernel)
theorem gw_X2_status : GoodIn lw_all (ws_ yX2_status cX2_status 1 (some .int)) := lw_meth q1012
theorem gi_L_17 : GoodIn lw_all (wsV "TickShareLaw" 17 yX2_status.cls yX2_status (ws_ yX2_status cX2_status 1 (some .int))) := lw_V q1009 q1010 q1011 q54 q1012
theorem md_X0_top : yX0_top.cls ≠ "java/lang/invoke/MethodHandle" ∧ yX0_top.cls ≠ "java/lang/invoke/VarHandle" ∧ (parseMethodDescriptor yX0_top.desc).map (fun d => d.parameters.length) = some 0 := mh (by decide +kernel)
theorem gw_X0_top : GoodIn lw_all (ws_ yX0_top cX0_top 1 (some .long)) := lw_meth q183
theorem gi_L_18 : GoodIn lw_all (wsV "TickShareLaw" 18 yX0_top.cls yX0_top (ws_ yX0_top cX0_top 1 (some .long))) := lw_V q180 q181 q182 q50 q183
theorem md_X2_top : yX2_top.cls ≠ "java/lang/invoke/MethodHandle" ∧ yX2_top.cls ≠ "java/lang/invoke/VarHandle" ∧ (parseMethodDescriptor yX2_top.desc).map (fun d => d.parameters.length) = some 0 := mh (by decide +kernel)
theorem gw_X2_top : GoodIn lw_all (ws_ yX2_top cX2_top 1 (some .long)) := lw_meth q1016
theorem gi_L_22 : GoodIn lw_all (wsV "TickShareLaw" 22 yX2_top.cls yX2_top (ws_ yX2_top cX2_top 1 (some .long))) := lw_V q1013 q1014 q1015 q54 q1016
theorem md_X0_bottom : yX0_bottom.cls ≠ "java/lang/invoke/MethodHandle" ∧ yX0_bottom.cls ≠ "java/lang/invoke/VarHandle" ∧ (parseMethodDescriptor yX0_bottom.desc).map (fun d => d.parameters.length) = some 0 := mh (by decide +kernel)
theorem gw_X0_bottom : GoodIn lw_all (ws_ yX0_bottom cX0_bottom 1 (some .long)) := lw_meth q187
theorem gi_L_23 : GoodIn lw_all (wsV "TickShareLaw" 23 yX0_bottom.cls yX0_bottom (ws_ yX0_bottom cX0_bottom 1 (some .long))) := lw_V q184 q185 q186 q50 q187
theorem md_X2_bottom : yX2_bottom.cls ≠ "java/lang/invoke/MethodHandle" ∧ yX2_bottom.cls ≠ "java/lang/invoke/VarHandle" ∧ (parseMethodDescriptor yX2_bottom.desc).map (fun d => d.parameters.length) = some 0 := mh (by decide +kernel)
theorem gw_X2_bottom : GoodIn lw_all (ws_ yX2_bottom cX2_bottom 1 (some .long)) := lw_meth q1020
theorem gi_L_26 : GoodIn lw_all (wsV "TickShareLaw" 26 yX2_bottom.cls yX2_bottom (ws_ yX2_bottom cX2_bottom 1 (some .long))) := lw_V q1017 q1018 q1019 q54 q1020
theorem md_X0_tray : yX0_tray.cls ≠ "java/lang/invoke/MethodHandle" ∧ yX0_tray.cls ≠ "java/lang/invoke/VarHandle" ∧ (parseMethodDescriptor yX0_tray.desc).map (fun d => d.parameters.length) = some 3 := mh (by decide +kernel)
theorem gi_L_27 : GoodIn lw_all (wsV "TickShareLaw" 27 yX0_tray.cls yX0_tray (wsW_ yX0_tray cX0_tray 5 (some .boolean) [(5, 51, 52, 95), (5, 51, 61, 53)])) := lw_VW q188 q189 q190 q50 q191
theorem md_X2_tray : yX2_tray.cls ≠ "java/lang/invoke/MethodHandle" ∧ yX2_tray.cls ≠ "java/lang/invoke/VarHandle" ∧ (parseMethodDescriptor yX2_tray.desc).map (fun d => d.parameters.length) = some 3 := mh (by decide +kernel)
theorem gw_X2_tray : GoodIn lw_all (ws_ yX2_tray cX2_tray 5 (some .boolean)) := lw_meth q1024
theorem gi_L_31 : GoodIn lw_all (wsV "TickShareLaw" 31 yX2_tray.cls yX2_tray (ws_ yX2_tray cX2_tray 5 (some .boolean))) := lw_V q1021 q1022 q1023 q54 q1024
theorem md_X0_write : yX0_write.cls ≠ "java/lang/invoke/MethodHandle" ∧ yX0_write.cls ≠ "java/lang/invoke/VarHandle" ∧ (parseMethodDescriptor yX0_write.desc).map (fun d => d.parameters.length) = some 3 := mh (by decide +kernel)
theorem gi_L_34 : GoodIn lw_all (wsV "TickShareLaw" 34 yX0_write.cls yX0_write (wsW_ yX0_write cX0_write 6 (some .boolean) [(5, 16, 17, 109), (5, 16, 26, 53)])) := lw_VW q239 q240 q241 q50 q242
theorem md_X2_write : yX2_write.cls ≠ "java/lang/invoke/MethodHandle" ∧ yX2_write.cls ≠ "java/lang/invoke/VarHandle" ∧ (parseMethodDescriptor yX2_write.desc).map (fun d => d.parameters.length) = some 3 := mh (by decide +kernel)
theorem gw_X2_write : GoodIn lw_all (ws_ yX2_write cX2_write 6 (some .boolean)) := lw_meth q1035
theorem gi_L_38 : GoodIn lw_all (wsV "TickShareLaw" 38 yX2_write.cls yX2_write (ws_ yX2_write cX2_write 6 (some .boolean))) := lw_V q1032 q1033 q1034 q54 q1035
theorem md_X0_read : yX0_read.cls ≠ "java/lang/invoke/MethodHandle" ∧ yX0_read.cls ≠ "java/lang/invoke/VarHandle" ∧ (parseMethodDescriptor yX0_read.desc).map (fun d => d.parameters.length) = some 2 := mh (by decide +kernel)
theorem gi_L_39 : GoodIn lw_all (wsV "TickShareLaw" 39 yX0_read.cls yX0_read (wsW_ yX0_read cX0_read 4 (some .long) [(5, 14, 15, 109), (5, 14, 25, 53)])) := lw_VW q273 q274 q275 q50 q276
theorem md_X2_read : yX2_read.cls ≠ "java/lang/invoke/MethodHandle" ∧ yX2_read.cls ≠ "java/lang/invoke/VarHandle" ∧ (parseMethodDescriptor yX2_read.desc).map (fun d => d.parameters.length) = some 2 := mh (by decide +kernel)
theorem gw_X2_read : GoodIn lw_all (ws_ yX2_read cX2_read 3 (some .long)) := lw_meth q1046
theorem gi_L_43 : GoodIn lw_all (wsV "TickShareLaw" 43 yX2_read.cls yX2_read (ws_ yX2_read cX2_read 3 (some .long))) := lw_V q1043 q1044 q1045 q54 q1046
theorem md_X0_pour : yX0_pour.cls ≠ "java/lang/invoke/MethodHandle" ∧ yX0_pour.cls ≠ "java/lang/invoke/VarHandle" ∧ (parseMethodDescriptor yX0_pour.desc).map (fun d => d.parameters.length) = some 5 := mh (by decide +kernel)
theorem gi_L_44 : GoodIn lw_all (wsV "TickShareLaw" 44 yX0_pour.cls yX0_pour (wsW_ yX0_pour cX0_pour 9 (some .boolean) [(85, 97, 100, 131), (5, 112, 113, 53)])) := lw_VW q285 q286 q287 q50 q288
theorem md_X2_pour : yX2_pour.cls ≠ "java/lang/invoke/MethodHandle" ∧ yX2_pour.cls ≠ "java/lang/invoke/VarHandle" ∧ (parseMethodDescriptor yX2_pour.desc).map (fun d => d.parameters.length) = some 5 := mh (by decide +kernel)
theorem gw_X2_pour : GoodIn lw_all (ws_ yX2_pour cX2_pour 8 (some .boolean)) := lw_meth q1051
theorem gi_L_48 : GoodIn lw_all (wsV "TickShareLaw" 48 yX2_pour.cls yX2_pour (ws_ yX2_pour cX2_pour 8 (some .boolean))) := lw_V q1048 q1049 q1050 q54 q1051
theorem md_X0_leaf : yX0_leaf.cls ≠ "java/lang/invoke/MethodHandle" ∧ yX0_leaf.cls ≠ "java/lang/invoke/VarHandle" ∧ (parseMethodDescriptor yX0_leaf.desc).map (fun d => d.parameters.length) = some 2 := mh (by decide +kernel)
theorem gi_L_49 : GoodIn lw_all (wsV "TickShareLaw" 49 yX0_leaf.cls yX0_leaf (wsW_ yX0_leaf cX0_leaf 4 (some .int) [(5, 67, 68, 53)])) := lw_VW q296 q297 q298 q50 q299
theorem md_X2_leaf : yX2_leaf.cls ≠ "java/lang/invoke/MethodHandle" ∧ yX2_leaf.cls ≠ "java/lang/invoke/VarHandle" ∧ (parseMethodDescriptor yX2_leaf.desc).map (fun d => d.parameters.length) = some 2 := mh (by decide +kernel)
theorem gw_X2_leaf : GoodIn lw_all (ws_ yX2_leaf cX2_leaf 4 (some .int)) := lw_meth q1055
theorem gi_L_53 : GoodIn lw_all (wsV "TickShareLaw" 53 yX2_leaf.cls yX2_leaf (ws_ yX2_leaf cX2_leaf 4 (some .int))) := lw_V q1052 q1053 q1054 q54 q1055
theorem md_X0_row_2 : yX0_row_2.cls ≠ "java/lang/invoke/MethodHandle" ∧ yX0_row_2.cls ≠ "java/lang/invoke/VarHandle" ∧ (parseMethodDescriptor yX0_row_2.desc).map (fun d => d.parameters.length) = some 4 := mh (by decide +kernel)
theorem gi_L_54 : GoodIn lw_all (wsV "TickShareLaw" 54 yX0_row_2.cls yX0_row_2 (wsW_ yX0_row_2 cX0_row_2 6 (some .int) [(5, 67, 68, 53)])) := lw_VW q445 q446 q447 q50 q448
theorem md_X2_row : yX2_row.cls ≠ "java/lang/invoke/MethodHandle" ∧ yX2_row.cls ≠ "java/lang/invoke/VarHandle" ∧ (parseMethodDescriptor yX2_row.desc).map (fun d => d.parameters.length) = some 4 := mh (by decide +kernel)
theorem gw_X2_row : GoodIn lw_all (ws_ yX2_row cX2_row 6 (some .int)) := lw_meth q1076
theorem gi_L_58 : GoodIn lw_all (wsV "TickShareLaw" 58 yX2_row.cls yX2_row (ws_ yX2_row cX2_row 6 (some .int))) := lw_V q1073 q1074 q1075 q54 q1076
theorem md_X0_fan : yX0_fan.cls ≠ "java/lang/invoke/MethodHandle" ∧ yX0_fan.cls ≠ "java/lang/invoke/VarHandle" ∧ (parseMethodDescriptor yX0_fan.desc).map (fun d => d.parameters.length) = some 5 := mh (by decide +kernel)
theorem gi_L_59 : GoodIn lw_all (wsV "TickShareLaw" 59 yX0_fan.cls yX0_fan (wsW_ yX0_fan cX0_fan 7 (some .int) [(5, 81, 82, 53)])) := lw_VW q482 q483 q484 q50 q485
theorem md_X2_fan : yX2_fan.cls ≠ "java/lang/invoke/MethodHandle" ∧ yX2_fan.cls ≠ "java/lang/invoke/VarHandle" ∧ (parseMethodDescriptor yX2_fan.desc).map (fun d => d.parameters.length) = some 5 := mh (by decide +kernel)
theorem gw_X2_fan : GoodIn lw_all (ws_ yX2_fan cX2_fan 8 (some .int)) := lw_meth q1088
theorem gi_L_63 : GoodIn lw_all (wsV "TickShareLaw" 63 yX2_fan.cls yX2_fan (ws_ yX2_fan cX2_fan 8 (some .int))) := lw_V q1085 q1086 q1087 q54 q1088
theorem md_X0_cache : yX0_cache.cls ≠ "java/lang/invoke/MethodHandle" ∧ yX0_cache.cls ≠ "java/lang/invoke/VarHandle" ∧ (parseMethodDescriptor yX0_cache.desc).map (fun d => d.parameters.length) = some 4 := mh (by decide +kernel)
theorem gi_L_64 : GoodIn lw_all (wsV "TickShareLaw" 64 yX0_cache.cls yX0_cache (wsW_ yX0_cache cX0_cache 7 (some .int) [(5, 88, 89, 53)])) := lw_VW q514 q515 q516 q50 q517
theorem md_X2_cache : yX2_cache.cls ≠ "java/lang/invoke/MethodHandle" ∧ yX2_cache.cls ≠ "java/lang/invoke/VarHandle" ∧ (parseMethodDescriptor yX2_cache.desc).map (fun d => d.parameters.length) = some 4 := mh (by decide +kernel)
theorem gw_X2_cache : GoodIn lw_all (ws_ yX2_cache cX2_cache 6 (some .int)) := lw_meth q1092
theorem gi_L_67 : GoodIn lw_all (wsV "TickShareLaw" 67 yX2_cache.cls yX2_cache (ws_ yX2_cache cX2_cache 6 (some .int))) := lw_V q1089 q1090 q1091 q54 q1092
theorem md_X0_retry : yX0_retry.cls ≠ "java/lang/invoke/MethodHandle" ∧ yX0_retry.cls ≠ "java/lang/invoke/VarHandle" ∧ (parseMethodDescriptor yX0_retry.desc).map (fun d => d.parameters.length) = some 3 := mh (by decide +kernel)
theorem gi_L_68 : GoodIn lw_all (wsV "TickShareLaw" 68 yX0_retry.cls yX0_retry (wsW_ yX0_retry cX0_retry 5 (some .int) [(5, 71, 72, 53)])) := lw_VW q538 q539 q540 q50 q541
theorem md_X2_retry : yX2_retry.cls ≠ "java/lang/invoke/MethodHandle" ∧ yX2_retry.cls ≠ "java/lang/invoke/VarHandle" ∧ (parseMethodDescriptor yX2_retry.desc).map (fun d => d.parameters.length) = some 3 := mh (by decide +kernel)
theorem gw_X2_retry : GoodIn lw_all (ws_ yX2_retry cX2_retry 5 (some .int)) := lw_meth q1096
theorem gi_L_72 : GoodIn lw_all (wsV "TickShareLaw" 72 yX2_retry.cls yX2_retry (ws_ yX2_retry cX2_retry 5 (some .int))) := lw_V q1093 q1094 q1095 q54 q1096
theorem md_X0_hedge : yX0_hedge.cls ≠ "java/lang/invoke/MethodHandle" ∧ yX0_hedge.cls ≠ "java/lang/invoke/VarHandle" ∧ (parseMethodDescriptor yX0_hedge.desc).map (fun d => d.parameters.length) = some 2 := mh (by decide +kernel)
theorem gi_L_73 : GoodIn lw_all (wsV "TickShareLaw" 73 yX0_hedge.cls yX0_hedge (wsW_ yX0_hedge cX0_hedge 4 (some .int) [(5, 56, 57, 53)])) := lw_VW q568 q569 q570 q50 q571
theorem md_X2_hedge : yX2_hedge.cls ≠ "java/lang/invoke/MethodHandle" ∧ yX2_hedge.cls ≠ "java/lang/invoke/VarHandle" ∧ (parseMethodDescriptor yX2_hedge.desc).map (fun d => d.parameters.length) = some 2 := mh (by decide +kernel)
theorem gw_X2_hedge : GoodIn lw_all (ws_ yX2_hedge cX2_hedge 4 (some .int)) := lw_meth q1100
theorem gi_L_76 : GoodIn lw_all (wsV "TickShareLaw" 76 yX2_hedge.cls yX2_hedge (ws_ yX2_hedge cX2_hedge 4 (some .int))) := lw_V q1097 q1098 q1099 q54 q1100
theorem md_X0_told : yX0_told.cls ≠ "java/lang/invoke/MethodHandle" ∧ yX0_told.cls ≠ "java/lang/invoke/VarHandle" ∧ (parseMethodDescriptor yX0_told.desc).map (fun d => d.parameters.length) = some 2 := mh (by decide +kernel)
theorem gi_L_77 : GoodIn lw_all (wsV "TickShareLaw" 77 yX0_told.cls yX0_told (wsW_ yX0_told cX0_told 4 (some .int) [(5, 68, 102, 53), (69, 73, 102, 53), (74, 82, 102, 53), (83, 88, 102, 53), (89, 93, 102, 53), (94, 101, 102, 53), (5, 68, 109, 13), (69, 73, 109, 13), (74, 82, 109, 13), (83, 88, 109, 13), (89, 93, 109, 13), (94, 101, 109, 13)])) := lw_VW q589 q590 q591 q50 q592
theorem md_X2_told : yX2_told.cls ≠ "java/lang/invoke/MethodHandle" ∧ yX2_told.cls ≠ "java/lang/invoke/VarHandle" ∧ (parseMethodDescriptor yX2_told.desc).map (fun d => d.parameters.length) = some 2 := mh (by decide +kernel)
theorem gw_X2_told : GoodIn lw_all (ws_ yX2_told cX2_told 5 (some .int)) := lw_meth q1104
theorem gi_L_80 : GoodIn lw_all (wsV "TickShareLaw" 80 yX2_told.cls yX2_told (ws_ yX2_told cX2_told 5 (some .int))) := lw_V q1101 q1102 q1103 q54 q1104
theorem md_X0_weight : yX0_weight.cls ≠ "java/lang/invoke/MethodHandle" ∧ yX0_weight.cls ≠ "java/lang/invoke/VarHandle" ∧ (parseMethodDescriptor yX0_weight.desc).map (fun d => d.parameters.length) = some 3 := mh (by decide +kernel)
theorem gi_L_81 : GoodIn lw_all (wsV "TickShareLaw" 81 yX0_weight.cls yX0_weight (wsW_ yX0_weight cX0_weight 5 (some .long) [(5, 59, 60, 53), (5, 59, 70, 13)])) := lw_VW q733 q734 q735 q50 q736
theorem md_X2_weight : yX2_weight.cls ≠ "java/lang/invoke/MethodHandle" ∧ yX2_weight.cls ≠ "java/lang/invoke/VarHandle" ∧ (parseMethodDescriptor yX2_weight.desc).map (fun d => d.parameters.length) = some 3 := mh (by decide +kernel)
theorem gw_X2_weight : GoodIn lw_all (ws_ yX2_weight cX2_weight 5 (some .long)) := lw_meth q1177
theorem gi_L_85 : GoodIn lw_all (wsV "TickShareLaw" 85 yX2_weight.cls yX2_weight (ws_ yX2_weight cX2_weight 5 (some .long))) := lw_V q1174 q1175 q1176 q54 q1177
theorem md_X0_whole : yX0_whole.cls ≠ "java/lang/invoke/MethodHandle" ∧ yX0_whole.cls ≠ "java/lang/invoke/VarHandle" ∧ (parseMethodDescriptor yX0_whole.desc).map (fun d => d.parameters.length) = some 1 := mh (by decide +kernel)
theorem gi_L_86 : GoodIn lw_all (wsV "TickShareLaw" 86 yX0_whole.cls yX0_whole (wsW_ yX0_whole cX0_whole 3 (some .long) [(5, 16, 17, 53), (5, 16, 25, 13)])) := lw_VW q737 q738 q739 q50 q740
theorem md_X2_whole : yX2_whole.cls ≠ "java/lang/invoke/MethodHandle" ∧ yX2_whole.cls ≠ "java/lang/invoke/VarHandle" ∧ (parseMethodDescriptor yX2_whole.desc).map (fun d => d.parameters.length) = some 1 := mh (by decide +kernel)
theorem gw_X2_whole : GoodIn lw_all (ws_ yX2_whole cX2_whole 3 (some .long)) := lw_meth q1181
theorem gi_L_90 : GoodIn lw_all (wsV "TickShareLaw" 90 yX2_whole.cls yX2_whole (ws_ yX2_whole cX2_whole 3 (some .long))) := lw_V q1178 q1179 q1180 q54 q1181
theorem md_X0_by : yX0_by.cls ≠ "java/lang/invoke/MethodHandle" ∧ yX0_by.cls ≠ "java/lang/invoke/VarHandle" ∧ (parseMethodDescriptor yX0_by.desc).map (fun d => d.parameters.length) = some 2 := mh (by decide +kernel)
theorem gi_L_91 : GoodIn lw_all (wsV "TickShareLaw" 91 yX0_by.cls yX0_by (wsW_ yX0_by cX0_by 5 (some .int) [(5, 52, 53, 53), (5, 52, 60, 13)])) := lw_VW q741 q742 q743 q50 q744
theorem md_X2_by : yX2_by.cls ≠ "java/lang/invoke/MethodHandle" ∧ yX2_by.cls ≠ "java/lang/invoke/VarHandle" ∧ (parseMethodDescriptor yX2_by.desc).map (fun d => d.parameters.length) = some 2 := mh (by decide +kernel)
theorem gw_X2_by : GoodIn lw_all (ws_ yX2_by cX2_by 4 (some .int)) := lw_meth q1185
theorem gi_L_94 : GoodIn lw_all (wsV "TickShareLaw" 94 yX2_by.cls yX2_by (ws_ yX2_by cX2_by 4 (some .int))) := lw_V q1182 q1183 q1184 q54 q1185
theorem md_X0_fails : yX0_fails.cls ≠ "java/lang/invoke/MethodHandle" ∧ yX0_fails.cls ≠ "java/lang/invoke/VarHandle" ∧ (parseMethodDescriptor yX0_fails.desc).map (fun d => d.parameters.length) = some 1 := mh (by decide +kernel)
theorem gi_L_95 : GoodIn lw_all (wsV "TickShareLaw" 95 yX0_fails.cls yX0_fails (wsW_ yX0_fails cX0_fails 3 (some .int) [(5, 26, 27, 53), (5, 26, 34, 13)])) := lw_VW q754 q755 q756 q50 q757
theorem md_X2_fails : yX2_fails.cls ≠ "java/lang/invoke/MethodHandle" ∧ yX2_fails.cls ≠ "java/lang/invoke/VarHandle" ∧ (parseMethodDescriptor yX2_fails.desc).map (fun d => d.parameters.length) = some 1 := mh (by decide +kernel)
theorem gw_X2_fails : GoodIn lw_all (ws_ yX2_fails cX2_fails 3 (some .int)) := lw_meth q1197
theorem gi_L_99 : GoodIn lw_all (wsV "TickShareLaw" 99 yX2_fails.cls yX2_fails (ws_ yX2_fails cX2_fails 3 (some .int))) := lw_V q1194 q1195 q1196 q54 q1197
theorem md_X0_promise : yX0_promise.cls ≠ "java/lang/invoke/MethodHandle" ∧ yX0_promise.cls ≠ "java/lang/invoke/VarHandle" ∧ (parseMethodDescriptor yX0_promise.desc).map (fun d => d.parameters.length) = some 3 := mh (by decide +kernel)
theorem gi_L_100 : GoodIn lw_all (wsV "TickShareLaw" 100 yX0_promise.cls yX0_promise (wsW_ yX0_promise cX0_promise 7 (some .int) [(5, 87, 88, 53), (5, 87, 97, 13)])) := lw_VW q762 q763 q764 q50 q765
theorem md_X2_promise : yX2_promise.cls ≠ "java/lang/invoke/MethodHandle" ∧ yX2_promise.cls ≠ "java/lang/invoke/VarHandle" ∧ (parseMethodDescriptor yX2_promise.desc).map (fun d => d.parameters.length) = some 3 := mh (by decide +kernel)
theorem gw_X2_promise : GoodIn lw_all (ws_ yX2_promise cX2_promise 6 (some .int)) := lw_meth q1201
theorem gi_L_103 : GoodIn lw_all (wsV "TickShareLaw" 103 yX2_promise.cls yX2_promise (ws_ yX2_promise cX2_promise 6 (some .int))) := lw_V q1198 q1199 q1200 q54 q1201
theorem md_X0_bound : yX0_bound.cls ≠ "java/lang/invoke/MethodHandle" ∧ yX0_bound.cls ≠ "java/lang/invoke/VarHandle" ∧ (parseMethodDescriptor yX0_bound.desc).map (fun d => d.parameters.length) = some 2 := mh (by decide +kernel)
theorem gi_L_104 : GoodIn lw_all (wsV "TickShareLaw" 104 yX0_bound.cls yX0_bound (wsW_ yX0_bound cX0_bound 6 (some .int) [(5, 58, 59, 53), (5, 58, 66, 13)])) := lw_VW q773 q774 q775 q50 q776
theorem md_X2_bound : yX2_bound.cls ≠ "java/lang/invoke/MethodHandle" ∧ yX2_bound.cls ≠ "java/lang/invoke/VarHandle" ∧ (parseMethodDescriptor yX2_bound.desc).map (fun d => d.parameters.length) = some 2 := mh (by decide +kernel)
theorem gw_X2_bound : GoodIn lw_all (ws_ yX2_bound cX2_bound 4 (some .int)) := lw_meth q1212
theorem gi_L_107 : GoodIn lw_all (wsV "TickShareLaw" 107 yX2_bound.cls yX2_bound (ws_ yX2_bound cX2_bound 4 (some .int))) := lw_V q1209 q1210 q1211 q54 q1212
theorem md_X0_asks : yX0_asks.cls ≠ "java/lang/invoke/MethodHandle" ∧ yX0_asks.cls ≠ "java/lang/invoke/VarHandle" ∧ (parseMethodDescriptor yX0_asks.desc).map (fun d => d.parameters.length) = some 2 := mh (by decide +kernel)
theorem gi_L_108 : GoodIn lw_all (wsV "TickShareLaw" 108 yX0_asks.cls yX0_asks (wsW_ yX0_asks cX0_asks 7 (some .int) [(5, 64, 65, 53)])) := lw_VW q813 q814 q815 q50 q816
theorem md_X2_asks : yX2_asks.cls ≠ "java/lang/invoke/MethodHandle" ∧ yX2_asks.cls ≠ "java/lang/invoke/VarHandle" ∧ (parseMethodDescriptor yX2_asks.desc).map (fun d => d.parameters.length) = some 2 := mh (by decide +kernel)
theorem gw_X2_asks : GoodIn lw_all (ws_ yX2_asks cX2_asks 5 (some .int)) := lw_meth q1235
theorem gi_L_111 : GoodIn lw_all (wsV "TickShareLaw" 111 yX2_asks.cls yX2_asks (ws_ yX2_asks cX2_asks 5 (some .int))) := lw_V q1232 q1233 q1234 q54 q1235
theorem md_X0_change : yX0_change.cls ≠ "java/lang/invoke/MethodHandle" ∧ yX0_change.cls ≠ "java/lang/invoke/VarHandle" ∧ (parseMethodDescriptor yX0_change.desc).map (fun d => d.parameters.length) = some 3 := mh (by decide +kernel)
theorem gi_L_112 : GoodIn lw_all (wsV "TickShareLaw" 112 yX0_change.cls yX0_change (wsW_ yX0_change cX0_change 5 (some .boolean) [(5, 50, 51, 53)])) := lw_VW q838 q839 q840 q50 q841
theorem md_X2_change : yX2_change.cls ≠ "java/lang/invoke/MethodHandle" ∧ yX2_change.cls ≠ "java/lang/invoke/VarHandle" ∧ (parseMethodDescriptor yX2_change.desc).map (fun d => d.parameters.length) = some 3 := mh (by decide +kernel)
theorem gw_X2_change : GoodIn lw_all (ws_ yX2_change cX2_change 5 (some .boolean)) := lw_meth q1247
theorem gi_L_115 : GoodIn lw_all (wsV "TickShareLaw" 115 yX2_change.cls yX2_change (ws_ yX2_change cX2_change 5 (some .boolean))) := lw_V q1244 q1245 q1246 q54 q1247
theorem md_X0_price : yX0_price.cls ≠ "java/lang/invoke/MethodHandle" ∧ yX0_price.cls ≠ "java/lang/invoke/VarHandle" ∧ (parseMethodDescriptor yX0_price.desc).map (fun d => d.parameters.length) = some 2 := mh (by decide +kernel)
theorem gi_L_116 : GoodIn lw_all (wsV "TickShareLaw" 116 yX0_price.cls yX0_price (wsW_ yX0_price cX0_price 4 (some .boolean) [(5, 40, 41, 53)])) := lw_VW q842 q843 q844 q50 q845
theorem md_X2_price : yX2_price.cls ≠ "java/lang/invoke/MethodHandle" ∧ yX2_price.cls ≠ "java/lang/invoke/VarHandle" ∧ (parseMethodDescriptor yX2_price.desc).map (fun d => d.parameters.length) = some 2 := mh (by decide +kernel)
theorem gw_X2_price : GoodIn lw_all (ws_ yX2_price cX2_price 3 (some .boolean)) := lw_meth q1251
theorem gi_L_120 : GoodIn lw_all (wsV "TickShareLaw" 120 yX2_price.cls yX2_price (ws_ yX2_price cX2_price 3 (some .boolean))) := lw_V q1248 q1249 q1250 q54 q1251
theorem md_X0_grade : yX0_grade.cls ≠ "java/lang/invoke/MethodHandle" ∧ yX0_grade.cls ≠ "java/lang/invoke/VarHandle" ∧ (parseMethodDescriptor yX0_grade.desc).map (fun d => d.parameters.length) = some 4 := mh (by decide +kernel)
theorem gi_L_121 : GoodIn lw_all (wsV "TickShareLaw" 121 yX0_grade.cls yX0_grade (wsW_ yX0_grade cX0_grade 7 (some .int) [(5, 137, 138, 53)])) := lw_VW q846 q847 q848 q50 q849
theorem md_X2_grade : yX2_grade.cls ≠ "java/lang/invoke/MethodHandle" ∧ yX2_grade.cls ≠ "java/lang/invoke/VarHandle" ∧ (parseMethodDescriptor yX2_grade.desc).map (fun d => d.parameters.length) = some 4 := mh (by decide +kernel)
theorem gw_X2_grade : GoodIn lw_all (ws_ yX2_grade cX2_grade 8 (some .int)) := lw_meth q1258
theorem gi_L_124 : GoodIn lw_all (wsV "TickShareLaw" 124 yX2_grade.cls yX2_grade (ws_ yX2_grade cX2_grade 8 (some .int))) := lw_V q1255 q1256 q1257 q54 q1258
theorem md_X0_best : yX0_best.cls ≠ "java/lang/invoke/MethodHandle" ∧ yX0_best.cls ≠ "java/lang/invoke/VarHandle" ∧ (parseMethodDescriptor yX0_best.desc).map (fun d => d.parameters.length) = some 4 := mh (by decide +kernel)
theorem gi_L_125 : GoodIn lw_all (wsV "TickShareLaw" 125 yX0_best.cls yX0_best (wsW_ yX0_best cX0_best 21 (some .int) [(11, 307, 348, 53), (11, 307, 399, 13), (11, 307, 448, 0), (348, 358, 448, 0), (399, 407, 448, 0), (448, 450, 448, 0)])) := lw_VW q854 q855 q856 q50 q857
theorem md_X2_best : yX2_best.cls ≠ "java/lang/invoke/MethodHandle" ∧ yX2_best.cls ≠ "java/lang/invoke/VarHandle" ∧ (parseMethodDescriptor yX2_best.desc).map (fun d => d.parameters.length) = some 4 := mh (by decide +kernel)
theorem gw_X2_best : GoodIn lw_all (ws_ yX2_best cX2_best 9 (some .int)) := lw_meth q1262
theorem gi_L_128 : GoodIn lw_all (wsV "TickShareLaw" 128 yX2_best.cls yX2_best (ws_ yX2_best cX2_best 9 (some .int))) := lw_V q1259 q1260 q1261 q54 q1262
theorem md_X0_chosen : yX0_chosen.cls ≠ "java/lang/invoke/MethodHandle" ∧ yX0_chosen.cls ≠ "java/lang/invoke/VarHandle" ∧ (parseMethodDescriptor yX0_chosen.desc).map (fun d => d.parameters.length) = some 1 := mh (by decide +kernel)
theorem gi_L_129 : GoodIn lw_all (wsV "TickShareLaw" 129 yX0_chosen.cls yX0_chosen (wsW_ yX0_chosen cX0_chosen 3 (some .int) [(5, 33, 34, 53)])) := lw_VW q866 q867 q868 q50 q869
theorem md_X2_chosen : yX2_chosen.cls ≠ "java/lang/invoke/MethodHandle" ∧ yX2_chosen.cls ≠ "java/lang/invoke/VarHandle" ∧ (parseMethodDescriptor yX2_chosen.desc).map (fun d => d.parameters.length) = some 1 := mh (by decide +kernel)
theorem gw_X2_chosen : GoodIn lw_all (ws_ yX2_chosen cX2_chosen 2 (some .int)) := lw_meth q1270
theorem gi_L_132 : GoodIn lw_all (wsV "TickShareLaw" 132 yX2_chosen.cls yX2_chosen (ws_ yX2_chosen cX2_chosen 2 (some .int))) := lw_V q1267 q1268 q1269 q54 q1270
theorem md_X0_part : yX0_part.cls ≠ "java/lang/invoke/MethodHandle" ∧ yX0_part.cls ≠ "java/lang/invoke/VarHandle" ∧ (parseMethodDescriptor yX0_part.desc).map (fun d => d.parameters.length) = some 2 := mh (by decide +kernel)
theorem gi_L_133 : GoodIn lw_all (wsV "TickShareLaw" 133 yX0_part.cls yX0_part (wsW_ yX0_part cX0_part 4 (some .boolean) [(5, 38, 39, 53)])) := lw_VW q870 q871 q872 q50 q873
theorem md_X2_part : yX2_part.cls ≠ "java/lang/invoke/MethodHandle" ∧ yX2_part.cls ≠ "java/lang/invoke/VarHandle" ∧ (parseMethodDescriptor yX2_part.desc).map (fun d => d.parameters.length) = some 2 := mh (by decide +kernel)
theorem gw_X2_part : GoodIn lw_all (ws_ yX2_part cX2_part 3 (some .boolean)) := lw_meth q1274
theorem gi_L_136 : GoodIn lw_all (wsV "TickShareLaw" 136 yX2_part.cls yX2_part (ws_ yX2_part cX2_part 3 (some .boolean))) := lw_V q1271 q1272 q1273 q54 q1274
theorem md_X0_trace : yX0_trace.cls ≠ "java/lang/invoke/MethodHandle" ∧ yX0_trace.cls ≠ "java/lang/invoke/VarHandle" ∧ (parseMethodDescriptor yX0_trace.desc).map (fun d => d.parameters.length) = some 2 := mh (by decide +kernel)
theorem gi_L_137 : GoodIn lw_all (wsV "TickShareLaw" 137 yX0_trace.cls yX0_trace (wsW_ yX0_trace cX0_trace 9 (some .int) [(5, 146, 218, 53), (147, 217, 218, 53)])) := lw_VW q874 q875 q876 q50 q877
theorem md_X2_trace : yX2_trace.cls ≠ "java/lang/invoke/MethodHandle" ∧ yX2_trace.cls ≠ "java/lang/invoke/VarHandle" ∧ (parseMethodDescriptor yX2_trace.desc).map (fun d => d.parameters.length) = some 2 := mh (by decide +kernel)
theorem gw_X2_trace : GoodIn lw_all (ws_ yX2_trace cX2_trace 11 (some .int)) := lw_meth q1278
theorem gi_L_140 : GoodIn lw_all (wsV "TickShareLaw" 140 yX2_trace.cls yX2_trace (ws_ yX2_trace cX2_trace 11 (some .int))) := lw_V q1275 q1276 q1277 q54 q1278
theorem md_X0_traces : yX0_traces.cls ≠ "java/lang/invoke/MethodHandle" ∧ yX0_traces.cls ≠ "java/lang/invoke/VarHandle" ∧ (parseMethodDescriptor yX0_traces.desc).map (fun d => d.parameters.length) = some 2 := mh (by decide +kernel)
theorem gi_L_141 : GoodIn lw_all (wsV "TickShareLaw" 141 yX0_traces.cls yX0_traces (wsW_ yX0_traces cX0_traces 4 (some .int) [(5, 45, 46, 53)])) := lw_VW q879 q880 q881 q50 q882
theorem md_X2_traces : yX2_traces.cls ≠ "java/lang/invoke/MethodHandle" ∧ yX2_traces.cls ≠ "java/lang/invoke/VarHandle" ∧ (parseMethodDescriptor yX2_traces.desc).map (fun d => d.parameters.length) = some 2 := mh (by decide +kernel)
theorem gw_X2_traces : GoodIn lw_all (ws_ yX2_traces cX2_traces 3 (some .int)) := lw_meth q1282
theorem gi_L_144 : GoodIn lw_all (wsV "TickShareLaw" 144 yX2_traces.cls yX2_traces (ws_ yX2_traces cX2_traces 3 (some .int))) := lw_V q1279 q1280 q1281 q54 q1282
theorem md_X0_over : yX0_over.cls ≠ "java/lang/invoke/MethodHandle" ∧ yX0_over.cls ≠ "java/lang/invoke/VarHandle" ∧ (parseMethodDescriptor yX0_over.desc).map (fun d => d.parameters.length) = some 1 := mh (by decide +kernel)
theorem gi_L_145 : GoodIn lw_all (wsV "TickShareLaw" 145 yX0_over.cls yX0_over (wsW_ yX0_over cX0_over 3 (some .int) [(5, 13, 14, 53)])) := lw_VW q883 q884 q885 q50 q886
theorem md_X2_over : yX2_over.cls ≠ "java/lang/invoke/MethodHandle" ∧ yX2_over.cls ≠ "java/lang/invoke/VarHandle" ∧ (parseMethodDescriptor yX2_over.desc).map (fun d => d.parameters.length) = some 1 := mh (by decide +kernel)
theorem gw_X2_over : GoodIn lw_all (ws_ yX2_over cX2_over 2 (some .int)) := lw_meth q1286
theorem gi_L_148 : GoodIn lw_all (wsV "TickShareLaw" 148 yX2_over.cls yX2_over (ws_ yX2_over cX2_over 2 (some .int))) := lw_V q1283 q1284 q1285 q54 q1286
theorem md_X1_init : yX1_init.cls ≠ "java/lang/invoke/MethodHandle" ∧ yX1_init.cls ≠ "java/lang/invoke/VarHandle" ∧ (parseMethodDescriptor yX1_init.desc).map (fun d => d.parameters.length) = some 0 := mh (by decide +kernel)
theorem gw_X1_init : GoodIn lw_all (ws_ yX1_init cX1_init 1 (none)) := lw_meth q126
theorem md_X0_want : yX0_want.cls ≠ "java/lang/invoke/MethodHandle" ∧ yX0_want.cls ≠ "java/lang/invoke/VarHandle" ∧ (parseMethodDescriptor yX0_want.desc).map (fun d => d.parameters.length) = some 2 := mh (by decide +kernel)
theorem gw_X0_want : GoodIn lw_all (ws_ yX0_want cX0_want 3 (none)) := lw_meth q225
theorem gi_X0_87 : GoodIn lw_all (wsV RX0 87 yX0_want.cls yX0_want (ws_ yX0_want cX0_want 3 (none))) := lw_V q222 q224 qs1 q50 q225
theorem md_X0_row : yX0_row.cls ≠ "java/lang/invoke/MethodHandle" ∧ yX0_row.cls ≠ "java/lang/invoke/VarHandle" ∧ (parseMethodDescriptor yX0_row.desc).map (fun d => d.parameters.length) = some 2 := mh (by decide +kernel)
theorem gw_X0_row : GoodIn lw_all (ws_ yX0_row cX0_row 2 (some (.object "java/lang/Object"))) := lw_meth q232
theorem gi_X0_91 : GoodIn lw_all (va_wsS RX0 91 yX0_row (ws_ yX0_row cX0_row 2 (some (.object "java/lang/Object")))) := lw_S q230 q231 q50 q232
theorem md_X0_no : yX0_no.cls ≠ "java/lang/invoke/MethodHandle" ∧ yX0_no.cls ≠ "java/lang/invoke/VarHandle" ∧ (parseMethodDescriptor yX0_no.desc).map (fun d => d.parameters.length) = some 1 := mh (by decide +kernel)
theorem gw_X0_no : GoodIn lw_all (ws_ yX0_no cX0_no 2 (some .boolean)) := lw_meth q236
theorem gi_X0_97 : GoodIn lw_all (wsV RX0 97 yX0_no.cls yX0_no (ws_ yX0_no cX0_no 2 (some .boolean))) := lw_V q233 q235 qs2 q50 q236
theorem md_X1_by : yX1_by.cls ≠ "java/lang/invoke/MethodHandle" ∧ yX1_by.cls ≠ "java/lang/invoke/VarHandle" ∧ (parseMethodDescriptor yX1_by.desc).map (fun d => d.parameters.length) = some 1 := mh (by decide +kernel)
theorem gw_X1_by : GoodIn lw_all (ws_ yX1_by cX1_by 2 (some (.object "TickShare$Refused"))) := lw_meth q229
theorem gi_X0_70 : GoodIn lw_all (wsV RX0 70 yX1_by.cls yX1_by (ws_ yX1_by cX1_by 2 (some (.object "TickShare$Refused")))) := lw_V q226 q227 q228 q53 q229
theorem md_X0_on : yX0_on.cls ≠ "java/lang/invoke/MethodHandle" ∧ yX0_on.cls ≠ "java/lang/invoke/VarHandle" ∧ (parseMethodDescriptor yX0_on.desc).map (fun d => d.parameters.length) = some 1 := mh (by decide +kernel)
theorem gw_X0_on : GoodIn lw_all (ws_ yX0_on cX0_on 2 (some (.object "java/lang/Object"))) := lw_meth q265
theorem gi_X0_101 : GoodIn lw_all (wsV RX0 101 yX0_on.cls yX0_on (ws_ yX0_on cX0_on 2 (some (.object "java/lang/Object")))) := lw_V q262 q264 qs3 q50 q265
theorem md_X0_put : yX0_put.cls ≠ "java/lang/invoke/MethodHandle" ∧ yX0_put.cls ≠ "java/lang/invoke/VarHandle" ∧ (parseMethodDescriptor yX0_put.desc).map (fun d => d.parameters.length) = some 3 := mh (by decide +kernel)
theorem gw_X0_put : GoodIn lw_all (ws_ yX0_put cX0_put 7 (none)) := lw_meth q268
theorem gi_X0_105 : GoodIn lw_all (va_wsS RX0 105 yX0_put (ws_ yX0_put cX0_put 7 (none))) := lw_S q266 q267 q50 q268
theorem md_X0_number : yX0_number.cls ≠ "java/lang/invoke/MethodHandle" ∧ yX0_number.cls ≠ "java/lang/invoke/VarHandle" ∧ (parseMethodDescriptor yX0_number.desc).map (fun d => d.parameters.length) = some 2 := mh (by decide +kernel)
theorem gw_X0_number : GoodIn lw_all (ws_ yX0_number cX0_number 3 (some .long)) := lw_meth q279
theorem gi_X0_111 : GoodIn lw_all (va_wsS RX0 111 yX0_number (ws_ yX0_number cX0_number 3 (some .long))) := lw_S q277 q278 q50 q279
theorem md_X0_none : yX0_none.cls ≠ "java/lang/invoke/MethodHandle" ∧ yX0_none.cls ≠ "java/lang/invoke/VarHandle" ∧ (parseMethodDescriptor yX0_none.desc).map (fun d => d.parameters.length) = some 1 := mh (by decide +kernel)
theorem gw_X0_none : GoodIn lw_all (ws_ yX0_none cX0_none 2 (some .int)) := lw_meth q284
theorem gi_X0_117 : GoodIn lw_all (wsV RX0 117 yX0_none.cls yX0_none (ws_ yX0_none cX0_none 2 (some .int))) := lw_V q281 q283 qs4 q50 q284
theorem md_X0_sortOf : yX0_sortOf.cls ≠ "java/lang/invoke/MethodHandle" ∧ yX0_sortOf.cls ≠ "java/lang/invoke/VarHandle" ∧ (parseMethodDescriptor yX0_sortOf.desc).map (fun d => d.parameters.length) = some 1 := mh (by decide +kernel)
theorem gw_X0_sortOf : GoodIn lw_all (ws_ yX0_sortOf cX0_sortOf 1 (some .int)) := lw_meth q292
theorem gi_X0_121 : GoodIn lw_all (va_wsS RX0 121 yX0_sortOf (ws_ yX0_sortOf cX0_sortOf 1 (some .int))) := lw_S q290 q291 q50 q292
theorem md_X0_wantMany : yX0_wantMany.cls ≠ "java/lang/invoke/MethodHandle" ∧ yX0_wantMany.cls ≠ "java/lang/invoke/VarHandle" ∧ (parseMethodDescriptor yX0_wantMany.desc).map (fun d => d.parameters.length) = some 1 := mh (by decide +kernel)
theorem gw_X0_wantMany : GoodIn lw_all (ws_ yX0_wantMany cX0_wantMany 2 (none)) := lw_meth q303
theorem gi_X0_148 : GoodIn lw_all (wsV RX0 148 yX0_wantMany.cls yX0_wantMany (ws_ yX0_wantMany cX0_wantMany 2 (none))) := lw_V q300 q302 qs5 q50 q303
theorem md_X0_weights : yX0_weights.cls ≠ "java/lang/invoke/MethodHandle" ∧ yX0_weights.cls ≠ "java/lang/invoke/VarHandle" ∧ (parseMethodDescriptor yX0_weights.desc).map (fun d => d.parameters.length) = some 2 := mh (by decide +kernel)
theorem gw_X0_weights : GoodIn lw_all (ws_ yX0_weights cX0_weights 6 (some (.object "TickShare$Table"))) := lw_meth q307
theorem gi_X0_152 : GoodIn lw_all (wsV RX0 152 yX0_weights.cls yX0_weights (ws_ yX0_weights cX0_weights 6 (some (.object "TickShare$Table")))) := lw_V q304 q306 qs6 q50 q307
theorem md_X5_init : yX5_init.cls ≠ "java/lang/invoke/MethodHandle" ∧ yX5_init.cls ≠ "java/lang/invoke/VarHandle" ∧ (parseMethodDescriptor yX5_init.desc).map (fun d => d.parameters.length) = some 1 := mh (by decide +kernel)
theorem gw_X5_init : GoodIn lw_all (ws_ yX5_init cX5_init 2 (none)) := lw_meth q359
theorem md_X0_adds : yX0_adds.cls ≠ "java/lang/invoke/MethodHandle" ∧ yX0_adds.cls ≠ "java/lang/invoke/VarHandle" ∧ (parseMethodDescriptor yX0_adds.desc).map (fun d => d.parameters.length) = some 1 := mh (by decide +kernel)
theorem gw_X0_adds : GoodIn lw_all (ws_ yX0_adds cX0_adds 2 (some .int)) := lw_meth q444
theorem gi_X0_159 : GoodIn lw_all (wsV RX0 159 yX0_adds.cls yX0_adds (ws_ yX0_adds cX0_adds 2 (some .int))) := lw_V q441 q443 qs7 q50 q444
theorem md_X0_sizeOf : yX0_sizeOf.cls ≠ "java/lang/invoke/MethodHandle" ∧ yX0_sizeOf.cls ≠ "java/lang/invoke/VarHandle" ∧ (parseMethodDescriptor yX0_sizeOf.desc).map (fun d => d.parameters.length) = some 1 := mh (by decide +kernel)
theorem gw_X0_sizeOf : GoodIn lw_all (ws_ yX0_sizeOf cX0_sizeOf 2 (some .int)) := lw_meth q310
theorem gi_X0_138 : GoodIn lw_all (va_wsS RX0 138 yX0_sizeOf (ws_ yX0_sizeOf cX0_sizeOf 2 (some .int))) := lw_S q308 q309 q50 q310
theorem md_X3_init : yX3_init.cls ≠ "java/lang/invoke/MethodHandle" ∧ yX3_init.cls ≠ "java/lang/invoke/VarHandle" ∧ (parseMethodDescriptor yX3_init.desc).map (fun d => d.parameters.length) = some 0 := mh (by decide +kernel)
theorem gw_X3_init : GoodIn lw_all (ws_ yX3_init cX3_init 1 (none)) := lw_meth q315
theorem md_X3_less : yX3_less.cls ≠ "java/lang/invoke/MethodHandle" ∧ yX3_less.cls ≠ "java/lang/invoke/VarHandle" ∧ (parseMethodDescriptor yX3_less.desc).map (fun d => d.parameters.length) = some 0 := mh (by decide +kernel)
theorem gw_X3_less : GoodIn lw_all (ws_ yX3_less cX3_less 4 (some (.object "TickShare$Table"))) := lw_meth q348
theorem gi_X0_144 : GoodIn lw_all (wsV RX0 144 yX3_less.cls yX3_less (ws_ yX3_less cX3_less 4 (some (.object "TickShare$Table")))) := lw_V q345 q346 q347 q61 q348
theorem md_X0_free : yX0_free.cls ≠ "java/lang/invoke/MethodHandle" ∧ yX0_free.cls ≠ "java/lang/invoke/VarHandle" ∧ (parseMethodDescriptor yX0_free.desc).map (fun d => d.parameters.length) = some 1 := mh (by decide +kernel)
theorem gw_X0_free : GoodIn lw_all (ws_ yX0_free cX0_free 5 (some (.array (.object "TickShare$Thing")))) := lw_meth q452
theorem gi_X0_171 : GoodIn lw_all (wsV RX0 171 yX0_free.cls yX0_free (ws_ yX0_free cX0_free 5 (some (.array (.object "TickShare$Thing"))))) := lw_V q449 q451 qs8 q50 q452
theorem md_X0_wantFree : yX0_wantFree.cls ≠ "java/lang/invoke/MethodHandle" ∧ yX0_wantFree.cls ≠ "java/lang/invoke/VarHandle" ∧ (parseMethodDescriptor yX0_wantFree.desc).map (fun d => d.parameters.length) = some 1 := mh (by decide +kernel)
theorem gw_X0_wantFree : GoodIn lw_all (ws_ yX0_wantFree cX0_wantFree 4 (none)) := lw_meth q460
theorem gi_X0_175 : GoodIn lw_all (wsV RX0 175 yX0_wantFree.cls yX0_wantFree (ws_ yX0_wantFree cX0_wantFree 4 (none))) := lw_V q457 q459 qs10 q50 q460
theorem md_X6_init : yX6_init.cls ≠ "java/lang/invoke/MethodHandle" ∧ yX6_init.cls ≠ "java/lang/invoke/VarHandle" ∧ (parseMethodDescriptor yX6_init.desc).map (fun d => d.parameters.length) = some 1 := mh (by decide +kernel)
theorem gw_X6_init : GoodIn lw_all (ws_ yX6_init cX6_init 2 (none)) := lw_meth q465
theorem md_X0_thing : yX0_thing.cls ≠ "java/lang/invoke/MethodHandle" ∧ yX0_thing.cls ≠ "java/lang/invoke/VarHandle" ∧ (parseMethodDescriptor yX0_thing.desc).map (fun d => d.parameters.length) = some 1 := mh (by decide +kernel)
theorem gw_X0_thing : GoodIn lw_all (ws_ yX0_thing cX0_thing 2 (some (.object "TickShare$Thing"))) := lw_meth q456
theorem gi_X0_163 : GoodIn lw_all (wsV RX0 163 yX0_thing.cls yX0_thing (ws_ yX0_thing cX0_thing 2 (some (.object "TickShare$Thing")))) := lw_V q453 q455 qs9 q50 q456
theorem md_X7_init : yX7_init.cls ≠ "java/lang/invoke/MethodHandle" ∧ yX7_init.cls ≠ "java/lang/invoke/VarHandle" ∧ (parseMethodDescriptor yX7_init.desc).map (fun d => d.parameters.length) = some 2 := mh (by decide +kernel)
theorem gw_X7_init : GoodIn lw_all (ws_ yX7_init cX7_init 3 (none)) := lw_meth q490
theorem md_X8_init : yX8_init.cls ≠ "java/lang/invoke/MethodHandle" ∧ yX8_init.cls ≠ "java/lang/invoke/VarHandle" ∧ (parseMethodDescriptor yX8_init.desc).map (fun d => d.parameters.length) = some 4 := mh (by decide +kernel)
theorem gw_X8_init : GoodIn lw_all (ws_ yX8_init cX8_init 5 (none)) := lw_meth q522
theorem md_X9_init : yX9_init.cls ≠ "java/lang/invoke/MethodHandle" ∧ yX9_init.cls ≠ "java/lang/invoke/VarHandle" ∧ (parseMethodDescriptor yX9_init.desc).map (fun d => d.parameters.length) = some 3 := mh (by decide +kernel)
theorem gw_X9_init : GoodIn lw_all (ws_ yX9_init cX9_init 4 (none)) := lw_meth q546
theorem md_X10_init : yX10_init.cls ≠ "java/lang/invoke/MethodHandle" ∧ yX10_init.cls ≠ "java/lang/invoke/VarHandle" ∧ (parseMethodDescriptor yX10_init.desc).map (fun d => d.parameters.length) = some 2 := mh (by decide +kernel)
theorem gw_X10_init : GoodIn lw_all (ws_ yX10_init cX10_init 3 (none)) := lw_meth q576
theorem md_X8_kind : yX8_kind.cls ≠ "java/lang/invoke/MethodHandle" ∧ yX8_kind.cls ≠ "java/lang/invoke/VarHandle" ∧ (parseMethodDescriptor yX8_kind.desc).map (fun d => d.parameters.length) = some 0 := mh (by decide +kernel)
theorem gw_X8_kind : GoodIn lw_all (ws_ yX8_kind cX8_kind 1 (some .int)) := lw_meth q599
theorem md_X7_kind : yX7_kind.cls ≠ "java/lang/invoke/MethodHandle" ∧ yX7_kind.cls ≠ "java/lang/invoke/VarHandle" ∧ (parseMethodDescriptor yX7_kind.desc).map (fun d => d.parameters.length) = some 0 := mh (by decide +kernel)
theorem gw_X7_kind : GoodIn lw_all (ws_ yX7_kind cX7_kind 1 (some .int)) := lw_meth q602
theorem md_X10_kind : yX10_kind.cls ≠ "java/lang/invoke/MethodHandle" ∧ yX10_kind.cls ≠ "java/lang/invoke/VarHandle" ∧ (parseMethodDescriptor yX10_kind.desc).map (fun d => d.parameters.length) = some 0 := mh (by decide +kernel)
theorem gw_X10_kind : GoodIn lw_all (ws_ yX10_kind cX10_kind 1 (some .int)) := lw_meth q605
theorem md_X5_kind : yX5_kind.cls ≠ "java/lang/invoke/MethodHandle" ∧ yX5_kind.cls ≠ "java/lang/invoke/VarHandle" ∧ (parseMethodDescriptor yX5_kind.desc).map (fun d => d.parameters.length) = some 0 := mh (by decide +kernel)
theorem gw_X5_kind : GoodIn lw_all (ws_ yX5_kind cX5_kind 1 (some .int)) := lw_meth q608
theorem md_X9_kind : yX9_kind.cls ≠ "java/lang/invoke/MethodHandle" ∧ yX9_kind.cls ≠ "java/lang/invoke/VarHandle" ∧ (parseMethodDescriptor yX9_kind.desc).map (fun d => d.parameters.length) = some 0 := mh (by decide +kernel)
theorem gw_X9_kind : GoodIn lw_all (ws_ yX9_kind cX9_kind 1 (some .int)) := lw_meth q611
theorem md_X6_kind : yX6_kind.cls ≠ "java/lang/invoke/MethodHandle" ∧ yX6_kind.cls ≠ "java/lang/invoke/VarHandle" ∧ (parseMethodDescriptor yX6_kind.desc).map (fun d => d.parameters.length) = some 0 := mh (by decide +kernel)
theorem gw_X6_kind : GoodIn lw_all (ws_ yX6_kind cX6_kind 1 (some .int)) := lw_meth q614
theorem md_X0_numberOf : yX0_numberOf.cls ≠ "java/lang/invoke/MethodHandle" ∧ yX0_numberOf.cls ≠ "java/lang/invoke/VarHandle" ∧ (parseMethodDescriptor yX0_numberOf.desc).map (fun d => d.parameters.length) = some 1 := mh (by decide +kernel)
theorem gw_X0_numberOf : GoodIn lw_all (ws_ yX0_numberOf cX0_numberOf 3 (some .int)) := lw_meth q618
theorem gi_X0_207 : GoodIn lw_all (wsV RX0 207 yX0_numberOf.cls yX0_numberOf (ws_ yX0_numberOf cX0_numberOf 3 (some .int))) := lw_V q615 q617 qs11 q50 q618
theorem md_X5_leaves : yX5_leaves.cls ≠ "java/lang/invoke/MethodHandle" ∧ yX5_leaves.cls ≠ "java/lang/invoke/VarHandle" ∧ (parseMethodDescriptor yX5_leaves.desc).map (fun d => d.parameters.length) = some 0 := mh (by decide +kernel)
theorem gw_X5_leaves : GoodIn lw_all (ws_ yX5_leaves cX5_leaves 1 (some .int)) := lw_meth q627
theorem md_X4_leaves : yX4_leaves.cls ≠ "java/lang/invoke/MethodHandle" ∧ yX4_leaves.cls ≠ "java/lang/invoke/VarHandle" ∧ (parseMethodDescriptor yX4_leaves.desc).map (fun d => d.parameters.length) = some 0 := mh (by decide +kernel)
theorem gw_X4_leaves : GoodIn lw_all (ws_ yX4_leaves cX4_leaves 6 (some .int)) := lw_meth q630
theorem md_X8_table : yX8_table.cls ≠ "java/lang/invoke/MethodHandle" ∧ yX8_table.cls ≠ "java/lang/invoke/VarHandle" ∧ (parseMethodDescriptor yX8_table.desc).map (fun d => d.parameters.length) = some 0 := mh (by decide +kernel)
theorem gw_X8_table : GoodIn lw_all (ws_ yX8_table cX8_table 5 (some (.object "TickShare$Table"))) := lw_meth q637
theorem md_X7_table : yX7_table.cls ≠ "java/lang/invoke/MethodHandle" ∧ yX7_table.cls ≠ "java/lang/invoke/VarHandle" ∧ (parseMethodDescriptor yX7_table.desc).map (fun d => d.parameters.length) = some 0 := mh (by decide +kernel)
theorem gw_X7_table : GoodIn lw_all (ws_ yX7_table cX7_table 19 (some (.object "TickShare$Table"))) := lw_meth q640
theorem md_X10_table : yX10_table.cls ≠ "java/lang/invoke/MethodHandle" ∧ yX10_table.cls ≠ "java/lang/invoke/VarHandle" ∧ (parseMethodDescriptor yX10_table.desc).map (fun d => d.parameters.length) = some 0 := mh (by decide +kernel)
theorem gw_X10_table : GoodIn lw_all (ws_ yX10_table cX10_table 6 (some (.object "TickShare$Table"))) := lw_meth q647
theorem md_X5_table : yX5_table.cls ≠ "java/lang/invoke/MethodHandle" ∧ yX5_table.cls ≠ "java/lang/invoke/VarHandle" ∧ (parseMethodDescriptor yX5_table.desc).map (fun d => d.parameters.length) = some 0 := mh (by decide +kernel)
theorem gw_X5_table : GoodIn lw_all (ws_ yX5_table cX5_table 1 (some (.object "TickShare$Table"))) := lw_meth q650
theorem md_X9_table : yX9_table.cls ≠ "java/lang/invoke/MethodHandle" ∧ yX9_table.cls ≠ "java/lang/invoke/VarHandle" ∧ (parseMethodDescriptor yX9_table.desc).map (fun d => d.parameters.length) = some 0 := mh (by decide +kernel)
theorem gw_X9_table : GoodIn lw_all (ws_ yX9_table cX9_table 9 (some (.object "TickShare$Table"))) := lw_meth q652
theorem md_X6_table : yX6_table.cls ≠ "java/lang/invoke/MethodHandle" ∧ yX6_table.cls ≠ "java/lang/invoke/VarHandle" ∧ (parseMethodDescriptor yX6_table.desc).map (fun d => d.parameters.length) = some 0 := mh (by decide +kernel)
theorem gw_X6_table : GoodIn lw_all (ws_ yX6_table cX6_table 5 (some (.object "TickShare$Table"))) := lw_meth q655
theorem md_X3_last : yX3_last.cls ≠ "java/lang/invoke/MethodHandle" ∧ yX3_last.cls ≠ "java/lang/invoke/VarHandle" ∧ (parseMethodDescriptor yX3_last.desc).map (fun d => d.parameters.length) = some 0 := mh (by decide +kernel)
theorem gw_X3_last : GoodIn lw_all (ws_ yX3_last cX3_last 2 (some .int)) := lw_meth q728
theorem gi_X0_219 : GoodIn lw_all (wsV RX0 219 yX3_last.cls yX3_last (ws_ yX3_last cX3_last 2 (some .int))) := lw_V q725 q726 q727 q61 q728
theorem md_X0_great : yX0_great.cls ≠ "java/lang/invoke/MethodHandle" ∧ yX0_great.cls ≠ "java/lang/invoke/VarHandle" ∧ (parseMethodDescriptor yX0_great.desc).map (fun d => d.parameters.length) = some 0 := mh (by decide +kernel)
theorem gw_X0_great : GoodIn lw_all (ws_ yX0_great cX0_great 1 (some .int)) := lw_meth q732
theorem gi_X0_222 : GoodIn lw_all (wsV RX0 222 yX0_great.cls yX0_great (ws_ yX0_great cX0_great 1 (some .int))) := lw_V q729 q731 qs12 q50 q732
theorem md_X11_init : yX11_init.cls ≠ "java/lang/invoke/MethodHandle" ∧ yX11_init.cls ≠ "java/lang/invoke/VarHandle" ∧ (parseMethodDescriptor yX11_init.desc).map (fun d => d.parameters.length) = some 0 := mh (by decide +kernel)
theorem gw_X11_init : GoodIn lw_all (ws_ yX11_init cX11_init 1 (none)) := lw_meth q671
theorem md_X3_add : yX3_add.cls ≠ "java/lang/invoke/MethodHandle" ∧ yX3_add.cls ≠ "java/lang/invoke/VarHandle" ∧ (parseMethodDescriptor yX3_add.desc).map (fun d => d.parameters.length) = some 3 := mh (by decide +kernel)
theorem gw_X3_add : GoodIn lw_all (ws_ yX3_add cX3_add 5 (none)) := lw_meth q685
theorem gi_X0_28 : GoodIn lw_all (wsV RX0 28 yX3_add.cls yX3_add (ws_ yX3_add cX3_add 5 (none))) := lw_V q682 q683 q684 q61 q685
theorem md_X3_by : yX3_by.cls ≠ "java/lang/invoke/MethodHandle" ∧ yX3_by.cls ≠ "java/lang/invoke/VarHandle" ∧ (parseMethodDescriptor yX3_by.desc).map (fun d => d.parameters.length) = some 1 := mh (by decide +kernel)
theorem gw_X3_by : GoodIn lw_all (ws_ yX3_by cX3_by 5 (some .long)) := lw_meth q748
theorem gi_X0_225 : GoodIn lw_all (wsV RX0 225 yX3_by.cls yX3_by (ws_ yX3_by cX3_by 5 (some .long))) := lw_V q745 q746 q747 q61 q748
theorem md_X0_tells : yX0_tells.cls ≠ "java/lang/invoke/MethodHandle" ∧ yX0_tells.cls ≠ "java/lang/invoke/VarHandle" ∧ (parseMethodDescriptor yX0_tells.desc).map (fun d => d.parameters.length) = some 2 := mh (by decide +kernel)
theorem gw_X0_tells : GoodIn lw_all (ws_ yX0_tells cX0_tells 7 (some .int)) := lw_meth q752
theorem gi_X0_228 : GoodIn lw_all (wsV RX0 228 yX0_tells.cls yX0_tells (ws_ yX0_tells cX0_tells 7 (some .int))) := lw_V q749 q751 qs13 q50 q752
theorem md_X0_common : yX0_common.cls ≠ "java/lang/invoke/MethodHandle" ∧ yX0_common.cls ≠ "java/lang/invoke/VarHandle" ∧ (parseMethodDescriptor yX0_common.desc).map (fun d => d.parameters.length) = some 2 := mh (by decide +kernel)
theorem gw_X0_common : GoodIn lw_all (ws_ yX0_common cX0_common 10 (some .long)) := lw_meth q351
theorem gi_X0_83 : GoodIn lw_all (va_wsS RX0 83 yX0_common (ws_ yX0_common cX0_common 10 (some .long))) := lw_S q753 q350 q50 q351
theorem md_X3_failed : yX3_failed.cls ≠ "java/lang/invoke/MethodHandle" ∧ yX3_failed.cls ≠ "java/lang/invoke/VarHandle" ∧ (parseMethodDescriptor yX3_failed.desc).map (fun d => d.parameters.length) = some 0 := mh (by decide +kernel)
theorem gw_X3_failed : GoodIn lw_all (ws_ yX3_failed cX3_failed 4 (some .long)) := lw_meth q761
theorem gi_X0_232 : GoodIn lw_all (wsV RX0 232 yX3_failed.cls yX3_failed (ws_ yX3_failed cX3_failed 4 (some .long))) := lw_V q758 q759 q760 q61 q761
theorem md_X0_isShare : yX0_isShare.cls ≠ "java/lang/invoke/MethodHandle" ∧ yX0_isShare.cls ≠ "java/lang/invoke/VarHandle" ∧ (parseMethodDescriptor yX0_isShare.desc).map (fun d => d.parameters.length) = some 2 := mh (by decide +kernel)
theorem gw_X0_isShare : GoodIn lw_all (ws_ yX0_isShare cX0_isShare 2 (some .boolean)) := lw_meth q768
theorem gi_X0_237 : GoodIn lw_all (va_wsS RX0 237 yX0_isShare (ws_ yX0_isShare cX0_isShare 2 (some .boolean))) := lw_S q766 q767 q50 q768
theorem md_X0_isEnough : yX0_isEnough.cls ≠ "java/lang/invoke/MethodHandle" ∧ yX0_isEnough.cls ≠ "java/lang/invoke/VarHandle" ∧ (parseMethodDescriptor yX0_isEnough.desc).map (fun d => d.parameters.length) = some 4 := mh (by decide +kernel)
theorem gw_X0_isEnough : GoodIn lw_all (ws_ yX0_isEnough cX0_isEnough 21 (some .boolean)) := lw_meth q772
theorem gi_X0_241 : GoodIn lw_all (va_wsS RX0 241 yX0_isEnough (ws_ yX0_isEnough cX0_isEnough 21 (some .boolean))) := lw_S q770 q771 q50 q772
theorem md_X7_bounds : yX7_bounds.cls ≠ "java/lang/invoke/MethodHandle" ∧ yX7_bounds.cls ≠ "java/lang/invoke/VarHandle" ∧ (parseMethodDescriptor yX7_bounds.desc).map (fun d => d.parameters.length) = some 1 := mh (by decide +kernel)
theorem gw_X7_bounds : GoodIn lw_all (ws_ yX7_bounds cX7_bounds 10 (some .long)) := lw_meth q783
theorem md_X6_bounds : yX6_bounds.cls ≠ "java/lang/invoke/MethodHandle" ∧ yX6_bounds.cls ≠ "java/lang/invoke/VarHandle" ∧ (parseMethodDescriptor yX6_bounds.desc).map (fun d => d.parameters.length) = some 1 := mh (by decide +kernel)
theorem gw_X6_bounds : GoodIn lw_all (ws_ yX6_bounds cX6_bounds 10 (some .long)) := lw_meth q792
theorem md_X4_bounds : yX4_bounds.cls ≠ "java/lang/invoke/MethodHandle" ∧ yX4_bounds.cls ≠ "java/lang/invoke/VarHandle" ∧ (parseMethodDescriptor yX4_bounds.desc).map (fun d => d.parameters.length) = some 1 := mh (by decide +kernel)
theorem gw_X4_bounds : GoodIn lw_all (ws_ yX4_bounds cX4_bounds 4 (some .long)) := lw_meth q809
theorem md_X0_leafOf : yX0_leafOf.cls ≠ "java/lang/invoke/MethodHandle" ∧ yX0_leafOf.cls ≠ "java/lang/invoke/VarHandle" ∧ (parseMethodDescriptor yX0_leafOf.desc).map (fun d => d.parameters.length) = some 1 := mh (by decide +kernel)
theorem gw_X0_leafOf : GoodIn lw_all (ws_ yX0_leafOf cX0_leafOf 2 (some (.object "TickShare$Leaf"))) := lw_meth q820
theorem gi_X0_249 : GoodIn lw_all (wsV RX0 249 yX0_leafOf.cls yX0_leafOf (ws_ yX0_leafOf cX0_leafOf 2 (some (.object "TickShare$Leaf")))) := lw_V q817 q819 qs14 q50 q820
theorem md_X0_isIn : yX0_isIn.cls ≠ "java/lang/invoke/MethodHandle" ∧ yX0_isIn.cls ≠ "java/lang/invoke/VarHandle" ∧ (parseMethodDescriptor yX0_isIn.desc).map (fun d => d.parameters.length) = some 2 := mh (by decide +kernel)
theorem gw_X0_isIn : GoodIn lw_all (ws_ yX0_isIn cX0_isIn 3 (some .boolean)) := lw_meth q823
theorem gi_X0_253 : GoodIn lw_all (va_wsS RX0 253 yX0_isIn (ws_ yX0_isIn cX0_isIn 3 (some .boolean))) := lw_S q821 q822 q50 q823
theorem md_X10_asks : yX10_asks.cls ≠ "java/lang/invoke/MethodHandle" ∧ yX10_asks.cls ≠ "java/lang/invoke/VarHandle" ∧ (parseMethodDescriptor yX10_asks.desc).map (fun d => d.parameters.length) = some 0 := mh (by decide +kernel)
theorem gw_X10_asks : GoodIn lw_all (ws_ yX10_asks cX10_asks 1 (some .int)) := lw_meth q831
theorem md_X9_asks : yX9_asks.cls ≠ "java/lang/invoke/MethodHandle" ∧ yX9_asks.cls ≠ "java/lang/invoke/VarHandle" ∧ (parseMethodDescriptor yX9_asks.desc).map (fun d => d.parameters.length) = some 0 := mh (by decide +kernel)
theorem gw_X9_asks : GoodIn lw_all (ws_ yX9_asks cX9_asks 1 (some .int)) := lw_meth q835
theorem md_X4_asks : yX4_asks.cls ≠ "java/lang/invoke/MethodHandle" ∧ yX4_asks.cls ≠ "java/lang/invoke/VarHandle" ∧ (parseMethodDescriptor yX4_asks.desc).map (fun d => d.parameters.length) = some 0 := mh (by decide +kernel)
theorem gw_X4_asks : GoodIn lw_all (ws_ yX4_asks cX4_asks 1 (some .int)) := lw_meth q837
theorem md_X0_choosers : yX0_choosers.cls ≠ "java/lang/invoke/MethodHandle" ∧ yX0_choosers.cls ≠ "java/lang/invoke/VarHandle" ∧ (parseMethodDescriptor yX0_choosers.desc).map (fun d => d.parameters.length) = some 0 := mh (by decide +kernel)
theorem gw_X0_choosers : GoodIn lw_all (ws_ yX0_choosers cX0_choosers 5 (some .int)) := lw_meth q853
theorem gi_X0_270 : GoodIn lw_all (wsV RX0 270 yX0_choosers.cls yX0_choosers (ws_ yX0_choosers cX0_choosers 5 (some .int))) := lw_V q850 q852 qs15 q50 q853
theorem md_X0_leaves : yX0_leaves.cls ≠ "java/lang/invoke/MethodHandle" ∧ yX0_leaves.cls ≠ "java/lang/invoke/VarHandle" ∧ (parseMethodDescriptor yX0_leaves.desc).map (fun d => d.parameters.length) = some 1 := mh (by decide +kernel)
theorem gw_X0_leaves : GoodIn lw_all (ws_ yX0_leaves cX0_leaves 7 (some (.array (.object "TickShare$Leaf")))) := lw_meth q862
theorem gi_X0_276 : GoodIn lw_all (wsV RX0 276 yX0_leaves.cls yX0_leaves (ws_ yX0_leaves cX0_leaves 7 (some (.array (.object "TickShare$Leaf"))))) := lw_V q859 q861 qs16 q50 q862
theorem md_X0_next : yX0_next.cls ≠ "java/lang/invoke/MethodHandle" ∧ yX0_next.cls ≠ "java/lang/invoke/VarHandle" ∧ (parseMethodDescriptor yX0_next.desc).map (fun d => d.parameters.length) = some 1 := mh (by decide +kernel)
theorem gw_X0_next : GoodIn lw_all (ws_ yX0_next cX0_next 2 (some .boolean)) := lw_meth q865
theorem gi_X0_279 : GoodIn lw_all (va_wsS RX0 279 yX0_next (ws_ yX0_next cX0_next 2 (some .boolean))) := lw_S q863 q864 q50 q865
theorem md_X4_init : yX4_init.cls ≠ "java/lang/invoke/MethodHandle" ∧ yX4_init.cls ≠ "java/lang/invoke/VarHandle" ∧ (parseMethodDescriptor yX4_init.desc).map (fun d => d.parameters.length) = some 1 := mh (by decide +kernel)
theorem gw_X4_init : GoodIn lw_all (ws_ yX4_init cX4_init 6 (none)) := lw_meth q363
theorem md_X0_times : yX0_times.cls ≠ "java/lang/invoke/MethodHandle" ∧ yX0_times.cls ≠ "java/lang/invoke/VarHandle" ∧ (parseMethodDescriptor yX0_times.desc).map (fun d => d.parameters.length) = some 2 := mh (by decide +kernel)
theorem gw_X0_times : GoodIn lw_all (ws_ yX0_times cX0_times 4 (some .long)) := lw_meth q659
theorem md_X3_anew : yX3_anew.cls ≠ "java/lang/invoke/MethodHandle" ∧ yX3_anew.cls ≠ "java/lang/invoke/VarHandle" ∧ (parseMethodDescriptor yX3_anew.desc).map (fun d => d.parameters.length) = some 1 := mh (by decide +kernel)
theorem gw_X3_anew : GoodIn lw_all (ws_ yX3_anew cX3_anew 4 (some (.object "TickShare$Table"))) := lw_meth q644
theorem gi_X10_37 : GoodIn lw_all (wsV RX10 37 yX3_anew.cls yX3_anew (ws_ yX3_anew cX3_anew 4 (some (.object "TickShare$Table")))) := lw_V q700 q642 q643 q61 q644
theorem gi_X10_45 : GoodIn lw_all (wsV RX10 45 yX3_add.cls yX3_add (ws_ yX3_add cX3_add 5 (none))) := lw_V q701 q683 q684 q61 q685
theorem gi_X10_61 : GoodIn lw_all (wsV RX10 61 yX3_less.cls yX3_less (ws_ yX3_less cX3_less 4 (some (.object "TickShare$Table")))) := lw_V q706 q346 q347 q61 q348
theorem md_J2_init_2 : yJ2_init_2.cls ≠ "java/lang/invoke/MethodHandle" ∧ yJ2_init_2.cls ≠ "java/lang/invoke/VarHandle" ∧ (parseMethodDescriptor yJ2_init_2.desc).map (fun d => d.parameters.length) = some 4 := mh (by decide +kernel)
theorem gw_J2_init_2 : GoodIn lw_all (ws_ yJ2_init_2 cJ2_init_2 5 (none)) := lw_meth q674
theorem md_X2_isTray : yX2_isTray.cls ≠ "java/lang/invoke/MethodHandle" ∧ yX2_isTray.cls ≠ "java/lang/invoke/VarHandle" ∧ (parseMethodDescriptor yX2_isTray.desc).map (fun d => d.parameters.length) = some 1 := mh (by decide +kernel)
theorem gw_X2_isTray : GoodIn lw_all (ws_ yX2_isTray cX2_isTray 1 (some .boolean)) := lw_meth q1027
theorem gi_X2_119 : GoodIn lw_all (va_wsS RX2 119 yX2_isTray (ws_ yX2_isTray cX2_isTray 1 (some .boolean))) := lw_S q1025 q1026 q54 q1027
theorem md_X2_is : yX2_is.cls ≠ "java/lang/invoke/MethodHandle" ∧ yX2_is.cls ≠ "java/lang/invoke/VarHandle" ∧ (parseMethodDescriptor yX2_is.desc).map (fun d => d.parameters.length) = some 1 := mh (by decide +kernel)
theorem gw_X2_is : GoodIn lw_all (ws_ yX2_is cX2_is 2 (some .boolean)) := lw_meth q1031
theorem gi_X2_123 : GoodIn lw_all (wsV RX2 123 yX2_is.cls yX2_is (ws_ yX2_is cX2_is 2 (some .boolean))) := lw_V q1028 q1030 qs17 q54 q1031
theorem md_X2_wrong : yX2_wrong.cls ≠ "java/lang/invoke/MethodHandle" ∧ yX2_wrong.cls ≠ "java/lang/invoke/VarHandle" ∧ (parseMethodDescriptor yX2_wrong.desc).map (fun d => d.parameters.length) = some 2 := mh (by decide +kernel)
theorem gw_X2_wrong : GoodIn lw_all (ws_ yX2_wrong cX2_wrong 3 (some .int)) := lw_meth q1039
theorem gi_X2_126 : GoodIn lw_all (wsV RX2 126 yX2_wrong.cls yX2_wrong (ws_ yX2_wrong cX2_wrong 3 (some .int))) := lw_V q1036 q1038 qs18 q54 q1039
theorem md_X2_cut : yX2_cut.cls ≠ "java/lang/invoke/MethodHandle" ∧ yX2_cut.cls ≠ "java/lang/invoke/VarHandle" ∧ (parseMethodDescriptor yX2_cut.desc).map (fun d => d.parameters.length) = some 2 := mh (by decide +kernel)
theorem gw_X2_cut : GoodIn lw_all (ws_ yX2_cut cX2_cut 3 (some .long)) := lw_meth q1042
theorem gi_X2_130 : GoodIn lw_all (va_wsS RX2 130 yX2_cut (ws_ yX2_cut cX2_cut 3 (some .long))) := lw_S q1040 q1041 q54 q1042
theorem md_X2_wrongWeights : yX2_wrongWeights.cls ≠ "java/lang/invoke/MethodHandle" ∧ yX2_wrongWeights.cls ≠ "java/lang/invoke/VarHandle" ∧ (parseMethodDescriptor yX2_wrongWeights.desc).map (fun d => d.parameters.length) = some 2 := mh (by decide +kernel)
theorem gw_X2_wrongWeights : GoodIn lw_all (ws_ yX2_wrongWeights cX2_wrongWeights 8 (some .int)) := lw_meth q1059
theorem gi_X2_144 : GoodIn lw_all (wsV RX2 144 yX2_wrongWeights.cls yX2_wrongWeights (ws_ yX2_wrongWeights cX2_wrongWeights 8 (some .int))) := lw_V q1056 q1058 qs19 q54 q1059
theorem md_X2_refuse : yX2_refuse.cls ≠ "java/lang/invoke/MethodHandle" ∧ yX2_refuse.cls ≠ "java/lang/invoke/VarHandle" ∧ (parseMethodDescriptor yX2_refuse.desc).map (fun d => d.parameters.length) = some 1 := mh (by decide +kernel)
theorem gw_X2_refuse : GoodIn lw_all (ws_ yX2_refuse cX2_refuse 2 (some .int)) := lw_meth q1064
theorem gi_X2_147 : GoodIn lw_all (wsV RX2 147 yX2_refuse.cls yX2_refuse (ws_ yX2_refuse cX2_refuse 2 (some .int))) := lw_V q1061 q1063 qs20 q54 q1064
theorem md_X2_takeWeights : yX2_takeWeights.cls ≠ "java/lang/invoke/MethodHandle" ∧ yX2_takeWeights.cls ≠ "java/lang/invoke/VarHandle" ∧ (parseMethodDescriptor yX2_takeWeights.desc).map (fun d => d.parameters.length) = some 4 := mh (by decide +kernel)
theorem gw_X2_takeWeights : GoodIn lw_all (ws_ yX2_takeWeights cX2_takeWeights 6 (none)) := lw_meth q1068
theorem gi_X2_151 : GoodIn lw_all (wsV RX2 151 yX2_takeWeights.cls yX2_takeWeights (ws_ yX2_takeWeights cX2_takeWeights 6 (none))) := lw_V q1065 q1067 qs21 q54 q1068
theorem md_X2_adds : yX2_adds.cls ≠ "java/lang/invoke/MethodHandle" ∧ yX2_adds.cls ≠ "java/lang/invoke/VarHandle" ∧ (parseMethodDescriptor yX2_adds.desc).map (fun d => d.parameters.length) = some 7 := mh (by decide +kernel)
theorem gw_X2_adds : GoodIn lw_all (ws_ yX2_adds cX2_adds 10 (some .int)) := lw_meth q1072
theorem gi_X2_155 : GoodIn lw_all (wsV RX2 155 yX2_adds.cls yX2_adds (ws_ yX2_adds cX2_adds 10 (some .int))) := lw_V q1069 q1071 qs22 q54 q1072
theorem md_X2_wrongParts : yX2_wrongParts.cls ≠ "java/lang/invoke/MethodHandle" ∧ yX2_wrongParts.cls ≠ "java/lang/invoke/VarHandle" ∧ (parseMethodDescriptor yX2_wrongParts.desc).map (fun d => d.parameters.length) = some 5 := mh (by decide +kernel)
theorem gw_X2_wrongParts : GoodIn lw_all (ws_ yX2_wrongParts cX2_wrongParts 10 (some .int)) := lw_meth q1080
theorem gi_X2_159 : GoodIn lw_all (wsV RX2 159 yX2_wrongParts.cls yX2_wrongParts (ws_ yX2_wrongParts cX2_wrongParts 10 (some .int))) := lw_V q1077 q1079 qs23 q54 q1080
theorem md_X2_isThing : yX2_isThing.cls ≠ "java/lang/invoke/MethodHandle" ∧ yX2_isThing.cls ≠ "java/lang/invoke/VarHandle" ∧ (parseMethodDescriptor yX2_isThing.desc).map (fun d => d.parameters.length) = some 1 := mh (by decide +kernel)
theorem gw_X2_isThing : GoodIn lw_all (ws_ yX2_isThing cX2_isThing 2 (some .boolean)) := lw_meth q1084
theorem gi_X2_139 : GoodIn lw_all (wsV RX2 139 yX2_isThing.cls yX2_isThing (ws_ yX2_isThing cX2_isThing 2 (some .boolean))) := lw_V q1081 q1083 qs24 q54 q1084
theorem md_X2_wrongTable : yX2_wrongTable.cls ≠ "java/lang/invoke/MethodHandle" ∧ yX2_wrongTable.cls ≠ "java/lang/invoke/VarHandle" ∧ (parseMethodDescriptor yX2_wrongTable.desc).map (fun d => d.parameters.length) = some 1 := mh (by decide +kernel)
theorem gw_X2_wrongTable : GoodIn lw_all (ws_ yX2_wrongTable cX2_wrongTable 2 (some .int)) := lw_meth q1108
theorem gi_X2_230 : GoodIn lw_all (wsV RX2 230 yX2_wrongTable.cls yX2_wrongTable (ws_ yX2_wrongTable cX2_wrongTable 2 (some .int))) := lw_V q1105 q1107 qs25 q54 q1108
theorem md_X2_leaves : yX2_leaves.cls ≠ "java/lang/invoke/MethodHandle" ∧ yX2_leaves.cls ≠ "java/lang/invoke/VarHandle" ∧ (parseMethodDescriptor yX2_leaves.desc).map (fun d => d.parameters.length) = some 1 := mh (by decide +kernel)
theorem gw_X2_leaves : GoodIn lw_all (ws_ yX2_leaves cX2_leaves 4 (some .int)) := lw_meth q1169
theorem gi_X2_233 : GoodIn lw_all (wsV RX2 233 yX2_leaves.cls yX2_leaves (ws_ yX2_leaves cX2_leaves 4 (some .int))) := lw_V q1166 q1168 qs38 q54 q1169
theorem md_X2_at : yX2_at.cls ≠ "java/lang/invoke/MethodHandle" ∧ yX2_at.cls ≠ "java/lang/invoke/VarHandle" ∧ (parseMethodDescriptor yX2_at.desc).map (fun d => d.parameters.length) = some 2 := mh (by decide +kernel)
theorem gw_X2_at : GoodIn lw_all (ws_ yX2_at cX2_at 2 (some .int)) := lw_meth q1140
theorem gi_X2_173 : GoodIn lw_all (va_wsS RX2 173 yX2_at (ws_ yX2_at cX2_at 2 (some .int))) := lw_S q1138 q1139 q54 q1140
theorem md_X2_usual : yX2_usual.cls ≠ "java/lang/invoke/MethodHandle" ∧ yX2_usual.cls ≠ "java/lang/invoke/VarHandle" ∧ (parseMethodDescriptor yX2_usual.desc).map (fun d => d.parameters.length) = some 0 := mh (by decide +kernel)
theorem gw_X2_usual : GoodIn lw_all (ws_ yX2_usual cX2_usual 2 (none)) := lw_meth q1112
theorem gi_X2_220 : GoodIn lw_all (wsV RX2 220 yX2_usual.cls yX2_usual (ws_ yX2_usual cX2_usual 2 (none))) := lw_V q1109 q1111 qs26 q54 q1112
theorem md_X2_tables : yX2_tables.cls ≠ "java/lang/invoke/MethodHandle" ∧ yX2_tables.cls ≠ "java/lang/invoke/VarHandle" ∧ (parseMethodDescriptor yX2_tables.desc).map (fun d => d.parameters.length) = some 1 := mh (by decide +kernel)
theorem gw_X2_tables : GoodIn lw_all (ws_ yX2_tables cX2_tables 5 (none)) := lw_meth q1116
theorem gi_X2_223 : GoodIn lw_all (wsV RX2 223 yX2_tables.cls yX2_tables (ws_ yX2_tables cX2_tables 5 (none))) := lw_V q1113 q1115 qs27 q54 q1116
theorem md_X2_clear : yX2_clear.cls ≠ "java/lang/invoke/MethodHandle" ∧ yX2_clear.cls ≠ "java/lang/invoke/VarHandle" ∧ (parseMethodDescriptor yX2_clear.desc).map (fun d => d.parameters.length) = some 1 := mh (by decide +kernel)
theorem gw_X2_clear : GoodIn lw_all (ws_ yX2_clear cX2_clear 3 (none)) := lw_meth q1120
theorem gi_X2_176 : GoodIn lw_all (wsV RX2 176 yX2_clear.cls yX2_clear (ws_ yX2_clear cX2_clear 3 (none))) := lw_V q1117 q1119 qs28 q54 q1120
theorem md_X2_wholeOf : yX2_wholeOf.cls ≠ "java/lang/invoke/MethodHandle" ∧ yX2_wholeOf.cls ≠ "java/lang/invoke/VarHandle" ∧ (parseMethodDescriptor yX2_wholeOf.desc).map (fun d => d.parameters.length) = some 1 := mh (by decide +kernel)
theorem gw_X2_wholeOf : GoodIn lw_all (ws_ yX2_wholeOf cX2_wholeOf 7 (some .long)) := lw_meth q1124
theorem gi_X2_180 : GoodIn lw_all (wsV RX2 180 yX2_wholeOf.cls yX2_wholeOf (ws_ yX2_wholeOf cX2_wholeOf 7 (some .long))) := lw_V q1121 q1123 qs29 q54 q1124
theorem md_X2_make : yX2_make.cls ≠ "java/lang/invoke/MethodHandle" ∧ yX2_make.cls ≠ "java/lang/invoke/VarHandle" ∧ (parseMethodDescriptor yX2_make.desc).map (fun d => d.parameters.length) = some 1 := mh (by decide +kernel)
theorem gw_X2_make : GoodIn lw_all (ws_ yX2_make cX2_make 8 (none)) := lw_meth q1133
theorem gi_X2_184 : GoodIn lw_all (wsV RX2 184 yX2_make.cls yX2_make (ws_ yX2_make cX2_make 8 (none))) := lw_V q1130 q1132 qs31 q54 q1133
theorem md_X2_settle : yX2_settle.cls ≠ "java/lang/invoke/MethodHandle" ∧ yX2_settle.cls ≠ "java/lang/invoke/VarHandle" ∧ (parseMethodDescriptor yX2_settle.desc).map (fun d => d.parameters.length) = some 2 := mh (by decide +kernel)
theorem gw_X2_settle : GoodIn lw_all (ws_ yX2_settle cX2_settle 8 (none)) := lw_meth q1162
theorem gi_X2_188 : GoodIn lw_all (wsV RX2 188 yX2_settle.cls yX2_settle (ws_ yX2_settle cX2_settle 8 (none))) := lw_V q1159 q1161 qs37 q54 q1162
theorem md_X2_product : yX2_product.cls ≠ "java/lang/invoke/MethodHandle" ∧ yX2_product.cls ≠ "java/lang/invoke/VarHandle" ∧ (parseMethodDescriptor yX2_product.desc).map (fun d => d.parameters.length) = some 2 := mh (by decide +kernel)
theorem gw_X2_product : GoodIn lw_all (ws_ yX2_product cX2_product 5 (some .long)) := lw_meth q1128
theorem gi_X2_192 : GoodIn lw_all (wsV RX2 192 yX2_product.cls yX2_product (ws_ yX2_product cX2_product 5 (some .long))) := lw_V q1125 q1127 qs30 q54 q1128
theorem md_X2_makeRow : yX2_makeRow.cls ≠ "java/lang/invoke/MethodHandle" ∧ yX2_makeRow.cls ≠ "java/lang/invoke/VarHandle" ∧ (parseMethodDescriptor yX2_makeRow.desc).map (fun d => d.parameters.length) = some 2 := mh (by decide +kernel)
theorem gw_X2_makeRow : GoodIn lw_all (ws_ yX2_makeRow cX2_makeRow 7 (none)) := lw_meth q1137
theorem gi_X2_195 : GoodIn lw_all (wsV RX2 195 yX2_makeRow.cls yX2_makeRow (ws_ yX2_makeRow cX2_makeRow 7 (none))) := lw_V q1134 q1136 qs32 q54 q1137
theorem md_X2_makeFan : yX2_makeFan.cls ≠ "java/lang/invoke/MethodHandle" ∧ yX2_makeFan.cls ≠ "java/lang/invoke/VarHandle" ∧ (parseMethodDescriptor yX2_makeFan.desc).map (fun d => d.parameters.length) = some 1 := mh (by decide +kernel)
theorem gw_X2_makeFan : GoodIn lw_all (ws_ yX2_makeFan cX2_makeFan 10 (none)) := lw_meth q1144
theorem gi_X2_199 : GoodIn lw_all (wsV RX2 199 yX2_makeFan.cls yX2_makeFan (ws_ yX2_makeFan cX2_makeFan 10 (none))) := lw_V q1141 q1143 qs33 q54 q1144
theorem md_X2_makeRetry : yX2_makeRetry.cls ≠ "java/lang/invoke/MethodHandle" ∧ yX2_makeRetry.cls ≠ "java/lang/invoke/VarHandle" ∧ (parseMethodDescriptor yX2_makeRetry.desc).map (fun d => d.parameters.length) = some 1 := mh (by decide +kernel)
theorem gw_X2_makeRetry : GoodIn lw_all (ws_ yX2_makeRetry cX2_makeRetry 8 (none)) := lw_meth q1152
theorem gi_X2_202 : GoodIn lw_all (wsV RX2 202 yX2_makeRetry.cls yX2_makeRetry (ws_ yX2_makeRetry cX2_makeRetry 8 (none))) := lw_V q1149 q1151 qs35 q54 q1152
theorem md_X2_makeHedge : yX2_makeHedge.cls ≠ "java/lang/invoke/MethodHandle" ∧ yX2_makeHedge.cls ≠ "java/lang/invoke/VarHandle" ∧ (parseMethodDescriptor yX2_makeHedge.desc).map (fun d => d.parameters.length) = some 1 := mh (by decide +kernel)
theorem gw_X2_makeHedge : GoodIn lw_all (ws_ yX2_makeHedge cX2_makeHedge 6 (none)) := lw_meth q1157
theorem gi_X2_205 : GoodIn lw_all (wsV RX2 205 yX2_makeHedge.cls yX2_makeHedge (ws_ yX2_makeHedge cX2_makeHedge 6 (none))) := lw_V q1154 q1156 qs36 q54 q1157
theorem md_X2_count : yX2_count.cls ≠ "java/lang/invoke/MethodHandle" ∧ yX2_count.cls ≠ "java/lang/invoke/VarHandle" ∧ (parseMethodDescriptor yX2_count.desc).map (fun d => d.parameters.length) = some 3 := mh (by decide +kernel)
theorem gw_X2_count : GoodIn lw_all (ws_ yX2_count cX2_count 11 (none)) := lw_meth q1148
theorem gi_X2_208 : GoodIn lw_all (wsV RX2 208 yX2_count.cls yX2_count (ws_ yX2_count cX2_count 11 (none))) := lw_V q1145 q1147 qs34 q54 q1148
theorem md_X2_common : yX2_common.cls ≠ "java/lang/invoke/MethodHandle" ∧ yX2_common.cls ≠ "java/lang/invoke/VarHandle" ∧ (parseMethodDescriptor yX2_common.desc).map (fun d => d.parameters.length) = some 2 := mh (by decide +kernel)
theorem gw_X2_common : GoodIn lw_all (ws_ yX2_common cX2_common 10 (some .long)) := lw_meth q1165
theorem gi_X2_169 : GoodIn lw_all (va_wsS RX2 169 yX2_common (ws_ yX2_common cX2_common 10 (some .long))) := lw_S q1163 q1164 q54 q1165
theorem md_X2_has : yX2_has.cls ≠ "java/lang/invoke/MethodHandle" ∧ yX2_has.cls ≠ "java/lang/invoke/VarHandle" ∧ (parseMethodDescriptor yX2_has.desc).map (fun d => d.parameters.length) = some 2 := mh (by decide +kernel)
theorem gw_X2_has : GoodIn lw_all (ws_ yX2_has cX2_has 4 (some .boolean)) := lw_meth q1173
theorem gi_X2_226 : GoodIn lw_all (wsV RX2 226 yX2_has.cls yX2_has (ws_ yX2_has cX2_has 4 (some .boolean))) := lw_V q1170 q1172 qs39 q54 q1173
theorem md_X2_by0 : yX2_by0.cls ≠ "java/lang/invoke/MethodHandle" ∧ yX2_by0.cls ≠ "java/lang/invoke/VarHandle" ∧ (parseMethodDescriptor yX2_by0.desc).map (fun d => d.parameters.length) = some 2 := mh (by decide +kernel)
theorem gw_X2_by0 : GoodIn lw_all (ws_ yX2_by0 cX2_by0 6 (some .long)) := lw_meth q1189
theorem gi_X2_236 : GoodIn lw_all (wsV RX2 236 yX2_by0.cls yX2_by0 (ws_ yX2_by0 cX2_by0 6 (some .long))) := lw_V q1186 q1188 qs40 q54 q1189
theorem md_X2_tells : yX2_tells.cls ≠ "java/lang/invoke/MethodHandle" ∧ yX2_tells.cls ≠ "java/lang/invoke/VarHandle" ∧ (parseMethodDescriptor yX2_tells.desc).map (fun d => d.parameters.length) = some 2 := mh (by decide +kernel)
theorem gw_X2_tells : GoodIn lw_all (ws_ yX2_tells cX2_tells 7 (some .int)) := lw_meth q1193
theorem gi_X2_240 : GoodIn lw_all (wsV RX2 240 yX2_tells.cls yX2_tells (ws_ yX2_tells cX2_tells 7 (some .int))) := lw_V q1190 q1192 qs41 q54 q1193
theorem md_X2_isShare : yX2_isShare.cls ≠ "java/lang/invoke/MethodHandle" ∧ yX2_isShare.cls ≠ "java/lang/invoke/VarHandle" ∧ (parseMethodDescriptor yX2_isShare.desc).map (fun d => d.parameters.length) = some 2 := mh (by decide +kernel)
theorem gw_X2_isShare : GoodIn lw_all (ws_ yX2_isShare cX2_isShare 2 (some .boolean)) := lw_meth q1204
theorem gi_X2_245 : GoodIn lw_all (va_wsS RX2 245 yX2_isShare (ws_ yX2_isShare cX2_isShare 2 (some .boolean))) := lw_S q1202 q1203 q54 q1204
theorem md_X2_isEnough : yX2_isEnough.cls ≠ "java/lang/invoke/MethodHandle" ∧ yX2_isEnough.cls ≠ "java/lang/invoke/VarHandle" ∧ (parseMethodDescriptor yX2_isEnough.desc).map (fun d => d.parameters.length) = some 4 := mh (by decide +kernel)
theorem gw_X2_isEnough : GoodIn lw_all (ws_ yX2_isEnough cX2_isEnough 26 (some .boolean)) := lw_meth q1208
theorem gi_X2_248 : GoodIn lw_all (va_wsS RX2 248 yX2_isEnough (ws_ yX2_isEnough cX2_isEnough 26 (some .boolean))) := lw_S q1206 q1207 q54 q1208
theorem md_X2_bounds : yX2_bounds.cls ≠ "java/lang/invoke/MethodHandle" ∧ yX2_bounds.cls ≠ "java/lang/invoke/VarHandle" ∧ (parseMethodDescriptor yX2_bounds.desc).map (fun d => d.parameters.length) = some 1 := mh (by decide +kernel)
theorem gw_X2_bounds : GoodIn lw_all (ws_ yX2_bounds cX2_bounds 6 (some .boolean)) := lw_meth q1216
theorem gi_X2_267 : GoodIn lw_all (wsV RX2 267 yX2_bounds.cls yX2_bounds (ws_ yX2_bounds cX2_bounds 6 (some .boolean))) := lw_V q1213 q1215 qs42 q54 q1216
theorem md_X2_told0 : yX2_told0.cls ≠ "java/lang/invoke/MethodHandle" ∧ yX2_told0.cls ≠ "java/lang/invoke/VarHandle" ∧ (parseMethodDescriptor yX2_told0.desc).map (fun d => d.parameters.length) = some 1 := mh (by decide +kernel)
theorem gw_X2_told0 : GoodIn lw_all (ws_ yX2_told0 cX2_told0 4 (some .int)) := lw_meth q1221
theorem gi_X2_254 : GoodIn lw_all (wsV RX2 254 yX2_told0.cls yX2_told0 (ws_ yX2_told0 cX2_told0 4 (some .int))) := lw_V q1218 q1220 qs43 q54 q1221
theorem md_X2_boundRow : yX2_boundRow.cls ≠ "java/lang/invoke/MethodHandle" ∧ yX2_boundRow.cls ≠ "java/lang/invoke/VarHandle" ∧ (parseMethodDescriptor yX2_boundRow.desc).map (fun d => d.parameters.length) = some 1 := mh (by decide +kernel)
theorem gw_X2_boundRow : GoodIn lw_all (ws_ yX2_boundRow cX2_boundRow 10 (none)) := lw_meth q1226
theorem gi_X2_259 : GoodIn lw_all (wsV RX2 259 yX2_boundRow.cls yX2_boundRow (ws_ yX2_boundRow cX2_boundRow 10 (none))) := lw_V q1223 q1225 qs44 q54 q1226
theorem md_X2_boundFan : yX2_boundFan.cls ≠ "java/lang/invoke/MethodHandle" ∧ yX2_boundFan.cls ≠ "java/lang/invoke/VarHandle" ∧ (parseMethodDescriptor yX2_boundFan.desc).map (fun d => d.parameters.length) = some 2 := mh (by decide +kernel)
theorem gw_X2_boundFan : GoodIn lw_all (ws_ yX2_boundFan cX2_boundFan 10 (some .long)) := lw_meth q1231
theorem gi_X2_262 : GoodIn lw_all (wsV RX2 262 yX2_boundFan.cls yX2_boundFan (ws_ yX2_boundFan cX2_boundFan 10 (some .long))) := lw_V q1228 q1230 qs45 q54 q1231
theorem md_X2_isLeaf : yX2_isLeaf.cls ≠ "java/lang/invoke/MethodHandle" ∧ yX2_isLeaf.cls ≠ "java/lang/invoke/VarHandle" ∧ (parseMethodDescriptor yX2_isLeaf.desc).map (fun d => d.parameters.length) = some 1 := mh (by decide +kernel)
theorem gw_X2_isLeaf : GoodIn lw_all (ws_ yX2_isLeaf cX2_isLeaf 2 (some .boolean)) := lw_meth q1239
theorem gi_X2_270 : GoodIn lw_all (wsV RX2 270 yX2_isLeaf.cls yX2_isLeaf (ws_ yX2_isLeaf cX2_isLeaf 2 (some .boolean))) := lw_V q1236 q1238 qs46 q54 q1239
theorem md_X2_factor : yX2_factor.cls ≠ "java/lang/invoke/MethodHandle" ∧ yX2_factor.cls ≠ "java/lang/invoke/VarHandle" ∧ (parseMethodDescriptor yX2_factor.desc).map (fun d => d.parameters.length) = some 1 := mh (by decide +kernel)
theorem gw_X2_factor : GoodIn lw_all (ws_ yX2_factor cX2_factor 2 (some .int)) := lw_meth q1243
theorem gi_X2_273 : GoodIn lw_all (wsV RX2 273 yX2_factor.cls yX2_factor (ws_ yX2_factor cX2_factor 2 (some .int))) := lw_V q1240 q1242 qs47 q54 q1243
theorem md_X2_isPrice : yX2_isPrice.cls ≠ "java/lang/invoke/MethodHandle" ∧ yX2_isPrice.cls ≠ "java/lang/invoke/VarHandle" ∧ (parseMethodDescriptor yX2_isPrice.desc).map (fun d => d.parameters.length) = some 1 := mh (by decide +kernel)
theorem gw_X2_isPrice : GoodIn lw_all (ws_ yX2_isPrice cX2_isPrice 1 (some .boolean)) := lw_meth q1254
theorem gi_X2_276 : GoodIn lw_all (va_wsS RX2 276 yX2_isPrice (ws_ yX2_isPrice cX2_isPrice 1 (some .boolean))) := lw_S q1252 q1253 q54 q1254
theorem md_X2_next : yX2_next.cls ≠ "java/lang/invoke/MethodHandle" ∧ yX2_next.cls ≠ "java/lang/invoke/VarHandle" ∧ (parseMethodDescriptor yX2_next.desc).map (fun d => d.parameters.length) = some 1 := mh (by decide +kernel)
theorem gw_X2_next : GoodIn lw_all (ws_ yX2_next cX2_next 3 (some .boolean)) := lw_meth q1266
theorem gi_X2_279 : GoodIn lw_all (wsV RX2 279 yX2_next.cls yX2_next (ws_ yX2_next cX2_next 3 (some .boolean))) := lw_V q1263 q1265 qs48 q54 q1266
theorem gi_X4_41 : GoodIn lw_all (wsV RX4 41 yX3_by.cls yX3_by (ws_ yX3_by cX3_by 5 (some .long))) := lw_V q811 q746 q747 q61 q748
theorem md_X0_bounded : yX0_bounded.cls ≠ "java/lang/invoke/MethodHandle" ∧ yX0_bounded.cls ≠ "java/lang/invoke/VarHandle" ∧ (parseMethodDescriptor yX0_bounded.desc).map (fun d => d.parameters.length) = some 1 := mh (by decide +kernel)
theorem gw_X0_bounded : GoodIn lw_all (ws_ yX0_bounded cX0_bounded 2 (some .long)) := lw_meth q801
theorem gi_X6_45 : GoodIn lw_all (wsV RX6 45 yX3_anew.cls yX3_anew (ws_ yX3_anew cX3_anew 4 (some (.object "TickShare$Table")))) := lw_V q678 q642 q643 q61 q644
theorem md_X0_fold : yX0_fold.cls ≠ "java/lang/invoke/MethodHandle" ∧ yX0_fold.cls ≠ "java/lang/invoke/VarHandle" ∧ (parseMethodDescriptor yX0_fold.desc).map (fun d => d.parameters.length) = some 4 := mh (by decide +kernel)
theorem gw_X0_fold : GoodIn lw_all (ws_ yX0_fold cX0_fold 7 (none)) := lw_meth q681
theorem gi_X6_53 : GoodIn lw_all (wsV RX6 53 yX3_less.cls yX3_less (ws_ yX3_less cX3_less 4 (some (.object "TickShare$Table")))) := lw_V q688 q346 q347 q61 q348
theorem md_X6_tops : yX6_tops.cls ≠ "java/lang/invoke/MethodHandle" ∧ yX6_tops.cls ≠ "java/lang/invoke/VarHandle" ∧ (parseMethodDescriptor yX6_tops.desc).map (fun d => d.parameters.length) = some 0 := mh (by decide +kernel)
theorem gw_X6_tops : GoodIn lw_all (ws_ yX6_tops cX6_tops 5 (some (.array (.array (.long))))) := lw_meth q789
theorem gi_X6_64 : GoodIn lw_all (wsV RX6 64 yX6_tops.cls yX6_tops (ws_ yX6_tops cX6_tops 5 (some (.array (.array (.long)))))) := lw_V q793 q788 q1291 q65 q789
theorem gi_X7_36 : GoodIn lw_all (wsV RX7 36 yX3_anew.cls yX3_anew (ws_ yX3_anew cX3_anew 4 (some (.object "TickShare$Table")))) := lw_V q641 q642 q643 q61 q644
theorem md_J8_bitCount : yJ8_bitCount.cls ≠ "java/lang/invoke/MethodHandle" ∧ yJ8_bitCount.cls ≠ "java/lang/invoke/VarHandle" ∧ (parseMethodDescriptor yJ8_bitCount.desc).map (fun d => d.parameters.length) = some 1 := mh (by decide +kernel)
theorem gw_J8_bitCount : GoodIn lw_all (ws_ yJ8_bitCount cJ8_bitCount 1 (some .int)) := lw_meth q710
theorem gi_X7_60 : GoodIn lw_all (va_wsS RX7 60 yJ8_bitCount (ws_ yJ8_bitCount cJ8_bitCount 1 (some .int))) := lw_S q708 q709 q71 q710
theorem gi_X7_66 : GoodIn lw_all (wsV RX7 66 yX3_less.cls yX3_less (ws_ yX3_less cX3_less 4 (some (.object "TickShare$Table")))) := lw_V q714 q346 q347 q61 q348
theorem gi_X8_40 : GoodIn lw_all (wsV RX8 40 yX3_anew.cls yX3_anew (ws_ yX3_anew cX3_anew 4 (some (.object "TickShare$Table")))) := lw_V q716 q642 q643 q61 q644
theorem gi_X8_48 : GoodIn lw_all (wsV RX8 48 yX3_add.cls yX3_add (ws_ yX3_add cX3_add 5 (none))) := lw_V q717 q683 q684 q61 q685
theorem gi_X8_59 : GoodIn lw_all (wsV RX8 59 yX3_less.cls yX3_less (ws_ yX3_less cX3_less 4 (some (.object "TickShare$Table")))) := lw_V q719 q346 q347 q61 q348
theorem gi_X9_43 : GoodIn lw_all (wsV RX9 43 yX3_anew.cls yX3_anew (ws_ yX3_anew cX3_anew 4 (some (.object "TickShare$Table")))) := lw_V q689 q642 q643 q61 q644
theorem gi_X9_66 : GoodIn lw_all (wsV RX9 66 yX3_add.cls yX3_add (ws_ yX3_add cX3_add 5 (none))) := lw_V q694 q683 q684 q61 q685
theorem gi_X9_81 : GoodIn lw_all (wsV RX9 81 yX3_less.cls yX3_less (ws_ yX3_less cX3_less 4 (some (.object "TickShare$Table")))) := lw_V q698 q346 q347 q61 q348
