/-! FIELD CONSTANTS: what each reads and writes, of which kinds of objects (printed by gen/links.py) -/
set_option maxRecDepth 100000
theorem fb_X0_19 : FB RX0 19 1 2 4 := ⟨3, RX3, "TickShare$Table", TX3, 3, rfl, cl_3, by decide, Or.inr ⟨_, q328⟩, Or.inl rfl, rfl, rfl, by decide⟩
theorem fb_X0_24 : FB RX0 24 2 1 4 := ⟨3, RX3, "TickShare$Table", TX3, 3, rfl, cl_3, by decide, Or.inr ⟨_, q336⟩, Or.inl rfl, rfl, rfl, by decide⟩
theorem fp_X0_24 (nm : String) : FP RX0 nm 24 2 1 4 := ⟨3, RX3, "TickShare$Table", TX3, 3, rfl, cl_3, by decide, Or.inr ⟨_, q336⟩, Or.inl rfl, rfl, rfl, by decide, Or.inl rfl⟩
theorem fb_X0_32 : FB RX0 32 0 2 4 := ⟨3, RX3, "TickShare$Table", TX3, 3, rfl, cl_3, by decide, Or.inr ⟨_, q322⟩, Or.inl rfl, rfl, rfl, by decide⟩
theorem fb_X0_40 : FB RX0 40 0 2 1 := ⟨0, RX0, "TickShare", TX0, 8, rfl, cl_0, by decide, Or.inl q151, Or.inl rfl, rfl, rfl, by decide⟩
theorem fp_X0_40 : FP RX0 "<init>" 40 0 2 1 := ⟨0, RX0, "TickShare", TX0, 8, rfl, cl_0, by decide, Or.inl q151, Or.inl rfl, rfl, rfl, by decide, Or.inr ⟨rfl, rfl, rfl, q151⟩⟩
theorem fb_X0_44 : FB RX0 44 1 2 1 := ⟨0, RX0, "TickShare", TX0, 8, rfl, cl_0, by decide, Or.inl q152, Or.inl rfl, rfl, rfl, by decide⟩
theorem fp_X0_44 : FP RX0 "<init>" 44 1 2 1 := ⟨0, RX0, "TickShare", TX0, 8, rfl, cl_0, by decide, Or.inl q152, Or.inl rfl, rfl, rfl, by decide, Or.inr ⟨rfl, rfl, rfl, q152⟩⟩
theorem fb_X0_49 : FB RX0 49 2 2 1 := ⟨0, RX0, "TickShare", TX0, 8, rfl, cl_0, by decide, Or.inl q153, Or.inl rfl, rfl, rfl, by decide⟩
theorem fp_X0_49 : FP RX0 "<init>" 49 2 2 1 := ⟨0, RX0, "TickShare", TX0, 8, rfl, cl_0, by decide, Or.inl q153, Or.inl rfl, rfl, rfl, by decide, Or.inr ⟨rfl, rfl, rfl, q153⟩⟩
theorem fb_X0_56 : FB RX0 56 4 2 1 := ⟨0, RX0, "TickShare", TX0, 8, rfl, cl_0, by decide, Or.inl q155, Or.inl rfl, rfl, rfl, by decide⟩
theorem fp_X0_56 : FP RX0 "<init>" 56 4 2 1 := ⟨0, RX0, "TickShare", TX0, 8, rfl, cl_0, by decide, Or.inl q155, Or.inl rfl, rfl, rfl, by decide, Or.inr ⟨rfl, rfl, rfl, q155⟩⟩
theorem fb_X0_60 : FB RX0 60 7 1 1 := ⟨0, RX0, "TickShare", TX0, 8, rfl, cl_0, by decide, Or.inl q158, Or.inl rfl, rfl, rfl, by decide⟩
theorem fp_X0_60 (nm : String) : FP RX0 nm 60 7 1 1 := ⟨0, RX0, "TickShare", TX0, 8, rfl, cl_0, by decide, Or.inl q158, Or.inl rfl, rfl, rfl, by decide, Or.inl rfl⟩
theorem fb_X0_63 : FB RX0 63 5 0 1 := ⟨0, RX0, "TickShare", TX0, 8, rfl, cl_0, by decide, Or.inl q156, Or.inl rfl, rfl, rfl, by decide⟩
theorem fp_X0_63 (nm : String) : FP RX0 nm 63 5 0 1 := ⟨0, RX0, "TickShare", TX0, 8, rfl, cl_0, by decide, Or.inl q156, Or.inl rfl, rfl, rfl, by decide, Or.inl rfl⟩
theorem fb_X0_67 : FB RX0 67 6 1 1 := ⟨0, RX0, "TickShare", TX0, 8, rfl, cl_0, by decide, Or.inl q157, Or.inl rfl, rfl, rfl, by decide⟩
theorem fp_X0_67 (nm : String) : FP RX0 nm 67 6 1 1 := ⟨0, RX0, "TickShare", TX0, 8, rfl, cl_0, by decide, Or.inl q157, Or.inl rfl, rfl, rfl, by decide, Or.inl rfl⟩
theorem fb_X0_74 : FB RX0 74 6 0 2 := ⟨1, RX1, "TickShare$Refused", TX1, 7, rfl, cl_1, by decide, Or.inr ⟨_, q134⟩, Or.inl rfl, rfl, rfl, by decide⟩
theorem fb_X0_133 : FB RX0 133 3 0 1 := ⟨0, RX0, "TickShare", TX0, 8, rfl, cl_0, by decide, Or.inl q154, Or.inl rfl, rfl, rfl, by decide⟩
theorem fp_X0_133 (nm : String) : FP RX0 nm 133 3 0 1 := ⟨0, RX0, "TickShare", TX0, 8, rfl, cl_0, by decide, Or.inl q154, Or.inl rfl, rfl, rfl, by decide, Or.inl rfl⟩
theorem fb_X0_167 : ∀ x, kTh x → FB RX0 167 3 2 x := by
  intro x h
  rcases kTh_cases h with rfl | rfl | rfl | rfl | rfl | rfl
  · exact ⟨4, RX5, "TickShare$Thing", TX5, 13, rfl, cl_4, by decide, Or.inr ⟨_, q411⟩, Or.inl rfl, rfl, rfl, by decide⟩
  · exact ⟨5, RX6, "TickShare$Thing", TX6, 8, rfl, cl_5, by decide, Or.inr ⟨_, q411⟩, Or.inl rfl, rfl, rfl, by decide⟩
  · exact ⟨6, RX7, "TickShare$Thing", TX7, 12, rfl, cl_6, by decide, Or.inr ⟨_, q411⟩, Or.inl rfl, rfl, rfl, by decide⟩
  · exact ⟨7, RX8, "TickShare$Thing", TX8, 8, rfl, cl_7, by decide, Or.inr ⟨_, q411⟩, Or.inl rfl, rfl, rfl, by decide⟩
  · exact ⟨8, RX9, "TickShare$Thing", TX9, 10, rfl, cl_8, by decide, Or.inr ⟨_, q411⟩, Or.inl rfl, rfl, rfl, by decide⟩
  · exact ⟨9, RX10, "TickShare$Thing", TX10, 7, rfl, cl_9, by decide, Or.inr ⟨_, q411⟩, Or.inl rfl, rfl, rfl, by decide⟩
theorem fb_X0_210 : ∀ x, kTh x → FB RX0 210 0 2 x := by
  intro x h
  rcases kTh_cases h with rfl | rfl | rfl | rfl | rfl | rfl
  · exact ⟨4, RX5, "TickShare$Thing", TX5, 13, rfl, cl_4, by decide, Or.inl q393, Or.inl rfl, rfl, rfl, by decide⟩
  · exact ⟨5, RX6, "TickShare$Thing", TX6, 8, rfl, cl_5, by decide, Or.inl q393, Or.inl rfl, rfl, rfl, by decide⟩
  · exact ⟨6, RX7, "TickShare$Thing", TX7, 12, rfl, cl_6, by decide, Or.inl q393, Or.inl rfl, rfl, rfl, by decide⟩
  · exact ⟨7, RX8, "TickShare$Thing", TX8, 8, rfl, cl_7, by decide, Or.inl q393, Or.inl rfl, rfl, rfl, by decide⟩
  · exact ⟨8, RX9, "TickShare$Thing", TX9, 10, rfl, cl_8, by decide, Or.inl q393, Or.inl rfl, rfl, rfl, by decide⟩
  · exact ⟨9, RX10, "TickShare$Thing", TX10, 7, rfl, cl_9, by decide, Or.inl q393, Or.inl rfl, rfl, rfl, by decide⟩
theorem fb_X0_260 : FB RX0 260 6 2 5 := ⟨4, RX5, "TickShare$Leaf", TX5, 13, rfl, cl_4, by decide, Or.inr ⟨_, q370⟩, Or.inl rfl, rfl, rfl, by decide⟩
theorem fb_X0_264 : FB RX0 264 7 2 5 := ⟨4, RX5, "TickShare$Leaf", TX5, 13, rfl, cl_4, by decide, Or.inr ⟨_, q372⟩, Or.inl rfl, rfl, rfl, by decide⟩
theorem fb_X0_267 : FB RX0 267 8 0 5 := ⟨4, RX5, "TickShare$Leaf", TX5, 13, rfl, cl_4, by decide, Or.inr ⟨_, q374⟩, Or.inl rfl, rfl, rfl, by decide⟩
theorem fp_X0_267 (nm : String) : FP RX0 nm 267 8 0 5 := ⟨4, RX5, "TickShare$Leaf", TX5, 13, rfl, cl_4, by decide, Or.inr ⟨_, q374⟩, Or.inl rfl, rfl, rfl, by decide, Or.inl rfl⟩
theorem fb_X0_273 : FB RX0 273 9 0 5 := ⟨4, RX5, "TickShare$Leaf", TX5, 13, rfl, cl_4, by decide, Or.inr ⟨_, q376⟩, Or.inl rfl, rfl, rfl, by decide⟩
theorem fp_X0_273 (nm : String) : FP RX0 nm 273 9 0 5 := ⟨4, RX5, "TickShare$Leaf", TX5, 13, rfl, cl_4, by decide, Or.inr ⟨_, q376⟩, Or.inl rfl, rfl, rfl, by decide, Or.inl rfl⟩
theorem fb_X0_283 : FB RX0 283 10 0 5 := ⟨4, RX5, "TickShare$Leaf", TX5, 13, rfl, cl_4, by decide, Or.inr ⟨_, q378⟩, Or.inl rfl, rfl, rfl, by decide⟩
theorem fp_X0_283 (nm : String) : FP RX0 nm 283 10 0 5 := ⟨4, RX5, "TickShare$Leaf", TX5, 13, rfl, cl_4, by decide, Or.inr ⟨_, q378⟩, Or.inl rfl, rfl, rfl, by decide, Or.inl rfl⟩
theorem fb_X0_286 : FB RX0 286 11 0 5 := ⟨4, RX5, "TickShare$Leaf", TX5, 13, rfl, cl_4, by decide, Or.inr ⟨_, q380⟩, Or.inl rfl, rfl, rfl, by decide⟩
theorem fp_X0_286 (nm : String) : FP RX0 nm 286 11 0 5 := ⟨4, RX5, "TickShare$Leaf", TX5, 13, rfl, cl_4, by decide, Or.inr ⟨_, q380⟩, Or.inl rfl, rfl, rfl, by decide, Or.inl rfl⟩
theorem fb_X0_293 : ∀ x, kTh x → FB RX0 293 4 0 x := by
  intro x h
  rcases kTh_cases h with rfl | rfl | rfl | rfl | rfl | rfl
  · exact ⟨4, RX5, "TickShare$Thing", TX5, 13, rfl, cl_4, by decide, Or.inr ⟨_, q412⟩, Or.inl rfl, rfl, rfl, by decide⟩
  · exact ⟨5, RX6, "TickShare$Thing", TX6, 8, rfl, cl_5, by decide, Or.inr ⟨_, q412⟩, Or.inl rfl, rfl, rfl, by decide⟩
  · exact ⟨6, RX7, "TickShare$Thing", TX7, 12, rfl, cl_6, by decide, Or.inr ⟨_, q412⟩, Or.inl rfl, rfl, rfl, by decide⟩
  · exact ⟨7, RX8, "TickShare$Thing", TX8, 8, rfl, cl_7, by decide, Or.inr ⟨_, q412⟩, Or.inl rfl, rfl, rfl, by decide⟩
  · exact ⟨8, RX9, "TickShare$Thing", TX9, 10, rfl, cl_8, by decide, Or.inr ⟨_, q412⟩, Or.inl rfl, rfl, rfl, by decide⟩
  · exact ⟨9, RX10, "TickShare$Thing", TX10, 7, rfl, cl_9, by decide, Or.inr ⟨_, q412⟩, Or.inl rfl, rfl, rfl, by decide⟩
theorem fp_X0_293 (nm : String) : ∀ x, kTh x → FP RX0 nm 293 4 0 x := by
  intro x h
  rcases kTh_cases h with rfl | rfl | rfl | rfl | rfl | rfl
  · exact ⟨4, RX5, "TickShare$Thing", TX5, 13, rfl, cl_4, by decide, Or.inr ⟨_, q412⟩, Or.inl rfl, rfl, rfl, by decide, Or.inl rfl⟩
  · exact ⟨5, RX6, "TickShare$Thing", TX6, 8, rfl, cl_5, by decide, Or.inr ⟨_, q412⟩, Or.inl rfl, rfl, rfl, by decide, Or.inl rfl⟩
  · exact ⟨6, RX7, "TickShare$Thing", TX7, 12, rfl, cl_6, by decide, Or.inr ⟨_, q412⟩, Or.inl rfl, rfl, rfl, by decide, Or.inl rfl⟩
  · exact ⟨7, RX8, "TickShare$Thing", TX8, 8, rfl, cl_7, by decide, Or.inr ⟨_, q412⟩, Or.inl rfl, rfl, rfl, by decide, Or.inl rfl⟩
  · exact ⟨8, RX9, "TickShare$Thing", TX9, 10, rfl, cl_8, by decide, Or.inr ⟨_, q412⟩, Or.inl rfl, rfl, rfl, by decide, Or.inl rfl⟩
  · exact ⟨9, RX10, "TickShare$Thing", TX10, 7, rfl, cl_9, by decide, Or.inr ⟨_, q412⟩, Or.inl rfl, rfl, rfl, by decide, Or.inl rfl⟩
theorem fb_X0_296 : ∀ x, kTh x → FB RX0 296 5 0 x := by
  intro x h
  rcases kTh_cases h with rfl | rfl | rfl | rfl | rfl | rfl
  · exact ⟨4, RX5, "TickShare$Thing", TX5, 13, rfl, cl_4, by decide, Or.inr ⟨_, q413⟩, Or.inl rfl, rfl, rfl, by decide⟩
  · exact ⟨5, RX6, "TickShare$Thing", TX6, 8, rfl, cl_5, by decide, Or.inr ⟨_, q413⟩, Or.inl rfl, rfl, rfl, by decide⟩
  · exact ⟨6, RX7, "TickShare$Thing", TX7, 12, rfl, cl_6, by decide, Or.inr ⟨_, q413⟩, Or.inl rfl, rfl, rfl, by decide⟩
  · exact ⟨7, RX8, "TickShare$Thing", TX8, 8, rfl, cl_7, by decide, Or.inr ⟨_, q413⟩, Or.inl rfl, rfl, rfl, by decide⟩
  · exact ⟨8, RX9, "TickShare$Thing", TX9, 10, rfl, cl_8, by decide, Or.inr ⟨_, q413⟩, Or.inl rfl, rfl, rfl, by decide⟩
  · exact ⟨9, RX10, "TickShare$Thing", TX10, 7, rfl, cl_9, by decide, Or.inr ⟨_, q413⟩, Or.inl rfl, rfl, rfl, by decide⟩
theorem fp_X0_296 (nm : String) : ∀ x, kTh x → FP RX0 nm 296 5 0 x := by
  intro x h
  rcases kTh_cases h with rfl | rfl | rfl | rfl | rfl | rfl
  · exact ⟨4, RX5, "TickShare$Thing", TX5, 13, rfl, cl_4, by decide, Or.inr ⟨_, q413⟩, Or.inl rfl, rfl, rfl, by decide, Or.inl rfl⟩
  · exact ⟨5, RX6, "TickShare$Thing", TX6, 8, rfl, cl_5, by decide, Or.inr ⟨_, q413⟩, Or.inl rfl, rfl, rfl, by decide, Or.inl rfl⟩
  · exact ⟨6, RX7, "TickShare$Thing", TX7, 12, rfl, cl_6, by decide, Or.inr ⟨_, q413⟩, Or.inl rfl, rfl, rfl, by decide, Or.inl rfl⟩
  · exact ⟨7, RX8, "TickShare$Thing", TX8, 8, rfl, cl_7, by decide, Or.inr ⟨_, q413⟩, Or.inl rfl, rfl, rfl, by decide, Or.inl rfl⟩
  · exact ⟨8, RX9, "TickShare$Thing", TX9, 10, rfl, cl_8, by decide, Or.inr ⟨_, q413⟩, Or.inl rfl, rfl, rfl, by decide, Or.inl rfl⟩
  · exact ⟨9, RX10, "TickShare$Thing", TX10, 7, rfl, cl_9, by decide, Or.inr ⟨_, q413⟩, Or.inl rfl, rfl, rfl, by decide, Or.inl rfl⟩
theorem fb_X0_299 : FB RX0 299 12 0 5 := ⟨4, RX5, "TickShare$Leaf", TX5, 13, rfl, cl_4, by decide, Or.inr ⟨_, q381⟩, Or.inl rfl, rfl, rfl, by decide⟩
theorem fp_X0_299 (nm : String) : FP RX0 nm 299 12 0 5 := ⟨4, RX5, "TickShare$Leaf", TX5, 13, rfl, cl_4, by decide, Or.inr ⟨_, q381⟩, Or.inl rfl, rfl, rfl, by decide, Or.inl rfl⟩
theorem fb_X8_9 : FB RX8 9 6 0 8 := ⟨7, RX8, "TickShare$Cache", TX8, 8, rfl, cl_7, by decide, Or.inl q525, Or.inl rfl, rfl, rfl, by decide⟩
theorem fp_X8_9 : FP RX8 "<init>" 9 6 0 8 := ⟨7, RX8, "TickShare$Cache", TX8, 8, rfl, cl_7, by decide, Or.inl q525, Or.inl rfl, rfl, rfl, by decide, Or.inr ⟨rfl, rfl, rfl, q525⟩⟩
theorem fb_X8_15 : FB RX8 15 7 0 8 := ⟨7, RX8, "TickShare$Cache", TX8, 8, rfl, cl_7, by decide, Or.inl q526, Or.inl rfl, rfl, rfl, by decide⟩
theorem fp_X8_15 : FP RX8 "<init>" 15 7 0 8 := ⟨7, RX8, "TickShare$Cache", TX8, 8, rfl, cl_7, by decide, Or.inl q526, Or.inl rfl, rfl, rfl, by decide, Or.inr ⟨rfl, rfl, rfl, q526⟩⟩
theorem fb_X8_18 : FB RX8 18 0 2 8 := ⟨7, RX8, "TickShare$Cache", TX8, 8, rfl, cl_7, by decide, Or.inl q383, Or.inr q384, rfl, rfl, by decide⟩
theorem fb_X8_26 : FB RX8 26 1 2 8 := ⟨7, RX8, "TickShare$Cache", TX8, 8, rfl, cl_7, by decide, Or.inl q397, Or.inr q398, rfl, rfl, by decide⟩
theorem fb_X8_30 : FB RX8 30 2 1 4 := ⟨3, RX3, "TickShare$Table", TX3, 3, rfl, cl_3, by decide, Or.inr ⟨_, q329⟩, Or.inl rfl, rfl, rfl, by decide⟩
theorem fb_X8_44 : FB RX8 44 0 2 4 := ⟨3, RX3, "TickShare$Table", TX3, 3, rfl, cl_3, by decide, Or.inr ⟨_, q318⟩, Or.inl rfl, rfl, rfl, by decide⟩
theorem fb_X8_52 : FB RX8 52 1 2 4 := ⟨3, RX3, "TickShare$Table", TX3, 3, rfl, cl_3, by decide, Or.inr ⟨_, q324⟩, Or.inl rfl, rfl, rfl, by decide⟩
theorem fb_X7_9 : FB RX7 9 8 0 7 := ⟨6, RX7, "TickShare$Fan", TX7, 12, rfl, cl_6, by decide, Or.inl q493, Or.inl rfl, rfl, rfl, by decide⟩
theorem fp_X7_9 : FP RX7 "<init>" 9 8 0 7 := ⟨6, RX7, "TickShare$Fan", TX7, 12, rfl, cl_6, by decide, Or.inl q493, Or.inl rfl, rfl, rfl, by decide, Or.inr ⟨rfl, rfl, rfl, q493⟩⟩
theorem fb_X7_17 : FB RX7 17 9 2 7 := ⟨6, RX7, "TickShare$Fan", TX7, 12, rfl, cl_6, by decide, Or.inl q494, Or.inl rfl, rfl, rfl, by decide⟩
theorem fp_X7_17 : FP RX7 "<init>" 17 9 2 7 := ⟨6, RX7, "TickShare$Fan", TX7, 12, rfl, cl_6, by decide, Or.inl q494, Or.inl rfl, rfl, rfl, by decide, Or.inr ⟨rfl, rfl, rfl, q494⟩⟩
theorem fb_X7_21 : FB RX7 21 10 2 7 := ⟨6, RX7, "TickShare$Fan", TX7, 12, rfl, cl_6, by decide, Or.inl q495, Or.inl rfl, rfl, rfl, by decide⟩
theorem fp_X7_21 : FP RX7 "<init>" 21 10 2 7 := ⟨6, RX7, "TickShare$Fan", TX7, 12, rfl, cl_6, by decide, Or.inl q495, Or.inl rfl, rfl, rfl, by decide, Or.inr ⟨rfl, rfl, rfl, q495⟩⟩
theorem fb_X7_25 : FB RX7 25 11 2 7 := ⟨6, RX7, "TickShare$Fan", TX7, 12, rfl, cl_6, by decide, Or.inl q496, Or.inl rfl, rfl, rfl, by decide⟩
theorem fp_X7_25 : FP RX7 "<init>" 25 11 2 7 := ⟨6, RX7, "TickShare$Fan", TX7, 12, rfl, cl_6, by decide, Or.inl q496, Or.inl rfl, rfl, rfl, by decide, Or.inr ⟨rfl, rfl, rfl, q496⟩⟩
theorem fb_X7_28 : FB RX7 28 0 2 7 := ⟨6, RX7, "TickShare$Fan", TX7, 12, rfl, cl_6, by decide, Or.inl q385, Or.inr q386, rfl, rfl, by decide⟩
theorem fb_X7_32 : FB RX7 32 1 2 7 := ⟨6, RX7, "TickShare$Fan", TX7, 12, rfl, cl_6, by decide, Or.inl q395, Or.inr q396, rfl, rfl, by decide⟩
theorem fb_X7_46 : FB RX7 46 2 1 4 := ⟨3, RX3, "TickShare$Table", TX3, 3, rfl, cl_3, by decide, Or.inr ⟨_, q331⟩, Or.inl rfl, rfl, rfl, by decide⟩
theorem fp_X7_46 (nm : String) : FP RX7 nm 46 2 1 4 := ⟨3, RX3, "TickShare$Table", TX3, 3, rfl, cl_3, by decide, Or.inr ⟨_, q331⟩, Or.inl rfl, rfl, rfl, by decide, Or.inl rfl⟩
theorem fb_X7_54 : FB RX7 54 0 2 4 := ⟨3, RX3, "TickShare$Table", TX3, 3, rfl, cl_3, by decide, Or.inr ⟨_, q319⟩, Or.inl rfl, rfl, rfl, by decide⟩
theorem fb_X7_57 : FB RX7 57 1 2 4 := ⟨3, RX3, "TickShare$Table", TX3, 3, rfl, cl_3, by decide, Or.inr ⟨_, q325⟩, Or.inl rfl, rfl, rfl, by decide⟩
theorem fb_X10_9 : FB RX10 9 6 0 10 := ⟨9, RX10, "TickShare$Hedge", TX10, 7, rfl, cl_9, by decide, Or.inl q579, Or.inl rfl, rfl, rfl, by decide⟩
theorem fp_X10_9 : FP RX10 "<init>" 9 6 0 10 := ⟨9, RX10, "TickShare$Hedge", TX10, 7, rfl, cl_9, by decide, Or.inl q579, Or.inl rfl, rfl, rfl, by decide, Or.inr ⟨rfl, rfl, rfl, q579⟩⟩
theorem fb_X10_15 : FB RX10 15 0 2 10 := ⟨9, RX10, "TickShare$Hedge", TX10, 7, rfl, cl_9, by decide, Or.inl q389, Or.inr q390, rfl, rfl, by decide⟩
theorem fb_X10_23 : FB RX10 23 1 2 10 := ⟨9, RX10, "TickShare$Hedge", TX10, 7, rfl, cl_9, by decide, Or.inl q401, Or.inr q402, rfl, rfl, by decide⟩
theorem fb_X10_27 : FB RX10 27 2 1 4 := ⟨3, RX3, "TickShare$Table", TX3, 3, rfl, cl_3, by decide, Or.inr ⟨_, q334⟩, Or.inl rfl, rfl, rfl, by decide⟩
theorem fb_X10_41 : FB RX10 41 0 2 4 := ⟨3, RX3, "TickShare$Table", TX3, 3, rfl, cl_3, by decide, Or.inr ⟨_, q321⟩, Or.inl rfl, rfl, rfl, by decide⟩
theorem fb_X10_49 : FB RX10 49 1 2 4 := ⟨3, RX3, "TickShare$Table", TX3, 3, rfl, cl_3, by decide, Or.inr ⟨_, q327⟩, Or.inl rfl, rfl, rfl, by decide⟩
theorem fb_X5_11 : FB RX5 11 6 2 5 := ⟨4, RX5, "TickShare$Leaf", TX5, 13, rfl, cl_4, by decide, Or.inl q369, Or.inl rfl, rfl, rfl, by decide⟩
theorem fp_X5_11 : FP RX5 "<init>" 11 6 2 5 := ⟨4, RX5, "TickShare$Leaf", TX5, 13, rfl, cl_4, by decide, Or.inl q369, Or.inl rfl, rfl, rfl, by decide, Or.inr ⟨rfl, rfl, rfl, q369⟩⟩
theorem fp_X5_17 : FP RX5 "<init>" 17 7 2 5 := ⟨4, RX5, "TickShare$Leaf", TX5, 13, rfl, cl_4, by decide, Or.inl q371, Or.inl rfl, rfl, rfl, by decide, Or.inr ⟨rfl, rfl, rfl, q371⟩⟩
theorem fp_X5_21 (nm : String) : FP RX5 nm 21 8 0 5 := ⟨4, RX5, "TickShare$Leaf", TX5, 13, rfl, cl_4, by decide, Or.inl q373, Or.inl rfl, rfl, rfl, by decide, Or.inl rfl⟩
theorem fp_X5_25 (nm : String) : FP RX5 nm 25 10 0 5 := ⟨4, RX5, "TickShare$Leaf", TX5, 13, rfl, cl_4, by decide, Or.inl q377, Or.inl rfl, rfl, rfl, by decide, Or.inl rfl⟩
theorem fp_X5_28 (nm : String) : FP RX5 nm 28 11 0 5 := ⟨4, RX5, "TickShare$Leaf", TX5, 13, rfl, cl_4, by decide, Or.inl q379, Or.inl rfl, rfl, rfl, by decide, Or.inl rfl⟩
theorem fb_X5_31 : FB RX5 31 9 0 5 := ⟨4, RX5, "TickShare$Leaf", TX5, 13, rfl, cl_4, by decide, Or.inl q375, Or.inl rfl, rfl, rfl, by decide⟩
theorem fp_X1_7 (nm : String) : FP RX1 nm 7 6 0 2 := ⟨1, RX1, "TickShare$Refused", TX1, 7, rfl, cl_1, by decide, Or.inl q133, Or.inl rfl, rfl, rfl, by decide, Or.inl rfl⟩
theorem fb_X9_9 : FB RX9 9 8 2 9 := ⟨8, RX9, "TickShare$Retry", TX9, 10, rfl, cl_8, by decide, Or.inl q551, Or.inl rfl, rfl, rfl, by decide⟩
theorem fp_X9_9 : FP RX9 "<init>" 9 8 2 9 := ⟨8, RX9, "TickShare$Retry", TX9, 10, rfl, cl_8, by decide, Or.inl q551, Or.inl rfl, rfl, rfl, by decide, Or.inr ⟨rfl, rfl, rfl, q551⟩⟩
theorem fb_X9_15 : FB RX9 15 9 2 9 := ⟨8, RX9, "TickShare$Retry", TX9, 10, rfl, cl_8, by decide, Or.inl q552, Or.inl rfl, rfl, rfl, by decide⟩
theorem fp_X9_15 : FP RX9 "<init>" 15 9 2 9 := ⟨8, RX9, "TickShare$Retry", TX9, 10, rfl, cl_8, by decide, Or.inl q552, Or.inl rfl, rfl, rfl, by decide, Or.inr ⟨rfl, rfl, rfl, q552⟩⟩
theorem fb_X9_18 : FB RX9 18 6 0 9 := ⟨8, RX9, "TickShare$Retry", TX9, 10, rfl, cl_8, by decide, Or.inl q549, Or.inl rfl, rfl, rfl, by decide⟩
theorem fp_X9_18 : FP RX9 "<init>" 18 6 0 9 := ⟨8, RX9, "TickShare$Retry", TX9, 10, rfl, cl_8, by decide, Or.inl q549, Or.inl rfl, rfl, rfl, by decide, Or.inr ⟨rfl, rfl, rfl, q549⟩⟩
theorem fb_X9_22 : FB RX9 22 7 0 9 := ⟨8, RX9, "TickShare$Retry", TX9, 10, rfl, cl_8, by decide, Or.inl q550, Or.inl rfl, rfl, rfl, by decide⟩
theorem fp_X9_22 : FP RX9 "<init>" 22 7 0 9 := ⟨8, RX9, "TickShare$Retry", TX9, 10, rfl, cl_8, by decide, Or.inl q550, Or.inl rfl, rfl, rfl, by decide, Or.inr ⟨rfl, rfl, rfl, q550⟩⟩
theorem fb_X9_25 : FB RX9 25 0 2 9 := ⟨8, RX9, "TickShare$Retry", TX9, 10, rfl, cl_8, by decide, Or.inl q391, Or.inr q392, rfl, rfl, by decide⟩
theorem fb_X9_33 : FB RX9 33 2 2 9 := ⟨8, RX9, "TickShare$Retry", TX9, 10, rfl, cl_8, by decide, Or.inl q408, Or.inr q409, rfl, rfl, by decide⟩
theorem fb_X9_37 : FB RX9 37 2 1 4 := ⟨3, RX3, "TickShare$Table", TX3, 3, rfl, cl_3, by decide, Or.inr ⟨_, q333⟩, Or.inl rfl, rfl, rfl, by decide⟩
theorem fp_X9_37 (nm : String) : FP RX9 nm 37 2 1 4 := ⟨3, RX3, "TickShare$Table", TX3, 3, rfl, cl_3, by decide, Or.inr ⟨_, q333⟩, Or.inl rfl, rfl, rfl, by decide, Or.inl rfl⟩
theorem fb_X9_47 : FB RX9 47 0 2 4 := ⟨3, RX3, "TickShare$Table", TX3, 3, rfl, cl_3, by decide, Or.inr ⟨_, q320⟩, Or.inl rfl, rfl, rfl, by decide⟩
theorem fb_X9_50 : FB RX9 50 1 2 4 := ⟨3, RX3, "TickShare$Table", TX3, 3, rfl, cl_3, by decide, Or.inr ⟨_, q326⟩, Or.inl rfl, rfl, rfl, by decide⟩
theorem fb_X9_59 : FB RX9 59 1 2 9 := ⟨8, RX9, "TickShare$Retry", TX9, 10, rfl, cl_8, by decide, Or.inl q403, Or.inr q404, rfl, rfl, by decide⟩
theorem fb_X6_11 : ∀ x, kRF x → FB RX6 11 6 2 x := by
  intro x h
  rcases h with rfl | rfl
  · exact ⟨5, RX6, "TickShare$Row", TX6, 8, rfl, cl_5, by decide, Or.inl q469, Or.inl rfl, rfl, rfl, by decide⟩
  · exact ⟨6, RX7, "TickShare$Row", TX7, 12, rfl, cl_6, by decide, Or.inl q469, Or.inl rfl, rfl, rfl, by decide⟩
theorem fp_X6_11 : ∀ x, kRF x → FP RX6 "<init>" 11 6 2 x := by
  intro x h
  rcases h with rfl | rfl
  · exact ⟨5, RX6, "TickShare$Row", TX6, 8, rfl, cl_5, by decide, Or.inl q469, Or.inl rfl, rfl, rfl, by decide, Or.inr ⟨rfl, rfl, rfl, q469⟩⟩
  · exact ⟨6, RX7, "TickShare$Row", TX7, 12, rfl, cl_6, by decide, Or.inl q469, Or.inl rfl, rfl, rfl, by decide, Or.inr ⟨rfl, rfl, rfl, q469⟩⟩
theorem fb_X6_16 : ∀ x, kRF x → FB RX6 16 7 2 x := by
  intro x h
  rcases h with rfl | rfl
  · exact ⟨5, RX6, "TickShare$Row", TX6, 8, rfl, cl_5, by decide, Or.inl q470, Or.inl rfl, rfl, rfl, by decide⟩
  · exact ⟨6, RX7, "TickShare$Row", TX7, 12, rfl, cl_6, by decide, Or.inl q470, Or.inl rfl, rfl, rfl, by decide⟩
theorem fp_X6_16 : ∀ x, kRF x → FP RX6 "<init>" 16 7 2 x := by
  intro x h
  rcases h with rfl | rfl
  · exact ⟨5, RX6, "TickShare$Row", TX6, 8, rfl, cl_5, by decide, Or.inl q470, Or.inl rfl, rfl, rfl, by decide, Or.inr ⟨rfl, rfl, rfl, q470⟩⟩
  · exact ⟨6, RX7, "TickShare$Row", TX7, 12, rfl, cl_6, by decide, Or.inl q470, Or.inl rfl, rfl, rfl, by decide, Or.inr ⟨rfl, rfl, rfl, q470⟩⟩
theorem fb_X6_20 : ∀ x, kRF x → FB RX6 20 0 2 x := by
  intro x h
  rcases h with rfl | rfl
  · exact ⟨5, RX6, "TickShare$Row", TX6, 8, rfl, cl_5, by decide, Or.inl q387, Or.inr q388, rfl, rfl, by decide⟩
  · exact ⟨6, RX7, "TickShare$Row", TX7, 12, rfl, cl_6, by decide, Or.inl q387, Or.inr q388, rfl, rfl, by decide⟩
theorem fb_X6_28 : ∀ x, kRF x → FB RX6 28 2 2 x := by
  intro x h
  rcases h with rfl | rfl
  · exact ⟨5, RX6, "TickShare$Row", TX6, 8, rfl, cl_5, by decide, Or.inl q406, Or.inr q407, rfl, rfl, by decide⟩
  · exact ⟨6, RX7, "TickShare$Row", TX7, 12, rfl, cl_6, by decide, Or.inl q406, Or.inr q407, rfl, rfl, by decide⟩
theorem fb_X6_32 : ∀ x, kRF x → FB RX6 32 1 2 x := by
  intro x h
  rcases h with rfl | rfl
  · exact ⟨5, RX6, "TickShare$Row", TX6, 8, rfl, cl_5, by decide, Or.inl q399, Or.inr q400, rfl, rfl, by decide⟩
  · exact ⟨6, RX7, "TickShare$Row", TX7, 12, rfl, cl_6, by decide, Or.inl q399, Or.inr q400, rfl, rfl, by decide⟩
theorem fb_X6_35 : FB RX6 35 2 1 4 := ⟨3, RX3, "TickShare$Table", TX3, 3, rfl, cl_3, by decide, Or.inr ⟨_, q332⟩, Or.inl rfl, rfl, rfl, by decide⟩
theorem fb_X3_9 : FB RX3 9 0 2 4 := ⟨3, RX3, "TickShare$Table", TX3, 3, rfl, cl_3, by decide, Or.inl q317, Or.inl rfl, rfl, rfl, by decide⟩
theorem fp_X3_9 : FP RX3 "<init>" 9 0 2 4 := ⟨3, RX3, "TickShare$Table", TX3, 3, rfl, cl_3, by decide, Or.inl q317, Or.inl rfl, rfl, rfl, by decide, Or.inr ⟨rfl, rfl, rfl, q317⟩⟩
theorem fb_X3_15 : FB RX3 15 1 2 4 := ⟨3, RX3, "TickShare$Table", TX3, 3, rfl, cl_3, by decide, Or.inl q323, Or.inl rfl, rfl, rfl, by decide⟩
theorem fp_X3_15 : FP RX3 "<init>" 15 1 2 4 := ⟨3, RX3, "TickShare$Table", TX3, 3, rfl, cl_3, by decide, Or.inl q323, Or.inl rfl, rfl, rfl, by decide, Or.inr ⟨rfl, rfl, rfl, q323⟩⟩
theorem fb_X3_21 : FB RX3 21 2 1 4 := ⟨3, RX3, "TickShare$Table", TX3, 3, rfl, cl_3, by decide, Or.inl q330, Or.inl rfl, rfl, rfl, by decide⟩
theorem fp_X3_21 (nm : String) : FP RX3 nm 21 2 1 4 := ⟨3, RX3, "TickShare$Table", TX3, 3, rfl, cl_3, by decide, Or.inl q330, Or.inl rfl, rfl, rfl, by decide, Or.inl rfl⟩
theorem fp_X4_12 : ∀ x, kTh x → FP RX4 "<init>" 12 1 2 x := by
  intro x h
  rcases kTh_cases h with rfl | rfl | rfl | rfl | rfl | rfl
  · exact ⟨4, RX5, "TickShare$Thing", TX5, 13, rfl, cl_4, by decide, Or.inl q394, Or.inl rfl, rfl, rfl, by decide, Or.inr ⟨rfl, rfl, rfl, q394⟩⟩
  · exact ⟨5, RX6, "TickShare$Thing", TX6, 8, rfl, cl_5, by decide, Or.inl q394, Or.inl rfl, rfl, rfl, by decide, Or.inr ⟨rfl, rfl, rfl, q394⟩⟩
  · exact ⟨6, RX7, "TickShare$Thing", TX7, 12, rfl, cl_6, by decide, Or.inl q394, Or.inl rfl, rfl, rfl, by decide, Or.inr ⟨rfl, rfl, rfl, q394⟩⟩
  · exact ⟨7, RX8, "TickShare$Thing", TX8, 8, rfl, cl_7, by decide, Or.inl q394, Or.inl rfl, rfl, rfl, by decide, Or.inr ⟨rfl, rfl, rfl, q394⟩⟩
  · exact ⟨8, RX9, "TickShare$Thing", TX9, 10, rfl, cl_8, by decide, Or.inl q394, Or.inl rfl, rfl, rfl, by decide, Or.inr ⟨rfl, rfl, rfl, q394⟩⟩
  · exact ⟨9, RX10, "TickShare$Thing", TX10, 7, rfl, cl_9, by decide, Or.inl q394, Or.inl rfl, rfl, rfl, by decide, Or.inr ⟨rfl, rfl, rfl, q394⟩⟩
theorem fp_X4_18 : ∀ x, kTh x → FP RX4 "<init>" 18 2 2 x := by
  intro x h
  rcases kTh_cases h with rfl | rfl | rfl | rfl | rfl | rfl
  · exact ⟨4, RX5, "TickShare$Thing", TX5, 13, rfl, cl_4, by decide, Or.inl q405, Or.inl rfl, rfl, rfl, by decide, Or.inr ⟨rfl, rfl, rfl, q405⟩⟩
  · exact ⟨5, RX6, "TickShare$Thing", TX6, 8, rfl, cl_5, by decide, Or.inl q405, Or.inl rfl, rfl, rfl, by decide, Or.inr ⟨rfl, rfl, rfl, q405⟩⟩
  · exact ⟨6, RX7, "TickShare$Thing", TX7, 12, rfl, cl_6, by decide, Or.inl q405, Or.inl rfl, rfl, rfl, by decide, Or.inr ⟨rfl, rfl, rfl, q405⟩⟩
  · exact ⟨7, RX8, "TickShare$Thing", TX8, 8, rfl, cl_7, by decide, Or.inl q405, Or.inl rfl, rfl, rfl, by decide, Or.inr ⟨rfl, rfl, rfl, q405⟩⟩
  · exact ⟨8, RX9, "TickShare$Thing", TX9, 10, rfl, cl_8, by decide, Or.inl q405, Or.inl rfl, rfl, rfl, by decide, Or.inr ⟨rfl, rfl, rfl, q405⟩⟩
  · exact ⟨9, RX10, "TickShare$Thing", TX10, 7, rfl, cl_9, by decide, Or.inl q405, Or.inl rfl, rfl, rfl, by decide, Or.inr ⟨rfl, rfl, rfl, q405⟩⟩
theorem fb_X4_21 : ∀ x, kTh x → FB RX4 21 0 2 x := by
  intro x h
  rcases kTh_cases h with rfl | rfl | rfl | rfl | rfl | rfl
  · exact ⟨4, RX5, "TickShare$Thing", TX5, 13, rfl, cl_4, by decide, Or.inl q382, Or.inl rfl, rfl, rfl, by decide⟩
  · exact ⟨5, RX6, "TickShare$Thing", TX6, 8, rfl, cl_5, by decide, Or.inl q382, Or.inl rfl, rfl, rfl, by decide⟩
  · exact ⟨6, RX7, "TickShare$Thing", TX7, 12, rfl, cl_6, by decide, Or.inl q382, Or.inl rfl, rfl, rfl, by decide⟩
  · exact ⟨7, RX8, "TickShare$Thing", TX8, 8, rfl, cl_7, by decide, Or.inl q382, Or.inl rfl, rfl, rfl, by decide⟩
  · exact ⟨8, RX9, "TickShare$Thing", TX9, 10, rfl, cl_8, by decide, Or.inl q382, Or.inl rfl, rfl, rfl, by decide⟩
  · exact ⟨9, RX10, "TickShare$Thing", TX10, 7, rfl, cl_9, by decide, Or.inl q382, Or.inl rfl, rfl, rfl, by decide⟩
theorem fp_X4_21 : ∀ x, kTh x → FP RX4 "<init>" 21 0 2 x := by
  intro x h
  rcases kTh_cases h with rfl | rfl | rfl | rfl | rfl | rfl
  · exact ⟨4, RX5, "TickShare$Thing", TX5, 13, rfl, cl_4, by decide, Or.inl q382, Or.inl rfl, rfl, rfl, by decide, Or.inr ⟨rfl, rfl, rfl, q382⟩⟩
  · exact ⟨5, RX6, "TickShare$Thing", TX6, 8, rfl, cl_5, by decide, Or.inl q382, Or.inl rfl, rfl, rfl, by decide, Or.inr ⟨rfl, rfl, rfl, q382⟩⟩
  · exact ⟨6, RX7, "TickShare$Thing", TX7, 12, rfl, cl_6, by decide, Or.inl q382, Or.inl rfl, rfl, rfl, by decide, Or.inr ⟨rfl, rfl, rfl, q382⟩⟩
  · exact ⟨7, RX8, "TickShare$Thing", TX8, 8, rfl, cl_7, by decide, Or.inl q382, Or.inl rfl, rfl, rfl, by decide, Or.inr ⟨rfl, rfl, rfl, q382⟩⟩
  · exact ⟨8, RX9, "TickShare$Thing", TX9, 10, rfl, cl_8, by decide, Or.inl q382, Or.inl rfl, rfl, rfl, by decide, Or.inr ⟨rfl, rfl, rfl, q382⟩⟩
  · exact ⟨9, RX10, "TickShare$Thing", TX10, 7, rfl, cl_9, by decide, Or.inl q382, Or.inl rfl, rfl, rfl, by decide, Or.inr ⟨rfl, rfl, rfl, q382⟩⟩
theorem fp_X4_25 (nm : String) : ∀ x, kTh x → FP RX4 nm 25 3 2 x := by
  intro x h
  rcases kTh_cases h with rfl | rfl | rfl | rfl | rfl | rfl
  · exact ⟨4, RX5, "TickShare$Thing", TX5, 13, rfl, cl_4, by decide, Or.inl q410, Or.inl rfl, rfl, rfl, by decide, Or.inl rfl⟩
  · exact ⟨5, RX6, "TickShare$Thing", TX6, 8, rfl, cl_5, by decide, Or.inl q410, Or.inl rfl, rfl, rfl, by decide, Or.inl rfl⟩
  · exact ⟨6, RX7, "TickShare$Thing", TX7, 12, rfl, cl_6, by decide, Or.inl q410, Or.inl rfl, rfl, rfl, by decide, Or.inl rfl⟩
  · exact ⟨7, RX8, "TickShare$Thing", TX8, 8, rfl, cl_7, by decide, Or.inl q410, Or.inl rfl, rfl, rfl, by decide, Or.inl rfl⟩
  · exact ⟨8, RX9, "TickShare$Thing", TX9, 10, rfl, cl_8, by decide, Or.inl q410, Or.inl rfl, rfl, rfl, by decide, Or.inl rfl⟩
  · exact ⟨9, RX10, "TickShare$Thing", TX10, 7, rfl, cl_9, by decide, Or.inl q410, Or.inl rfl, rfl, rfl, by decide, Or.inl rfl⟩
theorem fb_X4_37 : FB RX4 37 2 1 4 := ⟨3, RX3, "TickShare$Table", TX3, 3, rfl, cl_3, by decide, Or.inr ⟨_, q335⟩, Or.inl rfl, rfl, rfl, by decide⟩
theorem fb_X2_7 : FB RX2 7 2 1 3 := ⟨2, RX2, "TickShareModel", TX2, 38, rfl, cl_2, by decide, Or.inl q895, Or.inl rfl, rfl, rfl, by decide⟩
theorem fp_X2_7 (nm : String) : FP RX2 nm 7 2 1 3 := ⟨2, RX2, "TickShareModel", TX2, 38, rfl, cl_2, by decide, Or.inl q895, Or.inl rfl, rfl, rfl, by decide, Or.inl rfl⟩
theorem fb_X2_13 : FB RX2 13 3 2 3 := ⟨2, RX2, "TickShareModel", TX2, 38, rfl, cl_2, by decide, Or.inl q896, Or.inl rfl, rfl, rfl, by decide⟩
theorem fp_X2_13 : FP RX2 "<init>" 13 3 2 3 := ⟨2, RX2, "TickShareModel", TX2, 38, rfl, cl_2, by decide, Or.inl q896, Or.inl rfl, rfl, rfl, by decide, Or.inr ⟨rfl, rfl, rfl, q896⟩⟩
theorem fb_X2_17 : FB RX2 17 4 2 3 := ⟨2, RX2, "TickShareModel", TX2, 38, rfl, cl_2, by decide, Or.inl q897, Or.inl rfl, rfl, rfl, by decide⟩
theorem fp_X2_17 : FP RX2 "<init>" 17 4 2 3 := ⟨2, RX2, "TickShareModel", TX2, 38, rfl, cl_2, by decide, Or.inl q897, Or.inl rfl, rfl, rfl, by decide, Or.inr ⟨rfl, rfl, rfl, q897⟩⟩
theorem fb_X2_20 : FB RX2 20 5 2 3 := ⟨2, RX2, "TickShareModel", TX2, 38, rfl, cl_2, by decide, Or.inl q898, Or.inl rfl, rfl, rfl, by decide⟩
theorem fp_X2_20 : FP RX2 "<init>" 20 5 2 3 := ⟨2, RX2, "TickShareModel", TX2, 38, rfl, cl_2, by decide, Or.inl q898, Or.inl rfl, rfl, rfl, by decide, Or.inr ⟨rfl, rfl, rfl, q898⟩⟩
theorem fb_X2_24 : FB RX2 24 7 2 3 := ⟨2, RX2, "TickShareModel", TX2, 38, rfl, cl_2, by decide, Or.inl q900, Or.inl rfl, rfl, rfl, by decide⟩
theorem fp_X2_24 : FP RX2 "<init>" 24 7 2 3 := ⟨2, RX2, "TickShareModel", TX2, 38, rfl, cl_2, by decide, Or.inl q900, Or.inl rfl, rfl, rfl, by decide, Or.inr ⟨rfl, rfl, rfl, q900⟩⟩
theorem fb_X2_27 : FB RX2 27 8 2 3 := ⟨2, RX2, "TickShareModel", TX2, 38, rfl, cl_2, by decide, Or.inl q901, Or.inl rfl, rfl, rfl, by decide⟩
theorem fp_X2_27 : FP RX2 "<init>" 27 8 2 3 := ⟨2, RX2, "TickShareModel", TX2, 38, rfl, cl_2, by decide, Or.inl q901, Or.inl rfl, rfl, rfl, by decide, Or.inr ⟨rfl, rfl, rfl, q901⟩⟩
theorem fb_X2_30 : FB RX2 30 9 2 3 := ⟨2, RX2, "TickShareModel", TX2, 38, rfl, cl_2, by decide, Or.inl q902, Or.inl rfl, rfl, rfl, by decide⟩
theorem fp_X2_30 : FP RX2 "<init>" 30 9 2 3 := ⟨2, RX2, "TickShareModel", TX2, 38, rfl, cl_2, by decide, Or.inl q902, Or.inl rfl, rfl, rfl, by decide, Or.inr ⟨rfl, rfl, rfl, q902⟩⟩
theorem fb_X2_33 : FB RX2 33 10 2 3 := ⟨2, RX2, "TickShareModel", TX2, 38, rfl, cl_2, by decide, Or.inl q903, Or.inl rfl, rfl, rfl, by decide⟩
theorem fp_X2_33 : FP RX2 "<init>" 33 10 2 3 := ⟨2, RX2, "TickShareModel", TX2, 38, rfl, cl_2, by decide, Or.inl q903, Or.inl rfl, rfl, rfl, by decide, Or.inr ⟨rfl, rfl, rfl, q903⟩⟩
theorem fb_X2_36 : FB RX2 36 11 2 3 := ⟨2, RX2, "TickShareModel", TX2, 38, rfl, cl_2, by decide, Or.inl q904, Or.inl rfl, rfl, rfl, by decide⟩
theorem fp_X2_36 : FP RX2 "<init>" 36 11 2 3 := ⟨2, RX2, "TickShareModel", TX2, 38, rfl, cl_2, by decide, Or.inl q904, Or.inl rfl, rfl, rfl, by decide, Or.inr ⟨rfl, rfl, rfl, q904⟩⟩
theorem fb_X2_39 : FB RX2 39 12 2 3 := ⟨2, RX2, "TickShareModel", TX2, 38, rfl, cl_2, by decide, Or.inl q905, Or.inl rfl, rfl, rfl, by decide⟩
theorem fp_X2_39 : FP RX2 "<init>" 39 12 2 3 := ⟨2, RX2, "TickShareModel", TX2, 38, rfl, cl_2, by decide, Or.inl q905, Or.inl rfl, rfl, rfl, by decide, Or.inr ⟨rfl, rfl, rfl, q905⟩⟩
theorem fb_X2_42 : FB RX2 42 13 2 3 := ⟨2, RX2, "TickShareModel", TX2, 38, rfl, cl_2, by decide, Or.inl q906, Or.inl rfl, rfl, rfl, by decide⟩
theorem fp_X2_42 : FP RX2 "<init>" 42 13 2 3 := ⟨2, RX2, "TickShareModel", TX2, 38, rfl, cl_2, by decide, Or.inl q906, Or.inl rfl, rfl, rfl, by decide, Or.inr ⟨rfl, rfl, rfl, q906⟩⟩
theorem fb_X2_45 : FB RX2 45 14 2 3 := ⟨2, RX2, "TickShareModel", TX2, 38, rfl, cl_2, by decide, Or.inl q907, Or.inl rfl, rfl, rfl, by decide⟩
theorem fp_X2_45 : FP RX2 "<init>" 45 14 2 3 := ⟨2, RX2, "TickShareModel", TX2, 38, rfl, cl_2, by decide, Or.inl q907, Or.inl rfl, rfl, rfl, by decide, Or.inr ⟨rfl, rfl, rfl, q907⟩⟩
theorem fb_X2_48 : FB RX2 48 15 2 3 := ⟨2, RX2, "TickShareModel", TX2, 38, rfl, cl_2, by decide, Or.inl q908, Or.inl rfl, rfl, rfl, by decide⟩
theorem fp_X2_48 : FP RX2 "<init>" 48 15 2 3 := ⟨2, RX2, "TickShareModel", TX2, 38, rfl, cl_2, by decide, Or.inl q908, Or.inl rfl, rfl, rfl, by decide, Or.inr ⟨rfl, rfl, rfl, q908⟩⟩
theorem fb_X2_51 : FB RX2 51 16 2 3 := ⟨2, RX2, "TickShareModel", TX2, 38, rfl, cl_2, by decide, Or.inl q909, Or.inl rfl, rfl, rfl, by decide⟩
theorem fp_X2_51 : FP RX2 "<init>" 51 16 2 3 := ⟨2, RX2, "TickShareModel", TX2, 38, rfl, cl_2, by decide, Or.inl q909, Or.inl rfl, rfl, rfl, by decide, Or.inr ⟨rfl, rfl, rfl, q909⟩⟩
theorem fb_X2_54 : FB RX2 54 17 2 3 := ⟨2, RX2, "TickShareModel", TX2, 38, rfl, cl_2, by decide, Or.inl q910, Or.inl rfl, rfl, rfl, by decide⟩
theorem fp_X2_54 : FP RX2 "<init>" 54 17 2 3 := ⟨2, RX2, "TickShareModel", TX2, 38, rfl, cl_2, by decide, Or.inl q910, Or.inl rfl, rfl, rfl, by decide, Or.inr ⟨rfl, rfl, rfl, q910⟩⟩
theorem fb_X2_57 : FB RX2 57 18 2 3 := ⟨2, RX2, "TickShareModel", TX2, 38, rfl, cl_2, by decide, Or.inl q911, Or.inl rfl, rfl, rfl, by decide⟩
theorem fp_X2_57 : FP RX2 "<init>" 57 18 2 3 := ⟨2, RX2, "TickShareModel", TX2, 38, rfl, cl_2, by decide, Or.inl q911, Or.inl rfl, rfl, rfl, by decide, Or.inr ⟨rfl, rfl, rfl, q911⟩⟩
theorem fb_X2_60 : FB RX2 60 19 2 3 := ⟨2, RX2, "TickShareModel", TX2, 38, rfl, cl_2, by decide, Or.inl q912, Or.inl rfl, rfl, rfl, by decide⟩
theorem fp_X2_60 : FP RX2 "<init>" 60 19 2 3 := ⟨2, RX2, "TickShareModel", TX2, 38, rfl, cl_2, by decide, Or.inl q912, Or.inl rfl, rfl, rfl, by decide, Or.inr ⟨rfl, rfl, rfl, q912⟩⟩
theorem fb_X2_63 : FB RX2 63 20 2 3 := ⟨2, RX2, "TickShareModel", TX2, 38, rfl, cl_2, by decide, Or.inl q913, Or.inl rfl, rfl, rfl, by decide⟩
theorem fp_X2_63 : FP RX2 "<init>" 63 20 2 3 := ⟨2, RX2, "TickShareModel", TX2, 38, rfl, cl_2, by decide, Or.inl q913, Or.inl rfl, rfl, rfl, by decide, Or.inr ⟨rfl, rfl, rfl, q913⟩⟩
theorem fb_X2_66 : FB RX2 66 22 2 3 := ⟨2, RX2, "TickShareModel", TX2, 38, rfl, cl_2, by decide, Or.inl q915, Or.inl rfl, rfl, rfl, by decide⟩
theorem fp_X2_66 : FP RX2 "<init>" 66 22 2 3 := ⟨2, RX2, "TickShareModel", TX2, 38, rfl, cl_2, by decide, Or.inl q915, Or.inl rfl, rfl, rfl, by decide, Or.inr ⟨rfl, rfl, rfl, q915⟩⟩
theorem fb_X2_69 : FB RX2 69 23 2 3 := ⟨2, RX2, "TickShareModel", TX2, 38, rfl, cl_2, by decide, Or.inl q916, Or.inl rfl, rfl, rfl, by decide⟩
theorem fp_X2_69 : FP RX2 "<init>" 69 23 2 3 := ⟨2, RX2, "TickShareModel", TX2, 38, rfl, cl_2, by decide, Or.inl q916, Or.inl rfl, rfl, rfl, by decide, Or.inr ⟨rfl, rfl, rfl, q916⟩⟩
theorem fb_X2_72 : FB RX2 72 24 2 3 := ⟨2, RX2, "TickShareModel", TX2, 38, rfl, cl_2, by decide, Or.inl q917, Or.inl rfl, rfl, rfl, by decide⟩
theorem fp_X2_72 : FP RX2 "<init>" 72 24 2 3 := ⟨2, RX2, "TickShareModel", TX2, 38, rfl, cl_2, by decide, Or.inl q917, Or.inl rfl, rfl, rfl, by decide, Or.inr ⟨rfl, rfl, rfl, q917⟩⟩
theorem fb_X2_75 : FB RX2 75 25 2 3 := ⟨2, RX2, "TickShareModel", TX2, 38, rfl, cl_2, by decide, Or.inl q918, Or.inl rfl, rfl, rfl, by decide⟩
theorem fp_X2_75 : FP RX2 "<init>" 75 25 2 3 := ⟨2, RX2, "TickShareModel", TX2, 38, rfl, cl_2, by decide, Or.inl q918, Or.inl rfl, rfl, rfl, by decide, Or.inr ⟨rfl, rfl, rfl, q918⟩⟩
theorem fb_X2_79 : FB RX2 79 26 2 3 := ⟨2, RX2, "TickShareModel", TX2, 38, rfl, cl_2, by decide, Or.inl q919, Or.inl rfl, rfl, rfl, by decide⟩
theorem fp_X2_79 : FP RX2 "<init>" 79 26 2 3 := ⟨2, RX2, "TickShareModel", TX2, 38, rfl, cl_2, by decide, Or.inl q919, Or.inl rfl, rfl, rfl, by decide, Or.inr ⟨rfl, rfl, rfl, q919⟩⟩
theorem fb_X2_82 : FB RX2 82 27 2 3 := ⟨2, RX2, "TickShareModel", TX2, 38, rfl, cl_2, by decide, Or.inl q920, Or.inl rfl, rfl, rfl, by decide⟩
theorem fp_X2_82 : FP RX2 "<init>" 82 27 2 3 := ⟨2, RX2, "TickShareModel", TX2, 38, rfl, cl_2, by decide, Or.inl q920, Or.inl rfl, rfl, rfl, by decide, Or.inr ⟨rfl, rfl, rfl, q920⟩⟩
theorem fb_X2_85 : FB RX2 85 28 2 3 := ⟨2, RX2, "TickShareModel", TX2, 38, rfl, cl_2, by decide, Or.inl q921, Or.inl rfl, rfl, rfl, by decide⟩
theorem fp_X2_85 : FP RX2 "<init>" 85 28 2 3 := ⟨2, RX2, "TickShareModel", TX2, 38, rfl, cl_2, by decide, Or.inl q921, Or.inl rfl, rfl, rfl, by decide, Or.inr ⟨rfl, rfl, rfl, q921⟩⟩
theorem fb_X2_88 : FB RX2 88 29 2 3 := ⟨2, RX2, "TickShareModel", TX2, 38, rfl, cl_2, by decide, Or.inl q922, Or.inl rfl, rfl, rfl, by decide⟩
theorem fp_X2_88 : FP RX2 "<init>" 88 29 2 3 := ⟨2, RX2, "TickShareModel", TX2, 38, rfl, cl_2, by decide, Or.inl q922, Or.inl rfl, rfl, rfl, by decide, Or.inr ⟨rfl, rfl, rfl, q922⟩⟩
theorem fb_X2_91 : FB RX2 91 31 2 3 := ⟨2, RX2, "TickShareModel", TX2, 38, rfl, cl_2, by decide, Or.inl q924, Or.inl rfl, rfl, rfl, by decide⟩
theorem fp_X2_91 : FP RX2 "<init>" 91 31 2 3 := ⟨2, RX2, "TickShareModel", TX2, 38, rfl, cl_2, by decide, Or.inl q924, Or.inl rfl, rfl, rfl, by decide, Or.inr ⟨rfl, rfl, rfl, q924⟩⟩
theorem fb_X2_94 : FB RX2 94 32 2 3 := ⟨2, RX2, "TickShareModel", TX2, 38, rfl, cl_2, by decide, Or.inl q925, Or.inl rfl, rfl, rfl, by decide⟩
theorem fp_X2_94 : FP RX2 "<init>" 94 32 2 3 := ⟨2, RX2, "TickShareModel", TX2, 38, rfl, cl_2, by decide, Or.inl q925, Or.inl rfl, rfl, rfl, by decide, Or.inr ⟨rfl, rfl, rfl, q925⟩⟩
theorem fb_X2_97 : FB RX2 97 33 2 3 := ⟨2, RX2, "TickShareModel", TX2, 38, rfl, cl_2, by decide, Or.inl q926, Or.inl rfl, rfl, rfl, by decide⟩
theorem fp_X2_97 : FP RX2 "<init>" 97 33 2 3 := ⟨2, RX2, "TickShareModel", TX2, 38, rfl, cl_2, by decide, Or.inl q926, Or.inl rfl, rfl, rfl, by decide, Or.inr ⟨rfl, rfl, rfl, q926⟩⟩
theorem fb_X2_100 : FB RX2 100 34 2 3 := ⟨2, RX2, "TickShareModel", TX2, 38, rfl, cl_2, by decide, Or.inl q927, Or.inl rfl, rfl, rfl, by decide⟩
theorem fp_X2_100 : FP RX2 "<init>" 100 34 2 3 := ⟨2, RX2, "TickShareModel", TX2, 38, rfl, cl_2, by decide, Or.inl q927, Or.inl rfl, rfl, rfl, by decide, Or.inr ⟨rfl, rfl, rfl, q927⟩⟩
theorem fb_X2_103 : FB RX2 103 35 2 3 := ⟨2, RX2, "TickShareModel", TX2, 38, rfl, cl_2, by decide, Or.inl q928, Or.inl rfl, rfl, rfl, by decide⟩
theorem fp_X2_103 : FP RX2 "<init>" 103 35 2 3 := ⟨2, RX2, "TickShareModel", TX2, 38, rfl, cl_2, by decide, Or.inl q928, Or.inl rfl, rfl, rfl, by decide, Or.inr ⟨rfl, rfl, rfl, q928⟩⟩
theorem fb_X2_106 : FB RX2 106 36 2 3 := ⟨2, RX2, "TickShareModel", TX2, 38, rfl, cl_2, by decide, Or.inl q929, Or.inl rfl, rfl, rfl, by decide⟩
theorem fp_X2_106 : FP RX2 "<init>" 106 36 2 3 := ⟨2, RX2, "TickShareModel", TX2, 38, rfl, cl_2, by decide, Or.inl q929, Or.inl rfl, rfl, rfl, by decide, Or.inr ⟨rfl, rfl, rfl, q929⟩⟩
theorem fb_X2_109 : FB RX2 109 37 2 3 := ⟨2, RX2, "TickShareModel", TX2, 38, rfl, cl_2, by decide, Or.inl q930, Or.inl rfl, rfl, rfl, by decide⟩
theorem fp_X2_109 : FP RX2 "<init>" 109 37 2 3 := ⟨2, RX2, "TickShareModel", TX2, 38, rfl, cl_2, by decide, Or.inl q930, Or.inl rfl, rfl, rfl, by decide, Or.inr ⟨rfl, rfl, rfl, q930⟩⟩
theorem fb_X2_112 : FB RX2 112 0 0 3 := ⟨2, RX2, "TickShareModel", TX2, 38, rfl, cl_2, by decide, Or.inl q893, Or.inl rfl, rfl, rfl, by decide⟩
theorem fp_X2_112 (nm : String) : FP RX2 nm 112 0 0 3 := ⟨2, RX2, "TickShareModel", TX2, 38, rfl, cl_2, by decide, Or.inl q893, Or.inl rfl, rfl, rfl, by decide, Or.inl rfl⟩
theorem fb_X2_116 : FB RX2 116 1 1 3 := ⟨2, RX2, "TickShareModel", TX2, 38, rfl, cl_2, by decide, Or.inl q894, Or.inl rfl, rfl, rfl, by decide⟩
theorem fp_X2_116 (nm : String) : FP RX2 nm 116 1 1 3 := ⟨2, RX2, "TickShareModel", TX2, 38, rfl, cl_2, by decide, Or.inl q894, Or.inl rfl, rfl, rfl, by decide, Or.inl rfl⟩
theorem fb_X2_136 : FB RX2 136 6 0 3 := ⟨2, RX2, "TickShareModel", TX2, 38, rfl, cl_2, by decide, Or.inl q899, Or.inl rfl, rfl, rfl, by decide⟩
theorem fp_X2_136 (nm : String) : FP RX2 nm 136 6 0 3 := ⟨2, RX2, "TickShareModel", TX2, 38, rfl, cl_2, by decide, Or.inl q899, Or.inl rfl, rfl, rfl, by decide, Or.inl rfl⟩
theorem fb_X2_165 : FB RX2 165 30 3 3 := ⟨2, RX2, "TickShareModel", TX2, 38, rfl, cl_2, by decide, Or.inl q923, Or.inl rfl, rfl, rfl, by decide⟩
theorem fp_X2_165 (nm : String) : FP RX2 nm 165 30 3 3 := ⟨2, RX2, "TickShareModel", TX2, 38, rfl, cl_2, by decide, Or.inl q923, Or.inl rfl, rfl, rfl, by decide, Or.inl rfl⟩
theorem fb_X2_282 : FB RX2 282 21 3 3 := ⟨2, RX2, "TickShareModel", TX2, 38, rfl, cl_2, by decide, Or.inl q914, Or.inl rfl, rfl, rfl, by decide⟩
theorem fp_X2_282 (nm : String) : FP RX2 nm 282 21 3 3 := ⟨2, RX2, "TickShareModel", TX2, 38, rfl, cl_2, by decide, Or.inl q914, Or.inl rfl, rfl, rfl, by decide, Or.inl rfl⟩
