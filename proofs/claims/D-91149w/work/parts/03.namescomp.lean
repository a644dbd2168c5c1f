/-! TickShare -/
set_option maxRecDepth 100000
def RX0 : String := "TickShare"
def TX0 : u_T := fun k => match k with
  | 0 => ("TickShare", "trays", "[Ljava/lang/Object;", true)
  | 1 => ("TickShare", "tops", "[J", true)
  | 2 => ("TickShare", "things", "[LTickShare$Thing;", true)
  | 3 => ("TickShare", "size", "I", false)
  | 4 => ("TickShare", "refused", "LTickShare$Refused;", true)
  | 5 => ("TickShare", "status", "I", false)
  | 6 => ("TickShare", "above", "J", false)
  | _ => ("TickShare", "under", "J", false)
def tyX0 : Nat → FieldType := fun k => match k with
  | 0 => .array (.object "java/lang/Object")
  | 1 => .array .long
  | 2 => .array (.object "TickShare$Thing")
  | 3 => .int
  | 4 => .object "TickShare$Refused"
  | 5 => .int
  | 6 => .long
  | _ => .long
abbrev wsX00 : List Cond := u_ws RX0 TX0 8
theorem nmX0 : ∀ a, a < 8 → ∀ b, b < 8 → a ≠ b → (TX0 a).2.1 ≠ (TX0 b).2.1 := by decide +kernel
theorem tyX0_ok : ∀ k, k < 8 → parseFieldDescriptor (TX0 k).2.2.1 = some (tyX0 k) := by decide +kernel
abbrev cX0_init : ByteArray := prog_1_method_9_code
def yX0_init : MethodName := ⟨RX0, "<init>", "()V"⟩
def dkwX0_init_1 : List UInt8 := [189, 0, 47, 181, 0, 49, 42, 187, 0, 53, 89, 183, 0, 55, 181, 0, 56, 42, 10, 181, 0, 60, 177]
abbrev dktX0_init_1 : List UInt8 := dkwX0_init_1 ++ []
def dkwX0_init_0 : List UInt8 := [42, 183, 0, 37, 42, 7, 189, 0, 38, 181, 0, 40, 42, 16, 121, 188, 11, 181, 0, 44, 42, 16, 20]
abbrev dktX0_init_0 : List UInt8 := dkwX0_init_0 ++ dktX0_init_1
theorem dksX0_init_0 : cX0_init.data.toList.drop 0 = dktX0_init_0 := by decide +kernel
theorem dksX0_init_1 : cX0_init.data.toList.drop 23 = dktX0_init_1 := dk_seg dksX0_init_0 23 rfl rfl
theorem dX0_init_0 : decode cX0_init 0 = .ok (.aload_n 0, 1) := dk_42 (dk_at dksX0_init_0 0 rfl rfl)
theorem dX0_init_1 : decode cX0_init 1 = .ok (.invokespecial 37, 3) := dk_183 0 37 (dk_at dksX0_init_0 1 rfl rfl)
theorem dX0_init_4 : decode cX0_init 4 = .ok (.aload_n 0, 1) := dk_42 (dk_at dksX0_init_0 4 rfl rfl)
theorem dX0_init_5 : decode cX0_init 5 = .ok (.iconst 4, 1) := dk_7 (dk_at dksX0_init_0 5 rfl rfl)
theorem dX0_init_6 : decode cX0_init 6 = .ok (.anewarray 38, 3) := dk_189 0 38 (dk_at dksX0_init_0 6 rfl rfl)
theorem dX0_init_9 : decode cX0_init 9 = .ok (.putfield 40, 3) := dk_181 0 40 (dk_at dksX0_init_0 9 rfl rfl)
theorem dX0_init_12 : decode cX0_init 12 = .ok (.aload_n 0, 1) := dk_42 (dk_at dksX0_init_0 12 rfl rfl)
theorem dX0_init_13 : decode cX0_init 13 = .ok (.bipush 121, 2) := dk_16 121 (dk_at dksX0_init_0 13 rfl rfl)
theorem dX0_init_15 : decode cX0_init 15 = .ok (.newarray .long, 2) := dk_188_11 (dk_at dksX0_init_0 15 rfl rfl)
theorem dX0_init_17 : decode cX0_init 17 = .ok (.putfield 44, 3) := dk_181 0 44 (dk_at dksX0_init_0 17 rfl rfl)
theorem dX0_init_20 : decode cX0_init 20 = .ok (.aload_n 0, 1) := dk_42 (dk_at dksX0_init_0 20 rfl rfl)
theorem dX0_init_21 : decode cX0_init 21 = .ok (.bipush 20, 2) := dk_16 20 (dk_at dksX0_init_0 21 rfl rfl)
theorem dX0_init_23 : decode cX0_init 23 = .ok (.anewarray 47, 3) := dk_189 0 47 (dk_at dksX0_init_1 0 rfl rfl)
theorem dX0_init_26 : decode cX0_init 26 = .ok (.putfield 49, 3) := dk_181 0 49 (dk_at dksX0_init_1 3 rfl rfl)
theorem dX0_init_29 : decode cX0_init 29 = .ok (.aload_n 0, 1) := dk_42 (dk_at dksX0_init_1 6 rfl rfl)
theorem dX0_init_30 : decode cX0_init 30 = .ok (.new 53, 3) := dk_187 0 53 (dk_at dksX0_init_1 7 rfl rfl)
theorem dX0_init_33 : decode cX0_init 33 = .ok (.dup, 1) := dk_89 (dk_at dksX0_init_1 10 rfl rfl)
theorem dX0_init_34 : decode cX0_init 34 = .ok (.invokespecial 55, 3) := dk_183 0 55 (dk_at dksX0_init_1 11 rfl rfl)
theorem dX0_init_37 : decode cX0_init 37 = .ok (.putfield 56, 3) := dk_181 0 56 (dk_at dksX0_init_1 14 rfl rfl)
theorem dX0_init_40 : decode cX0_init 40 = .ok (.aload_n 0, 1) := dk_42 (dk_at dksX0_init_1 17 rfl rfl)
theorem dX0_init_41 : decode cX0_init 41 = .ok (.lconst 1, 1) := dk_10 (dk_at dksX0_init_1 18 rfl rfl)
theorem dX0_init_42 : decode cX0_init 42 = .ok (.putfield 60, 3) := dk_181 0 60 (dk_at dksX0_init_1 19 rfl rfl)
theorem dX0_init_45 : decode cX0_init 45 = .ok (.return_, 1) := dk_177 (dk_at dksX0_init_1 22 rfl rfl)
abbrev cX0_status : ByteArray := prog_1_method_10_code
def yX0_status : MethodName := ⟨RX0, "status", "()I"⟩
theorem dX0_status_0 : decode cX0_status 0 = .ok (.aload_n 0, 1) := by decide +kernel
theorem dX0_status_1 : decode cX0_status 1 = .ok (.getfield 63, 3) := by decide +kernel
theorem dX0_status_4 : decode cX0_status 4 = .ok (.ireturn, 1) := by decide +kernel
abbrev cX0_top : ByteArray := prog_1_method_11_code
def yX0_top : MethodName := ⟨RX0, "top", "()J"⟩
theorem dX0_top_0 : decode cX0_top 0 = .ok (.aload_n 0, 1) := by decide +kernel
theorem dX0_top_1 : decode cX0_top 1 = .ok (.getfield 67, 3) := by decide +kernel
theorem dX0_top_4 : decode cX0_top 4 = .ok (.lreturn, 1) := by decide +kernel
abbrev cX0_bottom : ByteArray := prog_1_method_12_code
def yX0_bottom : MethodName := ⟨RX0, "bottom", "()J"⟩
theorem dX0_bottom_0 : decode cX0_bottom 0 = .ok (.aload_n 0, 1) := by decide +kernel
theorem dX0_bottom_1 : decode cX0_bottom 1 = .ok (.getfield 60, 3) := by decide +kernel
theorem dX0_bottom_4 : decode cX0_bottom 4 = .ok (.lreturn, 1) := by decide +kernel
abbrev cX0_tray : ByteArray := prog_1_method_20_code
def yX0_tray : MethodName := ⟨RX0, "tray", "(III)Z"⟩
def dkwX0_tray_2 : List UInt8 := [184, 0, 91, 83, 4, 172, 58, 4, 42, 4, 181, 0, 63, 3, 172, 58, 4, 42, 25, 4, 182, 0, 97, 172]
abbrev dktX0_tray_2 : List UInt8 := dkwX0_tray_2 ++ []
def dkwX0_tray_1 : List UInt8 := [29, 16, 60, 163, 0, 7, 4, 167, 0, 4, 3, 4, 182, 0, 87, 42, 180, 0, 40, 27, 28, 29]
abbrev dktX0_tray_1 : List UInt8 := dkwX0_tray_1 ++ dktX0_tray_2
def dkwX0_tray_0 : List UInt8 := [42, 3, 181, 0, 63, 42, 27, 155, 0, 27, 27, 7, 162, 0, 22, 28, 155, 0, 18, 28, 6, 163, 0, 13]
abbrev dktX0_tray_0 : List UInt8 := dkwX0_tray_0 ++ dktX0_tray_1
theorem dksX0_tray_0 : cX0_tray.data.toList.drop 0 = dktX0_tray_0 := by decide +kernel
theorem dksX0_tray_1 : cX0_tray.data.toList.drop 24 = dktX0_tray_1 := dk_seg dksX0_tray_0 24 rfl rfl
theorem dksX0_tray_2 : cX0_tray.data.toList.drop 46 = dktX0_tray_2 := dk_seg dksX0_tray_1 22 rfl rfl
theorem dX0_tray_0 : decode cX0_tray 0 = .ok (.aload_n 0, 1) := dk_42 (dk_at dksX0_tray_0 0 rfl rfl)
theorem dX0_tray_1 : decode cX0_tray 1 = .ok (.iconst 0, 1) := dk_3 (dk_at dksX0_tray_0 1 rfl rfl)
theorem dX0_tray_2 : decode cX0_tray 2 = .ok (.putfield 63, 3) := dk_181 0 63 (dk_at dksX0_tray_0 2 rfl rfl)
theorem dX0_tray_5 : decode cX0_tray 5 = .ok (.aload_n 0, 1) := dk_42 (dk_at dksX0_tray_0 5 rfl rfl)
theorem dX0_tray_6 : decode cX0_tray 6 = .ok (.iload_n 1, 1) := dk_27 (dk_at dksX0_tray_0 6 rfl rfl)
theorem dX0_tray_7 : decode cX0_tray 7 = .ok (.ifCond .lt 27, 3) := dk_155 0 27 (dk_at dksX0_tray_0 7 rfl rfl)
theorem dX0_tray_10 : decode cX0_tray 10 = .ok (.iload_n 1, 1) := dk_27 (dk_at dksX0_tray_0 10 rfl rfl)
theorem dX0_tray_11 : decode cX0_tray 11 = .ok (.iconst 4, 1) := dk_7 (dk_at dksX0_tray_0 11 rfl rfl)
theorem dX0_tray_12 : decode cX0_tray 12 = .ok (.if_icmp .ge 22, 3) := dk_162 0 22 (dk_at dksX0_tray_0 12 rfl rfl)
theorem dX0_tray_15 : decode cX0_tray 15 = .ok (.iload_n 2, 1) := dk_28 (dk_at dksX0_tray_0 15 rfl rfl)
theorem dX0_tray_16 : decode cX0_tray 16 = .ok (.ifCond .lt 18, 3) := dk_155 0 18 (dk_at dksX0_tray_0 16 rfl rfl)
theorem dX0_tray_19 : decode cX0_tray 19 = .ok (.iload_n 2, 1) := dk_28 (dk_at dksX0_tray_0 19 rfl rfl)
theorem dX0_tray_20 : decode cX0_tray 20 = .ok (.iconst 3, 1) := dk_6 (dk_at dksX0_tray_0 20 rfl rfl)
theorem dX0_tray_21 : decode cX0_tray 21 = .ok (.if_icmp .gt 13, 3) := dk_163 0 13 (dk_at dksX0_tray_0 21 rfl rfl)
theorem dX0_tray_24 : decode cX0_tray 24 = .ok (.iload_n 3, 1) := dk_29 (dk_at dksX0_tray_1 0 rfl rfl)
theorem dX0_tray_25 : decode cX0_tray 25 = .ok (.bipush 60, 2) := dk_16 60 (dk_at dksX0_tray_1 1 rfl rfl)
theorem dX0_tray_27 : decode cX0_tray 27 = .ok (.if_icmp .gt 7, 3) := dk_163 0 7 (dk_at dksX0_tray_1 3 rfl rfl)
theorem dX0_tray_30 : decode cX0_tray 30 = .ok (.iconst 1, 1) := dk_4 (dk_at dksX0_tray_1 6 rfl rfl)
theorem dX0_tray_31 : decode cX0_tray 31 = .ok (.goto 4, 3) := dk_167 0 4 (dk_at dksX0_tray_1 7 rfl rfl)
theorem dX0_tray_34 : decode cX0_tray 34 = .ok (.iconst 0, 1) := dk_3 (dk_at dksX0_tray_1 10 rfl rfl)
theorem dX0_tray_35 : decode cX0_tray 35 = .ok (.iconst 1, 1) := dk_4 (dk_at dksX0_tray_1 11 rfl rfl)
theorem dX0_tray_36 : decode cX0_tray 36 = .ok (.invokevirtual 87, 3) := dk_182 0 87 (dk_at dksX0_tray_1 12 rfl rfl)
theorem dX0_tray_39 : decode cX0_tray 39 = .ok (.aload_n 0, 1) := dk_42 (dk_at dksX0_tray_1 15 rfl rfl)
theorem dX0_tray_40 : decode cX0_tray 40 = .ok (.getfield 40, 3) := dk_180 0 40 (dk_at dksX0_tray_1 16 rfl rfl)
theorem dX0_tray_43 : decode cX0_tray 43 = .ok (.iload_n 1, 1) := dk_27 (dk_at dksX0_tray_1 19 rfl rfl)
theorem dX0_tray_44 : decode cX0_tray 44 = .ok (.iload_n 2, 1) := dk_28 (dk_at dksX0_tray_1 20 rfl rfl)
theorem dX0_tray_45 : decode cX0_tray 45 = .ok (.iload_n 3, 1) := dk_29 (dk_at dksX0_tray_1 21 rfl rfl)
theorem dX0_tray_46 : decode cX0_tray 46 = .ok (.invokestatic 91, 3) := dk_184 0 91 (dk_at dksX0_tray_2 0 rfl rfl)
theorem dX0_tray_49 : decode cX0_tray 49 = .ok (.aastore, 1) := dk_83 (dk_at dksX0_tray_2 3 rfl rfl)
theorem dX0_tray_50 : decode cX0_tray 50 = .ok (.iconst 1, 1) := dk_4 (dk_at dksX0_tray_2 4 rfl rfl)
theorem dX0_tray_51 : decode cX0_tray 51 = .ok (.ireturn, 1) := dk_172 (dk_at dksX0_tray_2 5 rfl rfl)
theorem dX0_tray_52 : decode cX0_tray 52 = .ok (.astore 4, 2) := dk_58 4 (dk_at dksX0_tray_2 6 rfl rfl)
theorem dX0_tray_54 : decode cX0_tray 54 = .ok (.aload_n 0, 1) := dk_42 (dk_at dksX0_tray_2 8 rfl rfl)
theorem dX0_tray_55 : decode cX0_tray 55 = .ok (.iconst 1, 1) := dk_4 (dk_at dksX0_tray_2 9 rfl rfl)
theorem dX0_tray_56 : decode cX0_tray 56 = .ok (.putfield 63, 3) := dk_181 0 63 (dk_at dksX0_tray_2 10 rfl rfl)
theorem dX0_tray_59 : decode cX0_tray 59 = .ok (.iconst 0, 1) := dk_3 (dk_at dksX0_tray_2 13 rfl rfl)
theorem dX0_tray_60 : decode cX0_tray 60 = .ok (.ireturn, 1) := dk_172 (dk_at dksX0_tray_2 14 rfl rfl)
theorem dX0_tray_61 : decode cX0_tray 61 = .ok (.astore 4, 2) := dk_58 4 (dk_at dksX0_tray_2 15 rfl rfl)
theorem dX0_tray_63 : decode cX0_tray 63 = .ok (.aload_n 0, 1) := dk_42 (dk_at dksX0_tray_2 17 rfl rfl)
theorem dX0_tray_64 : decode cX0_tray 64 = .ok (.aload 4, 2) := dk_25 4 (dk_at dksX0_tray_2 18 rfl rfl)
theorem dX0_tray_66 : decode cX0_tray 66 = .ok (.invokevirtual 97, 3) := dk_182 0 97 (dk_at dksX0_tray_2 20 rfl rfl)
theorem dX0_tray_69 : decode cX0_tray 69 = .ok (.ireturn, 1) := dk_172 (dk_at dksX0_tray_2 23 rfl rfl)
abbrev cX0_want : ByteArray := prog_1_method_13_code
def yX0_want : MethodName := ⟨RX0, "want", "(ZI)V"⟩
def dkwX0_want_0 : List UInt8 := [27, 154, 0, 12, 42, 180, 0, 56, 28, 182, 0, 70, 191, 177]
abbrev dktX0_want_0 : List UInt8 := dkwX0_want_0 ++ []
theorem dksX0_want_0 : cX0_want.data.toList.drop 0 = dktX0_want_0 := by decide +kernel
theorem dX0_want_0 : decode cX0_want 0 = .ok (.iload_n 1, 1) := dk_27 (dk_at dksX0_want_0 0 rfl rfl)
theorem dX0_want_1 : decode cX0_want 1 = .ok (.ifCond .ne 12, 3) := dk_154 0 12 (dk_at dksX0_want_0 1 rfl rfl)
theorem dX0_want_4 : decode cX0_want 4 = .ok (.aload_n 0, 1) := dk_42 (dk_at dksX0_want_0 4 rfl rfl)
theorem dX0_want_5 : decode cX0_want 5 = .ok (.getfield 56, 3) := dk_180 0 56 (dk_at dksX0_want_0 5 rfl rfl)
theorem dX0_want_8 : decode cX0_want 8 = .ok (.iload_n 2, 1) := dk_28 (dk_at dksX0_want_0 8 rfl rfl)
theorem dX0_want_9 : decode cX0_want 9 = .ok (.invokevirtual 70, 3) := dk_182 0 70 (dk_at dksX0_want_0 9 rfl rfl)
theorem dX0_want_12 : decode cX0_want 12 = .ok (.athrow, 1) := dk_191 (dk_at dksX0_want_0 12 rfl rfl)
theorem dX0_want_13 : decode cX0_want 13 = .ok (.return_, 1) := dk_177 (dk_at dksX0_want_0 13 rfl rfl)
abbrev cX0_row : ByteArray := prog_1_method_1_code
def yX0_row : MethodName := ⟨RX0, "row", "(II)Ljava/lang/Object;"⟩
def dkwX0_row_1 : List UInt8 := [160, 0, 9, 27, 188, 10, 167, 0, 6, 27, 188, 11, 176]
abbrev dktX0_row_1 : List UInt8 := dkwX0_row_1 ++ []
def dkwX0_row_0 : List UInt8 := [26, 154, 0, 9, 27, 188, 8, 167, 0, 28, 26, 4, 160, 0, 9, 27, 188, 9, 167, 0, 17, 26, 5]
abbrev dktX0_row_0 : List UInt8 := dkwX0_row_0 ++ dktX0_row_1
theorem dksX0_row_0 : cX0_row.data.toList.drop 0 = dktX0_row_0 := by decide +kernel
theorem dksX0_row_1 : cX0_row.data.toList.drop 23 = dktX0_row_1 := dk_seg dksX0_row_0 23 rfl rfl
theorem dX0_row_0 : decode cX0_row 0 = .ok (.iload_n 0, 1) := dk_26 (dk_at dksX0_row_0 0 rfl rfl)
theorem dX0_row_1 : decode cX0_row 1 = .ok (.ifCond .ne 9, 3) := dk_154 0 9 (dk_at dksX0_row_0 1 rfl rfl)
theorem dX0_row_4 : decode cX0_row 4 = .ok (.iload_n 1, 1) := dk_27 (dk_at dksX0_row_0 4 rfl rfl)
theorem dX0_row_5 : decode cX0_row 5 = .ok (.newarray .byte, 2) := dk_188_8 (dk_at dksX0_row_0 5 rfl rfl)
theorem dX0_row_7 : decode cX0_row 7 = .ok (.goto 28, 3) := dk_167 0 28 (dk_at dksX0_row_0 7 rfl rfl)
theorem dX0_row_10 : decode cX0_row 10 = .ok (.iload_n 0, 1) := dk_26 (dk_at dksX0_row_0 10 rfl rfl)
theorem dX0_row_11 : decode cX0_row 11 = .ok (.iconst 1, 1) := dk_4 (dk_at dksX0_row_0 11 rfl rfl)
theorem dX0_row_12 : decode cX0_row 12 = .ok (.if_icmp .ne 9, 3) := dk_160 0 9 (dk_at dksX0_row_0 12 rfl rfl)
theorem dX0_row_15 : decode cX0_row 15 = .ok (.iload_n 1, 1) := dk_27 (dk_at dksX0_row_0 15 rfl rfl)
theorem dX0_row_16 : decode cX0_row 16 = .ok (.newarray .short, 2) := dk_188_9 (dk_at dksX0_row_0 16 rfl rfl)
theorem dX0_row_18 : decode cX0_row 18 = .ok (.goto 17, 3) := dk_167 0 17 (dk_at dksX0_row_0 18 rfl rfl)
theorem dX0_row_21 : decode cX0_row 21 = .ok (.iload_n 0, 1) := dk_26 (dk_at dksX0_row_0 21 rfl rfl)
theorem dX0_row_22 : decode cX0_row 22 = .ok (.iconst 2, 1) := dk_5 (dk_at dksX0_row_0 22 rfl rfl)
theorem dX0_row_23 : decode cX0_row 23 = .ok (.if_icmp .ne 9, 3) := dk_160 0 9 (dk_at dksX0_row_1 0 rfl rfl)
theorem dX0_row_26 : decode cX0_row 26 = .ok (.iload_n 1, 1) := dk_27 (dk_at dksX0_row_1 3 rfl rfl)
theorem dX0_row_27 : decode cX0_row 27 = .ok (.newarray .int, 2) := dk_188_10 (dk_at dksX0_row_1 4 rfl rfl)
theorem dX0_row_29 : decode cX0_row 29 = .ok (.goto 6, 3) := dk_167 0 6 (dk_at dksX0_row_1 6 rfl rfl)
theorem dX0_row_32 : decode cX0_row 32 = .ok (.iload_n 1, 1) := dk_27 (dk_at dksX0_row_1 9 rfl rfl)
theorem dX0_row_33 : decode cX0_row 33 = .ok (.newarray .long, 2) := dk_188_11 (dk_at dksX0_row_1 10 rfl rfl)
theorem dX0_row_35 : decode cX0_row 35 = .ok (.areturn, 1) := dk_176 (dk_at dksX0_row_1 12 rfl rfl)
abbrev cX0_no : ByteArray := prog_1_method_16_code
def yX0_no : MethodName := ⟨RX0, "no", "(LTickShare$Refused;)Z"⟩
def dkwX0_no_0 : List UInt8 := [42, 43, 180, 0, 74, 181, 0, 63, 3, 172]
abbrev dktX0_no_0 : List UInt8 := dkwX0_no_0 ++ []
theorem dksX0_no_0 : cX0_no.data.toList.drop 0 = dktX0_no_0 := by decide +kernel
theorem dX0_no_0 : decode cX0_no 0 = .ok (.aload_n 0, 1) := dk_42 (dk_at dksX0_no_0 0 rfl rfl)
theorem dX0_no_1 : decode cX0_no 1 = .ok (.aload_n 1, 1) := dk_43 (dk_at dksX0_no_0 1 rfl rfl)
theorem dX0_no_2 : decode cX0_no 2 = .ok (.getfield 74, 3) := dk_180 0 74 (dk_at dksX0_no_0 2 rfl rfl)
theorem dX0_no_5 : decode cX0_no 5 = .ok (.putfield 63, 3) := dk_181 0 63 (dk_at dksX0_no_0 5 rfl rfl)
theorem dX0_no_8 : decode cX0_no 8 = .ok (.iconst 0, 1) := dk_3 (dk_at dksX0_no_0 8 rfl rfl)
theorem dX0_no_9 : decode cX0_no 9 = .ok (.ireturn, 1) := dk_172 (dk_at dksX0_no_0 9 rfl rfl)
abbrev cX0_write : ByteArray := prog_1_method_21_code
def yX0_write : MethodName := ⟨RX0, "write", "(IIJ)Z"⟩
def dkwX0_write_1 : List UInt8 := [3, 172, 58, 5, 42, 25, 5, 182, 0, 97, 172]
abbrev dktX0_write_1 : List UInt8 := dkwX0_write_1 ++ []
def dkwX0_write_0 : List UInt8 := [42, 3, 181, 0, 63, 42, 27, 182, 0, 101, 28, 33, 184, 0, 105, 4, 172, 58, 5, 42, 6, 181, 0, 63]
abbrev dktX0_write_0 : List UInt8 := dkwX0_write_0 ++ dktX0_write_1
theorem dksX0_write_0 : cX0_write.data.toList.drop 0 = dktX0_write_0 := by decide +kernel
theorem dksX0_write_1 : cX0_write.data.toList.drop 24 = dktX0_write_1 := dk_seg dksX0_write_0 24 rfl rfl
theorem dX0_write_0 : decode cX0_write 0 = .ok (.aload_n 0, 1) := dk_42 (dk_at dksX0_write_0 0 rfl rfl)
theorem dX0_write_1 : decode cX0_write 1 = .ok (.iconst 0, 1) := dk_3 (dk_at dksX0_write_0 1 rfl rfl)
theorem dX0_write_2 : decode cX0_write 2 = .ok (.putfield 63, 3) := dk_181 0 63 (dk_at dksX0_write_0 2 rfl rfl)
theorem dX0_write_5 : decode cX0_write 5 = .ok (.aload_n 0, 1) := dk_42 (dk_at dksX0_write_0 5 rfl rfl)
theorem dX0_write_6 : decode cX0_write 6 = .ok (.iload_n 1, 1) := dk_27 (dk_at dksX0_write_0 6 rfl rfl)
theorem dX0_write_7 : decode cX0_write 7 = .ok (.invokevirtual 101, 3) := dk_182 0 101 (dk_at dksX0_write_0 7 rfl rfl)
theorem dX0_write_10 : decode cX0_write 10 = .ok (.iload_n 2, 1) := dk_28 (dk_at dksX0_write_0 10 rfl rfl)
theorem dX0_write_11 : decode cX0_write 11 = .ok (.lload_n 3, 1) := dk_33 (dk_at dksX0_write_0 11 rfl rfl)
theorem dX0_write_12 : decode cX0_write 12 = .ok (.invokestatic 105, 3) := dk_184 0 105 (dk_at dksX0_write_0 12 rfl rfl)
theorem dX0_write_15 : decode cX0_write 15 = .ok (.iconst 1, 1) := dk_4 (dk_at dksX0_write_0 15 rfl rfl)
theorem dX0_write_16 : decode cX0_write 16 = .ok (.ireturn, 1) := dk_172 (dk_at dksX0_write_0 16 rfl rfl)
theorem dX0_write_17 : decode cX0_write 17 = .ok (.astore 5, 2) := dk_58 5 (dk_at dksX0_write_0 17 rfl rfl)
theorem dX0_write_19 : decode cX0_write 19 = .ok (.aload_n 0, 1) := dk_42 (dk_at dksX0_write_0 19 rfl rfl)
theorem dX0_write_20 : decode cX0_write 20 = .ok (.iconst 3, 1) := dk_6 (dk_at dksX0_write_0 20 rfl rfl)
theorem dX0_write_21 : decode cX0_write 21 = .ok (.putfield 63, 3) := dk_181 0 63 (dk_at dksX0_write_0 21 rfl rfl)
theorem dX0_write_24 : decode cX0_write 24 = .ok (.iconst 0, 1) := dk_3 (dk_at dksX0_write_1 0 rfl rfl)
theorem dX0_write_25 : decode cX0_write 25 = .ok (.ireturn, 1) := dk_172 (dk_at dksX0_write_1 1 rfl rfl)
theorem dX0_write_26 : decode cX0_write 26 = .ok (.astore 5, 2) := dk_58 5 (dk_at dksX0_write_1 2 rfl rfl)
theorem dX0_write_28 : decode cX0_write 28 = .ok (.aload_n 0, 1) := dk_42 (dk_at dksX0_write_1 4 rfl rfl)
theorem dX0_write_29 : decode cX0_write 29 = .ok (.aload 5, 2) := dk_25 5 (dk_at dksX0_write_1 5 rfl rfl)
theorem dX0_write_31 : decode cX0_write 31 = .ok (.invokevirtual 97, 3) := dk_182 0 97 (dk_at dksX0_write_1 7 rfl rfl)
theorem dX0_write_34 : decode cX0_write 34 = .ok (.ireturn, 1) := dk_172 (dk_at dksX0_write_1 10 rfl rfl)
abbrev cX0_on : ByteArray := prog_1_method_19_code
def yX0_on : MethodName := ⟨RX0, "on", "(I)Ljava/lang/Object;"⟩
def dkwX0_on_1 : List UInt8 := [27, 50, 198, 0, 7, 4, 167, 0, 4, 3, 5, 182, 0, 87, 42, 180, 0, 40, 27, 50, 176]
abbrev dktX0_on_1 : List UInt8 := dkwX0_on_1 ++ []
def dkwX0_on_0 : List UInt8 := [42, 27, 155, 0, 12, 27, 7, 162, 0, 7, 4, 167, 0, 4, 3, 4, 182, 0, 87, 42, 42, 180, 0, 40]
abbrev dktX0_on_0 : List UInt8 := dkwX0_on_0 ++ dktX0_on_1
theorem dksX0_on_0 : cX0_on.data.toList.drop 0 = dktX0_on_0 := by decide +kernel
theorem dksX0_on_1 : cX0_on.data.toList.drop 24 = dktX0_on_1 := dk_seg dksX0_on_0 24 rfl rfl
theorem dX0_on_0 : decode cX0_on 0 = .ok (.aload_n 0, 1) := dk_42 (dk_at dksX0_on_0 0 rfl rfl)
theorem dX0_on_1 : decode cX0_on 1 = .ok (.iload_n 1, 1) := dk_27 (dk_at dksX0_on_0 1 rfl rfl)
theorem dX0_on_2 : decode cX0_on 2 = .ok (.ifCond .lt 12, 3) := dk_155 0 12 (dk_at dksX0_on_0 2 rfl rfl)
theorem dX0_on_5 : decode cX0_on 5 = .ok (.iload_n 1, 1) := dk_27 (dk_at dksX0_on_0 5 rfl rfl)
theorem dX0_on_6 : decode cX0_on 6 = .ok (.iconst 4, 1) := dk_7 (dk_at dksX0_on_0 6 rfl rfl)
theorem dX0_on_7 : decode cX0_on 7 = .ok (.if_icmp .ge 7, 3) := dk_162 0 7 (dk_at dksX0_on_0 7 rfl rfl)
theorem dX0_on_10 : decode cX0_on 10 = .ok (.iconst 1, 1) := dk_4 (dk_at dksX0_on_0 10 rfl rfl)
theorem dX0_on_11 : decode cX0_on 11 = .ok (.goto 4, 3) := dk_167 0 4 (dk_at dksX0_on_0 11 rfl rfl)
theorem dX0_on_14 : decode cX0_on 14 = .ok (.iconst 0, 1) := dk_3 (dk_at dksX0_on_0 14 rfl rfl)
theorem dX0_on_15 : decode cX0_on 15 = .ok (.iconst 1, 1) := dk_4 (dk_at dksX0_on_0 15 rfl rfl)
theorem dX0_on_16 : decode cX0_on 16 = .ok (.invokevirtual 87, 3) := dk_182 0 87 (dk_at dksX0_on_0 16 rfl rfl)
theorem dX0_on_19 : decode cX0_on 19 = .ok (.aload_n 0, 1) := dk_42 (dk_at dksX0_on_0 19 rfl rfl)
theorem dX0_on_20 : decode cX0_on 20 = .ok (.aload_n 0, 1) := dk_42 (dk_at dksX0_on_0 20 rfl rfl)
theorem dX0_on_21 : decode cX0_on 21 = .ok (.getfield 40, 3) := dk_180 0 40 (dk_at dksX0_on_0 21 rfl rfl)
theorem dX0_on_24 : decode cX0_on 24 = .ok (.iload_n 1, 1) := dk_27 (dk_at dksX0_on_1 0 rfl rfl)
theorem dX0_on_25 : decode cX0_on 25 = .ok (.aaload, 1) := dk_50 (dk_at dksX0_on_1 1 rfl rfl)
theorem dX0_on_26 : decode cX0_on 26 = .ok (.ifnull 7, 3) := dk_198 0 7 (dk_at dksX0_on_1 2 rfl rfl)
theorem dX0_on_29 : decode cX0_on 29 = .ok (.iconst 1, 1) := dk_4 (dk_at dksX0_on_1 5 rfl rfl)
theorem dX0_on_30 : decode cX0_on 30 = .ok (.goto 4, 3) := dk_167 0 4 (dk_at dksX0_on_1 6 rfl rfl)
theorem dX0_on_33 : decode cX0_on 33 = .ok (.iconst 0, 1) := dk_3 (dk_at dksX0_on_1 9 rfl rfl)
theorem dX0_on_34 : decode cX0_on 34 = .ok (.iconst 2, 1) := dk_5 (dk_at dksX0_on_1 10 rfl rfl)
theorem dX0_on_35 : decode cX0_on 35 = .ok (.invokevirtual 87, 3) := dk_182 0 87 (dk_at dksX0_on_1 11 rfl rfl)
theorem dX0_on_38 : decode cX0_on 38 = .ok (.aload_n 0, 1) := dk_42 (dk_at dksX0_on_1 14 rfl rfl)
theorem dX0_on_39 : decode cX0_on 39 = .ok (.getfield 40, 3) := dk_180 0 40 (dk_at dksX0_on_1 15 rfl rfl)
theorem dX0_on_42 : decode cX0_on 42 = .ok (.iload_n 1, 1) := dk_27 (dk_at dksX0_on_1 18 rfl rfl)
theorem dX0_on_43 : decode cX0_on 43 = .ok (.aaload, 1) := dk_50 (dk_at dksX0_on_1 19 rfl rfl)
theorem dX0_on_44 : decode cX0_on 44 = .ok (.areturn, 1) := dk_176 (dk_at dksX0_on_1 20 rfl rfl)
abbrev cX0_put : ByteArray := prog_1_method_5_code
def yX0_put : MethodName := ⟨RX0, "put", "(Ljava/lang/Object;IJ)V"⟩
def dkwX0_put_3 : List UInt8 := [192, 0, 7, 27, 32, 80, 177]
abbrev dktX0_put_3 : List UInt8 := dkwX0_put_3 ++ []
def dkwX0_put_2 : List UInt8 := [193, 0, 5, 153, 0, 18, 42, 192, 0, 5, 58, 6, 25, 6, 27, 32, 136, 79, 167, 0, 10, 42]
abbrev dktX0_put_2 : List UInt8 := dkwX0_put_2 ++ dktX0_put_3
def dkwX0_put_1 : List UInt8 := [193, 0, 3, 153, 0, 19, 42, 192, 0, 3, 58, 5, 25, 5, 27, 32, 136, 147, 86, 167, 0, 32, 42]
abbrev dktX0_put_1 : List UInt8 := dkwX0_put_1 ++ dktX0_put_2
def dkwX0_put_0 : List UInt8 := [42, 193, 0, 1, 153, 0, 19, 42, 192, 0, 1, 58, 4, 25, 4, 27, 32, 136, 145, 84, 167, 0, 55, 42]
abbrev dktX0_put_0 : List UInt8 := dkwX0_put_0 ++ dktX0_put_1
theorem dksX0_put_0 : cX0_put.data.toList.drop 0 = dktX0_put_0 := by decide +kernel
theorem dksX0_put_1 : cX0_put.data.toList.drop 24 = dktX0_put_1 := dk_seg dksX0_put_0 24 rfl rfl
theorem dksX0_put_2 : cX0_put.data.toList.drop 47 = dktX0_put_2 := dk_seg dksX0_put_1 23 rfl rfl
theorem dksX0_put_3 : cX0_put.data.toList.drop 69 = dktX0_put_3 := dk_seg dksX0_put_2 22 rfl rfl
theorem dX0_put_0 : decode cX0_put 0 = .ok (.aload_n 0, 1) := dk_42 (dk_at dksX0_put_0 0 rfl rfl)
theorem dX0_put_1 : decode cX0_put 1 = .ok (.instanceof 1, 3) := dk_193 0 1 (dk_at dksX0_put_0 1 rfl rfl)
theorem dX0_put_4 : decode cX0_put 4 = .ok (.ifCond .eq 19, 3) := dk_153 0 19 (dk_at dksX0_put_0 4 rfl rfl)
theorem dX0_put_7 : decode cX0_put 7 = .ok (.aload_n 0, 1) := dk_42 (dk_at dksX0_put_0 7 rfl rfl)
theorem dX0_put_8 : decode cX0_put 8 = .ok (.checkcast 1, 3) := dk_192 0 1 (dk_at dksX0_put_0 8 rfl rfl)
theorem dX0_put_11 : decode cX0_put 11 = .ok (.astore 4, 2) := dk_58 4 (dk_at dksX0_put_0 11 rfl rfl)
theorem dX0_put_13 : decode cX0_put 13 = .ok (.aload 4, 2) := dk_25 4 (dk_at dksX0_put_0 13 rfl rfl)
theorem dX0_put_15 : decode cX0_put 15 = .ok (.iload_n 1, 1) := dk_27 (dk_at dksX0_put_0 15 rfl rfl)
theorem dX0_put_16 : decode cX0_put 16 = .ok (.lload_n 2, 1) := dk_32 (dk_at dksX0_put_0 16 rfl rfl)
theorem dX0_put_17 : decode cX0_put 17 = .ok (.l2i, 1) := dk_136 (dk_at dksX0_put_0 17 rfl rfl)
theorem dX0_put_18 : decode cX0_put 18 = .ok (.i2b, 1) := dk_145 (dk_at dksX0_put_0 18 rfl rfl)
theorem dX0_put_19 : decode cX0_put 19 = .ok (.bastore, 1) := dk_84 (dk_at dksX0_put_0 19 rfl rfl)
theorem dX0_put_20 : decode cX0_put 20 = .ok (.goto 55, 3) := dk_167 0 55 (dk_at dksX0_put_0 20 rfl rfl)
theorem dX0_put_23 : decode cX0_put 23 = .ok (.aload_n 0, 1) := dk_42 (dk_at dksX0_put_0 23 rfl rfl)
theorem dX0_put_24 : decode cX0_put 24 = .ok (.instanceof 3, 3) := dk_193 0 3 (dk_at dksX0_put_1 0 rfl rfl)
theorem dX0_put_27 : decode cX0_put 27 = .ok (.ifCond .eq 19, 3) := dk_153 0 19 (dk_at dksX0_put_1 3 rfl rfl)
theorem dX0_put_30 : decode cX0_put 30 = .ok (.aload_n 0, 1) := dk_42 (dk_at dksX0_put_1 6 rfl rfl)
theorem dX0_put_31 : decode cX0_put 31 = .ok (.checkcast 3, 3) := dk_192 0 3 (dk_at dksX0_put_1 7 rfl rfl)
theorem dX0_put_34 : decode cX0_put 34 = .ok (.astore 5, 2) := dk_58 5 (dk_at dksX0_put_1 10 rfl rfl)
theorem dX0_put_36 : decode cX0_put 36 = .ok (.aload 5, 2) := dk_25 5 (dk_at dksX0_put_1 12 rfl rfl)
theorem dX0_put_38 : decode cX0_put 38 = .ok (.iload_n 1, 1) := dk_27 (dk_at dksX0_put_1 14 rfl rfl)
theorem dX0_put_39 : decode cX0_put 39 = .ok (.lload_n 2, 1) := dk_32 (dk_at dksX0_put_1 15 rfl rfl)
theorem dX0_put_40 : decode cX0_put 40 = .ok (.l2i, 1) := dk_136 (dk_at dksX0_put_1 16 rfl rfl)
theorem dX0_put_41 : decode cX0_put 41 = .ok (.i2s, 1) := dk_147 (dk_at dksX0_put_1 17 rfl rfl)
theorem dX0_put_42 : decode cX0_put 42 = .ok (.sastore, 1) := dk_86 (dk_at dksX0_put_1 18 rfl rfl)
theorem dX0_put_43 : decode cX0_put 43 = .ok (.goto 32, 3) := dk_167 0 32 (dk_at dksX0_put_1 19 rfl rfl)
theorem dX0_put_46 : decode cX0_put 46 = .ok (.aload_n 0, 1) := dk_42 (dk_at dksX0_put_1 22 rfl rfl)
theorem dX0_put_47 : decode cX0_put 47 = .ok (.instanceof 5, 3) := dk_193 0 5 (dk_at dksX0_put_2 0 rfl rfl)
theorem dX0_put_50 : decode cX0_put 50 = .ok (.ifCond .eq 18, 3) := dk_153 0 18 (dk_at dksX0_put_2 3 rfl rfl)
theorem dX0_put_53 : decode cX0_put 53 = .ok (.aload_n 0, 1) := dk_42 (dk_at dksX0_put_2 6 rfl rfl)
theorem dX0_put_54 : decode cX0_put 54 = .ok (.checkcast 5, 3) := dk_192 0 5 (dk_at dksX0_put_2 7 rfl rfl)
theorem dX0_put_57 : decode cX0_put 57 = .ok (.astore 6, 2) := dk_58 6 (dk_at dksX0_put_2 10 rfl rfl)
theorem dX0_put_59 : decode cX0_put 59 = .ok (.aload 6, 2) := dk_25 6 (dk_at dksX0_put_2 12 rfl rfl)
theorem dX0_put_61 : decode cX0_put 61 = .ok (.iload_n 1, 1) := dk_27 (dk_at dksX0_put_2 14 rfl rfl)
theorem dX0_put_62 : decode cX0_put 62 = .ok (.lload_n 2, 1) := dk_32 (dk_at dksX0_put_2 15 rfl rfl)
theorem dX0_put_63 : decode cX0_put 63 = .ok (.l2i, 1) := dk_136 (dk_at dksX0_put_2 16 rfl rfl)
theorem dX0_put_64 : decode cX0_put 64 = .ok (.iastore, 1) := dk_79 (dk_at dksX0_put_2 17 rfl rfl)
theorem dX0_put_65 : decode cX0_put 65 = .ok (.goto 10, 3) := dk_167 0 10 (dk_at dksX0_put_2 18 rfl rfl)
theorem dX0_put_68 : decode cX0_put 68 = .ok (.aload_n 0, 1) := dk_42 (dk_at dksX0_put_2 21 rfl rfl)
theorem dX0_put_69 : decode cX0_put 69 = .ok (.checkcast 7, 3) := dk_192 0 7 (dk_at dksX0_put_3 0 rfl rfl)
theorem dX0_put_72 : decode cX0_put 72 = .ok (.iload_n 1, 1) := dk_27 (dk_at dksX0_put_3 3 rfl rfl)
theorem dX0_put_73 : decode cX0_put 73 = .ok (.lload_n 2, 1) := dk_32 (dk_at dksX0_put_3 4 rfl rfl)
theorem dX0_put_74 : decode cX0_put 74 = .ok (.lastore, 1) := dk_80 (dk_at dksX0_put_3 5 rfl rfl)
theorem dX0_put_75 : decode cX0_put 75 = .ok (.return_, 1) := dk_177 (dk_at dksX0_put_3 6 rfl rfl)
abbrev cX0_read : ByteArray := prog_1_method_22_code
def yX0_read : MethodName := ⟨RX0, "read", "(II)J"⟩
def dkwX0_read_1 : List UInt8 := [173, 78, 42, 45, 182, 0, 117, 133, 173]
abbrev dktX0_read_1 : List UInt8 := dkwX0_read_1 ++ []
def dkwX0_read_0 : List UInt8 := [42, 3, 181, 0, 63, 42, 27, 182, 0, 101, 28, 184, 0, 111, 173, 78, 42, 6, 181, 0, 63, 20, 0, 115]
abbrev dktX0_read_0 : List UInt8 := dkwX0_read_0 ++ dktX0_read_1
theorem dksX0_read_0 : cX0_read.data.toList.drop 0 = dktX0_read_0 := by decide +kernel
theorem dksX0_read_1 : cX0_read.data.toList.drop 24 = dktX0_read_1 := dk_seg dksX0_read_0 24 rfl rfl
theorem dX0_read_0 : decode cX0_read 0 = .ok (.aload_n 0, 1) := dk_42 (dk_at dksX0_read_0 0 rfl rfl)
theorem dX0_read_1 : decode cX0_read 1 = .ok (.iconst 0, 1) := dk_3 (dk_at dksX0_read_0 1 rfl rfl)
theorem dX0_read_2 : decode cX0_read 2 = .ok (.putfield 63, 3) := dk_181 0 63 (dk_at dksX0_read_0 2 rfl rfl)
theorem dX0_read_5 : decode cX0_read 5 = .ok (.aload_n 0, 1) := dk_42 (dk_at dksX0_read_0 5 rfl rfl)
theorem dX0_read_6 : decode cX0_read 6 = .ok (.iload_n 1, 1) := dk_27 (dk_at dksX0_read_0 6 rfl rfl)
theorem dX0_read_7 : decode cX0_read 7 = .ok (.invokevirtual 101, 3) := dk_182 0 101 (dk_at dksX0_read_0 7 rfl rfl)
theorem dX0_read_10 : decode cX0_read 10 = .ok (.iload_n 2, 1) := dk_28 (dk_at dksX0_read_0 10 rfl rfl)
theorem dX0_read_11 : decode cX0_read 11 = .ok (.invokestatic 111, 3) := dk_184 0 111 (dk_at dksX0_read_0 11 rfl rfl)
theorem dX0_read_14 : decode cX0_read 14 = .ok (.lreturn, 1) := dk_173 (dk_at dksX0_read_0 14 rfl rfl)
theorem dX0_read_15 : decode cX0_read 15 = .ok (.astore_n 3, 1) := dk_78 (dk_at dksX0_read_0 15 rfl rfl)
theorem dX0_read_16 : decode cX0_read 16 = .ok (.aload_n 0, 1) := dk_42 (dk_at dksX0_read_0 16 rfl rfl)
theorem dX0_read_17 : decode cX0_read 17 = .ok (.iconst 3, 1) := dk_6 (dk_at dksX0_read_0 17 rfl rfl)
theorem dX0_read_18 : decode cX0_read 18 = .ok (.putfield 63, 3) := dk_181 0 63 (dk_at dksX0_read_0 18 rfl rfl)
theorem dX0_read_21 : decode cX0_read 21 = .ok (.ldc2_w 115, 3) := dk_20 0 115 (dk_at dksX0_read_0 21 rfl rfl)
theorem dX0_read_24 : decode cX0_read 24 = .ok (.lreturn, 1) := dk_173 (dk_at dksX0_read_1 0 rfl rfl)
theorem dX0_read_25 : decode cX0_read 25 = .ok (.astore_n 3, 1) := dk_78 (dk_at dksX0_read_1 1 rfl rfl)
theorem dX0_read_26 : decode cX0_read 26 = .ok (.aload_n 0, 1) := dk_42 (dk_at dksX0_read_1 2 rfl rfl)
theorem dX0_read_27 : decode cX0_read 27 = .ok (.aload_n 3, 1) := dk_45 (dk_at dksX0_read_1 3 rfl rfl)
theorem dX0_read_28 : decode cX0_read 28 = .ok (.invokevirtual 117, 3) := dk_182 0 117 (dk_at dksX0_read_1 4 rfl rfl)
theorem dX0_read_31 : decode cX0_read 31 = .ok (.i2l, 1) := dk_133 (dk_at dksX0_read_1 7 rfl rfl)
theorem dX0_read_32 : decode cX0_read 32 = .ok (.lreturn, 1) := dk_173 (dk_at dksX0_read_1 8 rfl rfl)
abbrev cX0_number : ByteArray := prog_1_method_4_code
def yX0_number : MethodName := ⟨RX0, "number", "(Ljava/lang/Object;I)J"⟩
def dkwX0_number_2 : List UInt8 := [46, 133, 167, 0, 9, 42, 192, 0, 7, 27, 47, 173]
abbrev dktX0_number_2 : List UInt8 := dkwX0_number_2 ++ []
def dkwX0_number_1 : List UInt8 := [42, 192, 0, 3, 77, 44, 27, 53, 133, 173, 42, 193, 0, 5, 153, 0, 15, 42, 192, 0, 5, 77, 44, 27]
abbrev dktX0_number_1 : List UInt8 := dkwX0_number_1 ++ dktX0_number_2
def dkwX0_number_0 : List UInt8 := [42, 193, 0, 1, 153, 0, 13, 42, 192, 0, 1, 77, 44, 27, 51, 133, 173, 42, 193, 0, 3, 153, 0, 13]
abbrev dktX0_number_0 : List UInt8 := dkwX0_number_0 ++ dktX0_number_1
theorem dksX0_number_0 : cX0_number.data.toList.drop 0 = dktX0_number_0 := by decide +kernel
theorem dksX0_number_1 : cX0_number.data.toList.drop 24 = dktX0_number_1 := dk_seg dksX0_number_0 24 rfl rfl
theorem dksX0_number_2 : cX0_number.data.toList.drop 48 = dktX0_number_2 := dk_seg dksX0_number_1 24 rfl rfl
theorem dX0_number_0 : decode cX0_number 0 = .ok (.aload_n 0, 1) := dk_42 (dk_at dksX0_number_0 0 rfl rfl)
theorem dX0_number_1 : decode cX0_number 1 = .ok (.instanceof 1, 3) := dk_193 0 1 (dk_at dksX0_number_0 1 rfl rfl)
theorem dX0_number_4 : decode cX0_number 4 = .ok (.ifCond .eq 13, 3) := dk_153 0 13 (dk_at dksX0_number_0 4 rfl rfl)
theorem dX0_number_7 : decode cX0_number 7 = .ok (.aload_n 0, 1) := dk_42 (dk_at dksX0_number_0 7 rfl rfl)
theorem dX0_number_8 : decode cX0_number 8 = .ok (.checkcast 1, 3) := dk_192 0 1 (dk_at dksX0_number_0 8 rfl rfl)
theorem dX0_number_11 : decode cX0_number 11 = .ok (.astore_n 2, 1) := dk_77 (dk_at dksX0_number_0 11 rfl rfl)
theorem dX0_number_12 : decode cX0_number 12 = .ok (.aload_n 2, 1) := dk_44 (dk_at dksX0_number_0 12 rfl rfl)
theorem dX0_number_13 : decode cX0_number 13 = .ok (.iload_n 1, 1) := dk_27 (dk_at dksX0_number_0 13 rfl rfl)
theorem dX0_number_14 : decode cX0_number 14 = .ok (.baload, 1) := dk_51 (dk_at dksX0_number_0 14 rfl rfl)
theorem dX0_number_15 : decode cX0_number 15 = .ok (.i2l, 1) := dk_133 (dk_at dksX0_number_0 15 rfl rfl)
theorem dX0_number_16 : decode cX0_number 16 = .ok (.lreturn, 1) := dk_173 (dk_at dksX0_number_0 16 rfl rfl)
theorem dX0_number_17 : decode cX0_number 17 = .ok (.aload_n 0, 1) := dk_42 (dk_at dksX0_number_0 17 rfl rfl)
theorem dX0_number_18 : decode cX0_number 18 = .ok (.instanceof 3, 3) := dk_193 0 3 (dk_at dksX0_number_0 18 rfl rfl)
theorem dX0_number_21 : decode cX0_number 21 = .ok (.ifCond .eq 13, 3) := dk_153 0 13 (dk_at dksX0_number_0 21 rfl rfl)
theorem dX0_number_24 : decode cX0_number 24 = .ok (.aload_n 0, 1) := dk_42 (dk_at dksX0_number_1 0 rfl rfl)
theorem dX0_number_25 : decode cX0_number 25 = .ok (.checkcast 3, 3) := dk_192 0 3 (dk_at dksX0_number_1 1 rfl rfl)
theorem dX0_number_28 : decode cX0_number 28 = .ok (.astore_n 2, 1) := dk_77 (dk_at dksX0_number_1 4 rfl rfl)
theorem dX0_number_29 : decode cX0_number 29 = .ok (.aload_n 2, 1) := dk_44 (dk_at dksX0_number_1 5 rfl rfl)
theorem dX0_number_30 : decode cX0_number 30 = .ok (.iload_n 1, 1) := dk_27 (dk_at dksX0_number_1 6 rfl rfl)
theorem dX0_number_31 : decode cX0_number 31 = .ok (.saload, 1) := dk_53 (dk_at dksX0_number_1 7 rfl rfl)
theorem dX0_number_32 : decode cX0_number 32 = .ok (.i2l, 1) := dk_133 (dk_at dksX0_number_1 8 rfl rfl)
theorem dX0_number_33 : decode cX0_number 33 = .ok (.lreturn, 1) := dk_173 (dk_at dksX0_number_1 9 rfl rfl)
theorem dX0_number_34 : decode cX0_number 34 = .ok (.aload_n 0, 1) := dk_42 (dk_at dksX0_number_1 10 rfl rfl)
theorem dX0_number_35 : decode cX0_number 35 = .ok (.instanceof 5, 3) := dk_193 0 5 (dk_at dksX0_number_1 11 rfl rfl)
theorem dX0_number_38 : decode cX0_number 38 = .ok (.ifCond .eq 15, 3) := dk_153 0 15 (dk_at dksX0_number_1 14 rfl rfl)
theorem dX0_number_41 : decode cX0_number 41 = .ok (.aload_n 0, 1) := dk_42 (dk_at dksX0_number_1 17 rfl rfl)
theorem dX0_number_42 : decode cX0_number 42 = .ok (.checkcast 5, 3) := dk_192 0 5 (dk_at dksX0_number_1 18 rfl rfl)
theorem dX0_number_45 : decode cX0_number 45 = .ok (.astore_n 2, 1) := dk_77 (dk_at dksX0_number_1 21 rfl rfl)
theorem dX0_number_46 : decode cX0_number 46 = .ok (.aload_n 2, 1) := dk_44 (dk_at dksX0_number_1 22 rfl rfl)
theorem dX0_number_47 : decode cX0_number 47 = .ok (.iload_n 1, 1) := dk_27 (dk_at dksX0_number_1 23 rfl rfl)
theorem dX0_number_48 : decode cX0_number 48 = .ok (.iaload, 1) := dk_46 (dk_at dksX0_number_2 0 rfl rfl)
theorem dX0_number_49 : decode cX0_number 49 = .ok (.i2l, 1) := dk_133 (dk_at dksX0_number_2 1 rfl rfl)
theorem dX0_number_50 : decode cX0_number 50 = .ok (.goto 9, 3) := dk_167 0 9 (dk_at dksX0_number_2 2 rfl rfl)
theorem dX0_number_53 : decode cX0_number 53 = .ok (.aload_n 0, 1) := dk_42 (dk_at dksX0_number_2 5 rfl rfl)
theorem dX0_number_54 : decode cX0_number 54 = .ok (.checkcast 7, 3) := dk_192 0 7 (dk_at dksX0_number_2 6 rfl rfl)
theorem dX0_number_57 : decode cX0_number 57 = .ok (.iload_n 1, 1) := dk_27 (dk_at dksX0_number_2 9 rfl rfl)
theorem dX0_number_58 : decode cX0_number 58 = .ok (.laload, 1) := dk_47 (dk_at dksX0_number_2 10 rfl rfl)
theorem dX0_number_59 : decode cX0_number 59 = .ok (.lreturn, 1) := dk_173 (dk_at dksX0_number_2 11 rfl rfl)
abbrev cX0_none : ByteArray := prog_1_method_14_code
def yX0_none : MethodName := ⟨RX0, "none", "(LTickShare$Refused;)I"⟩
def dkwX0_none_0 : List UInt8 := [42, 43, 180, 0, 74, 181, 0, 63, 2, 172]
abbrev dktX0_none_0 : List UInt8 := dkwX0_none_0 ++ []
theorem dksX0_none_0 : cX0_none.data.toList.drop 0 = dktX0_none_0 := by decide +kernel
theorem dX0_none_0 : decode cX0_none 0 = .ok (.aload_n 0, 1) := dk_42 (dk_at dksX0_none_0 0 rfl rfl)
theorem dX0_none_1 : decode cX0_none 1 = .ok (.aload_n 1, 1) := dk_43 (dk_at dksX0_none_0 1 rfl rfl)
theorem dX0_none_2 : decode cX0_none 2 = .ok (.getfield 74, 3) := dk_180 0 74 (dk_at dksX0_none_0 2 rfl rfl)
theorem dX0_none_5 : decode cX0_none 5 = .ok (.putfield 63, 3) := dk_181 0 63 (dk_at dksX0_none_0 5 rfl rfl)
theorem dX0_none_8 : decode cX0_none 8 = .ok (.iconst (-1), 1) := dk_2 (dk_at dksX0_none_0 8 rfl rfl)
theorem dX0_none_9 : decode cX0_none 9 = .ok (.ireturn, 1) := dk_172 (dk_at dksX0_none_0 9 rfl rfl)
abbrev cX0_pour : ByteArray := prog_1_method_23_code
def yX0_pour : MethodName := ⟨RX0, "pour", "(IIIII)Z"⟩
def dkwX0_pour_5 : List UInt8 := [182, 0, 97, 172]
abbrev dktX0_pour_5 : List UInt8 := dkwX0_pour_5 ++ []
def dkwX0_pour_4 : List UInt8 := [184, 0, 125, 167, 0, 14, 58, 8, 42, 180, 0, 56, 6, 182, 0, 70, 191, 4, 172, 58, 6, 42, 25, 6]
abbrev dktX0_pour_4 : List UInt8 := dkwX0_pour_4 ++ dktX0_pour_5
def dkwX0_pour_3 : List UInt8 := [160, 0, 7, 4, 167, 0, 4, 3, 16, 7, 182, 0, 87, 25, 6, 28, 25, 7, 21, 4, 21, 5]
abbrev dktX0_pour_3 : List UInt8 := dkwX0_pour_3 ++ dktX0_pour_4
def dkwX0_pour_2 : List UInt8 := [27, 182, 0, 101, 58, 6, 42, 29, 182, 0, 101, 58, 7, 42, 25, 6, 184, 0, 121, 25, 7, 184, 0, 121]
abbrev dktX0_pour_2 : List UInt8 := dkwX0_pour_2 ++ dktX0_pour_3
def dkwX0_pour_1 : List UInt8 := [28, 155, 0, 17, 21, 4, 155, 0, 12, 21, 5, 155, 0, 7, 4, 167, 0, 4, 3, 4, 182, 0, 87, 42]
abbrev dktX0_pour_1 : List UInt8 := dkwX0_pour_1 ++ dktX0_pour_2
def dkwX0_pour_0 : List UInt8 := [42, 3, 181, 0, 63, 42, 27, 155, 0, 35, 27, 7, 162, 0, 30, 29, 155, 0, 26, 29, 7, 162, 0, 21]
abbrev dktX0_pour_0 : List UInt8 := dkwX0_pour_0 ++ dktX0_pour_1
theorem dksX0_pour_0 : cX0_pour.data.toList.drop 0 = dktX0_pour_0 := by decide +kernel
theorem dksX0_pour_1 : cX0_pour.data.toList.drop 24 = dktX0_pour_1 := dk_seg dksX0_pour_0 24 rfl rfl
theorem dksX0_pour_2 : cX0_pour.data.toList.drop 48 = dktX0_pour_2 := dk_seg dksX0_pour_1 24 rfl rfl
theorem dksX0_pour_3 : cX0_pour.data.toList.drop 72 = dktX0_pour_3 := dk_seg dksX0_pour_2 24 rfl rfl
theorem dksX0_pour_4 : cX0_pour.data.toList.drop 94 = dktX0_pour_4 := dk_seg dksX0_pour_3 22 rfl rfl
theorem dksX0_pour_5 : cX0_pour.data.toList.drop 118 = dktX0_pour_5 := dk_seg dksX0_pour_4 24 rfl rfl
theorem dX0_pour_0 : decode cX0_pour 0 = .ok (.aload_n 0, 1) := dk_42 (dk_at dksX0_pour_0 0 rfl rfl)
theorem dX0_pour_1 : decode cX0_pour 1 = .ok (.iconst 0, 1) := dk_3 (dk_at dksX0_pour_0 1 rfl rfl)
theorem dX0_pour_2 : decode cX0_pour 2 = .ok (.putfield 63, 3) := dk_181 0 63 (dk_at dksX0_pour_0 2 rfl rfl)
theorem dX0_pour_5 : decode cX0_pour 5 = .ok (.aload_n 0, 1) := dk_42 (dk_at dksX0_pour_0 5 rfl rfl)
theorem dX0_pour_6 : decode cX0_pour 6 = .ok (.iload_n 1, 1) := dk_27 (dk_at dksX0_pour_0 6 rfl rfl)
theorem dX0_pour_7 : decode cX0_pour 7 = .ok (.ifCond .lt 35, 3) := dk_155 0 35 (dk_at dksX0_pour_0 7 rfl rfl)
theorem dX0_pour_10 : decode cX0_pour 10 = .ok (.iload_n 1, 1) := dk_27 (dk_at dksX0_pour_0 10 rfl rfl)
theorem dX0_pour_11 : decode cX0_pour 11 = .ok (.iconst 4, 1) := dk_7 (dk_at dksX0_pour_0 11 rfl rfl)
theorem dX0_pour_12 : decode cX0_pour 12 = .ok (.if_icmp .ge 30, 3) := dk_162 0 30 (dk_at dksX0_pour_0 12 rfl rfl)
theorem dX0_pour_15 : decode cX0_pour 15 = .ok (.iload_n 3, 1) := dk_29 (dk_at dksX0_pour_0 15 rfl rfl)
theorem dX0_pour_16 : decode cX0_pour 16 = .ok (.ifCond .lt 26, 3) := dk_155 0 26 (dk_at dksX0_pour_0 16 rfl rfl)
theorem dX0_pour_19 : decode cX0_pour 19 = .ok (.iload_n 3, 1) := dk_29 (dk_at dksX0_pour_0 19 rfl rfl)
theorem dX0_pour_20 : decode cX0_pour 20 = .ok (.iconst 4, 1) := dk_7 (dk_at dksX0_pour_0 20 rfl rfl)
theorem dX0_pour_21 : decode cX0_pour 21 = .ok (.if_icmp .ge 21, 3) := dk_162 0 21 (dk_at dksX0_pour_0 21 rfl rfl)
theorem dX0_pour_24 : decode cX0_pour 24 = .ok (.iload_n 2, 1) := dk_28 (dk_at dksX0_pour_1 0 rfl rfl)
theorem dX0_pour_25 : decode cX0_pour 25 = .ok (.ifCond .lt 17, 3) := dk_155 0 17 (dk_at dksX0_pour_1 1 rfl rfl)
theorem dX0_pour_28 : decode cX0_pour 28 = .ok (.iload 4, 2) := dk_21 4 (dk_at dksX0_pour_1 4 rfl rfl)
theorem dX0_pour_30 : decode cX0_pour 30 = .ok (.ifCond .lt 12, 3) := dk_155 0 12 (dk_at dksX0_pour_1 6 rfl rfl)
theorem dX0_pour_33 : decode cX0_pour 33 = .ok (.iload 5, 2) := dk_21 5 (dk_at dksX0_pour_1 9 rfl rfl)
theorem dX0_pour_35 : decode cX0_pour 35 = .ok (.ifCond .lt 7, 3) := dk_155 0 7 (dk_at dksX0_pour_1 11 rfl rfl)
theorem dX0_pour_38 : decode cX0_pour 38 = .ok (.iconst 1, 1) := dk_4 (dk_at dksX0_pour_1 14 rfl rfl)
theorem dX0_pour_39 : decode cX0_pour 39 = .ok (.goto 4, 3) := dk_167 0 4 (dk_at dksX0_pour_1 15 rfl rfl)
theorem dX0_pour_42 : decode cX0_pour 42 = .ok (.iconst 0, 1) := dk_3 (dk_at dksX0_pour_1 18 rfl rfl)
theorem dX0_pour_43 : decode cX0_pour 43 = .ok (.iconst 1, 1) := dk_4 (dk_at dksX0_pour_1 19 rfl rfl)
theorem dX0_pour_44 : decode cX0_pour 44 = .ok (.invokevirtual 87, 3) := dk_182 0 87 (dk_at dksX0_pour_1 20 rfl rfl)
theorem dX0_pour_47 : decode cX0_pour 47 = .ok (.aload_n 0, 1) := dk_42 (dk_at dksX0_pour_1 23 rfl rfl)
theorem dX0_pour_48 : decode cX0_pour 48 = .ok (.iload_n 1, 1) := dk_27 (dk_at dksX0_pour_2 0 rfl rfl)
theorem dX0_pour_49 : decode cX0_pour 49 = .ok (.invokevirtual 101, 3) := dk_182 0 101 (dk_at dksX0_pour_2 1 rfl rfl)
theorem dX0_pour_52 : decode cX0_pour 52 = .ok (.astore 6, 2) := dk_58 6 (dk_at dksX0_pour_2 4 rfl rfl)
theorem dX0_pour_54 : decode cX0_pour 54 = .ok (.aload_n 0, 1) := dk_42 (dk_at dksX0_pour_2 6 rfl rfl)
theorem dX0_pour_55 : decode cX0_pour 55 = .ok (.iload_n 3, 1) := dk_29 (dk_at dksX0_pour_2 7 rfl rfl)
theorem dX0_pour_56 : decode cX0_pour 56 = .ok (.invokevirtual 101, 3) := dk_182 0 101 (dk_at dksX0_pour_2 8 rfl rfl)
theorem dX0_pour_59 : decode cX0_pour 59 = .ok (.astore 7, 2) := dk_58 7 (dk_at dksX0_pour_2 11 rfl rfl)
theorem dX0_pour_61 : decode cX0_pour 61 = .ok (.aload_n 0, 1) := dk_42 (dk_at dksX0_pour_2 13 rfl rfl)
theorem dX0_pour_62 : decode cX0_pour 62 = .ok (.aload 6, 2) := dk_25 6 (dk_at dksX0_pour_2 14 rfl rfl)
theorem dX0_pour_64 : decode cX0_pour 64 = .ok (.invokestatic 121, 3) := dk_184 0 121 (dk_at dksX0_pour_2 16 rfl rfl)
theorem dX0_pour_67 : decode cX0_pour 67 = .ok (.aload 7, 2) := dk_25 7 (dk_at dksX0_pour_2 19 rfl rfl)
theorem dX0_pour_69 : decode cX0_pour 69 = .ok (.invokestatic 121, 3) := dk_184 0 121 (dk_at dksX0_pour_2 21 rfl rfl)
theorem dX0_pour_72 : decode cX0_pour 72 = .ok (.if_icmp .ne 7, 3) := dk_160 0 7 (dk_at dksX0_pour_3 0 rfl rfl)
theorem dX0_pour_75 : decode cX0_pour 75 = .ok (.iconst 1, 1) := dk_4 (dk_at dksX0_pour_3 3 rfl rfl)
theorem dX0_pour_76 : decode cX0_pour 76 = .ok (.goto 4, 3) := dk_167 0 4 (dk_at dksX0_pour_3 4 rfl rfl)
theorem dX0_pour_79 : decode cX0_pour 79 = .ok (.iconst 0, 1) := dk_3 (dk_at dksX0_pour_3 7 rfl rfl)
theorem dX0_pour_80 : decode cX0_pour 80 = .ok (.bipush 7, 2) := dk_16 7 (dk_at dksX0_pour_3 8 rfl rfl)
theorem dX0_pour_82 : decode cX0_pour 82 = .ok (.invokevirtual 87, 3) := dk_182 0 87 (dk_at dksX0_pour_3 10 rfl rfl)
theorem dX0_pour_85 : decode cX0_pour 85 = .ok (.aload 6, 2) := dk_25 6 (dk_at dksX0_pour_3 13 rfl rfl)
theorem dX0_pour_87 : decode cX0_pour 87 = .ok (.iload_n 2, 1) := dk_28 (dk_at dksX0_pour_3 15 rfl rfl)
theorem dX0_pour_88 : decode cX0_pour 88 = .ok (.aload 7, 2) := dk_25 7 (dk_at dksX0_pour_3 16 rfl rfl)
theorem dX0_pour_90 : decode cX0_pour 90 = .ok (.iload 4, 2) := dk_21 4 (dk_at dksX0_pour_3 18 rfl rfl)
theorem dX0_pour_92 : decode cX0_pour 92 = .ok (.iload 5, 2) := dk_21 5 (dk_at dksX0_pour_3 20 rfl rfl)
theorem dX0_pour_94 : decode cX0_pour 94 = .ok (.invokestatic 125, 3) := dk_184 0 125 (dk_at dksX0_pour_4 0 rfl rfl)
theorem dX0_pour_97 : decode cX0_pour 97 = .ok (.goto 14, 3) := dk_167 0 14 (dk_at dksX0_pour_4 3 rfl rfl)
theorem dX0_pour_100 : decode cX0_pour 100 = .ok (.astore 8, 2) := dk_58 8 (dk_at dksX0_pour_4 6 rfl rfl)
theorem dX0_pour_102 : decode cX0_pour 102 = .ok (.aload_n 0, 1) := dk_42 (dk_at dksX0_pour_4 8 rfl rfl)
theorem dX0_pour_103 : decode cX0_pour 103 = .ok (.getfield 56, 3) := dk_180 0 56 (dk_at dksX0_pour_4 9 rfl rfl)
theorem dX0_pour_106 : decode cX0_pour 106 = .ok (.iconst 3, 1) := dk_6 (dk_at dksX0_pour_4 12 rfl rfl)
theorem dX0_pour_107 : decode cX0_pour 107 = .ok (.invokevirtual 70, 3) := dk_182 0 70 (dk_at dksX0_pour_4 13 rfl rfl)
theorem dX0_pour_110 : decode cX0_pour 110 = .ok (.athrow, 1) := dk_191 (dk_at dksX0_pour_4 16 rfl rfl)
theorem dX0_pour_111 : decode cX0_pour 111 = .ok (.iconst 1, 1) := dk_4 (dk_at dksX0_pour_4 17 rfl rfl)
theorem dX0_pour_112 : decode cX0_pour 112 = .ok (.ireturn, 1) := dk_172 (dk_at dksX0_pour_4 18 rfl rfl)
theorem dX0_pour_113 : decode cX0_pour 113 = .ok (.astore 6, 2) := dk_58 6 (dk_at dksX0_pour_4 19 rfl rfl)
theorem dX0_pour_115 : decode cX0_pour 115 = .ok (.aload_n 0, 1) := dk_42 (dk_at dksX0_pour_4 21 rfl rfl)
theorem dX0_pour_116 : decode cX0_pour 116 = .ok (.aload 6, 2) := dk_25 6 (dk_at dksX0_pour_4 22 rfl rfl)
theorem dX0_pour_118 : decode cX0_pour 118 = .ok (.invokevirtual 97, 3) := dk_182 0 97 (dk_at dksX0_pour_5 0 rfl rfl)
theorem dX0_pour_121 : decode cX0_pour 121 = .ok (.ireturn, 1) := dk_172 (dk_at dksX0_pour_5 3 rfl rfl)
abbrev cX0_sortOf : ByteArray := prog_1_method_2_code
def yX0_sortOf : MethodName := ⟨RX0, "sortOf", "(Ljava/lang/Object;)I"⟩
def dkwX0_sortOf_1 : List UInt8 := [193, 0, 5, 153, 0, 7, 5, 167, 0, 4, 6, 172]
abbrev dktX0_sortOf_1 : List UInt8 := dkwX0_sortOf_1 ++ []
def dkwX0_sortOf_0 : List UInt8 := [42, 193, 0, 1, 153, 0, 7, 3, 167, 0, 26, 42, 193, 0, 3, 153, 0, 7, 4, 167, 0, 15, 42]
abbrev dktX0_sortOf_0 : List UInt8 := dkwX0_sortOf_0 ++ dktX0_sortOf_1
theorem dksX0_sortOf_0 : cX0_sortOf.data.toList.drop 0 = dktX0_sortOf_0 := by decide +kernel
theorem dksX0_sortOf_1 : cX0_sortOf.data.toList.drop 23 = dktX0_sortOf_1 := dk_seg dksX0_sortOf_0 23 rfl rfl
theorem dX0_sortOf_0 : decode cX0_sortOf 0 = .ok (.aload_n 0, 1) := dk_42 (dk_at dksX0_sortOf_0 0 rfl rfl)
theorem dX0_sortOf_1 : decode cX0_sortOf 1 = .ok (.instanceof 1, 3) := dk_193 0 1 (dk_at dksX0_sortOf_0 1 rfl rfl)
theorem dX0_sortOf_4 : decode cX0_sortOf 4 = .ok (.ifCond .eq 7, 3) := dk_153 0 7 (dk_at dksX0_sortOf_0 4 rfl rfl)
theorem dX0_sortOf_7 : decode cX0_sortOf 7 = .ok (.iconst 0, 1) := dk_3 (dk_at dksX0_sortOf_0 7 rfl rfl)
theorem dX0_sortOf_8 : decode cX0_sortOf 8 = .ok (.goto 26, 3) := dk_167 0 26 (dk_at dksX0_sortOf_0 8 rfl rfl)
theorem dX0_sortOf_11 : decode cX0_sortOf 11 = .ok (.aload_n 0, 1) := dk_42 (dk_at dksX0_sortOf_0 11 rfl rfl)
theorem dX0_sortOf_12 : decode cX0_sortOf 12 = .ok (.instanceof 3, 3) := dk_193 0 3 (dk_at dksX0_sortOf_0 12 rfl rfl)
theorem dX0_sortOf_15 : decode cX0_sortOf 15 = .ok (.ifCond .eq 7, 3) := dk_153 0 7 (dk_at dksX0_sortOf_0 15 rfl rfl)
theorem dX0_sortOf_18 : decode cX0_sortOf 18 = .ok (.iconst 1, 1) := dk_4 (dk_at dksX0_sortOf_0 18 rfl rfl)
theorem dX0_sortOf_19 : decode cX0_sortOf 19 = .ok (.goto 15, 3) := dk_167 0 15 (dk_at dksX0_sortOf_0 19 rfl rfl)
theorem dX0_sortOf_22 : decode cX0_sortOf 22 = .ok (.aload_n 0, 1) := dk_42 (dk_at dksX0_sortOf_0 22 rfl rfl)
theorem dX0_sortOf_23 : decode cX0_sortOf 23 = .ok (.instanceof 5, 3) := dk_193 0 5 (dk_at dksX0_sortOf_1 0 rfl rfl)
theorem dX0_sortOf_26 : decode cX0_sortOf 26 = .ok (.ifCond .eq 7, 3) := dk_153 0 7 (dk_at dksX0_sortOf_1 3 rfl rfl)
theorem dX0_sortOf_29 : decode cX0_sortOf 29 = .ok (.iconst 2, 1) := dk_5 (dk_at dksX0_sortOf_1 6 rfl rfl)
theorem dX0_sortOf_30 : decode cX0_sortOf 30 = .ok (.goto 4, 3) := dk_167 0 4 (dk_at dksX0_sortOf_1 7 rfl rfl)
theorem dX0_sortOf_33 : decode cX0_sortOf 33 = .ok (.iconst 3, 1) := dk_6 (dk_at dksX0_sortOf_1 10 rfl rfl)
theorem dX0_sortOf_34 : decode cX0_sortOf 34 = .ok (.ireturn, 1) := dk_172 (dk_at dksX0_sortOf_1 11 rfl rfl)
abbrev cX0_leaf : ByteArray := prog_1_method_29_code
def yX0_leaf : MethodName := ⟨RX0, "leaf", "(II)I"⟩
def dkwX0_leaf_3 : List UInt8 := [182, 0, 117, 172]
abbrev dktX0_leaf_3 : List UInt8 := dkwX0_leaf_3 ++ []
def dkwX0_leaf_2 : List UInt8 := [167, 0, 4, 3, 7, 182, 0, 87, 42, 187, 0, 136, 89, 45, 183, 0, 156, 182, 0, 159, 172, 78, 42, 45]
abbrev dktX0_leaf_2 : List UInt8 := dkwX0_leaf_2 ++ dktX0_leaf_3
def dkwX0_leaf_1 : List UInt8 := [42, 28, 182, 0, 148, 42, 27, 28, 182, 0, 152, 78, 42, 42, 180, 0, 133, 16, 20, 162, 0, 7, 4]
abbrev dktX0_leaf_1 : List UInt8 := dkwX0_leaf_1 ++ dktX0_leaf_2
def dkwX0_leaf_0 : List UInt8 := [42, 3, 181, 0, 63, 42, 27, 155, 0, 12, 27, 7, 162, 0, 7, 4, 167, 0, 4, 3, 4, 182, 0, 87]
abbrev dktX0_leaf_0 : List UInt8 := dkwX0_leaf_0 ++ dktX0_leaf_1
theorem dksX0_leaf_0 : cX0_leaf.data.toList.drop 0 = dktX0_leaf_0 := by decide +kernel
theorem dksX0_leaf_1 : cX0_leaf.data.toList.drop 24 = dktX0_leaf_1 := dk_seg dksX0_leaf_0 24 rfl rfl
theorem dksX0_leaf_2 : cX0_leaf.data.toList.drop 47 = dktX0_leaf_2 := dk_seg dksX0_leaf_1 23 rfl rfl
theorem dksX0_leaf_3 : cX0_leaf.data.toList.drop 71 = dktX0_leaf_3 := dk_seg dksX0_leaf_2 24 rfl rfl
theorem dX0_leaf_0 : decode cX0_leaf 0 = .ok (.aload_n 0, 1) := dk_42 (dk_at dksX0_leaf_0 0 rfl rfl)
theorem dX0_leaf_1 : decode cX0_leaf 1 = .ok (.iconst 0, 1) := dk_3 (dk_at dksX0_leaf_0 1 rfl rfl)
theorem dX0_leaf_2 : decode cX0_leaf 2 = .ok (.putfield 63, 3) := dk_181 0 63 (dk_at dksX0_leaf_0 2 rfl rfl)
theorem dX0_leaf_5 : decode cX0_leaf 5 = .ok (.aload_n 0, 1) := dk_42 (dk_at dksX0_leaf_0 5 rfl rfl)
theorem dX0_leaf_6 : decode cX0_leaf 6 = .ok (.iload_n 1, 1) := dk_27 (dk_at dksX0_leaf_0 6 rfl rfl)
theorem dX0_leaf_7 : decode cX0_leaf 7 = .ok (.ifCond .lt 12, 3) := dk_155 0 12 (dk_at dksX0_leaf_0 7 rfl rfl)
theorem dX0_leaf_10 : decode cX0_leaf 10 = .ok (.iload_n 1, 1) := dk_27 (dk_at dksX0_leaf_0 10 rfl rfl)
theorem dX0_leaf_11 : decode cX0_leaf 11 = .ok (.iconst 4, 1) := dk_7 (dk_at dksX0_leaf_0 11 rfl rfl)
theorem dX0_leaf_12 : decode cX0_leaf 12 = .ok (.if_icmp .ge 7, 3) := dk_162 0 7 (dk_at dksX0_leaf_0 12 rfl rfl)
theorem dX0_leaf_15 : decode cX0_leaf 15 = .ok (.iconst 1, 1) := dk_4 (dk_at dksX0_leaf_0 15 rfl rfl)
theorem dX0_leaf_16 : decode cX0_leaf 16 = .ok (.goto 4, 3) := dk_167 0 4 (dk_at dksX0_leaf_0 16 rfl rfl)
theorem dX0_leaf_19 : decode cX0_leaf 19 = .ok (.iconst 0, 1) := dk_3 (dk_at dksX0_leaf_0 19 rfl rfl)
theorem dX0_leaf_20 : decode cX0_leaf 20 = .ok (.iconst 1, 1) := dk_4 (dk_at dksX0_leaf_0 20 rfl rfl)
theorem dX0_leaf_21 : decode cX0_leaf 21 = .ok (.invokevirtual 87, 3) := dk_182 0 87 (dk_at dksX0_leaf_0 21 rfl rfl)
theorem dX0_leaf_24 : decode cX0_leaf 24 = .ok (.aload_n 0, 1) := dk_42 (dk_at dksX0_leaf_1 0 rfl rfl)
theorem dX0_leaf_25 : decode cX0_leaf 25 = .ok (.iload_n 2, 1) := dk_28 (dk_at dksX0_leaf_1 1 rfl rfl)
theorem dX0_leaf_26 : decode cX0_leaf 26 = .ok (.invokevirtual 148, 3) := dk_182 0 148 (dk_at dksX0_leaf_1 2 rfl rfl)
theorem dX0_leaf_29 : decode cX0_leaf 29 = .ok (.aload_n 0, 1) := dk_42 (dk_at dksX0_leaf_1 5 rfl rfl)
theorem dX0_leaf_30 : decode cX0_leaf 30 = .ok (.iload_n 1, 1) := dk_27 (dk_at dksX0_leaf_1 6 rfl rfl)
theorem dX0_leaf_31 : decode cX0_leaf 31 = .ok (.iload_n 2, 1) := dk_28 (dk_at dksX0_leaf_1 7 rfl rfl)
theorem dX0_leaf_32 : decode cX0_leaf 32 = .ok (.invokevirtual 152, 3) := dk_182 0 152 (dk_at dksX0_leaf_1 8 rfl rfl)
theorem dX0_leaf_35 : decode cX0_leaf 35 = .ok (.astore_n 3, 1) := dk_78 (dk_at dksX0_leaf_1 11 rfl rfl)
theorem dX0_leaf_36 : decode cX0_leaf 36 = .ok (.aload_n 0, 1) := dk_42 (dk_at dksX0_leaf_1 12 rfl rfl)
theorem dX0_leaf_37 : decode cX0_leaf 37 = .ok (.aload_n 0, 1) := dk_42 (dk_at dksX0_leaf_1 13 rfl rfl)
theorem dX0_leaf_38 : decode cX0_leaf 38 = .ok (.getfield 133, 3) := dk_180 0 133 (dk_at dksX0_leaf_1 14 rfl rfl)
theorem dX0_leaf_41 : decode cX0_leaf 41 = .ok (.bipush 20, 2) := dk_16 20 (dk_at dksX0_leaf_1 17 rfl rfl)
theorem dX0_leaf_43 : decode cX0_leaf 43 = .ok (.if_icmp .ge 7, 3) := dk_162 0 7 (dk_at dksX0_leaf_1 19 rfl rfl)
theorem dX0_leaf_46 : decode cX0_leaf 46 = .ok (.iconst 1, 1) := dk_4 (dk_at dksX0_leaf_1 22 rfl rfl)
theorem dX0_leaf_47 : decode cX0_leaf 47 = .ok (.goto 4, 3) := dk_167 0 4 (dk_at dksX0_leaf_2 0 rfl rfl)
theorem dX0_leaf_50 : decode cX0_leaf 50 = .ok (.iconst 0, 1) := dk_3 (dk_at dksX0_leaf_2 3 rfl rfl)
theorem dX0_leaf_51 : decode cX0_leaf 51 = .ok (.iconst 4, 1) := dk_7 (dk_at dksX0_leaf_2 4 rfl rfl)
theorem dX0_leaf_52 : decode cX0_leaf 52 = .ok (.invokevirtual 87, 3) := dk_182 0 87 (dk_at dksX0_leaf_2 5 rfl rfl)
theorem dX0_leaf_55 : decode cX0_leaf 55 = .ok (.aload_n 0, 1) := dk_42 (dk_at dksX0_leaf_2 8 rfl rfl)
theorem dX0_leaf_56 : decode cX0_leaf 56 = .ok (.new 136, 3) := dk_187 0 136 (dk_at dksX0_leaf_2 9 rfl rfl)
theorem dX0_leaf_59 : decode cX0_leaf 59 = .ok (.dup, 1) := dk_89 (dk_at dksX0_leaf_2 12 rfl rfl)
theorem dX0_leaf_60 : decode cX0_leaf 60 = .ok (.aload_n 3, 1) := dk_45 (dk_at dksX0_leaf_2 13 rfl rfl)
theorem dX0_leaf_61 : decode cX0_leaf 61 = .ok (.invokespecial 156, 3) := dk_183 0 156 (dk_at dksX0_leaf_2 14 rfl rfl)
theorem dX0_leaf_64 : decode cX0_leaf 64 = .ok (.invokevirtual 159, 3) := dk_182 0 159 (dk_at dksX0_leaf_2 17 rfl rfl)
theorem dX0_leaf_67 : decode cX0_leaf 67 = .ok (.ireturn, 1) := dk_172 (dk_at dksX0_leaf_2 20 rfl rfl)
theorem dX0_leaf_68 : decode cX0_leaf 68 = .ok (.astore_n 3, 1) := dk_78 (dk_at dksX0_leaf_2 21 rfl rfl)
theorem dX0_leaf_69 : decode cX0_leaf 69 = .ok (.aload_n 0, 1) := dk_42 (dk_at dksX0_leaf_2 22 rfl rfl)
theorem dX0_leaf_70 : decode cX0_leaf 70 = .ok (.aload_n 3, 1) := dk_45 (dk_at dksX0_leaf_2 23 rfl rfl)
theorem dX0_leaf_71 : decode cX0_leaf 71 = .ok (.invokevirtual 117, 3) := dk_182 0 117 (dk_at dksX0_leaf_3 0 rfl rfl)
theorem dX0_leaf_74 : decode cX0_leaf 74 = .ok (.ireturn, 1) := dk_172 (dk_at dksX0_leaf_3 3 rfl rfl)
abbrev cX0_wantMany : ByteArray := prog_1_method_28_code
def yX0_wantMany : MethodName := ⟨RX0, "wantMany", "(I)V"⟩
def dkwX0_wantMany_0 : List UInt8 := [42, 27, 4, 161, 0, 13, 27, 16, 60, 163, 0, 7, 4, 167, 0, 4, 3, 4, 182, 0, 87, 177]
abbrev dktX0_wantMany_0 : List UInt8 := dkwX0_wantMany_0 ++ []
theorem dksX0_wantMany_0 : cX0_wantMany.data.toList.drop 0 = dktX0_wantMany_0 := by decide +kernel
theorem dX0_wantMany_0 : decode cX0_wantMany 0 = .ok (.aload_n 0, 1) := dk_42 (dk_at dksX0_wantMany_0 0 rfl rfl)
theorem dX0_wantMany_1 : decode cX0_wantMany 1 = .ok (.iload_n 1, 1) := dk_27 (dk_at dksX0_wantMany_0 1 rfl rfl)
theorem dX0_wantMany_2 : decode cX0_wantMany 2 = .ok (.iconst 1, 1) := dk_4 (dk_at dksX0_wantMany_0 2 rfl rfl)
theorem dX0_wantMany_3 : decode cX0_wantMany 3 = .ok (.if_icmp .lt 13, 3) := dk_161 0 13 (dk_at dksX0_wantMany_0 3 rfl rfl)
theorem dX0_wantMany_6 : decode cX0_wantMany 6 = .ok (.iload_n 1, 1) := dk_27 (dk_at dksX0_wantMany_0 6 rfl rfl)
theorem dX0_wantMany_7 : decode cX0_wantMany 7 = .ok (.bipush 60, 2) := dk_16 60 (dk_at dksX0_wantMany_0 7 rfl rfl)
theorem dX0_wantMany_9 : decode cX0_wantMany 9 = .ok (.if_icmp .gt 7, 3) := dk_163 0 7 (dk_at dksX0_wantMany_0 9 rfl rfl)
theorem dX0_wantMany_12 : decode cX0_wantMany 12 = .ok (.iconst 1, 1) := dk_4 (dk_at dksX0_wantMany_0 12 rfl rfl)
theorem dX0_wantMany_13 : decode cX0_wantMany 13 = .ok (.goto 4, 3) := dk_167 0 4 (dk_at dksX0_wantMany_0 13 rfl rfl)
theorem dX0_wantMany_16 : decode cX0_wantMany 16 = .ok (.iconst 0, 1) := dk_3 (dk_at dksX0_wantMany_0 16 rfl rfl)
theorem dX0_wantMany_17 : decode cX0_wantMany 17 = .ok (.iconst 1, 1) := dk_4 (dk_at dksX0_wantMany_0 17 rfl rfl)
theorem dX0_wantMany_18 : decode cX0_wantMany 18 = .ok (.invokevirtual 87, 3) := dk_182 0 87 (dk_at dksX0_wantMany_0 18 rfl rfl)
theorem dX0_wantMany_21 : decode cX0_wantMany 21 = .ok (.return_, 1) := dk_177 (dk_at dksX0_wantMany_0 21 rfl rfl)
abbrev cX0_weights : ByteArray := prog_1_method_27_code
def yX0_weights : MethodName := ⟨RX0, "weights", "(II)LTickShare$Table;"⟩
def dkwX0_weights_6 : List UInt8 := [167, 0, 4, 3, 4, 182, 0, 87, 25, 4, 182, 0, 144, 176]
abbrev dktX0_weights_6 : List UInt8 := dkwX0_weights_6 ++ []
def dkwX0_weights_5 : List UInt8 := [25, 4, 180, 0, 24, 10, 148, 155, 0, 19, 25, 4, 180, 0, 24, 20, 0, 142, 148, 157, 0, 7, 4]
abbrev dktX0_weights_5 : List UInt8 := dkwX0_weights_5 ++ dktX0_weights_6
def dkwX0_weights_4 : List UInt8 := [89, 180, 0, 24, 25, 4, 180, 0, 32, 21, 5, 47, 97, 181, 0, 24, 132, 5, 1, 167, 255, 181, 42]
abbrev dktX0_weights_4 : List UInt8 := dkwX0_weights_4 ++ dktX0_weights_5
def dkwX0_weights_3 : List UInt8 := [167, 0, 4, 3, 4, 182, 0, 87, 25, 4, 180, 0, 32, 21, 5, 45, 21, 5, 184, 0, 111, 80, 25, 4]
abbrev dktX0_weights_3 : List UInt8 := dkwX0_weights_3 ++ dktX0_weights_4
def dkwX0_weights_2 : List UInt8 := [184, 0, 111, 9, 148, 155, 0, 20, 45, 21, 5, 184, 0, 111, 20, 0, 142, 148, 157, 0, 7, 4]
abbrev dktX0_weights_2 : List UInt8 := dkwX0_weights_2 ++ dktX0_weights_3
def dkwX0_weights_1 : List UInt8 := [187, 0, 20, 89, 183, 0, 141, 58, 4, 3, 54, 5, 21, 5, 28, 162, 0, 75, 42, 45, 21, 5]
abbrev dktX0_weights_1 : List UInt8 := dkwX0_weights_1 ++ dktX0_weights_2
def dkwX0_weights_0 : List UInt8 := [42, 27, 182, 0, 101, 78, 42, 28, 45, 184, 0, 138, 163, 0, 7, 4, 167, 0, 4, 3, 6, 182, 0, 87]
abbrev dktX0_weights_0 : List UInt8 := dkwX0_weights_0 ++ dktX0_weights_1
theorem dksX0_weights_0 : cX0_weights.data.toList.drop 0 = dktX0_weights_0 := by decide +kernel
theorem dksX0_weights_1 : cX0_weights.data.toList.drop 24 = dktX0_weights_1 := dk_seg dksX0_weights_0 24 rfl rfl
theorem dksX0_weights_2 : cX0_weights.data.toList.drop 46 = dktX0_weights_2 := dk_seg dksX0_weights_1 22 rfl rfl
theorem dksX0_weights_3 : cX0_weights.data.toList.drop 68 = dktX0_weights_3 := dk_seg dksX0_weights_2 22 rfl rfl
theorem dksX0_weights_4 : cX0_weights.data.toList.drop 92 = dktX0_weights_4 := dk_seg dksX0_weights_3 24 rfl rfl
theorem dksX0_weights_5 : cX0_weights.data.toList.drop 115 = dktX0_weights_5 := dk_seg dksX0_weights_4 23 rfl rfl
theorem dksX0_weights_6 : cX0_weights.data.toList.drop 138 = dktX0_weights_6 := dk_seg dksX0_weights_5 23 rfl rfl
theorem dX0_weights_0 : decode cX0_weights 0 = .ok (.aload_n 0, 1) := dk_42 (dk_at dksX0_weights_0 0 rfl rfl)
theorem dX0_weights_1 : decode cX0_weights 1 = .ok (.iload_n 1, 1) := dk_27 (dk_at dksX0_weights_0 1 rfl rfl)
theorem dX0_weights_2 : decode cX0_weights 2 = .ok (.invokevirtual 101, 3) := dk_182 0 101 (dk_at dksX0_weights_0 2 rfl rfl)
theorem dX0_weights_5 : decode cX0_weights 5 = .ok (.astore_n 3, 1) := dk_78 (dk_at dksX0_weights_0 5 rfl rfl)
theorem dX0_weights_6 : decode cX0_weights 6 = .ok (.aload_n 0, 1) := dk_42 (dk_at dksX0_weights_0 6 rfl rfl)
theorem dX0_weights_7 : decode cX0_weights 7 = .ok (.iload_n 2, 1) := dk_28 (dk_at dksX0_weights_0 7 rfl rfl)
theorem dX0_weights_8 : decode cX0_weights 8 = .ok (.aload_n 3, 1) := dk_45 (dk_at dksX0_weights_0 8 rfl rfl)
theorem dX0_weights_9 : decode cX0_weights 9 = .ok (.invokestatic 138, 3) := dk_184 0 138 (dk_at dksX0_weights_0 9 rfl rfl)
theorem dX0_weights_12 : decode cX0_weights 12 = .ok (.if_icmp .gt 7, 3) := dk_163 0 7 (dk_at dksX0_weights_0 12 rfl rfl)
theorem dX0_weights_15 : decode cX0_weights 15 = .ok (.iconst 1, 1) := dk_4 (dk_at dksX0_weights_0 15 rfl rfl)
theorem dX0_weights_16 : decode cX0_weights 16 = .ok (.goto 4, 3) := dk_167 0 4 (dk_at dksX0_weights_0 16 rfl rfl)
theorem dX0_weights_19 : decode cX0_weights 19 = .ok (.iconst 0, 1) := dk_3 (dk_at dksX0_weights_0 19 rfl rfl)
theorem dX0_weights_20 : decode cX0_weights 20 = .ok (.iconst 3, 1) := dk_6 (dk_at dksX0_weights_0 20 rfl rfl)
theorem dX0_weights_21 : decode cX0_weights 21 = .ok (.invokevirtual 87, 3) := dk_182 0 87 (dk_at dksX0_weights_0 21 rfl rfl)
theorem dX0_weights_24 : decode cX0_weights 24 = .ok (.new 20, 3) := dk_187 0 20 (dk_at dksX0_weights_1 0 rfl rfl)
theorem dX0_weights_27 : decode cX0_weights 27 = .ok (.dup, 1) := dk_89 (dk_at dksX0_weights_1 3 rfl rfl)
theorem dX0_weights_28 : decode cX0_weights 28 = .ok (.invokespecial 141, 3) := dk_183 0 141 (dk_at dksX0_weights_1 4 rfl rfl)
theorem dX0_weights_31 : decode cX0_weights 31 = .ok (.astore 4, 2) := dk_58 4 (dk_at dksX0_weights_1 7 rfl rfl)
theorem dX0_weights_33 : decode cX0_weights 33 = .ok (.iconst 0, 1) := dk_3 (dk_at dksX0_weights_1 9 rfl rfl)
theorem dX0_weights_34 : decode cX0_weights 34 = .ok (.istore 5, 2) := dk_54 5 (dk_at dksX0_weights_1 10 rfl rfl)
theorem dX0_weights_36 : decode cX0_weights 36 = .ok (.iload 5, 2) := dk_21 5 (dk_at dksX0_weights_1 12 rfl rfl)
theorem dX0_weights_38 : decode cX0_weights 38 = .ok (.iload_n 2, 1) := dk_28 (dk_at dksX0_weights_1 14 rfl rfl)
theorem dX0_weights_39 : decode cX0_weights 39 = .ok (.if_icmp .ge 75, 3) := dk_162 0 75 (dk_at dksX0_weights_1 15 rfl rfl)
theorem dX0_weights_42 : decode cX0_weights 42 = .ok (.aload_n 0, 1) := dk_42 (dk_at dksX0_weights_1 18 rfl rfl)
theorem dX0_weights_43 : decode cX0_weights 43 = .ok (.aload_n 3, 1) := dk_45 (dk_at dksX0_weights_1 19 rfl rfl)
theorem dX0_weights_44 : decode cX0_weights 44 = .ok (.iload 5, 2) := dk_21 5 (dk_at dksX0_weights_1 20 rfl rfl)
theorem dX0_weights_46 : decode cX0_weights 46 = .ok (.invokestatic 111, 3) := dk_184 0 111 (dk_at dksX0_weights_2 0 rfl rfl)
theorem dX0_weights_49 : decode cX0_weights 49 = .ok (.lconst 0, 1) := dk_9 (dk_at dksX0_weights_2 3 rfl rfl)
theorem dX0_weights_50 : decode cX0_weights 50 = .ok (.lcmp, 1) := dk_148 (dk_at dksX0_weights_2 4 rfl rfl)
theorem dX0_weights_51 : decode cX0_weights 51 = .ok (.ifCond .lt 20, 3) := dk_155 0 20 (dk_at dksX0_weights_2 5 rfl rfl)
theorem dX0_weights_54 : decode cX0_weights 54 = .ok (.aload_n 3, 1) := dk_45 (dk_at dksX0_weights_2 8 rfl rfl)
theorem dX0_weights_55 : decode cX0_weights 55 = .ok (.iload 5, 2) := dk_21 5 (dk_at dksX0_weights_2 9 rfl rfl)
theorem dX0_weights_57 : decode cX0_weights 57 = .ok (.invokestatic 111, 3) := dk_184 0 111 (dk_at dksX0_weights_2 11 rfl rfl)
theorem dX0_weights_60 : decode cX0_weights 60 = .ok (.ldc2_w 142, 3) := dk_20 0 142 (dk_at dksX0_weights_2 14 rfl rfl)
theorem dX0_weights_63 : decode cX0_weights 63 = .ok (.lcmp, 1) := dk_148 (dk_at dksX0_weights_2 17 rfl rfl)
theorem dX0_weights_64 : decode cX0_weights 64 = .ok (.ifCond .gt 7, 3) := dk_157 0 7 (dk_at dksX0_weights_2 18 rfl rfl)
theorem dX0_weights_67 : decode cX0_weights 67 = .ok (.iconst 1, 1) := dk_4 (dk_at dksX0_weights_2 21 rfl rfl)
theorem dX0_weights_68 : decode cX0_weights 68 = .ok (.goto 4, 3) := dk_167 0 4 (dk_at dksX0_weights_3 0 rfl rfl)
theorem dX0_weights_71 : decode cX0_weights 71 = .ok (.iconst 0, 1) := dk_3 (dk_at dksX0_weights_3 3 rfl rfl)
theorem dX0_weights_72 : decode cX0_weights 72 = .ok (.iconst 1, 1) := dk_4 (dk_at dksX0_weights_3 4 rfl rfl)
theorem dX0_weights_73 : decode cX0_weights 73 = .ok (.invokevirtual 87, 3) := dk_182 0 87 (dk_at dksX0_weights_3 5 rfl rfl)
theorem dX0_weights_76 : decode cX0_weights 76 = .ok (.aload 4, 2) := dk_25 4 (dk_at dksX0_weights_3 8 rfl rfl)
theorem dX0_weights_78 : decode cX0_weights 78 = .ok (.getfield 32, 3) := dk_180 0 32 (dk_at dksX0_weights_3 10 rfl rfl)
theorem dX0_weights_81 : decode cX0_weights 81 = .ok (.iload 5, 2) := dk_21 5 (dk_at dksX0_weights_3 13 rfl rfl)
theorem dX0_weights_83 : decode cX0_weights 83 = .ok (.aload_n 3, 1) := dk_45 (dk_at dksX0_weights_3 15 rfl rfl)
theorem dX0_weights_84 : decode cX0_weights 84 = .ok (.iload 5, 2) := dk_21 5 (dk_at dksX0_weights_3 16 rfl rfl)
theorem dX0_weights_86 : decode cX0_weights 86 = .ok (.invokestatic 111, 3) := dk_184 0 111 (dk_at dksX0_weights_3 18 rfl rfl)
theorem dX0_weights_89 : decode cX0_weights 89 = .ok (.lastore, 1) := dk_80 (dk_at dksX0_weights_3 21 rfl rfl)
theorem dX0_weights_90 : decode cX0_weights 90 = .ok (.aload 4, 2) := dk_25 4 (dk_at dksX0_weights_3 22 rfl rfl)
theorem dX0_weights_92 : decode cX0_weights 92 = .ok (.dup, 1) := dk_89 (dk_at dksX0_weights_4 0 rfl rfl)
theorem dX0_weights_93 : decode cX0_weights 93 = .ok (.getfield 24, 3) := dk_180 0 24 (dk_at dksX0_weights_4 1 rfl rfl)
theorem dX0_weights_96 : decode cX0_weights 96 = .ok (.aload 4, 2) := dk_25 4 (dk_at dksX0_weights_4 4 rfl rfl)
theorem dX0_weights_98 : decode cX0_weights 98 = .ok (.getfield 32, 3) := dk_180 0 32 (dk_at dksX0_weights_4 6 rfl rfl)
theorem dX0_weights_101 : decode cX0_weights 101 = .ok (.iload 5, 2) := dk_21 5 (dk_at dksX0_weights_4 9 rfl rfl)
theorem dX0_weights_103 : decode cX0_weights 103 = .ok (.laload, 1) := dk_47 (dk_at dksX0_weights_4 11 rfl rfl)
theorem dX0_weights_104 : decode cX0_weights 104 = .ok (.ladd, 1) := dk_97 (dk_at dksX0_weights_4 12 rfl rfl)
theorem dX0_weights_105 : decode cX0_weights 105 = .ok (.putfield 24, 3) := dk_181 0 24 (dk_at dksX0_weights_4 13 rfl rfl)
theorem dX0_weights_108 : decode cX0_weights 108 = .ok (.iinc 5 1, 3) := dk_132 5 1 (dk_at dksX0_weights_4 16 rfl rfl)
theorem dX0_weights_111 : decode cX0_weights 111 = .ok (.goto (-75), 3) := dk_167 255 181 (dk_at dksX0_weights_4 19 rfl rfl)
theorem dX0_weights_114 : decode cX0_weights 114 = .ok (.aload_n 0, 1) := dk_42 (dk_at dksX0_weights_4 22 rfl rfl)
theorem dX0_weights_115 : decode cX0_weights 115 = .ok (.aload 4, 2) := dk_25 4 (dk_at dksX0_weights_5 0 rfl rfl)
theorem dX0_weights_117 : decode cX0_weights 117 = .ok (.getfield 24, 3) := dk_180 0 24 (dk_at dksX0_weights_5 2 rfl rfl)
theorem dX0_weights_120 : decode cX0_weights 120 = .ok (.lconst 1, 1) := dk_10 (dk_at dksX0_weights_5 5 rfl rfl)
theorem dX0_weights_121 : decode cX0_weights 121 = .ok (.lcmp, 1) := dk_148 (dk_at dksX0_weights_5 6 rfl rfl)
theorem dX0_weights_122 : decode cX0_weights 122 = .ok (.ifCond .lt 19, 3) := dk_155 0 19 (dk_at dksX0_weights_5 7 rfl rfl)
theorem dX0_weights_125 : decode cX0_weights 125 = .ok (.aload 4, 2) := dk_25 4 (dk_at dksX0_weights_5 10 rfl rfl)
theorem dX0_weights_127 : decode cX0_weights 127 = .ok (.getfield 24, 3) := dk_180 0 24 (dk_at dksX0_weights_5 12 rfl rfl)
theorem dX0_weights_130 : decode cX0_weights 130 = .ok (.ldc2_w 142, 3) := dk_20 0 142 (dk_at dksX0_weights_5 15 rfl rfl)
theorem dX0_weights_133 : decode cX0_weights 133 = .ok (.lcmp, 1) := dk_148 (dk_at dksX0_weights_5 18 rfl rfl)
theorem dX0_weights_134 : decode cX0_weights 134 = .ok (.ifCond .gt 7, 3) := dk_157 0 7 (dk_at dksX0_weights_5 19 rfl rfl)
theorem dX0_weights_137 : decode cX0_weights 137 = .ok (.iconst 1, 1) := dk_4 (dk_at dksX0_weights_5 22 rfl rfl)
theorem dX0_weights_138 : decode cX0_weights 138 = .ok (.goto 4, 3) := dk_167 0 4 (dk_at dksX0_weights_6 0 rfl rfl)
theorem dX0_weights_141 : decode cX0_weights 141 = .ok (.iconst 0, 1) := dk_3 (dk_at dksX0_weights_6 3 rfl rfl)
theorem dX0_weights_142 : decode cX0_weights 142 = .ok (.iconst 1, 1) := dk_4 (dk_at dksX0_weights_6 4 rfl rfl)
theorem dX0_weights_143 : decode cX0_weights 143 = .ok (.invokevirtual 87, 3) := dk_182 0 87 (dk_at dksX0_weights_6 5 rfl rfl)
theorem dX0_weights_146 : decode cX0_weights 146 = .ok (.aload 4, 2) := dk_25 4 (dk_at dksX0_weights_6 8 rfl rfl)
theorem dX0_weights_148 : decode cX0_weights 148 = .ok (.invokevirtual 144, 3) := dk_182 0 144 (dk_at dksX0_weights_6 10 rfl rfl)
theorem dX0_weights_151 : decode cX0_weights 151 = .ok (.areturn, 1) := dk_176 (dk_at dksX0_weights_6 13 rfl rfl)
abbrev cX0_sizeOf : ByteArray := prog_1_method_3_code
def yX0_sizeOf : MethodName := ⟨RX0, "sizeOf", "(Ljava/lang/Object;)I"⟩
def dkwX0_sizeOf_2 : List UInt8 := [42, 192, 0, 7, 190, 172]
abbrev dktX0_sizeOf_2 : List UInt8 := dkwX0_sizeOf_2 ++ []
def dkwX0_sizeOf_1 : List UInt8 := [192, 0, 3, 76, 43, 190, 172, 42, 193, 0, 5, 153, 0, 13, 42, 192, 0, 5, 76, 43, 190, 167, 0, 8]
abbrev dktX0_sizeOf_1 : List UInt8 := dkwX0_sizeOf_1 ++ dktX0_sizeOf_2
def dkwX0_sizeOf_0 : List UInt8 := [42, 193, 0, 1, 153, 0, 11, 42, 192, 0, 1, 76, 43, 190, 172, 42, 193, 0, 3, 153, 0, 11, 42]
abbrev dktX0_sizeOf_0 : List UInt8 := dkwX0_sizeOf_0 ++ dktX0_sizeOf_1
theorem dksX0_sizeOf_0 : cX0_sizeOf.data.toList.drop 0 = dktX0_sizeOf_0 := by decide +kernel
theorem dksX0_sizeOf_1 : cX0_sizeOf.data.toList.drop 23 = dktX0_sizeOf_1 := dk_seg dksX0_sizeOf_0 23 rfl rfl
theorem dksX0_sizeOf_2 : cX0_sizeOf.data.toList.drop 47 = dktX0_sizeOf_2 := dk_seg dksX0_sizeOf_1 24 rfl rfl
theorem dX0_sizeOf_0 : decode cX0_sizeOf 0 = .ok (.aload_n 0, 1) := dk_42 (dk_at dksX0_sizeOf_0 0 rfl rfl)
theorem dX0_sizeOf_1 : decode cX0_sizeOf 1 = .ok (.instanceof 1, 3) := dk_193 0 1 (dk_at dksX0_sizeOf_0 1 rfl rfl)
theorem dX0_sizeOf_4 : decode cX0_sizeOf 4 = .ok (.ifCond .eq 11, 3) := dk_153 0 11 (dk_at dksX0_sizeOf_0 4 rfl rfl)
theorem dX0_sizeOf_7 : decode cX0_sizeOf 7 = .ok (.aload_n 0, 1) := dk_42 (dk_at dksX0_sizeOf_0 7 rfl rfl)
theorem dX0_sizeOf_8 : decode cX0_sizeOf 8 = .ok (.checkcast 1, 3) := dk_192 0 1 (dk_at dksX0_sizeOf_0 8 rfl rfl)
theorem dX0_sizeOf_11 : decode cX0_sizeOf 11 = .ok (.astore_n 1, 1) := dk_76 (dk_at dksX0_sizeOf_0 11 rfl rfl)
theorem dX0_sizeOf_12 : decode cX0_sizeOf 12 = .ok (.aload_n 1, 1) := dk_43 (dk_at dksX0_sizeOf_0 12 rfl rfl)
theorem dX0_sizeOf_13 : decode cX0_sizeOf 13 = .ok (.arraylength, 1) := dk_190 (dk_at dksX0_sizeOf_0 13 rfl rfl)
theorem dX0_sizeOf_14 : decode cX0_sizeOf 14 = .ok (.ireturn, 1) := dk_172 (dk_at dksX0_sizeOf_0 14 rfl rfl)
theorem dX0_sizeOf_15 : decode cX0_sizeOf 15 = .ok (.aload_n 0, 1) := dk_42 (dk_at dksX0_sizeOf_0 15 rfl rfl)
theorem dX0_sizeOf_16 : decode cX0_sizeOf 16 = .ok (.instanceof 3, 3) := dk_193 0 3 (dk_at dksX0_sizeOf_0 16 rfl rfl)
theorem dX0_sizeOf_19 : decode cX0_sizeOf 19 = .ok (.ifCond .eq 11, 3) := dk_153 0 11 (dk_at dksX0_sizeOf_0 19 rfl rfl)
theorem dX0_sizeOf_22 : decode cX0_sizeOf 22 = .ok (.aload_n 0, 1) := dk_42 (dk_at dksX0_sizeOf_0 22 rfl rfl)
theorem dX0_sizeOf_23 : decode cX0_sizeOf 23 = .ok (.checkcast 3, 3) := dk_192 0 3 (dk_at dksX0_sizeOf_1 0 rfl rfl)
theorem dX0_sizeOf_26 : decode cX0_sizeOf 26 = .ok (.astore_n 1, 1) := dk_76 (dk_at dksX0_sizeOf_1 3 rfl rfl)
theorem dX0_sizeOf_27 : decode cX0_sizeOf 27 = .ok (.aload_n 1, 1) := dk_43 (dk_at dksX0_sizeOf_1 4 rfl rfl)
theorem dX0_sizeOf_28 : decode cX0_sizeOf 28 = .ok (.arraylength, 1) := dk_190 (dk_at dksX0_sizeOf_1 5 rfl rfl)
theorem dX0_sizeOf_29 : decode cX0_sizeOf 29 = .ok (.ireturn, 1) := dk_172 (dk_at dksX0_sizeOf_1 6 rfl rfl)
theorem dX0_sizeOf_30 : decode cX0_sizeOf 30 = .ok (.aload_n 0, 1) := dk_42 (dk_at dksX0_sizeOf_1 7 rfl rfl)
theorem dX0_sizeOf_31 : decode cX0_sizeOf 31 = .ok (.instanceof 5, 3) := dk_193 0 5 (dk_at dksX0_sizeOf_1 8 rfl rfl)
theorem dX0_sizeOf_34 : decode cX0_sizeOf 34 = .ok (.ifCond .eq 13, 3) := dk_153 0 13 (dk_at dksX0_sizeOf_1 11 rfl rfl)
theorem dX0_sizeOf_37 : decode cX0_sizeOf 37 = .ok (.aload_n 0, 1) := dk_42 (dk_at dksX0_sizeOf_1 14 rfl rfl)
theorem dX0_sizeOf_38 : decode cX0_sizeOf 38 = .ok (.checkcast 5, 3) := dk_192 0 5 (dk_at dksX0_sizeOf_1 15 rfl rfl)
theorem dX0_sizeOf_41 : decode cX0_sizeOf 41 = .ok (.astore_n 1, 1) := dk_76 (dk_at dksX0_sizeOf_1 18 rfl rfl)
theorem dX0_sizeOf_42 : decode cX0_sizeOf 42 = .ok (.aload_n 1, 1) := dk_43 (dk_at dksX0_sizeOf_1 19 rfl rfl)
theorem dX0_sizeOf_43 : decode cX0_sizeOf 43 = .ok (.arraylength, 1) := dk_190 (dk_at dksX0_sizeOf_1 20 rfl rfl)
theorem dX0_sizeOf_44 : decode cX0_sizeOf 44 = .ok (.goto 8, 3) := dk_167 0 8 (dk_at dksX0_sizeOf_1 21 rfl rfl)
theorem dX0_sizeOf_47 : decode cX0_sizeOf 47 = .ok (.aload_n 0, 1) := dk_42 (dk_at dksX0_sizeOf_2 0 rfl rfl)
theorem dX0_sizeOf_48 : decode cX0_sizeOf 48 = .ok (.checkcast 7, 3) := dk_192 0 7 (dk_at dksX0_sizeOf_2 1 rfl rfl)
theorem dX0_sizeOf_51 : decode cX0_sizeOf 51 = .ok (.arraylength, 1) := dk_190 (dk_at dksX0_sizeOf_2 4 rfl rfl)
theorem dX0_sizeOf_52 : decode cX0_sizeOf 52 = .ok (.ireturn, 1) := dk_172 (dk_at dksX0_sizeOf_2 5 rfl rfl)
abbrev cX0_common : ByteArray := prog_1_method_17_code
def yX0_common : MethodName := ⟨RX0, "common", "(JJ)J"⟩
def dkwX0_common_1 : List UInt8 := [55, 8, 22, 6, 55, 4, 22, 8, 55, 6, 167, 255, 234, 22, 4, 173]
abbrev dktX0_common_1 : List UInt8 := dkwX0_common_1 ++ []
def dkwX0_common_0 : List UInt8 := [30, 184, 0, 77, 55, 4, 32, 184, 0, 77, 55, 6, 22, 6, 9, 148, 153, 0, 21, 22, 4, 22, 6, 113]
abbrev dktX0_common_0 : List UInt8 := dkwX0_common_0 ++ dktX0_common_1
theorem dksX0_common_0 : cX0_common.data.toList.drop 0 = dktX0_common_0 := by decide +kernel
theorem dksX0_common_1 : cX0_common.data.toList.drop 24 = dktX0_common_1 := dk_seg dksX0_common_0 24 rfl rfl
theorem dX0_common_0 : decode cX0_common 0 = .ok (.lload_n 0, 1) := dk_30 (dk_at dksX0_common_0 0 rfl rfl)
theorem dX0_common_1 : decode cX0_common 1 = .ok (.invokestatic 77, 3) := dk_184 0 77 (dk_at dksX0_common_0 1 rfl rfl)
theorem dX0_common_4 : decode cX0_common 4 = .ok (.lstore 4, 2) := dk_55 4 (dk_at dksX0_common_0 4 rfl rfl)
theorem dX0_common_6 : decode cX0_common 6 = .ok (.lload_n 2, 1) := dk_32 (dk_at dksX0_common_0 6 rfl rfl)
theorem dX0_common_7 : decode cX0_common 7 = .ok (.invokestatic 77, 3) := dk_184 0 77 (dk_at dksX0_common_0 7 rfl rfl)
theorem dX0_common_10 : decode cX0_common 10 = .ok (.lstore 6, 2) := dk_55 6 (dk_at dksX0_common_0 10 rfl rfl)
theorem dX0_common_12 : decode cX0_common 12 = .ok (.lload 6, 2) := dk_22 6 (dk_at dksX0_common_0 12 rfl rfl)
theorem dX0_common_14 : decode cX0_common 14 = .ok (.lconst 0, 1) := dk_9 (dk_at dksX0_common_0 14 rfl rfl)
theorem dX0_common_15 : decode cX0_common 15 = .ok (.lcmp, 1) := dk_148 (dk_at dksX0_common_0 15 rfl rfl)
theorem dX0_common_16 : decode cX0_common 16 = .ok (.ifCond .eq 21, 3) := dk_153 0 21 (dk_at dksX0_common_0 16 rfl rfl)
theorem dX0_common_19 : decode cX0_common 19 = .ok (.lload 4, 2) := dk_22 4 (dk_at dksX0_common_0 19 rfl rfl)
theorem dX0_common_21 : decode cX0_common 21 = .ok (.lload 6, 2) := dk_22 6 (dk_at dksX0_common_0 21 rfl rfl)
theorem dX0_common_23 : decode cX0_common 23 = .ok (.lrem, 1) := dk_113 (dk_at dksX0_common_0 23 rfl rfl)
theorem dX0_common_24 : decode cX0_common 24 = .ok (.lstore 8, 2) := dk_55 8 (dk_at dksX0_common_1 0 rfl rfl)
theorem dX0_common_26 : decode cX0_common 26 = .ok (.lload 6, 2) := dk_22 6 (dk_at dksX0_common_1 2 rfl rfl)
theorem dX0_common_28 : decode cX0_common 28 = .ok (.lstore 4, 2) := dk_55 4 (dk_at dksX0_common_1 4 rfl rfl)
theorem dX0_common_30 : decode cX0_common 30 = .ok (.lload 8, 2) := dk_22 8 (dk_at dksX0_common_1 6 rfl rfl)
theorem dX0_common_32 : decode cX0_common 32 = .ok (.lstore 6, 2) := dk_55 6 (dk_at dksX0_common_1 8 rfl rfl)
theorem dX0_common_34 : decode cX0_common 34 = .ok (.goto (-22), 3) := dk_167 255 234 (dk_at dksX0_common_1 10 rfl rfl)
theorem dX0_common_37 : decode cX0_common 37 = .ok (.lload 4, 2) := dk_22 4 (dk_at dksX0_common_1 13 rfl rfl)
theorem dX0_common_39 : decode cX0_common 39 = .ok (.lreturn, 1) := dk_173 (dk_at dksX0_common_1 15 rfl rfl)
abbrev cX0_adds : ByteArray := prog_1_method_26_code
def yX0_adds : MethodName := ⟨RX0, "adds", "(LTickShare$Thing;)I"⟩
def dkwX0_adds_1 : List UInt8 := [4, 100, 172]
abbrev dktX0_adds_1 : List UInt8 := dkwX0_adds_1 ++ []
def dkwX0_adds_0 : List UInt8 := [42, 180, 0, 49, 42, 180, 0, 133, 43, 83, 42, 89, 180, 0, 133, 4, 96, 181, 0, 133, 42, 180, 0, 133]
abbrev dktX0_adds_0 : List UInt8 := dkwX0_adds_0 ++ dktX0_adds_1
theorem dksX0_adds_0 : cX0_adds.data.toList.drop 0 = dktX0_adds_0 := by decide +kernel
theorem dksX0_adds_1 : cX0_adds.data.toList.drop 24 = dktX0_adds_1 := dk_seg dksX0_adds_0 24 rfl rfl
theorem dX0_adds_0 : decode cX0_adds 0 = .ok (.aload_n 0, 1) := dk_42 (dk_at dksX0_adds_0 0 rfl rfl)
theorem dX0_adds_1 : decode cX0_adds 1 = .ok (.getfield 49, 3) := dk_180 0 49 (dk_at dksX0_adds_0 1 rfl rfl)
theorem dX0_adds_4 : decode cX0_adds 4 = .ok (.aload_n 0, 1) := dk_42 (dk_at dksX0_adds_0 4 rfl rfl)
theorem dX0_adds_5 : decode cX0_adds 5 = .ok (.getfield 133, 3) := dk_180 0 133 (dk_at dksX0_adds_0 5 rfl rfl)
theorem dX0_adds_8 : decode cX0_adds 8 = .ok (.aload_n 1, 1) := dk_43 (dk_at dksX0_adds_0 8 rfl rfl)
theorem dX0_adds_9 : decode cX0_adds 9 = .ok (.aastore, 1) := dk_83 (dk_at dksX0_adds_0 9 rfl rfl)
theorem dX0_adds_10 : decode cX0_adds 10 = .ok (.aload_n 0, 1) := dk_42 (dk_at dksX0_adds_0 10 rfl rfl)
theorem dX0_adds_11 : decode cX0_adds 11 = .ok (.dup, 1) := dk_89 (dk_at dksX0_adds_0 11 rfl rfl)
theorem dX0_adds_12 : decode cX0_adds 12 = .ok (.getfield 133, 3) := dk_180 0 133 (dk_at dksX0_adds_0 12 rfl rfl)
theorem dX0_adds_15 : decode cX0_adds 15 = .ok (.iconst 1, 1) := dk_4 (dk_at dksX0_adds_0 15 rfl rfl)
theorem dX0_adds_16 : decode cX0_adds 16 = .ok (.iadd, 1) := dk_96 (dk_at dksX0_adds_0 16 rfl rfl)
theorem dX0_adds_17 : decode cX0_adds 17 = .ok (.putfield 133, 3) := dk_181 0 133 (dk_at dksX0_adds_0 17 rfl rfl)
theorem dX0_adds_20 : decode cX0_adds 20 = .ok (.aload_n 0, 1) := dk_42 (dk_at dksX0_adds_0 20 rfl rfl)
theorem dX0_adds_21 : decode cX0_adds 21 = .ok (.getfield 133, 3) := dk_180 0 133 (dk_at dksX0_adds_0 21 rfl rfl)
theorem dX0_adds_24 : decode cX0_adds 24 = .ok (.iconst 1, 1) := dk_4 (dk_at dksX0_adds_1 0 rfl rfl)
theorem dX0_adds_25 : decode cX0_adds 25 = .ok (.isub, 1) := dk_100 (dk_at dksX0_adds_1 1 rfl rfl)
theorem dX0_adds_26 : decode cX0_adds 26 = .ok (.ireturn, 1) := dk_172 (dk_at dksX0_adds_1 2 rfl rfl)
abbrev cX0_row_2 : ByteArray := prog_1_method_32_code
def yX0_row_2 : MethodName := ⟨RX0, "row", "(IIII)I"⟩
def dkwX0_row_2_3 : List UInt8 := [58, 5, 42, 25, 5, 182, 0, 117, 172]
abbrev dktX0_row_2_3 : List UInt8 := dkwX0_row_2_3 ++ []
def dkwX0_row_2_2 : List UInt8 := [182, 0, 87, 42, 25, 5, 182, 0, 175, 42, 187, 0, 179, 89, 25, 5, 183, 0, 181, 182, 0, 159, 172]
abbrev dktX0_row_2_2 : List UInt8 := dkwX0_row_2_2 ++ dktX0_row_2_3
def dkwX0_row_2_1 : List UInt8 := [21, 4, 79, 182, 0, 171, 58, 5, 42, 25, 5, 190, 5, 161, 0, 7, 4, 167, 0, 4, 3, 4]
abbrev dktX0_row_2_1 : List UInt8 := dkwX0_row_2_1 ++ dktX0_row_2_2
def dkwX0_row_2_0 : List UInt8 := [42, 3, 181, 0, 63, 42, 7, 188, 10, 89, 3, 27, 79, 89, 4, 28, 79, 89, 5, 29, 79, 89, 6]
abbrev dktX0_row_2_0 : List UInt8 := dkwX0_row_2_0 ++ dktX0_row_2_1
theorem dksX0_row_2_0 : cX0_row_2.data.toList.drop 0 = dktX0_row_2_0 := by decide +kernel
theorem dksX0_row_2_1 : cX0_row_2.data.toList.drop 23 = dktX0_row_2_1 := dk_seg dksX0_row_2_0 23 rfl rfl
theorem dksX0_row_2_2 : cX0_row_2.data.toList.drop 45 = dktX0_row_2_2 := dk_seg dksX0_row_2_1 22 rfl rfl
theorem dksX0_row_2_3 : cX0_row_2.data.toList.drop 68 = dktX0_row_2_3 := dk_seg dksX0_row_2_2 23 rfl rfl
theorem dX0_row_2_0 : decode cX0_row_2 0 = .ok (.aload_n 0, 1) := dk_42 (dk_at dksX0_row_2_0 0 rfl rfl)
theorem dX0_row_2_1 : decode cX0_row_2 1 = .ok (.iconst 0, 1) := dk_3 (dk_at dksX0_row_2_0 1 rfl rfl)
theorem dX0_row_2_2 : decode cX0_row_2 2 = .ok (.putfield 63, 3) := dk_181 0 63 (dk_at dksX0_row_2_0 2 rfl rfl)
theorem dX0_row_2_5 : decode cX0_row_2 5 = .ok (.aload_n 0, 1) := dk_42 (dk_at dksX0_row_2_0 5 rfl rfl)
theorem dX0_row_2_6 : decode cX0_row_2 6 = .ok (.iconst 4, 1) := dk_7 (dk_at dksX0_row_2_0 6 rfl rfl)
theorem dX0_row_2_7 : decode cX0_row_2 7 = .ok (.newarray .int, 2) := dk_188_10 (dk_at dksX0_row_2_0 7 rfl rfl)
theorem dX0_row_2_9 : decode cX0_row_2 9 = .ok (.dup, 1) := dk_89 (dk_at dksX0_row_2_0 9 rfl rfl)
theorem dX0_row_2_10 : decode cX0_row_2 10 = .ok (.iconst 0, 1) := dk_3 (dk_at dksX0_row_2_0 10 rfl rfl)
theorem dX0_row_2_11 : decode cX0_row_2 11 = .ok (.iload_n 1, 1) := dk_27 (dk_at dksX0_row_2_0 11 rfl rfl)
theorem dX0_row_2_12 : decode cX0_row_2 12 = .ok (.iastore, 1) := dk_79 (dk_at dksX0_row_2_0 12 rfl rfl)
theorem dX0_row_2_13 : decode cX0_row_2 13 = .ok (.dup, 1) := dk_89 (dk_at dksX0_row_2_0 13 rfl rfl)
theorem dX0_row_2_14 : decode cX0_row_2 14 = .ok (.iconst 1, 1) := dk_4 (dk_at dksX0_row_2_0 14 rfl rfl)
theorem dX0_row_2_15 : decode cX0_row_2 15 = .ok (.iload_n 2, 1) := dk_28 (dk_at dksX0_row_2_0 15 rfl rfl)
theorem dX0_row_2_16 : decode cX0_row_2 16 = .ok (.iastore, 1) := dk_79 (dk_at dksX0_row_2_0 16 rfl rfl)
theorem dX0_row_2_17 : decode cX0_row_2 17 = .ok (.dup, 1) := dk_89 (dk_at dksX0_row_2_0 17 rfl rfl)
theorem dX0_row_2_18 : decode cX0_row_2 18 = .ok (.iconst 2, 1) := dk_5 (dk_at dksX0_row_2_0 18 rfl rfl)
theorem dX0_row_2_19 : decode cX0_row_2 19 = .ok (.iload_n 3, 1) := dk_29 (dk_at dksX0_row_2_0 19 rfl rfl)
theorem dX0_row_2_20 : decode cX0_row_2 20 = .ok (.iastore, 1) := dk_79 (dk_at dksX0_row_2_0 20 rfl rfl)
theorem dX0_row_2_21 : decode cX0_row_2 21 = .ok (.dup, 1) := dk_89 (dk_at dksX0_row_2_0 21 rfl rfl)
theorem dX0_row_2_22 : decode cX0_row_2 22 = .ok (.iconst 3, 1) := dk_6 (dk_at dksX0_row_2_0 22 rfl rfl)
theorem dX0_row_2_23 : decode cX0_row_2 23 = .ok (.iload 4, 2) := dk_21 4 (dk_at dksX0_row_2_1 0 rfl rfl)
theorem dX0_row_2_25 : decode cX0_row_2 25 = .ok (.iastore, 1) := dk_79 (dk_at dksX0_row_2_1 2 rfl rfl)
theorem dX0_row_2_26 : decode cX0_row_2 26 = .ok (.invokevirtual 171, 3) := dk_182 0 171 (dk_at dksX0_row_2_1 3 rfl rfl)
theorem dX0_row_2_29 : decode cX0_row_2 29 = .ok (.astore 5, 2) := dk_58 5 (dk_at dksX0_row_2_1 6 rfl rfl)
theorem dX0_row_2_31 : decode cX0_row_2 31 = .ok (.aload_n 0, 1) := dk_42 (dk_at dksX0_row_2_1 8 rfl rfl)
theorem dX0_row_2_32 : decode cX0_row_2 32 = .ok (.aload 5, 2) := dk_25 5 (dk_at dksX0_row_2_1 9 rfl rfl)
theorem dX0_row_2_34 : decode cX0_row_2 34 = .ok (.arraylength, 1) := dk_190 (dk_at dksX0_row_2_1 11 rfl rfl)
theorem dX0_row_2_35 : decode cX0_row_2 35 = .ok (.iconst 2, 1) := dk_5 (dk_at dksX0_row_2_1 12 rfl rfl)
theorem dX0_row_2_36 : decode cX0_row_2 36 = .ok (.if_icmp .lt 7, 3) := dk_161 0 7 (dk_at dksX0_row_2_1 13 rfl rfl)
theorem dX0_row_2_39 : decode cX0_row_2 39 = .ok (.iconst 1, 1) := dk_4 (dk_at dksX0_row_2_1 16 rfl rfl)
theorem dX0_row_2_40 : decode cX0_row_2 40 = .ok (.goto 4, 3) := dk_167 0 4 (dk_at dksX0_row_2_1 17 rfl rfl)
theorem dX0_row_2_43 : decode cX0_row_2 43 = .ok (.iconst 0, 1) := dk_3 (dk_at dksX0_row_2_1 20 rfl rfl)
theorem dX0_row_2_44 : decode cX0_row_2 44 = .ok (.iconst 1, 1) := dk_4 (dk_at dksX0_row_2_1 21 rfl rfl)
theorem dX0_row_2_45 : decode cX0_row_2 45 = .ok (.invokevirtual 87, 3) := dk_182 0 87 (dk_at dksX0_row_2_2 0 rfl rfl)
theorem dX0_row_2_48 : decode cX0_row_2 48 = .ok (.aload_n 0, 1) := dk_42 (dk_at dksX0_row_2_2 3 rfl rfl)
theorem dX0_row_2_49 : decode cX0_row_2 49 = .ok (.aload 5, 2) := dk_25 5 (dk_at dksX0_row_2_2 4 rfl rfl)
theorem dX0_row_2_51 : decode cX0_row_2 51 = .ok (.invokevirtual 175, 3) := dk_182 0 175 (dk_at dksX0_row_2_2 6 rfl rfl)
theorem dX0_row_2_54 : decode cX0_row_2 54 = .ok (.aload_n 0, 1) := dk_42 (dk_at dksX0_row_2_2 9 rfl rfl)
theorem dX0_row_2_55 : decode cX0_row_2 55 = .ok (.new 179, 3) := dk_187 0 179 (dk_at dksX0_row_2_2 10 rfl rfl)
theorem dX0_row_2_58 : decode cX0_row_2 58 = .ok (.dup, 1) := dk_89 (dk_at dksX0_row_2_2 13 rfl rfl)
theorem dX0_row_2_59 : decode cX0_row_2 59 = .ok (.aload 5, 2) := dk_25 5 (dk_at dksX0_row_2_2 14 rfl rfl)
theorem dX0_row_2_61 : decode cX0_row_2 61 = .ok (.invokespecial 181, 3) := dk_183 0 181 (dk_at dksX0_row_2_2 16 rfl rfl)
theorem dX0_row_2_64 : decode cX0_row_2 64 = .ok (.invokevirtual 159, 3) := dk_182 0 159 (dk_at dksX0_row_2_2 19 rfl rfl)
theorem dX0_row_2_67 : decode cX0_row_2 67 = .ok (.ireturn, 1) := dk_172 (dk_at dksX0_row_2_2 22 rfl rfl)
theorem dX0_row_2_68 : decode cX0_row_2 68 = .ok (.astore 5, 2) := dk_58 5 (dk_at dksX0_row_2_3 0 rfl rfl)
theorem dX0_row_2_70 : decode cX0_row_2 70 = .ok (.aload_n 0, 1) := dk_42 (dk_at dksX0_row_2_3 2 rfl rfl)
theorem dX0_row_2_71 : decode cX0_row_2 71 = .ok (.aload 5, 2) := dk_25 5 (dk_at dksX0_row_2_3 3 rfl rfl)
theorem dX0_row_2_73 : decode cX0_row_2 73 = .ok (.invokevirtual 117, 3) := dk_182 0 117 (dk_at dksX0_row_2_3 5 rfl rfl)
theorem dX0_row_2_76 : decode cX0_row_2 76 = .ok (.ireturn, 1) := dk_172 (dk_at dksX0_row_2_3 8 rfl rfl)
abbrev cX0_free : ByteArray := prog_1_method_30_code
def yX0_free : MethodName := ⟨RX0, "free", "([I)[LTickShare$Thing;"⟩
def dkwX0_free_3 : List UInt8 := [43, 21, 4, 46, 182, 0, 163, 83, 132, 4, 1, 167, 255, 235, 45, 176]
abbrev dktX0_free_3 : List UInt8 := dkwX0_free_3 ++ []
def dkwX0_free_2 : List UInt8 := [132, 3, 1, 167, 255, 230, 28, 189, 0, 47, 78, 3, 54, 4, 21, 4, 28, 162, 0, 21, 45, 21, 4, 42]
abbrev dktX0_free_2 : List UInt8 := dkwX0_free_2 ++ dktX0_free_3
def dkwX0_free_1 : List UInt8 := [43, 190, 162, 0, 26, 42, 43, 29, 46, 2, 160, 0, 7, 4, 167, 0, 4, 3, 4, 182, 0, 87]
abbrev dktX0_free_1 : List UInt8 := dkwX0_free_1 ++ dktX0_free_2
def dkwX0_free_0 : List UInt8 := [3, 61, 28, 43, 190, 162, 0, 16, 43, 28, 46, 2, 159, 0, 9, 132, 2, 1, 167, 255, 240, 28, 62, 29]
abbrev dktX0_free_0 : List UInt8 := dkwX0_free_0 ++ dktX0_free_1
theorem dksX0_free_0 : cX0_free.data.toList.drop 0 = dktX0_free_0 := by decide +kernel
theorem dksX0_free_1 : cX0_free.data.toList.drop 24 = dktX0_free_1 := dk_seg dksX0_free_0 24 rfl rfl
theorem dksX0_free_2 : cX0_free.data.toList.drop 46 = dktX0_free_2 := dk_seg dksX0_free_1 22 rfl rfl
theorem dksX0_free_3 : cX0_free.data.toList.drop 70 = dktX0_free_3 := dk_seg dksX0_free_2 24 rfl rfl
theorem dX0_free_0 : decode cX0_free 0 = .ok (.iconst 0, 1) := dk_3 (dk_at dksX0_free_0 0 rfl rfl)
theorem dX0_free_1 : decode cX0_free 1 = .ok (.istore_n 2, 1) := dk_61 (dk_at dksX0_free_0 1 rfl rfl)
theorem dX0_free_2 : decode cX0_free 2 = .ok (.iload_n 2, 1) := dk_28 (dk_at dksX0_free_0 2 rfl rfl)
theorem dX0_free_3 : decode cX0_free 3 = .ok (.aload_n 1, 1) := dk_43 (dk_at dksX0_free_0 3 rfl rfl)
theorem dX0_free_4 : decode cX0_free 4 = .ok (.arraylength, 1) := dk_190 (dk_at dksX0_free_0 4 rfl rfl)
theorem dX0_free_5 : decode cX0_free 5 = .ok (.if_icmp .ge 16, 3) := dk_162 0 16 (dk_at dksX0_free_0 5 rfl rfl)
theorem dX0_free_8 : decode cX0_free 8 = .ok (.aload_n 1, 1) := dk_43 (dk_at dksX0_free_0 8 rfl rfl)
theorem dX0_free_9 : decode cX0_free 9 = .ok (.iload_n 2, 1) := dk_28 (dk_at dksX0_free_0 9 rfl rfl)
theorem dX0_free_10 : decode cX0_free 10 = .ok (.iaload, 1) := dk_46 (dk_at dksX0_free_0 10 rfl rfl)
theorem dX0_free_11 : decode cX0_free 11 = .ok (.iconst (-1), 1) := dk_2 (dk_at dksX0_free_0 11 rfl rfl)
theorem dX0_free_12 : decode cX0_free 12 = .ok (.if_icmp .eq 9, 3) := dk_159 0 9 (dk_at dksX0_free_0 12 rfl rfl)
theorem dX0_free_15 : decode cX0_free 15 = .ok (.iinc 2 1, 3) := dk_132 2 1 (dk_at dksX0_free_0 15 rfl rfl)
theorem dX0_free_18 : decode cX0_free 18 = .ok (.goto (-16), 3) := dk_167 255 240 (dk_at dksX0_free_0 18 rfl rfl)
theorem dX0_free_21 : decode cX0_free 21 = .ok (.iload_n 2, 1) := dk_28 (dk_at dksX0_free_0 21 rfl rfl)
theorem dX0_free_22 : decode cX0_free 22 = .ok (.istore_n 3, 1) := dk_62 (dk_at dksX0_free_0 22 rfl rfl)
theorem dX0_free_23 : decode cX0_free 23 = .ok (.iload_n 3, 1) := dk_29 (dk_at dksX0_free_0 23 rfl rfl)
theorem dX0_free_24 : decode cX0_free 24 = .ok (.aload_n 1, 1) := dk_43 (dk_at dksX0_free_1 0 rfl rfl)
theorem dX0_free_25 : decode cX0_free 25 = .ok (.arraylength, 1) := dk_190 (dk_at dksX0_free_1 1 rfl rfl)
theorem dX0_free_26 : decode cX0_free 26 = .ok (.if_icmp .ge 26, 3) := dk_162 0 26 (dk_at dksX0_free_1 2 rfl rfl)
theorem dX0_free_29 : decode cX0_free 29 = .ok (.aload_n 0, 1) := dk_42 (dk_at dksX0_free_1 5 rfl rfl)
theorem dX0_free_30 : decode cX0_free 30 = .ok (.aload_n 1, 1) := dk_43 (dk_at dksX0_free_1 6 rfl rfl)
theorem dX0_free_31 : decode cX0_free 31 = .ok (.iload_n 3, 1) := dk_29 (dk_at dksX0_free_1 7 rfl rfl)
theorem dX0_free_32 : decode cX0_free 32 = .ok (.iaload, 1) := dk_46 (dk_at dksX0_free_1 8 rfl rfl)
theorem dX0_free_33 : decode cX0_free 33 = .ok (.iconst (-1), 1) := dk_2 (dk_at dksX0_free_1 9 rfl rfl)
theorem dX0_free_34 : decode cX0_free 34 = .ok (.if_icmp .ne 7, 3) := dk_160 0 7 (dk_at dksX0_free_1 10 rfl rfl)
theorem dX0_free_37 : decode cX0_free 37 = .ok (.iconst 1, 1) := dk_4 (dk_at dksX0_free_1 13 rfl rfl)
theorem dX0_free_38 : decode cX0_free 38 = .ok (.goto 4, 3) := dk_167 0 4 (dk_at dksX0_free_1 14 rfl rfl)
theorem dX0_free_41 : decode cX0_free 41 = .ok (.iconst 0, 1) := dk_3 (dk_at dksX0_free_1 17 rfl rfl)
theorem dX0_free_42 : decode cX0_free 42 = .ok (.iconst 1, 1) := dk_4 (dk_at dksX0_free_1 18 rfl rfl)
theorem dX0_free_43 : decode cX0_free 43 = .ok (.invokevirtual 87, 3) := dk_182 0 87 (dk_at dksX0_free_1 19 rfl rfl)
theorem dX0_free_46 : decode cX0_free 46 = .ok (.iinc 3 1, 3) := dk_132 3 1 (dk_at dksX0_free_2 0 rfl rfl)
theorem dX0_free_49 : decode cX0_free 49 = .ok (.goto (-26), 3) := dk_167 255 230 (dk_at dksX0_free_2 3 rfl rfl)
theorem dX0_free_52 : decode cX0_free 52 = .ok (.iload_n 2, 1) := dk_28 (dk_at dksX0_free_2 6 rfl rfl)
theorem dX0_free_53 : decode cX0_free 53 = .ok (.anewarray 47, 3) := dk_189 0 47 (dk_at dksX0_free_2 7 rfl rfl)
theorem dX0_free_56 : decode cX0_free 56 = .ok (.astore_n 3, 1) := dk_78 (dk_at dksX0_free_2 10 rfl rfl)
theorem dX0_free_57 : decode cX0_free 57 = .ok (.iconst 0, 1) := dk_3 (dk_at dksX0_free_2 11 rfl rfl)
theorem dX0_free_58 : decode cX0_free 58 = .ok (.istore 4, 2) := dk_54 4 (dk_at dksX0_free_2 12 rfl rfl)
theorem dX0_free_60 : decode cX0_free 60 = .ok (.iload 4, 2) := dk_21 4 (dk_at dksX0_free_2 14 rfl rfl)
theorem dX0_free_62 : decode cX0_free 62 = .ok (.iload_n 2, 1) := dk_28 (dk_at dksX0_free_2 16 rfl rfl)
theorem dX0_free_63 : decode cX0_free 63 = .ok (.if_icmp .ge 21, 3) := dk_162 0 21 (dk_at dksX0_free_2 17 rfl rfl)
theorem dX0_free_66 : decode cX0_free 66 = .ok (.aload_n 3, 1) := dk_45 (dk_at dksX0_free_2 20 rfl rfl)
theorem dX0_free_67 : decode cX0_free 67 = .ok (.iload 4, 2) := dk_21 4 (dk_at dksX0_free_2 21 rfl rfl)
theorem dX0_free_69 : decode cX0_free 69 = .ok (.aload_n 0, 1) := dk_42 (dk_at dksX0_free_2 23 rfl rfl)
theorem dX0_free_70 : decode cX0_free 70 = .ok (.aload_n 1, 1) := dk_43 (dk_at dksX0_free_3 0 rfl rfl)
theorem dX0_free_71 : decode cX0_free 71 = .ok (.iload 4, 2) := dk_21 4 (dk_at dksX0_free_3 1 rfl rfl)
theorem dX0_free_73 : decode cX0_free 73 = .ok (.iaload, 1) := dk_46 (dk_at dksX0_free_3 3 rfl rfl)
theorem dX0_free_74 : decode cX0_free 74 = .ok (.invokevirtual 163, 3) := dk_182 0 163 (dk_at dksX0_free_3 4 rfl rfl)
theorem dX0_free_77 : decode cX0_free 77 = .ok (.aastore, 1) := dk_83 (dk_at dksX0_free_3 7 rfl rfl)
theorem dX0_free_78 : decode cX0_free 78 = .ok (.iinc 4 1, 3) := dk_132 4 1 (dk_at dksX0_free_3 8 rfl rfl)
theorem dX0_free_81 : decode cX0_free 81 = .ok (.goto (-21), 3) := dk_167 255 235 (dk_at dksX0_free_3 11 rfl rfl)
theorem dX0_free_84 : decode cX0_free 84 = .ok (.aload_n 3, 1) := dk_45 (dk_at dksX0_free_3 14 rfl rfl)
theorem dX0_free_85 : decode cX0_free 85 = .ok (.areturn, 1) := dk_176 (dk_at dksX0_free_3 15 rfl rfl)
abbrev cX0_thing : ByteArray := prog_1_method_24_code
def yX0_thing : MethodName := ⟨RX0, "thing", "(I)LTickShare$Thing;"⟩
def dkwX0_thing_1 : List UInt8 := [180, 0, 49, 27, 50, 176]
abbrev dktX0_thing_1 : List UInt8 := dkwX0_thing_1 ++ []
def dkwX0_thing_0 : List UInt8 := [42, 27, 155, 0, 15, 27, 42, 180, 0, 133, 162, 0, 7, 4, 167, 0, 4, 3, 4, 182, 0, 87, 42]
abbrev dktX0_thing_0 : List UInt8 := dkwX0_thing_0 ++ dktX0_thing_1
theorem dksX0_thing_0 : cX0_thing.data.toList.drop 0 = dktX0_thing_0 := by decide +kernel
theorem dksX0_thing_1 : cX0_thing.data.toList.drop 23 = dktX0_thing_1 := dk_seg dksX0_thing_0 23 rfl rfl
theorem dX0_thing_0 : decode cX0_thing 0 = .ok (.aload_n 0, 1) := dk_42 (dk_at dksX0_thing_0 0 rfl rfl)
theorem dX0_thing_1 : decode cX0_thing 1 = .ok (.iload_n 1, 1) := dk_27 (dk_at dksX0_thing_0 1 rfl rfl)
theorem dX0_thing_2 : decode cX0_thing 2 = .ok (.ifCond .lt 15, 3) := dk_155 0 15 (dk_at dksX0_thing_0 2 rfl rfl)
theorem dX0_thing_5 : decode cX0_thing 5 = .ok (.iload_n 1, 1) := dk_27 (dk_at dksX0_thing_0 5 rfl rfl)
theorem dX0_thing_6 : decode cX0_thing 6 = .ok (.aload_n 0, 1) := dk_42 (dk_at dksX0_thing_0 6 rfl rfl)
theorem dX0_thing_7 : decode cX0_thing 7 = .ok (.getfield 133, 3) := dk_180 0 133 (dk_at dksX0_thing_0 7 rfl rfl)
theorem dX0_thing_10 : decode cX0_thing 10 = .ok (.if_icmp .ge 7, 3) := dk_162 0 7 (dk_at dksX0_thing_0 10 rfl rfl)
theorem dX0_thing_13 : decode cX0_thing 13 = .ok (.iconst 1, 1) := dk_4 (dk_at dksX0_thing_0 13 rfl rfl)
theorem dX0_thing_14 : decode cX0_thing 14 = .ok (.goto 4, 3) := dk_167 0 4 (dk_at dksX0_thing_0 14 rfl rfl)
theorem dX0_thing_17 : decode cX0_thing 17 = .ok (.iconst 0, 1) := dk_3 (dk_at dksX0_thing_0 17 rfl rfl)
theorem dX0_thing_18 : decode cX0_thing 18 = .ok (.iconst 1, 1) := dk_4 (dk_at dksX0_thing_0 18 rfl rfl)
theorem dX0_thing_19 : decode cX0_thing 19 = .ok (.invokevirtual 87, 3) := dk_182 0 87 (dk_at dksX0_thing_0 19 rfl rfl)
theorem dX0_thing_22 : decode cX0_thing 22 = .ok (.aload_n 0, 1) := dk_42 (dk_at dksX0_thing_0 22 rfl rfl)
theorem dX0_thing_23 : decode cX0_thing 23 = .ok (.getfield 49, 3) := dk_180 0 49 (dk_at dksX0_thing_1 0 rfl rfl)
theorem dX0_thing_26 : decode cX0_thing 26 = .ok (.iload_n 1, 1) := dk_27 (dk_at dksX0_thing_1 3 rfl rfl)
theorem dX0_thing_27 : decode cX0_thing 27 = .ok (.aaload, 1) := dk_50 (dk_at dksX0_thing_1 4 rfl rfl)
theorem dX0_thing_28 : decode cX0_thing 28 = .ok (.areturn, 1) := dk_176 (dk_at dksX0_thing_1 5 rfl rfl)
abbrev cX0_wantFree : ByteArray := prog_1_method_31_code
def yX0_wantFree : MethodName := ⟨RX0, "wantFree", "([LTickShare$Thing;)V"⟩
def dkwX0_wantFree_3 : List UInt8 := [132, 3, 1, 167, 255, 229, 132, 2, 1, 167, 255, 196, 177]
abbrev dktX0_wantFree_3 : List UInt8 := dkwX0_wantFree_3 ++ []
def dkwX0_wantFree_2 : List UInt8 := [29, 28, 162, 0, 28, 42, 43, 29, 50, 43, 28, 50, 165, 0, 7, 4, 167, 0, 4, 3, 8, 182, 0, 87]
abbrev dktX0_wantFree_2 : List UInt8 := dkwX0_wantFree_2 ++ dktX0_wantFree_3
def dkwX0_wantFree_1 : List UInt8 := [162, 0, 60, 42, 43, 28, 50, 180, 0, 167, 199, 0, 7, 4, 167, 0, 4, 3, 8, 182, 0, 87, 3, 62]
abbrev dktX0_wantFree_1 : List UInt8 := dkwX0_wantFree_1 ++ dktX0_wantFree_2
def dkwX0_wantFree_0 : List UInt8 := [42, 42, 180, 0, 133, 16, 20, 162, 0, 7, 4, 167, 0, 4, 3, 7, 182, 0, 87, 3, 61, 28, 43, 190]
abbrev dktX0_wantFree_0 : List UInt8 := dkwX0_wantFree_0 ++ dktX0_wantFree_1
theorem dksX0_wantFree_0 : cX0_wantFree.data.toList.drop 0 = dktX0_wantFree_0 := by decide +kernel
theorem dksX0_wantFree_1 : cX0_wantFree.data.toList.drop 24 = dktX0_wantFree_1 := dk_seg dksX0_wantFree_0 24 rfl rfl
theorem dksX0_wantFree_2 : cX0_wantFree.data.toList.drop 48 = dktX0_wantFree_2 := dk_seg dksX0_wantFree_1 24 rfl rfl
theorem dksX0_wantFree_3 : cX0_wantFree.data.toList.drop 72 = dktX0_wantFree_3 := dk_seg dksX0_wantFree_2 24 rfl rfl
theorem dX0_wantFree_0 : decode cX0_wantFree 0 = .ok (.aload_n 0, 1) := dk_42 (dk_at dksX0_wantFree_0 0 rfl rfl)
theorem dX0_wantFree_1 : decode cX0_wantFree 1 = .ok (.aload_n 0, 1) := dk_42 (dk_at dksX0_wantFree_0 1 rfl rfl)
theorem dX0_wantFree_2 : decode cX0_wantFree 2 = .ok (.getfield 133, 3) := dk_180 0 133 (dk_at dksX0_wantFree_0 2 rfl rfl)
theorem dX0_wantFree_5 : decode cX0_wantFree 5 = .ok (.bipush 20, 2) := dk_16 20 (dk_at dksX0_wantFree_0 5 rfl rfl)
theorem dX0_wantFree_7 : decode cX0_wantFree 7 = .ok (.if_icmp .ge 7, 3) := dk_162 0 7 (dk_at dksX0_wantFree_0 7 rfl rfl)
theorem dX0_wantFree_10 : decode cX0_wantFree 10 = .ok (.iconst 1, 1) := dk_4 (dk_at dksX0_wantFree_0 10 rfl rfl)
theorem dX0_wantFree_11 : decode cX0_wantFree 11 = .ok (.goto 4, 3) := dk_167 0 4 (dk_at dksX0_wantFree_0 11 rfl rfl)
theorem dX0_wantFree_14 : decode cX0_wantFree 14 = .ok (.iconst 0, 1) := dk_3 (dk_at dksX0_wantFree_0 14 rfl rfl)
theorem dX0_wantFree_15 : decode cX0_wantFree 15 = .ok (.iconst 4, 1) := dk_7 (dk_at dksX0_wantFree_0 15 rfl rfl)
theorem dX0_wantFree_16 : decode cX0_wantFree 16 = .ok (.invokevirtual 87, 3) := dk_182 0 87 (dk_at dksX0_wantFree_0 16 rfl rfl)
theorem dX0_wantFree_19 : decode cX0_wantFree 19 = .ok (.iconst 0, 1) := dk_3 (dk_at dksX0_wantFree_0 19 rfl rfl)
theorem dX0_wantFree_20 : decode cX0_wantFree 20 = .ok (.istore_n 2, 1) := dk_61 (dk_at dksX0_wantFree_0 20 rfl rfl)
theorem dX0_wantFree_21 : decode cX0_wantFree 21 = .ok (.iload_n 2, 1) := dk_28 (dk_at dksX0_wantFree_0 21 rfl rfl)
theorem dX0_wantFree_22 : decode cX0_wantFree 22 = .ok (.aload_n 1, 1) := dk_43 (dk_at dksX0_wantFree_0 22 rfl rfl)
theorem dX0_wantFree_23 : decode cX0_wantFree 23 = .ok (.arraylength, 1) := dk_190 (dk_at dksX0_wantFree_0 23 rfl rfl)
theorem dX0_wantFree_24 : decode cX0_wantFree 24 = .ok (.if_icmp .ge 60, 3) := dk_162 0 60 (dk_at dksX0_wantFree_1 0 rfl rfl)
theorem dX0_wantFree_27 : decode cX0_wantFree 27 = .ok (.aload_n 0, 1) := dk_42 (dk_at dksX0_wantFree_1 3 rfl rfl)
theorem dX0_wantFree_28 : decode cX0_wantFree 28 = .ok (.aload_n 1, 1) := dk_43 (dk_at dksX0_wantFree_1 4 rfl rfl)
theorem dX0_wantFree_29 : decode cX0_wantFree 29 = .ok (.iload_n 2, 1) := dk_28 (dk_at dksX0_wantFree_1 5 rfl rfl)
theorem dX0_wantFree_30 : decode cX0_wantFree 30 = .ok (.aaload, 1) := dk_50 (dk_at dksX0_wantFree_1 6 rfl rfl)
theorem dX0_wantFree_31 : decode cX0_wantFree 31 = .ok (.getfield 167, 3) := dk_180 0 167 (dk_at dksX0_wantFree_1 7 rfl rfl)
theorem dX0_wantFree_34 : decode cX0_wantFree 34 = .ok (.ifnonnull 7, 3) := dk_199 0 7 (dk_at dksX0_wantFree_1 10 rfl rfl)
theorem dX0_wantFree_37 : decode cX0_wantFree 37 = .ok (.iconst 1, 1) := dk_4 (dk_at dksX0_wantFree_1 13 rfl rfl)
theorem dX0_wantFree_38 : decode cX0_wantFree 38 = .ok (.goto 4, 3) := dk_167 0 4 (dk_at dksX0_wantFree_1 14 rfl rfl)
theorem dX0_wantFree_41 : decode cX0_wantFree 41 = .ok (.iconst 0, 1) := dk_3 (dk_at dksX0_wantFree_1 17 rfl rfl)
theorem dX0_wantFree_42 : decode cX0_wantFree 42 = .ok (.iconst 5, 1) := dk_8 (dk_at dksX0_wantFree_1 18 rfl rfl)
theorem dX0_wantFree_43 : decode cX0_wantFree 43 = .ok (.invokevirtual 87, 3) := dk_182 0 87 (dk_at dksX0_wantFree_1 19 rfl rfl)
theorem dX0_wantFree_46 : decode cX0_wantFree 46 = .ok (.iconst 0, 1) := dk_3 (dk_at dksX0_wantFree_1 22 rfl rfl)
theorem dX0_wantFree_47 : decode cX0_wantFree 47 = .ok (.istore_n 3, 1) := dk_62 (dk_at dksX0_wantFree_1 23 rfl rfl)
theorem dX0_wantFree_48 : decode cX0_wantFree 48 = .ok (.iload_n 3, 1) := dk_29 (dk_at dksX0_wantFree_2 0 rfl rfl)
theorem dX0_wantFree_49 : decode cX0_wantFree 49 = .ok (.iload_n 2, 1) := dk_28 (dk_at dksX0_wantFree_2 1 rfl rfl)
theorem dX0_wantFree_50 : decode cX0_wantFree 50 = .ok (.if_icmp .ge 28, 3) := dk_162 0 28 (dk_at dksX0_wantFree_2 2 rfl rfl)
theorem dX0_wantFree_53 : decode cX0_wantFree 53 = .ok (.aload_n 0, 1) := dk_42 (dk_at dksX0_wantFree_2 5 rfl rfl)
theorem dX0_wantFree_54 : decode cX0_wantFree 54 = .ok (.aload_n 1, 1) := dk_43 (dk_at dksX0_wantFree_2 6 rfl rfl)
theorem dX0_wantFree_55 : decode cX0_wantFree 55 = .ok (.iload_n 3, 1) := dk_29 (dk_at dksX0_wantFree_2 7 rfl rfl)
theorem dX0_wantFree_56 : decode cX0_wantFree 56 = .ok (.aaload, 1) := dk_50 (dk_at dksX0_wantFree_2 8 rfl rfl)
theorem dX0_wantFree_57 : decode cX0_wantFree 57 = .ok (.aload_n 1, 1) := dk_43 (dk_at dksX0_wantFree_2 9 rfl rfl)
theorem dX0_wantFree_58 : decode cX0_wantFree 58 = .ok (.iload_n 2, 1) := dk_28 (dk_at dksX0_wantFree_2 10 rfl rfl)
theorem dX0_wantFree_59 : decode cX0_wantFree 59 = .ok (.aaload, 1) := dk_50 (dk_at dksX0_wantFree_2 11 rfl rfl)
theorem dX0_wantFree_60 : decode cX0_wantFree 60 = .ok (.if_acmp .eq 7, 3) := dk_165 0 7 (dk_at dksX0_wantFree_2 12 rfl rfl)
theorem dX0_wantFree_63 : decode cX0_wantFree 63 = .ok (.iconst 1, 1) := dk_4 (dk_at dksX0_wantFree_2 15 rfl rfl)
theorem dX0_wantFree_64 : decode cX0_wantFree 64 = .ok (.goto 4, 3) := dk_167 0 4 (dk_at dksX0_wantFree_2 16 rfl rfl)
theorem dX0_wantFree_67 : decode cX0_wantFree 67 = .ok (.iconst 0, 1) := dk_3 (dk_at dksX0_wantFree_2 19 rfl rfl)
theorem dX0_wantFree_68 : decode cX0_wantFree 68 = .ok (.iconst 5, 1) := dk_8 (dk_at dksX0_wantFree_2 20 rfl rfl)
theorem dX0_wantFree_69 : decode cX0_wantFree 69 = .ok (.invokevirtual 87, 3) := dk_182 0 87 (dk_at dksX0_wantFree_2 21 rfl rfl)
theorem dX0_wantFree_72 : decode cX0_wantFree 72 = .ok (.iinc 3 1, 3) := dk_132 3 1 (dk_at dksX0_wantFree_3 0 rfl rfl)
theorem dX0_wantFree_75 : decode cX0_wantFree 75 = .ok (.goto (-27), 3) := dk_167 255 229 (dk_at dksX0_wantFree_3 3 rfl rfl)
theorem dX0_wantFree_78 : decode cX0_wantFree 78 = .ok (.iinc 2 1, 3) := dk_132 2 1 (dk_at dksX0_wantFree_3 6 rfl rfl)
theorem dX0_wantFree_81 : decode cX0_wantFree 81 = .ok (.goto (-60), 3) := dk_167 255 196 (dk_at dksX0_wantFree_3 9 rfl rfl)
theorem dX0_wantFree_84 : decode cX0_wantFree 84 = .ok (.return_, 1) := dk_177 (dk_at dksX0_wantFree_3 12 rfl rfl)
abbrev cX0_fan : ByteArray := prog_1_method_33_code
def yX0_fan : MethodName := ⟨RX0, "fan", "(IIIII)I"⟩
def dkwX0_fan_3 : List UInt8 := [27, 25, 6, 183, 0, 185, 182, 0, 159, 172, 58, 6, 42, 25, 6, 182, 0, 117, 172]
abbrev dktX0_fan_3 : List UInt8 := dkwX0_fan_3 ++ []
def dkwX0_fan_2 : List UInt8 := [190, 163, 0, 7, 4, 167, 0, 4, 3, 4, 182, 0, 87, 42, 25, 6, 182, 0, 175, 42, 187, 0, 183, 89]
abbrev dktX0_fan_2 : List UInt8 := dkwX0_fan_2 ++ dktX0_fan_3
def dkwX0_fan_1 : List UInt8 := [21, 5, 79, 182, 0, 171, 58, 6, 42, 25, 6, 190, 4, 161, 0, 19, 27, 4, 161, 0, 14, 27, 25, 6]
abbrev dktX0_fan_1 : List UInt8 := dkwX0_fan_1 ++ dktX0_fan_2
def dkwX0_fan_0 : List UInt8 := [42, 3, 181, 0, 63, 42, 7, 188, 10, 89, 3, 28, 79, 89, 4, 29, 79, 89, 5, 21, 4, 79, 89, 6]
abbrev dktX0_fan_0 : List UInt8 := dkwX0_fan_0 ++ dktX0_fan_1
theorem dksX0_fan_0 : cX0_fan.data.toList.drop 0 = dktX0_fan_0 := by decide +kernel
theorem dksX0_fan_1 : cX0_fan.data.toList.drop 24 = dktX0_fan_1 := dk_seg dksX0_fan_0 24 rfl rfl
theorem dksX0_fan_2 : cX0_fan.data.toList.drop 48 = dktX0_fan_2 := dk_seg dksX0_fan_1 24 rfl rfl
theorem dksX0_fan_3 : cX0_fan.data.toList.drop 72 = dktX0_fan_3 := dk_seg dksX0_fan_2 24 rfl rfl
theorem dX0_fan_0 : decode cX0_fan 0 = .ok (.aload_n 0, 1) := dk_42 (dk_at dksX0_fan_0 0 rfl rfl)
theorem dX0_fan_1 : decode cX0_fan 1 = .ok (.iconst 0, 1) := dk_3 (dk_at dksX0_fan_0 1 rfl rfl)
theorem dX0_fan_2 : decode cX0_fan 2 = .ok (.putfield 63, 3) := dk_181 0 63 (dk_at dksX0_fan_0 2 rfl rfl)
theorem dX0_fan_5 : decode cX0_fan 5 = .ok (.aload_n 0, 1) := dk_42 (dk_at dksX0_fan_0 5 rfl rfl)
theorem dX0_fan_6 : decode cX0_fan 6 = .ok (.iconst 4, 1) := dk_7 (dk_at dksX0_fan_0 6 rfl rfl)
theorem dX0_fan_7 : decode cX0_fan 7 = .ok (.newarray .int, 2) := dk_188_10 (dk_at dksX0_fan_0 7 rfl rfl)
theorem dX0_fan_9 : decode cX0_fan 9 = .ok (.dup, 1) := dk_89 (dk_at dksX0_fan_0 9 rfl rfl)
theorem dX0_fan_10 : decode cX0_fan 10 = .ok (.iconst 0, 1) := dk_3 (dk_at dksX0_fan_0 10 rfl rfl)
theorem dX0_fan_11 : decode cX0_fan 11 = .ok (.iload_n 2, 1) := dk_28 (dk_at dksX0_fan_0 11 rfl rfl)
theorem dX0_fan_12 : decode cX0_fan 12 = .ok (.iastore, 1) := dk_79 (dk_at dksX0_fan_0 12 rfl rfl)
theorem dX0_fan_13 : decode cX0_fan 13 = .ok (.dup, 1) := dk_89 (dk_at dksX0_fan_0 13 rfl rfl)
theorem dX0_fan_14 : decode cX0_fan 14 = .ok (.iconst 1, 1) := dk_4 (dk_at dksX0_fan_0 14 rfl rfl)
theorem dX0_fan_15 : decode cX0_fan 15 = .ok (.iload_n 3, 1) := dk_29 (dk_at dksX0_fan_0 15 rfl rfl)
theorem dX0_fan_16 : decode cX0_fan 16 = .ok (.iastore, 1) := dk_79 (dk_at dksX0_fan_0 16 rfl rfl)
theorem dX0_fan_17 : decode cX0_fan 17 = .ok (.dup, 1) := dk_89 (dk_at dksX0_fan_0 17 rfl rfl)
theorem dX0_fan_18 : decode cX0_fan 18 = .ok (.iconst 2, 1) := dk_5 (dk_at dksX0_fan_0 18 rfl rfl)
theorem dX0_fan_19 : decode cX0_fan 19 = .ok (.iload 4, 2) := dk_21 4 (dk_at dksX0_fan_0 19 rfl rfl)
theorem dX0_fan_21 : decode cX0_fan 21 = .ok (.iastore, 1) := dk_79 (dk_at dksX0_fan_0 21 rfl rfl)
theorem dX0_fan_22 : decode cX0_fan 22 = .ok (.dup, 1) := dk_89 (dk_at dksX0_fan_0 22 rfl rfl)
theorem dX0_fan_23 : decode cX0_fan 23 = .ok (.iconst 3, 1) := dk_6 (dk_at dksX0_fan_0 23 rfl rfl)
theorem dX0_fan_24 : decode cX0_fan 24 = .ok (.iload 5, 2) := dk_21 5 (dk_at dksX0_fan_1 0 rfl rfl)
theorem dX0_fan_26 : decode cX0_fan 26 = .ok (.iastore, 1) := dk_79 (dk_at dksX0_fan_1 2 rfl rfl)
theorem dX0_fan_27 : decode cX0_fan 27 = .ok (.invokevirtual 171, 3) := dk_182 0 171 (dk_at dksX0_fan_1 3 rfl rfl)
theorem dX0_fan_30 : decode cX0_fan 30 = .ok (.astore 6, 2) := dk_58 6 (dk_at dksX0_fan_1 6 rfl rfl)
theorem dX0_fan_32 : decode cX0_fan 32 = .ok (.aload_n 0, 1) := dk_42 (dk_at dksX0_fan_1 8 rfl rfl)
theorem dX0_fan_33 : decode cX0_fan 33 = .ok (.aload 6, 2) := dk_25 6 (dk_at dksX0_fan_1 9 rfl rfl)
theorem dX0_fan_35 : decode cX0_fan 35 = .ok (.arraylength, 1) := dk_190 (dk_at dksX0_fan_1 11 rfl rfl)
theorem dX0_fan_36 : decode cX0_fan 36 = .ok (.iconst 1, 1) := dk_4 (dk_at dksX0_fan_1 12 rfl rfl)
theorem dX0_fan_37 : decode cX0_fan 37 = .ok (.if_icmp .lt 19, 3) := dk_161 0 19 (dk_at dksX0_fan_1 13 rfl rfl)
theorem dX0_fan_40 : decode cX0_fan 40 = .ok (.iload_n 1, 1) := dk_27 (dk_at dksX0_fan_1 16 rfl rfl)
theorem dX0_fan_41 : decode cX0_fan 41 = .ok (.iconst 1, 1) := dk_4 (dk_at dksX0_fan_1 17 rfl rfl)
theorem dX0_fan_42 : decode cX0_fan 42 = .ok (.if_icmp .lt 14, 3) := dk_161 0 14 (dk_at dksX0_fan_1 18 rfl rfl)
theorem dX0_fan_45 : decode cX0_fan 45 = .ok (.iload_n 1, 1) := dk_27 (dk_at dksX0_fan_1 21 rfl rfl)
theorem dX0_fan_46 : decode cX0_fan 46 = .ok (.aload 6, 2) := dk_25 6 (dk_at dksX0_fan_1 22 rfl rfl)
theorem dX0_fan_48 : decode cX0_fan 48 = .ok (.arraylength, 1) := dk_190 (dk_at dksX0_fan_2 0 rfl rfl)
theorem dX0_fan_49 : decode cX0_fan 49 = .ok (.if_icmp .gt 7, 3) := dk_163 0 7 (dk_at dksX0_fan_2 1 rfl rfl)
theorem dX0_fan_52 : decode cX0_fan 52 = .ok (.iconst 1, 1) := dk_4 (dk_at dksX0_fan_2 4 rfl rfl)
theorem dX0_fan_53 : decode cX0_fan 53 = .ok (.goto 4, 3) := dk_167 0 4 (dk_at dksX0_fan_2 5 rfl rfl)
theorem dX0_fan_56 : decode cX0_fan 56 = .ok (.iconst 0, 1) := dk_3 (dk_at dksX0_fan_2 8 rfl rfl)
theorem dX0_fan_57 : decode cX0_fan 57 = .ok (.iconst 1, 1) := dk_4 (dk_at dksX0_fan_2 9 rfl rfl)
theorem dX0_fan_58 : decode cX0_fan 58 = .ok (.invokevirtual 87, 3) := dk_182 0 87 (dk_at dksX0_fan_2 10 rfl rfl)
theorem dX0_fan_61 : decode cX0_fan 61 = .ok (.aload_n 0, 1) := dk_42 (dk_at dksX0_fan_2 13 rfl rfl)
theorem dX0_fan_62 : decode cX0_fan 62 = .ok (.aload 6, 2) := dk_25 6 (dk_at dksX0_fan_2 14 rfl rfl)
theorem dX0_fan_64 : decode cX0_fan 64 = .ok (.invokevirtual 175, 3) := dk_182 0 175 (dk_at dksX0_fan_2 16 rfl rfl)
theorem dX0_fan_67 : decode cX0_fan 67 = .ok (.aload_n 0, 1) := dk_42 (dk_at dksX0_fan_2 19 rfl rfl)
theorem dX0_fan_68 : decode cX0_fan 68 = .ok (.new 183, 3) := dk_187 0 183 (dk_at dksX0_fan_2 20 rfl rfl)
theorem dX0_fan_71 : decode cX0_fan 71 = .ok (.dup, 1) := dk_89 (dk_at dksX0_fan_2 23 rfl rfl)
theorem dX0_fan_72 : decode cX0_fan 72 = .ok (.iload_n 1, 1) := dk_27 (dk_at dksX0_fan_3 0 rfl rfl)
theorem dX0_fan_73 : decode cX0_fan 73 = .ok (.aload 6, 2) := dk_25 6 (dk_at dksX0_fan_3 1 rfl rfl)
theorem dX0_fan_75 : decode cX0_fan 75 = .ok (.invokespecial 185, 3) := dk_183 0 185 (dk_at dksX0_fan_3 3 rfl rfl)
theorem dX0_fan_78 : decode cX0_fan 78 = .ok (.invokevirtual 159, 3) := dk_182 0 159 (dk_at dksX0_fan_3 6 rfl rfl)
theorem dX0_fan_81 : decode cX0_fan 81 = .ok (.ireturn, 1) := dk_172 (dk_at dksX0_fan_3 9 rfl rfl)
theorem dX0_fan_82 : decode cX0_fan 82 = .ok (.astore 6, 2) := dk_58 6 (dk_at dksX0_fan_3 10 rfl rfl)
theorem dX0_fan_84 : decode cX0_fan 84 = .ok (.aload_n 0, 1) := dk_42 (dk_at dksX0_fan_3 12 rfl rfl)
theorem dX0_fan_85 : decode cX0_fan 85 = .ok (.aload 6, 2) := dk_25 6 (dk_at dksX0_fan_3 13 rfl rfl)
theorem dX0_fan_87 : decode cX0_fan 87 = .ok (.invokevirtual 117, 3) := dk_182 0 117 (dk_at dksX0_fan_3 15 rfl rfl)
theorem dX0_fan_90 : decode cX0_fan 90 = .ok (.ireturn, 1) := dk_172 (dk_at dksX0_fan_3 18 rfl rfl)
abbrev cX0_cache : ByteArray := prog_1_method_34_code
def yX0_cache : MethodName := ⟨RX0, "cache", "(IIII)I"⟩
def dkwX0_cache_4 : List UInt8 := [182, 0, 117, 172]
abbrev dktX0_cache_4 : List UInt8 := dkwX0_cache_4 ++ []
def dkwX0_cache_3 : List UInt8 := [187, 0, 188, 89, 25, 5, 25, 6, 29, 21, 4, 183, 0, 190, 182, 0, 159, 172, 58, 5, 42, 25, 5]
abbrev dktX0_cache_3 : List UInt8 := dkwX0_cache_3 ++ dktX0_cache_4
def dkwX0_cache_2 : List UInt8 := [3, 4, 182, 0, 87, 42, 5, 189, 0, 47, 89, 3, 25, 5, 83, 89, 4, 25, 6, 83, 182, 0, 175, 42]
abbrev dktX0_cache_2 : List UInt8 := dkwX0_cache_2 ++ dktX0_cache_3
def dkwX0_cache_1 : List UInt8 := [161, 0, 24, 21, 4, 16, 100, 163, 0, 17, 29, 155, 0, 13, 29, 21, 4, 163, 0, 7, 4, 167, 0, 4]
abbrev dktX0_cache_1 : List UInt8 := dkwX0_cache_1 ++ dktX0_cache_2
def dkwX0_cache_0 : List UInt8 := [42, 3, 181, 0, 63, 42, 27, 182, 0, 163, 58, 5, 42, 28, 182, 0, 163, 58, 6, 42, 21, 4, 4]
abbrev dktX0_cache_0 : List UInt8 := dkwX0_cache_0 ++ dktX0_cache_1
theorem dksX0_cache_0 : cX0_cache.data.toList.drop 0 = dktX0_cache_0 := by decide +kernel
theorem dksX0_cache_1 : cX0_cache.data.toList.drop 23 = dktX0_cache_1 := dk_seg dksX0_cache_0 23 rfl rfl
theorem dksX0_cache_2 : cX0_cache.data.toList.drop 47 = dktX0_cache_2 := dk_seg dksX0_cache_1 24 rfl rfl
theorem dksX0_cache_3 : cX0_cache.data.toList.drop 71 = dktX0_cache_3 := dk_seg dksX0_cache_2 24 rfl rfl
theorem dksX0_cache_4 : cX0_cache.data.toList.drop 94 = dktX0_cache_4 := dk_seg dksX0_cache_3 23 rfl rfl
theorem dX0_cache_0 : decode cX0_cache 0 = .ok (.aload_n 0, 1) := dk_42 (dk_at dksX0_cache_0 0 rfl rfl)
theorem dX0_cache_1 : decode cX0_cache 1 = .ok (.iconst 0, 1) := dk_3 (dk_at dksX0_cache_0 1 rfl rfl)
theorem dX0_cache_2 : decode cX0_cache 2 = .ok (.putfield 63, 3) := dk_181 0 63 (dk_at dksX0_cache_0 2 rfl rfl)
theorem dX0_cache_5 : decode cX0_cache 5 = .ok (.aload_n 0, 1) := dk_42 (dk_at dksX0_cache_0 5 rfl rfl)
theorem dX0_cache_6 : decode cX0_cache 6 = .ok (.iload_n 1, 1) := dk_27 (dk_at dksX0_cache_0 6 rfl rfl)
theorem dX0_cache_7 : decode cX0_cache 7 = .ok (.invokevirtual 163, 3) := dk_182 0 163 (dk_at dksX0_cache_0 7 rfl rfl)
theorem dX0_cache_10 : decode cX0_cache 10 = .ok (.astore 5, 2) := dk_58 5 (dk_at dksX0_cache_0 10 rfl rfl)
theorem dX0_cache_12 : decode cX0_cache 12 = .ok (.aload_n 0, 1) := dk_42 (dk_at dksX0_cache_0 12 rfl rfl)
theorem dX0_cache_13 : decode cX0_cache 13 = .ok (.iload_n 2, 1) := dk_28 (dk_at dksX0_cache_0 13 rfl rfl)
theorem dX0_cache_14 : decode cX0_cache 14 = .ok (.invokevirtual 163, 3) := dk_182 0 163 (dk_at dksX0_cache_0 14 rfl rfl)
theorem dX0_cache_17 : decode cX0_cache 17 = .ok (.astore 6, 2) := dk_58 6 (dk_at dksX0_cache_0 17 rfl rfl)
theorem dX0_cache_19 : decode cX0_cache 19 = .ok (.aload_n 0, 1) := dk_42 (dk_at dksX0_cache_0 19 rfl rfl)
theorem dX0_cache_20 : decode cX0_cache 20 = .ok (.iload 4, 2) := dk_21 4 (dk_at dksX0_cache_0 20 rfl rfl)
theorem dX0_cache_22 : decode cX0_cache 22 = .ok (.iconst 1, 1) := dk_4 (dk_at dksX0_cache_0 22 rfl rfl)
theorem dX0_cache_23 : decode cX0_cache 23 = .ok (.if_icmp .lt 24, 3) := dk_161 0 24 (dk_at dksX0_cache_1 0 rfl rfl)
theorem dX0_cache_26 : decode cX0_cache 26 = .ok (.iload 4, 2) := dk_21 4 (dk_at dksX0_cache_1 3 rfl rfl)
theorem dX0_cache_28 : decode cX0_cache 28 = .ok (.bipush 100, 2) := dk_16 100 (dk_at dksX0_cache_1 5 rfl rfl)
theorem dX0_cache_30 : decode cX0_cache 30 = .ok (.if_icmp .gt 17, 3) := dk_163 0 17 (dk_at dksX0_cache_1 7 rfl rfl)
theorem dX0_cache_33 : decode cX0_cache 33 = .ok (.iload_n 3, 1) := dk_29 (dk_at dksX0_cache_1 10 rfl rfl)
theorem dX0_cache_34 : decode cX0_cache 34 = .ok (.ifCond .lt 13, 3) := dk_155 0 13 (dk_at dksX0_cache_1 11 rfl rfl)
theorem dX0_cache_37 : decode cX0_cache 37 = .ok (.iload_n 3, 1) := dk_29 (dk_at dksX0_cache_1 14 rfl rfl)
theorem dX0_cache_38 : decode cX0_cache 38 = .ok (.iload 4, 2) := dk_21 4 (dk_at dksX0_cache_1 15 rfl rfl)
theorem dX0_cache_40 : decode cX0_cache 40 = .ok (.if_icmp .gt 7, 3) := dk_163 0 7 (dk_at dksX0_cache_1 17 rfl rfl)
theorem dX0_cache_43 : decode cX0_cache 43 = .ok (.iconst 1, 1) := dk_4 (dk_at dksX0_cache_1 20 rfl rfl)
theorem dX0_cache_44 : decode cX0_cache 44 = .ok (.goto 4, 3) := dk_167 0 4 (dk_at dksX0_cache_1 21 rfl rfl)
theorem dX0_cache_47 : decode cX0_cache 47 = .ok (.iconst 0, 1) := dk_3 (dk_at dksX0_cache_2 0 rfl rfl)
theorem dX0_cache_48 : decode cX0_cache 48 = .ok (.iconst 1, 1) := dk_4 (dk_at dksX0_cache_2 1 rfl rfl)
theorem dX0_cache_49 : decode cX0_cache 49 = .ok (.invokevirtual 87, 3) := dk_182 0 87 (dk_at dksX0_cache_2 2 rfl rfl)
theorem dX0_cache_52 : decode cX0_cache 52 = .ok (.aload_n 0, 1) := dk_42 (dk_at dksX0_cache_2 5 rfl rfl)
theorem dX0_cache_53 : decode cX0_cache 53 = .ok (.iconst 2, 1) := dk_5 (dk_at dksX0_cache_2 6 rfl rfl)
theorem dX0_cache_54 : decode cX0_cache 54 = .ok (.anewarray 47, 3) := dk_189 0 47 (dk_at dksX0_cache_2 7 rfl rfl)
theorem dX0_cache_57 : decode cX0_cache 57 = .ok (.dup, 1) := dk_89 (dk_at dksX0_cache_2 10 rfl rfl)
theorem dX0_cache_58 : decode cX0_cache 58 = .ok (.iconst 0, 1) := dk_3 (dk_at dksX0_cache_2 11 rfl rfl)
theorem dX0_cache_59 : decode cX0_cache 59 = .ok (.aload 5, 2) := dk_25 5 (dk_at dksX0_cache_2 12 rfl rfl)
theorem dX0_cache_61 : decode cX0_cache 61 = .ok (.aastore, 1) := dk_83 (dk_at dksX0_cache_2 14 rfl rfl)
theorem dX0_cache_62 : decode cX0_cache 62 = .ok (.dup, 1) := dk_89 (dk_at dksX0_cache_2 15 rfl rfl)
theorem dX0_cache_63 : decode cX0_cache 63 = .ok (.iconst 1, 1) := dk_4 (dk_at dksX0_cache_2 16 rfl rfl)
theorem dX0_cache_64 : decode cX0_cache 64 = .ok (.aload 6, 2) := dk_25 6 (dk_at dksX0_cache_2 17 rfl rfl)
theorem dX0_cache_66 : decode cX0_cache 66 = .ok (.aastore, 1) := dk_83 (dk_at dksX0_cache_2 19 rfl rfl)
theorem dX0_cache_67 : decode cX0_cache 67 = .ok (.invokevirtual 175, 3) := dk_182 0 175 (dk_at dksX0_cache_2 20 rfl rfl)
theorem dX0_cache_70 : decode cX0_cache 70 = .ok (.aload_n 0, 1) := dk_42 (dk_at dksX0_cache_2 23 rfl rfl)
theorem dX0_cache_71 : decode cX0_cache 71 = .ok (.new 188, 3) := dk_187 0 188 (dk_at dksX0_cache_3 0 rfl rfl)
theorem dX0_cache_74 : decode cX0_cache 74 = .ok (.dup, 1) := dk_89 (dk_at dksX0_cache_3 3 rfl rfl)
theorem dX0_cache_75 : decode cX0_cache 75 = .ok (.aload 5, 2) := dk_25 5 (dk_at dksX0_cache_3 4 rfl rfl)
theorem dX0_cache_77 : decode cX0_cache 77 = .ok (.aload 6, 2) := dk_25 6 (dk_at dksX0_cache_3 6 rfl rfl)
theorem dX0_cache_79 : decode cX0_cache 79 = .ok (.iload_n 3, 1) := dk_29 (dk_at dksX0_cache_3 8 rfl rfl)
theorem dX0_cache_80 : decode cX0_cache 80 = .ok (.iload 4, 2) := dk_21 4 (dk_at dksX0_cache_3 9 rfl rfl)
theorem dX0_cache_82 : decode cX0_cache 82 = .ok (.invokespecial 190, 3) := dk_183 0 190 (dk_at dksX0_cache_3 11 rfl rfl)
theorem dX0_cache_85 : decode cX0_cache 85 = .ok (.invokevirtual 159, 3) := dk_182 0 159 (dk_at dksX0_cache_3 14 rfl rfl)
theorem dX0_cache_88 : decode cX0_cache 88 = .ok (.ireturn, 1) := dk_172 (dk_at dksX0_cache_3 17 rfl rfl)
theorem dX0_cache_89 : decode cX0_cache 89 = .ok (.astore 5, 2) := dk_58 5 (dk_at dksX0_cache_3 18 rfl rfl)
theorem dX0_cache_91 : decode cX0_cache 91 = .ok (.aload_n 0, 1) := dk_42 (dk_at dksX0_cache_3 20 rfl rfl)
theorem dX0_cache_92 : decode cX0_cache 92 = .ok (.aload 5, 2) := dk_25 5 (dk_at dksX0_cache_3 21 rfl rfl)
theorem dX0_cache_94 : decode cX0_cache 94 = .ok (.invokevirtual 117, 3) := dk_182 0 117 (dk_at dksX0_cache_4 0 rfl rfl)
theorem dX0_cache_97 : decode cX0_cache 97 = .ok (.ireturn, 1) := dk_172 (dk_at dksX0_cache_4 3 rfl rfl)
abbrev cX0_retry : ByteArray := prog_1_method_35_code
def yX0_retry : MethodName := ⟨RX0, "retry", "(III)I"⟩
def dkwX0_retry_3 : List UInt8 := [58, 4, 42, 25, 4, 182, 0, 117, 172]
abbrev dktX0_retry_3 : List UInt8 := dkwX0_retry_3 ++ []
def dkwX0_retry_2 : List UInt8 := [89, 3, 25, 4, 83, 182, 0, 175, 42, 187, 0, 193, 89, 25, 4, 28, 29, 183, 0, 195, 182, 0, 159, 172]
abbrev dktX0_retry_2 : List UInt8 := dkwX0_retry_2 ++ dktX0_retry_3
def dkwX0_retry_1 : List UInt8 := [29, 4, 161, 0, 12, 29, 6, 163, 0, 7, 4, 167, 0, 4, 3, 4, 182, 0, 87, 42, 4, 189, 0, 47]
abbrev dktX0_retry_1 : List UInt8 := dkwX0_retry_1 ++ dktX0_retry_2
def dkwX0_retry_0 : List UInt8 := [42, 3, 181, 0, 63, 42, 27, 182, 0, 163, 58, 4, 42, 28, 4, 161, 0, 23, 28, 16, 60, 163, 0, 17]
abbrev dktX0_retry_0 : List UInt8 := dkwX0_retry_0 ++ dktX0_retry_1
theorem dksX0_retry_0 : cX0_retry.data.toList.drop 0 = dktX0_retry_0 := by decide +kernel
theorem dksX0_retry_1 : cX0_retry.data.toList.drop 24 = dktX0_retry_1 := dk_seg dksX0_retry_0 24 rfl rfl
theorem dksX0_retry_2 : cX0_retry.data.toList.drop 48 = dktX0_retry_2 := dk_seg dksX0_retry_1 24 rfl rfl
theorem dksX0_retry_3 : cX0_retry.data.toList.drop 72 = dktX0_retry_3 := dk_seg dksX0_retry_2 24 rfl rfl
theorem dX0_retry_0 : decode cX0_retry 0 = .ok (.aload_n 0, 1) := dk_42 (dk_at dksX0_retry_0 0 rfl rfl)
theorem dX0_retry_1 : decode cX0_retry 1 = .ok (.iconst 0, 1) := dk_3 (dk_at dksX0_retry_0 1 rfl rfl)
theorem dX0_retry_2 : decode cX0_retry 2 = .ok (.putfield 63, 3) := dk_181 0 63 (dk_at dksX0_retry_0 2 rfl rfl)
theorem dX0_retry_5 : decode cX0_retry 5 = .ok (.aload_n 0, 1) := dk_42 (dk_at dksX0_retry_0 5 rfl rfl)
theorem dX0_retry_6 : decode cX0_retry 6 = .ok (.iload_n 1, 1) := dk_27 (dk_at dksX0_retry_0 6 rfl rfl)
theorem dX0_retry_7 : decode cX0_retry 7 = .ok (.invokevirtual 163, 3) := dk_182 0 163 (dk_at dksX0_retry_0 7 rfl rfl)
theorem dX0_retry_10 : decode cX0_retry 10 = .ok (.astore 4, 2) := dk_58 4 (dk_at dksX0_retry_0 10 rfl rfl)
theorem dX0_retry_12 : decode cX0_retry 12 = .ok (.aload_n 0, 1) := dk_42 (dk_at dksX0_retry_0 12 rfl rfl)
theorem dX0_retry_13 : decode cX0_retry 13 = .ok (.iload_n 2, 1) := dk_28 (dk_at dksX0_retry_0 13 rfl rfl)
theorem dX0_retry_14 : decode cX0_retry 14 = .ok (.iconst 1, 1) := dk_4 (dk_at dksX0_retry_0 14 rfl rfl)
theorem dX0_retry_15 : decode cX0_retry 15 = .ok (.if_icmp .lt 23, 3) := dk_161 0 23 (dk_at dksX0_retry_0 15 rfl rfl)
theorem dX0_retry_18 : decode cX0_retry 18 = .ok (.iload_n 2, 1) := dk_28 (dk_at dksX0_retry_0 18 rfl rfl)
theorem dX0_retry_19 : decode cX0_retry 19 = .ok (.bipush 60, 2) := dk_16 60 (dk_at dksX0_retry_0 19 rfl rfl)
theorem dX0_retry_21 : decode cX0_retry 21 = .ok (.if_icmp .gt 17, 3) := dk_163 0 17 (dk_at dksX0_retry_0 21 rfl rfl)
theorem dX0_retry_24 : decode cX0_retry 24 = .ok (.iload_n 3, 1) := dk_29 (dk_at dksX0_retry_1 0 rfl rfl)
theorem dX0_retry_25 : decode cX0_retry 25 = .ok (.iconst 1, 1) := dk_4 (dk_at dksX0_retry_1 1 rfl rfl)
theorem dX0_retry_26 : decode cX0_retry 26 = .ok (.if_icmp .lt 12, 3) := dk_161 0 12 (dk_at dksX0_retry_1 2 rfl rfl)
theorem dX0_retry_29 : decode cX0_retry 29 = .ok (.iload_n 3, 1) := dk_29 (dk_at dksX0_retry_1 5 rfl rfl)
theorem dX0_retry_30 : decode cX0_retry 30 = .ok (.iconst 3, 1) := dk_6 (dk_at dksX0_retry_1 6 rfl rfl)
theorem dX0_retry_31 : decode cX0_retry 31 = .ok (.if_icmp .gt 7, 3) := dk_163 0 7 (dk_at dksX0_retry_1 7 rfl rfl)
theorem dX0_retry_34 : decode cX0_retry 34 = .ok (.iconst 1, 1) := dk_4 (dk_at dksX0_retry_1 10 rfl rfl)
theorem dX0_retry_35 : decode cX0_retry 35 = .ok (.goto 4, 3) := dk_167 0 4 (dk_at dksX0_retry_1 11 rfl rfl)
theorem dX0_retry_38 : decode cX0_retry 38 = .ok (.iconst 0, 1) := dk_3 (dk_at dksX0_retry_1 14 rfl rfl)
theorem dX0_retry_39 : decode cX0_retry 39 = .ok (.iconst 1, 1) := dk_4 (dk_at dksX0_retry_1 15 rfl rfl)
theorem dX0_retry_40 : decode cX0_retry 40 = .ok (.invokevirtual 87, 3) := dk_182 0 87 (dk_at dksX0_retry_1 16 rfl rfl)
theorem dX0_retry_43 : decode cX0_retry 43 = .ok (.aload_n 0, 1) := dk_42 (dk_at dksX0_retry_1 19 rfl rfl)
theorem dX0_retry_44 : decode cX0_retry 44 = .ok (.iconst 1, 1) := dk_4 (dk_at dksX0_retry_1 20 rfl rfl)
theorem dX0_retry_45 : decode cX0_retry 45 = .ok (.anewarray 47, 3) := dk_189 0 47 (dk_at dksX0_retry_1 21 rfl rfl)
theorem dX0_retry_48 : decode cX0_retry 48 = .ok (.dup, 1) := dk_89 (dk_at dksX0_retry_2 0 rfl rfl)
theorem dX0_retry_49 : decode cX0_retry 49 = .ok (.iconst 0, 1) := dk_3 (dk_at dksX0_retry_2 1 rfl rfl)
theorem dX0_retry_50 : decode cX0_retry 50 = .ok (.aload 4, 2) := dk_25 4 (dk_at dksX0_retry_2 2 rfl rfl)
theorem dX0_retry_52 : decode cX0_retry 52 = .ok (.aastore, 1) := dk_83 (dk_at dksX0_retry_2 4 rfl rfl)
theorem dX0_retry_53 : decode cX0_retry 53 = .ok (.invokevirtual 175, 3) := dk_182 0 175 (dk_at dksX0_retry_2 5 rfl rfl)
theorem dX0_retry_56 : decode cX0_retry 56 = .ok (.aload_n 0, 1) := dk_42 (dk_at dksX0_retry_2 8 rfl rfl)
theorem dX0_retry_57 : decode cX0_retry 57 = .ok (.new 193, 3) := dk_187 0 193 (dk_at dksX0_retry_2 9 rfl rfl)
theorem dX0_retry_60 : decode cX0_retry 60 = .ok (.dup, 1) := dk_89 (dk_at dksX0_retry_2 12 rfl rfl)
theorem dX0_retry_61 : decode cX0_retry 61 = .ok (.aload 4, 2) := dk_25 4 (dk_at dksX0_retry_2 13 rfl rfl)
theorem dX0_retry_63 : decode cX0_retry 63 = .ok (.iload_n 2, 1) := dk_28 (dk_at dksX0_retry_2 15 rfl rfl)
theorem dX0_retry_64 : decode cX0_retry 64 = .ok (.iload_n 3, 1) := dk_29 (dk_at dksX0_retry_2 16 rfl rfl)
theorem dX0_retry_65 : decode cX0_retry 65 = .ok (.invokespecial 195, 3) := dk_183 0 195 (dk_at dksX0_retry_2 17 rfl rfl)
theorem dX0_retry_68 : decode cX0_retry 68 = .ok (.invokevirtual 159, 3) := dk_182 0 159 (dk_at dksX0_retry_2 20 rfl rfl)
theorem dX0_retry_71 : decode cX0_retry 71 = .ok (.ireturn, 1) := dk_172 (dk_at dksX0_retry_2 23 rfl rfl)
theorem dX0_retry_72 : decode cX0_retry 72 = .ok (.astore 4, 2) := dk_58 4 (dk_at dksX0_retry_3 0 rfl rfl)
theorem dX0_retry_74 : decode cX0_retry 74 = .ok (.aload_n 0, 1) := dk_42 (dk_at dksX0_retry_3 2 rfl rfl)
theorem dX0_retry_75 : decode cX0_retry 75 = .ok (.aload 4, 2) := dk_25 4 (dk_at dksX0_retry_3 3 rfl rfl)
theorem dX0_retry_77 : decode cX0_retry 77 = .ok (.invokevirtual 117, 3) := dk_182 0 117 (dk_at dksX0_retry_3 5 rfl rfl)
theorem dX0_retry_80 : decode cX0_retry 80 = .ok (.ireturn, 1) := dk_172 (dk_at dksX0_retry_3 8 rfl rfl)
abbrev cX0_hedge : ByteArray := prog_1_method_36_code
def yX0_hedge : MethodName := ⟨RX0, "hedge", "(II)I"⟩
def dkwX0_hedge_2 : List UInt8 := [89, 45, 28, 183, 0, 200, 182, 0, 159, 172, 78, 42, 45, 182, 0, 117, 172]
abbrev dktX0_hedge_2 : List UInt8 := dkwX0_hedge_2 ++ []
def dkwX0_hedge_1 : List UInt8 := [167, 0, 4, 3, 4, 182, 0, 87, 42, 4, 189, 0, 47, 89, 3, 45, 83, 182, 0, 175, 42, 187, 0, 198]
abbrev dktX0_hedge_1 : List UInt8 := dkwX0_hedge_1 ++ dktX0_hedge_2
def dkwX0_hedge_0 : List UInt8 := [42, 3, 181, 0, 63, 42, 27, 182, 0, 163, 78, 42, 28, 155, 0, 13, 28, 16, 60, 163, 0, 7, 4]
abbrev dktX0_hedge_0 : List UInt8 := dkwX0_hedge_0 ++ dktX0_hedge_1
theorem dksX0_hedge_0 : cX0_hedge.data.toList.drop 0 = dktX0_hedge_0 := by decide +kernel
theorem dksX0_hedge_1 : cX0_hedge.data.toList.drop 23 = dktX0_hedge_1 := dk_seg dksX0_hedge_0 23 rfl rfl
theorem dksX0_hedge_2 : cX0_hedge.data.toList.drop 47 = dktX0_hedge_2 := dk_seg dksX0_hedge_1 24 rfl rfl
theorem dX0_hedge_0 : decode cX0_hedge 0 = .ok (.aload_n 0, 1) := dk_42 (dk_at dksX0_hedge_0 0 rfl rfl)
theorem dX0_hedge_1 : decode cX0_hedge 1 = .ok (.iconst 0, 1) := dk_3 (dk_at dksX0_hedge_0 1 rfl rfl)
theorem dX0_hedge_2 : decode cX0_hedge 2 = .ok (.putfield 63, 3) := dk_181 0 63 (dk_at dksX0_hedge_0 2 rfl rfl)
theorem dX0_hedge_5 : decode cX0_hedge 5 = .ok (.aload_n 0, 1) := dk_42 (dk_at dksX0_hedge_0 5 rfl rfl)
theorem dX0_hedge_6 : decode cX0_hedge 6 = .ok (.iload_n 1, 1) := dk_27 (dk_at dksX0_hedge_0 6 rfl rfl)
theorem dX0_hedge_7 : decode cX0_hedge 7 = .ok (.invokevirtual 163, 3) := dk_182 0 163 (dk_at dksX0_hedge_0 7 rfl rfl)
theorem dX0_hedge_10 : decode cX0_hedge 10 = .ok (.astore_n 3, 1) := dk_78 (dk_at dksX0_hedge_0 10 rfl rfl)
theorem dX0_hedge_11 : decode cX0_hedge 11 = .ok (.aload_n 0, 1) := dk_42 (dk_at dksX0_hedge_0 11 rfl rfl)
theorem dX0_hedge_12 : decode cX0_hedge 12 = .ok (.iload_n 2, 1) := dk_28 (dk_at dksX0_hedge_0 12 rfl rfl)
theorem dX0_hedge_13 : decode cX0_hedge 13 = .ok (.ifCond .lt 13, 3) := dk_155 0 13 (dk_at dksX0_hedge_0 13 rfl rfl)
theorem dX0_hedge_16 : decode cX0_hedge 16 = .ok (.iload_n 2, 1) := dk_28 (dk_at dksX0_hedge_0 16 rfl rfl)
theorem dX0_hedge_17 : decode cX0_hedge 17 = .ok (.bipush 60, 2) := dk_16 60 (dk_at dksX0_hedge_0 17 rfl rfl)
theorem dX0_hedge_19 : decode cX0_hedge 19 = .ok (.if_icmp .gt 7, 3) := dk_163 0 7 (dk_at dksX0_hedge_0 19 rfl rfl)
theorem dX0_hedge_22 : decode cX0_hedge 22 = .ok (.iconst 1, 1) := dk_4 (dk_at dksX0_hedge_0 22 rfl rfl)
theorem dX0_hedge_23 : decode cX0_hedge 23 = .ok (.goto 4, 3) := dk_167 0 4 (dk_at dksX0_hedge_1 0 rfl rfl)
theorem dX0_hedge_26 : decode cX0_hedge 26 = .ok (.iconst 0, 1) := dk_3 (dk_at dksX0_hedge_1 3 rfl rfl)
theorem dX0_hedge_27 : decode cX0_hedge 27 = .ok (.iconst 1, 1) := dk_4 (dk_at dksX0_hedge_1 4 rfl rfl)
theorem dX0_hedge_28 : decode cX0_hedge 28 = .ok (.invokevirtual 87, 3) := dk_182 0 87 (dk_at dksX0_hedge_1 5 rfl rfl)
theorem dX0_hedge_31 : decode cX0_hedge 31 = .ok (.aload_n 0, 1) := dk_42 (dk_at dksX0_hedge_1 8 rfl rfl)
theorem dX0_hedge_32 : decode cX0_hedge 32 = .ok (.iconst 1, 1) := dk_4 (dk_at dksX0_hedge_1 9 rfl rfl)
theorem dX0_hedge_33 : decode cX0_hedge 33 = .ok (.anewarray 47, 3) := dk_189 0 47 (dk_at dksX0_hedge_1 10 rfl rfl)
theorem dX0_hedge_36 : decode cX0_hedge 36 = .ok (.dup, 1) := dk_89 (dk_at dksX0_hedge_1 13 rfl rfl)
theorem dX0_hedge_37 : decode cX0_hedge 37 = .ok (.iconst 0, 1) := dk_3 (dk_at dksX0_hedge_1 14 rfl rfl)
theorem dX0_hedge_38 : decode cX0_hedge 38 = .ok (.aload_n 3, 1) := dk_45 (dk_at dksX0_hedge_1 15 rfl rfl)
theorem dX0_hedge_39 : decode cX0_hedge 39 = .ok (.aastore, 1) := dk_83 (dk_at dksX0_hedge_1 16 rfl rfl)
theorem dX0_hedge_40 : decode cX0_hedge 40 = .ok (.invokevirtual 175, 3) := dk_182 0 175 (dk_at dksX0_hedge_1 17 rfl rfl)
theorem dX0_hedge_43 : decode cX0_hedge 43 = .ok (.aload_n 0, 1) := dk_42 (dk_at dksX0_hedge_1 20 rfl rfl)
theorem dX0_hedge_44 : decode cX0_hedge 44 = .ok (.new 198, 3) := dk_187 0 198 (dk_at dksX0_hedge_1 21 rfl rfl)
theorem dX0_hedge_47 : decode cX0_hedge 47 = .ok (.dup, 1) := dk_89 (dk_at dksX0_hedge_2 0 rfl rfl)
theorem dX0_hedge_48 : decode cX0_hedge 48 = .ok (.aload_n 3, 1) := dk_45 (dk_at dksX0_hedge_2 1 rfl rfl)
theorem dX0_hedge_49 : decode cX0_hedge 49 = .ok (.iload_n 2, 1) := dk_28 (dk_at dksX0_hedge_2 2 rfl rfl)
theorem dX0_hedge_50 : decode cX0_hedge 50 = .ok (.invokespecial 200, 3) := dk_183 0 200 (dk_at dksX0_hedge_2 3 rfl rfl)
theorem dX0_hedge_53 : decode cX0_hedge 53 = .ok (.invokevirtual 159, 3) := dk_182 0 159 (dk_at dksX0_hedge_2 6 rfl rfl)
theorem dX0_hedge_56 : decode cX0_hedge 56 = .ok (.ireturn, 1) := dk_172 (dk_at dksX0_hedge_2 9 rfl rfl)
theorem dX0_hedge_57 : decode cX0_hedge 57 = .ok (.astore_n 3, 1) := dk_78 (dk_at dksX0_hedge_2 10 rfl rfl)
theorem dX0_hedge_58 : decode cX0_hedge 58 = .ok (.aload_n 0, 1) := dk_42 (dk_at dksX0_hedge_2 11 rfl rfl)
theorem dX0_hedge_59 : decode cX0_hedge 59 = .ok (.aload_n 3, 1) := dk_45 (dk_at dksX0_hedge_2 12 rfl rfl)
theorem dX0_hedge_60 : decode cX0_hedge 60 = .ok (.invokevirtual 117, 3) := dk_182 0 117 (dk_at dksX0_hedge_2 13 rfl rfl)
theorem dX0_hedge_63 : decode cX0_hedge 63 = .ok (.ireturn, 1) := dk_172 (dk_at dksX0_hedge_2 16 rfl rfl)
abbrev cX0_told : ByteArray := prog_1_method_38_code
def yX0_told : MethodName := ⟨RX0, "told", "(II)I"⟩
def dkwX0_told_5 : List UInt8 := [182, 0, 222, 172]
abbrev dktX0_told_5 : List UInt8 := dkwX0_told_5 ++ []
def dkwX0_told_4 : List UInt8 := [172, 45, 182, 0, 213, 172, 45, 182, 0, 216, 182, 0, 219, 172, 78, 42, 45, 182, 0, 117, 172, 78, 42]
abbrev dktX0_told_4 : List UInt8 := dkwX0_told_4 ++ dktX0_told_5
def dkwX0_told_3 : List UInt8 := [42, 180, 0, 133, 172, 45, 182, 0, 203, 172, 42, 45, 180, 0, 167, 182, 0, 207, 172, 45, 180, 0, 210, 190]
abbrev dktX0_told_3 : List UInt8 := dkwX0_told_3 ++ dktX0_told_4
def dkwX0_told_2 : List UInt8 := [170, 0, 0, 0, 63, 0, 0, 0, 0, 0, 0, 0, 4, 0, 0, 0, 33, 0, 0, 0, 38, 0, 0, 0, 43, 0, 0, 0, 52, 0, 0, 0, 58]
abbrev dktX0_told_2 : List UInt8 := dkwX0_told_2 ++ dktX0_told_3
def dkwX0_told_1 : List UInt8 := [167, 0, 4, 3, 4, 182, 0, 87, 28]
abbrev dktX0_told_1 : List UInt8 := dkwX0_told_1 ++ dktX0_told_2
def dkwX0_told_0 : List UInt8 := [42, 3, 181, 0, 63, 42, 27, 182, 0, 163, 78, 42, 28, 155, 0, 12, 28, 8, 163, 0, 7, 4]
abbrev dktX0_told_0 : List UInt8 := dkwX0_told_0 ++ dktX0_told_1
theorem dksX0_told_0 : cX0_told.data.toList.drop 0 = dktX0_told_0 := by decide +kernel
theorem dksX0_told_1 : cX0_told.data.toList.drop 22 = dktX0_told_1 := dk_seg dksX0_told_0 22 rfl rfl
theorem dksX0_told_2 : cX0_told.data.toList.drop 31 = dktX0_told_2 := dk_seg dksX0_told_1 9 rfl rfl
theorem dksX0_told_3 : cX0_told.data.toList.drop 64 = dktX0_told_3 := dk_seg dksX0_told_2 33 rfl rfl
theorem dksX0_told_4 : cX0_told.data.toList.drop 88 = dktX0_told_4 := dk_seg dksX0_told_3 24 rfl rfl
theorem dksX0_told_5 : cX0_told.data.toList.drop 111 = dktX0_told_5 := dk_seg dksX0_told_4 23 rfl rfl
theorem dX0_told_0 : decode cX0_told 0 = .ok (.aload_n 0, 1) := dk_42 (dk_at dksX0_told_0 0 rfl rfl)
theorem dX0_told_1 : decode cX0_told 1 = .ok (.iconst 0, 1) := dk_3 (dk_at dksX0_told_0 1 rfl rfl)
theorem dX0_told_2 : decode cX0_told 2 = .ok (.putfield 63, 3) := dk_181 0 63 (dk_at dksX0_told_0 2 rfl rfl)
theorem dX0_told_5 : decode cX0_told 5 = .ok (.aload_n 0, 1) := dk_42 (dk_at dksX0_told_0 5 rfl rfl)
theorem dX0_told_6 : decode cX0_told 6 = .ok (.iload_n 1, 1) := dk_27 (dk_at dksX0_told_0 6 rfl rfl)
theorem dX0_told_7 : decode cX0_told 7 = .ok (.invokevirtual 163, 3) := dk_182 0 163 (dk_at dksX0_told_0 7 rfl rfl)
theorem dX0_told_10 : decode cX0_told 10 = .ok (.astore_n 3, 1) := dk_78 (dk_at dksX0_told_0 10 rfl rfl)
theorem dX0_told_11 : decode cX0_told 11 = .ok (.aload_n 0, 1) := dk_42 (dk_at dksX0_told_0 11 rfl rfl)
theorem dX0_told_12 : decode cX0_told 12 = .ok (.iload_n 2, 1) := dk_28 (dk_at dksX0_told_0 12 rfl rfl)
theorem dX0_told_13 : decode cX0_told 13 = .ok (.ifCond .lt 12, 3) := dk_155 0 12 (dk_at dksX0_told_0 13 rfl rfl)
theorem dX0_told_16 : decode cX0_told 16 = .ok (.iload_n 2, 1) := dk_28 (dk_at dksX0_told_0 16 rfl rfl)
theorem dX0_told_17 : decode cX0_told 17 = .ok (.iconst 5, 1) := dk_8 (dk_at dksX0_told_0 17 rfl rfl)
theorem dX0_told_18 : decode cX0_told 18 = .ok (.if_icmp .gt 7, 3) := dk_163 0 7 (dk_at dksX0_told_0 18 rfl rfl)
theorem dX0_told_21 : decode cX0_told 21 = .ok (.iconst 1, 1) := dk_4 (dk_at dksX0_told_0 21 rfl rfl)
theorem dX0_told_22 : decode cX0_told 22 = .ok (.goto 4, 3) := dk_167 0 4 (dk_at dksX0_told_1 0 rfl rfl)
theorem dX0_told_25 : decode cX0_told 25 = .ok (.iconst 0, 1) := dk_3 (dk_at dksX0_told_1 3 rfl rfl)
theorem dX0_told_26 : decode cX0_told 26 = .ok (.iconst 1, 1) := dk_4 (dk_at dksX0_told_1 4 rfl rfl)
theorem dX0_told_27 : decode cX0_told 27 = .ok (.invokevirtual 87, 3) := dk_182 0 87 (dk_at dksX0_told_1 5 rfl rfl)
theorem dX0_told_30 : decode cX0_told 30 = .ok (.iload_n 2, 1) := dk_28 (dk_at dksX0_told_1 8 rfl rfl)
theorem dX0_told_31 : decode cX0_told 31 = .ok (.tableswitch 63 0 4 #[33, 38, 43, 52, 58], 33) := by decide +kernel
theorem dX0_told_64 : decode cX0_told 64 = .ok (.aload_n 0, 1) := dk_42 (dk_at dksX0_told_3 0 rfl rfl)
theorem dX0_told_65 : decode cX0_told 65 = .ok (.getfield 133, 3) := dk_180 0 133 (dk_at dksX0_told_3 1 rfl rfl)
theorem dX0_told_68 : decode cX0_told 68 = .ok (.ireturn, 1) := dk_172 (dk_at dksX0_told_3 4 rfl rfl)
theorem dX0_told_69 : decode cX0_told 69 = .ok (.aload_n 3, 1) := dk_45 (dk_at dksX0_told_3 5 rfl rfl)
theorem dX0_told_70 : decode cX0_told 70 = .ok (.invokevirtual 203, 3) := dk_182 0 203 (dk_at dksX0_told_3 6 rfl rfl)
theorem dX0_told_73 : decode cX0_told 73 = .ok (.ireturn, 1) := dk_172 (dk_at dksX0_told_3 9 rfl rfl)
theorem dX0_told_74 : decode cX0_told 74 = .ok (.aload_n 0, 1) := dk_42 (dk_at dksX0_told_3 10 rfl rfl)
theorem dX0_told_75 : decode cX0_told 75 = .ok (.aload_n 3, 1) := dk_45 (dk_at dksX0_told_3 11 rfl rfl)
theorem dX0_told_76 : decode cX0_told 76 = .ok (.getfield 167, 3) := dk_180 0 167 (dk_at dksX0_told_3 12 rfl rfl)
theorem dX0_told_79 : decode cX0_told 79 = .ok (.invokevirtual 207, 3) := dk_182 0 207 (dk_at dksX0_told_3 15 rfl rfl)
theorem dX0_told_82 : decode cX0_told 82 = .ok (.ireturn, 1) := dk_172 (dk_at dksX0_told_3 18 rfl rfl)
theorem dX0_told_83 : decode cX0_told 83 = .ok (.aload_n 3, 1) := dk_45 (dk_at dksX0_told_3 19 rfl rfl)
theorem dX0_told_84 : decode cX0_told 84 = .ok (.getfield 210, 3) := dk_180 0 210 (dk_at dksX0_told_3 20 rfl rfl)
theorem dX0_told_87 : decode cX0_told 87 = .ok (.arraylength, 1) := dk_190 (dk_at dksX0_told_3 23 rfl rfl)
theorem dX0_told_88 : decode cX0_told 88 = .ok (.ireturn, 1) := dk_172 (dk_at dksX0_told_4 0 rfl rfl)
theorem dX0_told_89 : decode cX0_told 89 = .ok (.aload_n 3, 1) := dk_45 (dk_at dksX0_told_4 1 rfl rfl)
theorem dX0_told_90 : decode cX0_told 90 = .ok (.invokevirtual 213, 3) := dk_182 0 213 (dk_at dksX0_told_4 2 rfl rfl)
theorem dX0_told_93 : decode cX0_told 93 = .ok (.ireturn, 1) := dk_172 (dk_at dksX0_told_4 5 rfl rfl)
theorem dX0_told_94 : decode cX0_told 94 = .ok (.aload_n 3, 1) := dk_45 (dk_at dksX0_told_4 6 rfl rfl)
theorem dX0_told_95 : decode cX0_told 95 = .ok (.invokevirtual 216, 3) := dk_182 0 216 (dk_at dksX0_told_4 7 rfl rfl)
theorem dX0_told_98 : decode cX0_told 98 = .ok (.invokevirtual 219, 3) := dk_182 0 219 (dk_at dksX0_told_4 10 rfl rfl)
theorem dX0_told_101 : decode cX0_told 101 = .ok (.ireturn, 1) := dk_172 (dk_at dksX0_told_4 13 rfl rfl)
theorem dX0_told_102 : decode cX0_told 102 = .ok (.astore_n 3, 1) := dk_78 (dk_at dksX0_told_4 14 rfl rfl)
theorem dX0_told_103 : decode cX0_told 103 = .ok (.aload_n 0, 1) := dk_42 (dk_at dksX0_told_4 15 rfl rfl)
theorem dX0_told_104 : decode cX0_told 104 = .ok (.aload_n 3, 1) := dk_45 (dk_at dksX0_told_4 16 rfl rfl)
theorem dX0_told_105 : decode cX0_told 105 = .ok (.invokevirtual 117, 3) := dk_182 0 117 (dk_at dksX0_told_4 17 rfl rfl)
theorem dX0_told_108 : decode cX0_told 108 = .ok (.ireturn, 1) := dk_172 (dk_at dksX0_told_4 20 rfl rfl)
theorem dX0_told_109 : decode cX0_told 109 = .ok (.astore_n 3, 1) := dk_78 (dk_at dksX0_told_4 21 rfl rfl)
theorem dX0_told_110 : decode cX0_told 110 = .ok (.aload_n 0, 1) := dk_42 (dk_at dksX0_told_4 22 rfl rfl)
theorem dX0_told_111 : decode cX0_told 111 = .ok (.invokevirtual 222, 3) := dk_182 0 222 (dk_at dksX0_told_5 0 rfl rfl)
theorem dX0_told_114 : decode cX0_told 114 = .ok (.ireturn, 1) := dk_172 (dk_at dksX0_told_5 3 rfl rfl)
abbrev cX0_numberOf : ByteArray := prog_1_method_37_code
def yX0_numberOf : MethodName := ⟨RX0, "numberOf", "(LTickShare$Thing;)I"⟩
def dkwX0_numberOf_1 : List UInt8 := [167, 255, 235, 28, 42, 180, 0, 133, 162, 0, 7, 28, 167, 0, 4, 2, 172]
abbrev dktX0_numberOf_1 : List UInt8 := dkwX0_numberOf_1 ++ []
def dkwX0_numberOf_0 : List UInt8 := [3, 61, 28, 42, 180, 0, 133, 162, 0, 19, 42, 180, 0, 49, 28, 50, 43, 165, 0, 9, 132, 2, 1]
abbrev dktX0_numberOf_0 : List UInt8 := dkwX0_numberOf_0 ++ dktX0_numberOf_1
theorem dksX0_numberOf_0 : cX0_numberOf.data.toList.drop 0 = dktX0_numberOf_0 := by decide +kernel
theorem dksX0_numberOf_1 : cX0_numberOf.data.toList.drop 23 = dktX0_numberOf_1 := dk_seg dksX0_numberOf_0 23 rfl rfl
theorem dX0_numberOf_0 : decode cX0_numberOf 0 = .ok (.iconst 0, 1) := dk_3 (dk_at dksX0_numberOf_0 0 rfl rfl)
theorem dX0_numberOf_1 : decode cX0_numberOf 1 = .ok (.istore_n 2, 1) := dk_61 (dk_at dksX0_numberOf_0 1 rfl rfl)
theorem dX0_numberOf_2 : decode cX0_numberOf 2 = .ok (.iload_n 2, 1) := dk_28 (dk_at dksX0_numberOf_0 2 rfl rfl)
theorem dX0_numberOf_3 : decode cX0_numberOf 3 = .ok (.aload_n 0, 1) := dk_42 (dk_at dksX0_numberOf_0 3 rfl rfl)
theorem dX0_numberOf_4 : decode cX0_numberOf 4 = .ok (.getfield 133, 3) := dk_180 0 133 (dk_at dksX0_numberOf_0 4 rfl rfl)
theorem dX0_numberOf_7 : decode cX0_numberOf 7 = .ok (.if_icmp .ge 19, 3) := dk_162 0 19 (dk_at dksX0_numberOf_0 7 rfl rfl)
theorem dX0_numberOf_10 : decode cX0_numberOf 10 = .ok (.aload_n 0, 1) := dk_42 (dk_at dksX0_numberOf_0 10 rfl rfl)
theorem dX0_numberOf_11 : decode cX0_numberOf 11 = .ok (.getfield 49, 3) := dk_180 0 49 (dk_at dksX0_numberOf_0 11 rfl rfl)
theorem dX0_numberOf_14 : decode cX0_numberOf 14 = .ok (.iload_n 2, 1) := dk_28 (dk_at dksX0_numberOf_0 14 rfl rfl)
theorem dX0_numberOf_15 : decode cX0_numberOf 15 = .ok (.aaload, 1) := dk_50 (dk_at dksX0_numberOf_0 15 rfl rfl)
theorem dX0_numberOf_16 : decode cX0_numberOf 16 = .ok (.aload_n 1, 1) := dk_43 (dk_at dksX0_numberOf_0 16 rfl rfl)
theorem dX0_numberOf_17 : decode cX0_numberOf 17 = .ok (.if_acmp .eq 9, 3) := dk_165 0 9 (dk_at dksX0_numberOf_0 17 rfl rfl)
theorem dX0_numberOf_20 : decode cX0_numberOf 20 = .ok (.iinc 2 1, 3) := dk_132 2 1 (dk_at dksX0_numberOf_0 20 rfl rfl)
theorem dX0_numberOf_23 : decode cX0_numberOf 23 = .ok (.goto (-21), 3) := dk_167 255 235 (dk_at dksX0_numberOf_1 0 rfl rfl)
theorem dX0_numberOf_26 : decode cX0_numberOf 26 = .ok (.iload_n 2, 1) := dk_28 (dk_at dksX0_numberOf_1 3 rfl rfl)
theorem dX0_numberOf_27 : decode cX0_numberOf 27 = .ok (.aload_n 0, 1) := dk_42 (dk_at dksX0_numberOf_1 4 rfl rfl)
theorem dX0_numberOf_28 : decode cX0_numberOf 28 = .ok (.getfield 133, 3) := dk_180 0 133 (dk_at dksX0_numberOf_1 5 rfl rfl)
theorem dX0_numberOf_31 : decode cX0_numberOf 31 = .ok (.if_icmp .ge 7, 3) := dk_162 0 7 (dk_at dksX0_numberOf_1 8 rfl rfl)
theorem dX0_numberOf_34 : decode cX0_numberOf 34 = .ok (.iload_n 2, 1) := dk_28 (dk_at dksX0_numberOf_1 11 rfl rfl)
theorem dX0_numberOf_35 : decode cX0_numberOf 35 = .ok (.goto 4, 3) := dk_167 0 4 (dk_at dksX0_numberOf_1 12 rfl rfl)
theorem dX0_numberOf_38 : decode cX0_numberOf 38 = .ok (.iconst (-1), 1) := dk_2 (dk_at dksX0_numberOf_1 15 rfl rfl)
theorem dX0_numberOf_39 : decode cX0_numberOf 39 = .ok (.ireturn, 1) := dk_172 (dk_at dksX0_numberOf_1 16 rfl rfl)
abbrev cX0_times : ByteArray := prog_1_method_6_code
def yX0_times : MethodName := ⟨RX0, "times", "(JJ)J"⟩
def dkwX0_times_1 : List UInt8 := [30, 32, 105, 173]
abbrev dktX0_times_1 : List UInt8 := dkwX0_times_1 ++ []
def dkwX0_times_0 : List UInt8 := [32, 9, 148, 153, 0, 21, 30, 20, 0, 11, 32, 109, 148, 158, 0, 11, 187, 0, 13, 89, 183, 0, 15, 191]
abbrev dktX0_times_0 : List UInt8 := dkwX0_times_0 ++ dktX0_times_1
theorem dksX0_times_0 : cX0_times.data.toList.drop 0 = dktX0_times_0 := by decide +kernel
theorem dksX0_times_1 : cX0_times.data.toList.drop 24 = dktX0_times_1 := dk_seg dksX0_times_0 24 rfl rfl
theorem dX0_times_0 : decode cX0_times 0 = .ok (.lload_n 2, 1) := dk_32 (dk_at dksX0_times_0 0 rfl rfl)
theorem dX0_times_1 : decode cX0_times 1 = .ok (.lconst 0, 1) := dk_9 (dk_at dksX0_times_0 1 rfl rfl)
theorem dX0_times_2 : decode cX0_times 2 = .ok (.lcmp, 1) := dk_148 (dk_at dksX0_times_0 2 rfl rfl)
theorem dX0_times_3 : decode cX0_times 3 = .ok (.ifCond .eq 21, 3) := dk_153 0 21 (dk_at dksX0_times_0 3 rfl rfl)
theorem dX0_times_6 : decode cX0_times 6 = .ok (.lload_n 0, 1) := dk_30 (dk_at dksX0_times_0 6 rfl rfl)
theorem dX0_times_7 : decode cX0_times 7 = .ok (.ldc2_w 11, 3) := dk_20 0 11 (dk_at dksX0_times_0 7 rfl rfl)
theorem dX0_times_10 : decode cX0_times 10 = .ok (.lload_n 2, 1) := dk_32 (dk_at dksX0_times_0 10 rfl rfl)
theorem dX0_times_11 : decode cX0_times 11 = .ok (.ldiv, 1) := dk_109 (dk_at dksX0_times_0 11 rfl rfl)
theorem dX0_times_12 : decode cX0_times 12 = .ok (.lcmp, 1) := dk_148 (dk_at dksX0_times_0 12 rfl rfl)
theorem dX0_times_13 : decode cX0_times 13 = .ok (.ifCond .le 11, 3) := dk_158 0 11 (dk_at dksX0_times_0 13 rfl rfl)
theorem dX0_times_16 : decode cX0_times 16 = .ok (.new 13, 3) := dk_187 0 13 (dk_at dksX0_times_0 16 rfl rfl)
theorem dX0_times_19 : decode cX0_times 19 = .ok (.dup, 1) := dk_89 (dk_at dksX0_times_0 19 rfl rfl)
theorem dX0_times_20 : decode cX0_times 20 = .ok (.invokespecial 15, 3) := dk_183 0 15 (dk_at dksX0_times_0 20 rfl rfl)
theorem dX0_times_23 : decode cX0_times 23 = .ok (.athrow, 1) := dk_191 (dk_at dksX0_times_0 23 rfl rfl)
theorem dX0_times_24 : decode cX0_times 24 = .ok (.lload_n 0, 1) := dk_30 (dk_at dksX0_times_1 0 rfl rfl)
theorem dX0_times_25 : decode cX0_times 25 = .ok (.lload_n 2, 1) := dk_32 (dk_at dksX0_times_1 1 rfl rfl)
theorem dX0_times_26 : decode cX0_times 26 = .ok (.lmul, 1) := dk_105 (dk_at dksX0_times_1 2 rfl rfl)
theorem dX0_times_27 : decode cX0_times 27 = .ok (.lreturn, 1) := dk_173 (dk_at dksX0_times_1 3 rfl rfl)
abbrev cX0_fold : ByteArray := prog_1_method_7_code
def yX0_fold : MethodName := ⟨RX0, "fold", "(LTickShare$Table;LTickShare$Table;JLTickShare$Table;)V"⟩
def dkwX0_fold_5 : List UInt8 := [132, 6, 1, 167, 255, 178, 132, 5, 1, 167, 255, 140, 177]
abbrev dktX0_fold_5 : List UInt8 := dkwX0_fold_5 ++ []
def dkwX0_fold_4 : List UInt8 := [21, 6, 96, 42, 180, 0, 32, 21, 5, 47, 43, 180, 0, 19, 21, 6, 47, 105, 32, 105, 182, 0, 28]
abbrev dktX0_fold_4 : List UInt8 := dkwX0_fold_4 ++ dktX0_fold_5
def dkwX0_fold_3 : List UInt8 := [180, 0, 32, 21, 5, 47, 43, 180, 0, 32, 21, 6, 47, 105, 32, 105, 182, 0, 28, 25, 4, 3, 21, 5]
abbrev dktX0_fold_3 : List UInt8 := dkwX0_fold_3 ++ dktX0_fold_4
def dkwX0_fold_2 : List UInt8 := [163, 0, 77, 42, 180, 0, 32, 21, 5, 47, 9, 148, 158, 0, 65, 25, 4, 4, 21, 5, 21, 6, 96, 42]
abbrev dktX0_fold_2 : List UInt8 := dkwX0_fold_2 ++ dktX0_fold_3
def dkwX0_fold_1 : List UInt8 := [180, 0, 19, 21, 5, 47, 43, 180, 0, 24, 105, 32, 105, 182, 0, 28, 3, 54, 6, 21, 6, 16, 120]
abbrev dktX0_fold_1 : List UInt8 := dkwX0_fold_1 ++ dktX0_fold_2
def dkwX0_fold_0 : List UInt8 := [32, 9, 148, 154, 0, 4, 177, 3, 54, 5, 21, 5, 16, 120, 163, 0, 115, 25, 4, 3, 21, 5, 42]
abbrev dktX0_fold_0 : List UInt8 := dkwX0_fold_0 ++ dktX0_fold_1
theorem dksX0_fold_0 : cX0_fold.data.toList.drop 0 = dktX0_fold_0 := by decide +kernel
theorem dksX0_fold_1 : cX0_fold.data.toList.drop 23 = dktX0_fold_1 := dk_seg dksX0_fold_0 23 rfl rfl
theorem dksX0_fold_2 : cX0_fold.data.toList.drop 46 = dktX0_fold_2 := dk_seg dksX0_fold_1 23 rfl rfl
theorem dksX0_fold_3 : cX0_fold.data.toList.drop 70 = dktX0_fold_3 := dk_seg dksX0_fold_2 24 rfl rfl
theorem dksX0_fold_4 : cX0_fold.data.toList.drop 94 = dktX0_fold_4 := dk_seg dksX0_fold_3 24 rfl rfl
theorem dksX0_fold_5 : cX0_fold.data.toList.drop 117 = dktX0_fold_5 := dk_seg dksX0_fold_4 23 rfl rfl
theorem dX0_fold_0 : decode cX0_fold 0 = .ok (.lload_n 2, 1) := dk_32 (dk_at dksX0_fold_0 0 rfl rfl)
theorem dX0_fold_1 : decode cX0_fold 1 = .ok (.lconst 0, 1) := dk_9 (dk_at dksX0_fold_0 1 rfl rfl)
theorem dX0_fold_2 : decode cX0_fold 2 = .ok (.lcmp, 1) := dk_148 (dk_at dksX0_fold_0 2 rfl rfl)
theorem dX0_fold_3 : decode cX0_fold 3 = .ok (.ifCond .ne 4, 3) := dk_154 0 4 (dk_at dksX0_fold_0 3 rfl rfl)
theorem dX0_fold_6 : decode cX0_fold 6 = .ok (.return_, 1) := dk_177 (dk_at dksX0_fold_0 6 rfl rfl)
theorem dX0_fold_7 : decode cX0_fold 7 = .ok (.iconst 0, 1) := dk_3 (dk_at dksX0_fold_0 7 rfl rfl)
theorem dX0_fold_8 : decode cX0_fold 8 = .ok (.istore 5, 2) := dk_54 5 (dk_at dksX0_fold_0 8 rfl rfl)
theorem dX0_fold_10 : decode cX0_fold 10 = .ok (.iload 5, 2) := dk_21 5 (dk_at dksX0_fold_0 10 rfl rfl)
theorem dX0_fold_12 : decode cX0_fold 12 = .ok (.bipush 120, 2) := dk_16 120 (dk_at dksX0_fold_0 12 rfl rfl)
theorem dX0_fold_14 : decode cX0_fold 14 = .ok (.if_icmp .gt 115, 3) := dk_163 0 115 (dk_at dksX0_fold_0 14 rfl rfl)
theorem dX0_fold_17 : decode cX0_fold 17 = .ok (.aload 4, 2) := dk_25 4 (dk_at dksX0_fold_0 17 rfl rfl)
theorem dX0_fold_19 : decode cX0_fold 19 = .ok (.iconst 0, 1) := dk_3 (dk_at dksX0_fold_0 19 rfl rfl)
theorem dX0_fold_20 : decode cX0_fold 20 = .ok (.iload 5, 2) := dk_21 5 (dk_at dksX0_fold_0 20 rfl rfl)
theorem dX0_fold_22 : decode cX0_fold 22 = .ok (.aload_n 0, 1) := dk_42 (dk_at dksX0_fold_0 22 rfl rfl)
theorem dX0_fold_23 : decode cX0_fold 23 = .ok (.getfield 19, 3) := dk_180 0 19 (dk_at dksX0_fold_1 0 rfl rfl)
theorem dX0_fold_26 : decode cX0_fold 26 = .ok (.iload 5, 2) := dk_21 5 (dk_at dksX0_fold_1 3 rfl rfl)
theorem dX0_fold_28 : decode cX0_fold 28 = .ok (.laload, 1) := dk_47 (dk_at dksX0_fold_1 5 rfl rfl)
theorem dX0_fold_29 : decode cX0_fold 29 = .ok (.aload_n 1, 1) := dk_43 (dk_at dksX0_fold_1 6 rfl rfl)
theorem dX0_fold_30 : decode cX0_fold 30 = .ok (.getfield 24, 3) := dk_180 0 24 (dk_at dksX0_fold_1 7 rfl rfl)
theorem dX0_fold_33 : decode cX0_fold 33 = .ok (.lmul, 1) := dk_105 (dk_at dksX0_fold_1 10 rfl rfl)
theorem dX0_fold_34 : decode cX0_fold 34 = .ok (.lload_n 2, 1) := dk_32 (dk_at dksX0_fold_1 11 rfl rfl)
theorem dX0_fold_35 : decode cX0_fold 35 = .ok (.lmul, 1) := dk_105 (dk_at dksX0_fold_1 12 rfl rfl)
theorem dX0_fold_36 : decode cX0_fold 36 = .ok (.invokevirtual 28, 3) := dk_182 0 28 (dk_at dksX0_fold_1 13 rfl rfl)
theorem dX0_fold_39 : decode cX0_fold 39 = .ok (.iconst 0, 1) := dk_3 (dk_at dksX0_fold_1 16 rfl rfl)
theorem dX0_fold_40 : decode cX0_fold 40 = .ok (.istore 6, 2) := dk_54 6 (dk_at dksX0_fold_1 17 rfl rfl)
theorem dX0_fold_42 : decode cX0_fold 42 = .ok (.iload 6, 2) := dk_21 6 (dk_at dksX0_fold_1 19 rfl rfl)
theorem dX0_fold_44 : decode cX0_fold 44 = .ok (.bipush 120, 2) := dk_16 120 (dk_at dksX0_fold_1 21 rfl rfl)
theorem dX0_fold_46 : decode cX0_fold 46 = .ok (.if_icmp .gt 77, 3) := dk_163 0 77 (dk_at dksX0_fold_2 0 rfl rfl)
theorem dX0_fold_49 : decode cX0_fold 49 = .ok (.aload_n 0, 1) := dk_42 (dk_at dksX0_fold_2 3 rfl rfl)
theorem dX0_fold_50 : decode cX0_fold 50 = .ok (.getfield 32, 3) := dk_180 0 32 (dk_at dksX0_fold_2 4 rfl rfl)
theorem dX0_fold_53 : decode cX0_fold 53 = .ok (.iload 5, 2) := dk_21 5 (dk_at dksX0_fold_2 7 rfl rfl)
theorem dX0_fold_55 : decode cX0_fold 55 = .ok (.laload, 1) := dk_47 (dk_at dksX0_fold_2 9 rfl rfl)
theorem dX0_fold_56 : decode cX0_fold 56 = .ok (.lconst 0, 1) := dk_9 (dk_at dksX0_fold_2 10 rfl rfl)
theorem dX0_fold_57 : decode cX0_fold 57 = .ok (.lcmp, 1) := dk_148 (dk_at dksX0_fold_2 11 rfl rfl)
theorem dX0_fold_58 : decode cX0_fold 58 = .ok (.ifCond .le 65, 3) := dk_158 0 65 (dk_at dksX0_fold_2 12 rfl rfl)
theorem dX0_fold_61 : decode cX0_fold 61 = .ok (.aload 4, 2) := dk_25 4 (dk_at dksX0_fold_2 15 rfl rfl)
theorem dX0_fold_63 : decode cX0_fold 63 = .ok (.iconst 1, 1) := dk_4 (dk_at dksX0_fold_2 17 rfl rfl)
theorem dX0_fold_64 : decode cX0_fold 64 = .ok (.iload 5, 2) := dk_21 5 (dk_at dksX0_fold_2 18 rfl rfl)
theorem dX0_fold_66 : decode cX0_fold 66 = .ok (.iload 6, 2) := dk_21 6 (dk_at dksX0_fold_2 20 rfl rfl)
theorem dX0_fold_68 : decode cX0_fold 68 = .ok (.iadd, 1) := dk_96 (dk_at dksX0_fold_2 22 rfl rfl)
theorem dX0_fold_69 : decode cX0_fold 69 = .ok (.aload_n 0, 1) := dk_42 (dk_at dksX0_fold_2 23 rfl rfl)
theorem dX0_fold_70 : decode cX0_fold 70 = .ok (.getfield 32, 3) := dk_180 0 32 (dk_at dksX0_fold_3 0 rfl rfl)
theorem dX0_fold_73 : decode cX0_fold 73 = .ok (.iload 5, 2) := dk_21 5 (dk_at dksX0_fold_3 3 rfl rfl)
theorem dX0_fold_75 : decode cX0_fold 75 = .ok (.laload, 1) := dk_47 (dk_at dksX0_fold_3 5 rfl rfl)
theorem dX0_fold_76 : decode cX0_fold 76 = .ok (.aload_n 1, 1) := dk_43 (dk_at dksX0_fold_3 6 rfl rfl)
theorem dX0_fold_77 : decode cX0_fold 77 = .ok (.getfield 32, 3) := dk_180 0 32 (dk_at dksX0_fold_3 7 rfl rfl)
theorem dX0_fold_80 : decode cX0_fold 80 = .ok (.iload 6, 2) := dk_21 6 (dk_at dksX0_fold_3 10 rfl rfl)
theorem dX0_fold_82 : decode cX0_fold 82 = .ok (.laload, 1) := dk_47 (dk_at dksX0_fold_3 12 rfl rfl)
theorem dX0_fold_83 : decode cX0_fold 83 = .ok (.lmul, 1) := dk_105 (dk_at dksX0_fold_3 13 rfl rfl)
theorem dX0_fold_84 : decode cX0_fold 84 = .ok (.lload_n 2, 1) := dk_32 (dk_at dksX0_fold_3 14 rfl rfl)
theorem dX0_fold_85 : decode cX0_fold 85 = .ok (.lmul, 1) := dk_105 (dk_at dksX0_fold_3 15 rfl rfl)
theorem dX0_fold_86 : decode cX0_fold 86 = .ok (.invokevirtual 28, 3) := dk_182 0 28 (dk_at dksX0_fold_3 16 rfl rfl)
theorem dX0_fold_89 : decode cX0_fold 89 = .ok (.aload 4, 2) := dk_25 4 (dk_at dksX0_fold_3 19 rfl rfl)
theorem dX0_fold_91 : decode cX0_fold 91 = .ok (.iconst 0, 1) := dk_3 (dk_at dksX0_fold_3 21 rfl rfl)
theorem dX0_fold_92 : decode cX0_fold 92 = .ok (.iload 5, 2) := dk_21 5 (dk_at dksX0_fold_3 22 rfl rfl)
theorem dX0_fold_94 : decode cX0_fold 94 = .ok (.iload 6, 2) := dk_21 6 (dk_at dksX0_fold_4 0 rfl rfl)
theorem dX0_fold_96 : decode cX0_fold 96 = .ok (.iadd, 1) := dk_96 (dk_at dksX0_fold_4 2 rfl rfl)
theorem dX0_fold_97 : decode cX0_fold 97 = .ok (.aload_n 0, 1) := dk_42 (dk_at dksX0_fold_4 3 rfl rfl)
theorem dX0_fold_98 : decode cX0_fold 98 = .ok (.getfield 32, 3) := dk_180 0 32 (dk_at dksX0_fold_4 4 rfl rfl)
theorem dX0_fold_101 : decode cX0_fold 101 = .ok (.iload 5, 2) := dk_21 5 (dk_at dksX0_fold_4 7 rfl rfl)
theorem dX0_fold_103 : decode cX0_fold 103 = .ok (.laload, 1) := dk_47 (dk_at dksX0_fold_4 9 rfl rfl)
theorem dX0_fold_104 : decode cX0_fold 104 = .ok (.aload_n 1, 1) := dk_43 (dk_at dksX0_fold_4 10 rfl rfl)
theorem dX0_fold_105 : decode cX0_fold 105 = .ok (.getfield 19, 3) := dk_180 0 19 (dk_at dksX0_fold_4 11 rfl rfl)
theorem dX0_fold_108 : decode cX0_fold 108 = .ok (.iload 6, 2) := dk_21 6 (dk_at dksX0_fold_4 14 rfl rfl)
theorem dX0_fold_110 : decode cX0_fold 110 = .ok (.laload, 1) := dk_47 (dk_at dksX0_fold_4 16 rfl rfl)
theorem dX0_fold_111 : decode cX0_fold 111 = .ok (.lmul, 1) := dk_105 (dk_at dksX0_fold_4 17 rfl rfl)
theorem dX0_fold_112 : decode cX0_fold 112 = .ok (.lload_n 2, 1) := dk_32 (dk_at dksX0_fold_4 18 rfl rfl)
theorem dX0_fold_113 : decode cX0_fold 113 = .ok (.lmul, 1) := dk_105 (dk_at dksX0_fold_4 19 rfl rfl)
theorem dX0_fold_114 : decode cX0_fold 114 = .ok (.invokevirtual 28, 3) := dk_182 0 28 (dk_at dksX0_fold_4 20 rfl rfl)
theorem dX0_fold_117 : decode cX0_fold 117 = .ok (.iinc 6 1, 3) := dk_132 6 1 (dk_at dksX0_fold_5 0 rfl rfl)
theorem dX0_fold_120 : decode cX0_fold 120 = .ok (.goto (-78), 3) := dk_167 255 178 (dk_at dksX0_fold_5 3 rfl rfl)
theorem dX0_fold_123 : decode cX0_fold 123 = .ok (.iinc 5 1, 3) := dk_132 5 1 (dk_at dksX0_fold_5 6 rfl rfl)
theorem dX0_fold_126 : decode cX0_fold 126 = .ok (.goto (-116), 3) := dk_167 255 140 (dk_at dksX0_fold_5 9 rfl rfl)
theorem dX0_fold_129 : decode cX0_fold 129 = .ok (.return_, 1) := dk_177 (dk_at dksX0_fold_5 12 rfl rfl)
abbrev cX0_great : ByteArray := prog_1_method_15_code
def yX0_great : MethodName := ⟨RX0, "great", "()I"⟩
def dkwX0_great_0 : List UInt8 := [42, 16, 9, 181, 0, 63, 2, 172]
abbrev dktX0_great_0 : List UInt8 := dkwX0_great_0 ++ []
theorem dksX0_great_0 : cX0_great.data.toList.drop 0 = dktX0_great_0 := by decide +kernel
theorem dX0_great_0 : decode cX0_great 0 = .ok (.aload_n 0, 1) := dk_42 (dk_at dksX0_great_0 0 rfl rfl)
theorem dX0_great_1 : decode cX0_great 1 = .ok (.bipush 9, 2) := dk_16 9 (dk_at dksX0_great_0 1 rfl rfl)
theorem dX0_great_3 : decode cX0_great 3 = .ok (.putfield 63, 3) := dk_181 0 63 (dk_at dksX0_great_0 3 rfl rfl)
theorem dX0_great_6 : decode cX0_great 6 = .ok (.iconst (-1), 1) := dk_2 (dk_at dksX0_great_0 6 rfl rfl)
theorem dX0_great_7 : decode cX0_great 7 = .ok (.ireturn, 1) := dk_172 (dk_at dksX0_great_0 7 rfl rfl)
abbrev cX0_weight : ByteArray := prog_1_method_39_code
def yX0_weight : MethodName := ⟨RX0, "weight", "(IIZ)J"⟩
def dkwX0_weight_3 : List UInt8 := [58, 4, 42, 182, 0, 222, 133, 173]
abbrev dktX0_weight_3 : List UInt8 := dkwX0_weight_3 ++ []
def dkwX0_weight_2 : List UInt8 := [167, 0, 13, 25, 4, 182, 0, 216, 180, 0, 19, 28, 47, 173, 58, 4, 42, 25, 4, 182, 0, 117, 133, 173]
abbrev dktX0_weight_2 : List UInt8 := dkwX0_weight_2 ++ dktX0_weight_3
def dkwX0_weight_1 : List UInt8 := [167, 0, 4, 3, 4, 182, 0, 87, 29, 153, 0, 16, 25, 4, 182, 0, 216, 180, 0, 32, 28, 47]
abbrev dktX0_weight_1 : List UInt8 := dkwX0_weight_1 ++ dktX0_weight_2
def dkwX0_weight_0 : List UInt8 := [42, 3, 181, 0, 63, 42, 27, 182, 0, 163, 58, 4, 42, 28, 155, 0, 13, 28, 16, 120, 163, 0, 7, 4]
abbrev dktX0_weight_0 : List UInt8 := dkwX0_weight_0 ++ dktX0_weight_1
theorem dksX0_weight_0 : cX0_weight.data.toList.drop 0 = dktX0_weight_0 := by decide +kernel
theorem dksX0_weight_1 : cX0_weight.data.toList.drop 24 = dktX0_weight_1 := dk_seg dksX0_weight_0 24 rfl rfl
theorem dksX0_weight_2 : cX0_weight.data.toList.drop 46 = dktX0_weight_2 := dk_seg dksX0_weight_1 22 rfl rfl
theorem dksX0_weight_3 : cX0_weight.data.toList.drop 70 = dktX0_weight_3 := dk_seg dksX0_weight_2 24 rfl rfl
theorem dX0_weight_0 : decode cX0_weight 0 = .ok (.aload_n 0, 1) := dk_42 (dk_at dksX0_weight_0 0 rfl rfl)
theorem dX0_weight_1 : decode cX0_weight 1 = .ok (.iconst 0, 1) := dk_3 (dk_at dksX0_weight_0 1 rfl rfl)
theorem dX0_weight_2 : decode cX0_weight 2 = .ok (.putfield 63, 3) := dk_181 0 63 (dk_at dksX0_weight_0 2 rfl rfl)
theorem dX0_weight_5 : decode cX0_weight 5 = .ok (.aload_n 0, 1) := dk_42 (dk_at dksX0_weight_0 5 rfl rfl)
theorem dX0_weight_6 : decode cX0_weight 6 = .ok (.iload_n 1, 1) := dk_27 (dk_at dksX0_weight_0 6 rfl rfl)
theorem dX0_weight_7 : decode cX0_weight 7 = .ok (.invokevirtual 163, 3) := dk_182 0 163 (dk_at dksX0_weight_0 7 rfl rfl)
theorem dX0_weight_10 : decode cX0_weight 10 = .ok (.astore 4, 2) := dk_58 4 (dk_at dksX0_weight_0 10 rfl rfl)
theorem dX0_weight_12 : decode cX0_weight 12 = .ok (.aload_n 0, 1) := dk_42 (dk_at dksX0_weight_0 12 rfl rfl)
theorem dX0_weight_13 : decode cX0_weight 13 = .ok (.iload_n 2, 1) := dk_28 (dk_at dksX0_weight_0 13 rfl rfl)
theorem dX0_weight_14 : decode cX0_weight 14 = .ok (.ifCond .lt 13, 3) := dk_155 0 13 (dk_at dksX0_weight_0 14 rfl rfl)
theorem dX0_weight_17 : decode cX0_weight 17 = .ok (.iload_n 2, 1) := dk_28 (dk_at dksX0_weight_0 17 rfl rfl)
theorem dX0_weight_18 : decode cX0_weight 18 = .ok (.bipush 120, 2) := dk_16 120 (dk_at dksX0_weight_0 18 rfl rfl)
theorem dX0_weight_20 : decode cX0_weight 20 = .ok (.if_icmp .gt 7, 3) := dk_163 0 7 (dk_at dksX0_weight_0 20 rfl rfl)
theorem dX0_weight_23 : decode cX0_weight 23 = .ok (.iconst 1, 1) := dk_4 (dk_at dksX0_weight_0 23 rfl rfl)
theorem dX0_weight_24 : decode cX0_weight 24 = .ok (.goto 4, 3) := dk_167 0 4 (dk_at dksX0_weight_1 0 rfl rfl)
theorem dX0_weight_27 : decode cX0_weight 27 = .ok (.iconst 0, 1) := dk_3 (dk_at dksX0_weight_1 3 rfl rfl)
theorem dX0_weight_28 : decode cX0_weight 28 = .ok (.iconst 1, 1) := dk_4 (dk_at dksX0_weight_1 4 rfl rfl)
theorem dX0_weight_29 : decode cX0_weight 29 = .ok (.invokevirtual 87, 3) := dk_182 0 87 (dk_at dksX0_weight_1 5 rfl rfl)
theorem dX0_weight_32 : decode cX0_weight 32 = .ok (.iload_n 3, 1) := dk_29 (dk_at dksX0_weight_1 8 rfl rfl)
theorem dX0_weight_33 : decode cX0_weight 33 = .ok (.ifCond .eq 16, 3) := dk_153 0 16 (dk_at dksX0_weight_1 9 rfl rfl)
theorem dX0_weight_36 : decode cX0_weight 36 = .ok (.aload 4, 2) := dk_25 4 (dk_at dksX0_weight_1 12 rfl rfl)
theorem dX0_weight_38 : decode cX0_weight 38 = .ok (.invokevirtual 216, 3) := dk_182 0 216 (dk_at dksX0_weight_1 14 rfl rfl)
theorem dX0_weight_41 : decode cX0_weight 41 = .ok (.getfield 32, 3) := dk_180 0 32 (dk_at dksX0_weight_1 17 rfl rfl)
theorem dX0_weight_44 : decode cX0_weight 44 = .ok (.iload_n 2, 1) := dk_28 (dk_at dksX0_weight_1 20 rfl rfl)
theorem dX0_weight_45 : decode cX0_weight 45 = .ok (.laload, 1) := dk_47 (dk_at dksX0_weight_1 21 rfl rfl)
theorem dX0_weight_46 : decode cX0_weight 46 = .ok (.goto 13, 3) := dk_167 0 13 (dk_at dksX0_weight_2 0 rfl rfl)
theorem dX0_weight_49 : decode cX0_weight 49 = .ok (.aload 4, 2) := dk_25 4 (dk_at dksX0_weight_2 3 rfl rfl)
theorem dX0_weight_51 : decode cX0_weight 51 = .ok (.invokevirtual 216, 3) := dk_182 0 216 (dk_at dksX0_weight_2 5 rfl rfl)
theorem dX0_weight_54 : decode cX0_weight 54 = .ok (.getfield 19, 3) := dk_180 0 19 (dk_at dksX0_weight_2 8 rfl rfl)
theorem dX0_weight_57 : decode cX0_weight 57 = .ok (.iload_n 2, 1) := dk_28 (dk_at dksX0_weight_2 11 rfl rfl)
theorem dX0_weight_58 : decode cX0_weight 58 = .ok (.laload, 1) := dk_47 (dk_at dksX0_weight_2 12 rfl rfl)
theorem dX0_weight_59 : decode cX0_weight 59 = .ok (.lreturn, 1) := dk_173 (dk_at dksX0_weight_2 13 rfl rfl)
theorem dX0_weight_60 : decode cX0_weight 60 = .ok (.astore 4, 2) := dk_58 4 (dk_at dksX0_weight_2 14 rfl rfl)
theorem dX0_weight_62 : decode cX0_weight 62 = .ok (.aload_n 0, 1) := dk_42 (dk_at dksX0_weight_2 16 rfl rfl)
theorem dX0_weight_63 : decode cX0_weight 63 = .ok (.aload 4, 2) := dk_25 4 (dk_at dksX0_weight_2 17 rfl rfl)
theorem dX0_weight_65 : decode cX0_weight 65 = .ok (.invokevirtual 117, 3) := dk_182 0 117 (dk_at dksX0_weight_2 19 rfl rfl)
theorem dX0_weight_68 : decode cX0_weight 68 = .ok (.i2l, 1) := dk_133 (dk_at dksX0_weight_2 22 rfl rfl)
theorem dX0_weight_69 : decode cX0_weight 69 = .ok (.lreturn, 1) := dk_173 (dk_at dksX0_weight_2 23 rfl rfl)
theorem dX0_weight_70 : decode cX0_weight 70 = .ok (.astore 4, 2) := dk_58 4 (dk_at dksX0_weight_3 0 rfl rfl)
theorem dX0_weight_72 : decode cX0_weight 72 = .ok (.aload_n 0, 1) := dk_42 (dk_at dksX0_weight_3 2 rfl rfl)
theorem dX0_weight_73 : decode cX0_weight 73 = .ok (.invokevirtual 222, 3) := dk_182 0 222 (dk_at dksX0_weight_3 3 rfl rfl)
theorem dX0_weight_76 : decode cX0_weight 76 = .ok (.i2l, 1) := dk_133 (dk_at dksX0_weight_3 6 rfl rfl)
theorem dX0_weight_77 : decode cX0_weight 77 = .ok (.lreturn, 1) := dk_173 (dk_at dksX0_weight_3 7 rfl rfl)
abbrev cX0_whole : ByteArray := prog_1_method_40_code
def yX0_whole : MethodName := ⟨RX0, "whole", "(I)J"⟩
def dkwX0_whole_1 : List UInt8 := [173, 77, 42, 182, 0, 222, 133, 173]
abbrev dktX0_whole_1 : List UInt8 := dkwX0_whole_1 ++ []
def dkwX0_whole_0 : List UInt8 := [42, 3, 181, 0, 63, 42, 27, 182, 0, 163, 182, 0, 216, 180, 0, 24, 173, 77, 42, 44, 182, 0, 117, 133]
abbrev dktX0_whole_0 : List UInt8 := dkwX0_whole_0 ++ dktX0_whole_1
theorem dksX0_whole_0 : cX0_whole.data.toList.drop 0 = dktX0_whole_0 := by decide +kernel
theorem dksX0_whole_1 : cX0_whole.data.toList.drop 24 = dktX0_whole_1 := dk_seg dksX0_whole_0 24 rfl rfl
theorem dX0_whole_0 : decode cX0_whole 0 = .ok (.aload_n 0, 1) := dk_42 (dk_at dksX0_whole_0 0 rfl rfl)
theorem dX0_whole_1 : decode cX0_whole 1 = .ok (.iconst 0, 1) := dk_3 (dk_at dksX0_whole_0 1 rfl rfl)
theorem dX0_whole_2 : decode cX0_whole 2 = .ok (.putfield 63, 3) := dk_181 0 63 (dk_at dksX0_whole_0 2 rfl rfl)
theorem dX0_whole_5 : decode cX0_whole 5 = .ok (.aload_n 0, 1) := dk_42 (dk_at dksX0_whole_0 5 rfl rfl)
theorem dX0_whole_6 : decode cX0_whole 6 = .ok (.iload_n 1, 1) := dk_27 (dk_at dksX0_whole_0 6 rfl rfl)
theorem dX0_whole_7 : decode cX0_whole 7 = .ok (.invokevirtual 163, 3) := dk_182 0 163 (dk_at dksX0_whole_0 7 rfl rfl)
theorem dX0_whole_10 : decode cX0_whole 10 = .ok (.invokevirtual 216, 3) := dk_182 0 216 (dk_at dksX0_whole_0 10 rfl rfl)
theorem dX0_whole_13 : decode cX0_whole 13 = .ok (.getfield 24, 3) := dk_180 0 24 (dk_at dksX0_whole_0 13 rfl rfl)
theorem dX0_whole_16 : decode cX0_whole 16 = .ok (.lreturn, 1) := dk_173 (dk_at dksX0_whole_0 16 rfl rfl)
theorem dX0_whole_17 : decode cX0_whole 17 = .ok (.astore_n 2, 1) := dk_77 (dk_at dksX0_whole_0 17 rfl rfl)
theorem dX0_whole_18 : decode cX0_whole 18 = .ok (.aload_n 0, 1) := dk_42 (dk_at dksX0_whole_0 18 rfl rfl)
theorem dX0_whole_19 : decode cX0_whole 19 = .ok (.aload_n 2, 1) := dk_44 (dk_at dksX0_whole_0 19 rfl rfl)
theorem dX0_whole_20 : decode cX0_whole 20 = .ok (.invokevirtual 117, 3) := dk_182 0 117 (dk_at dksX0_whole_0 20 rfl rfl)
theorem dX0_whole_23 : decode cX0_whole 23 = .ok (.i2l, 1) := dk_133 (dk_at dksX0_whole_0 23 rfl rfl)
theorem dX0_whole_24 : decode cX0_whole 24 = .ok (.lreturn, 1) := dk_173 (dk_at dksX0_whole_1 0 rfl rfl)
theorem dX0_whole_25 : decode cX0_whole 25 = .ok (.astore_n 2, 1) := dk_77 (dk_at dksX0_whole_1 1 rfl rfl)
theorem dX0_whole_26 : decode cX0_whole 26 = .ok (.aload_n 0, 1) := dk_42 (dk_at dksX0_whole_1 2 rfl rfl)
theorem dX0_whole_27 : decode cX0_whole 27 = .ok (.invokevirtual 222, 3) := dk_182 0 222 (dk_at dksX0_whole_1 3 rfl rfl)
theorem dX0_whole_30 : decode cX0_whole 30 = .ok (.i2l, 1) := dk_133 (dk_at dksX0_whole_1 6 rfl rfl)
theorem dX0_whole_31 : decode cX0_whole 31 = .ok (.lreturn, 1) := dk_173 (dk_at dksX0_whole_1 7 rfl rfl)
abbrev cX0_by : ByteArray := prog_1_method_41_code
def yX0_by : MethodName := ⟨RX0, "by", "(II)I"⟩
def dkwX0_by_2 : List UInt8 := [180, 0, 24, 182, 0, 228, 172, 78, 42, 45, 182, 0, 117, 172, 78, 42, 182, 0, 222, 172]
abbrev dktX0_by_2 : List UInt8 := dkwX0_by_2 ++ []
def dkwX0_by_1 : List UInt8 := [167, 0, 4, 3, 4, 182, 0, 87, 45, 182, 0, 216, 58, 4, 42, 25, 4, 28, 182, 0, 225, 25, 4]
abbrev dktX0_by_1 : List UInt8 := dkwX0_by_1 ++ dktX0_by_2
def dkwX0_by_0 : List UInt8 := [42, 3, 181, 0, 63, 42, 27, 182, 0, 163, 78, 42, 28, 155, 0, 13, 28, 16, 120, 163, 0, 7, 4]
abbrev dktX0_by_0 : List UInt8 := dkwX0_by_0 ++ dktX0_by_1
theorem dksX0_by_0 : cX0_by.data.toList.drop 0 = dktX0_by_0 := by decide +kernel
theorem dksX0_by_1 : cX0_by.data.toList.drop 23 = dktX0_by_1 := dk_seg dksX0_by_0 23 rfl rfl
theorem dksX0_by_2 : cX0_by.data.toList.drop 46 = dktX0_by_2 := dk_seg dksX0_by_1 23 rfl rfl
theorem dX0_by_0 : decode cX0_by 0 = .ok (.aload_n 0, 1) := dk_42 (dk_at dksX0_by_0 0 rfl rfl)
theorem dX0_by_1 : decode cX0_by 1 = .ok (.iconst 0, 1) := dk_3 (dk_at dksX0_by_0 1 rfl rfl)
theorem dX0_by_2 : decode cX0_by 2 = .ok (.putfield 63, 3) := dk_181 0 63 (dk_at dksX0_by_0 2 rfl rfl)
theorem dX0_by_5 : decode cX0_by 5 = .ok (.aload_n 0, 1) := dk_42 (dk_at dksX0_by_0 5 rfl rfl)
theorem dX0_by_6 : decode cX0_by 6 = .ok (.iload_n 1, 1) := dk_27 (dk_at dksX0_by_0 6 rfl rfl)
theorem dX0_by_7 : decode cX0_by 7 = .ok (.invokevirtual 163, 3) := dk_182 0 163 (dk_at dksX0_by_0 7 rfl rfl)
theorem dX0_by_10 : decode cX0_by 10 = .ok (.astore_n 3, 1) := dk_78 (dk_at dksX0_by_0 10 rfl rfl)
theorem dX0_by_11 : decode cX0_by 11 = .ok (.aload_n 0, 1) := dk_42 (dk_at dksX0_by_0 11 rfl rfl)
theorem dX0_by_12 : decode cX0_by 12 = .ok (.iload_n 2, 1) := dk_28 (dk_at dksX0_by_0 12 rfl rfl)
theorem dX0_by_13 : decode cX0_by 13 = .ok (.ifCond .lt 13, 3) := dk_155 0 13 (dk_at dksX0_by_0 13 rfl rfl)
theorem dX0_by_16 : decode cX0_by 16 = .ok (.iload_n 2, 1) := dk_28 (dk_at dksX0_by_0 16 rfl rfl)
theorem dX0_by_17 : decode cX0_by 17 = .ok (.bipush 120, 2) := dk_16 120 (dk_at dksX0_by_0 17 rfl rfl)
theorem dX0_by_19 : decode cX0_by 19 = .ok (.if_icmp .gt 7, 3) := dk_163 0 7 (dk_at dksX0_by_0 19 rfl rfl)
theorem dX0_by_22 : decode cX0_by 22 = .ok (.iconst 1, 1) := dk_4 (dk_at dksX0_by_0 22 rfl rfl)
theorem dX0_by_23 : decode cX0_by 23 = .ok (.goto 4, 3) := dk_167 0 4 (dk_at dksX0_by_1 0 rfl rfl)
theorem dX0_by_26 : decode cX0_by 26 = .ok (.iconst 0, 1) := dk_3 (dk_at dksX0_by_1 3 rfl rfl)
theorem dX0_by_27 : decode cX0_by 27 = .ok (.iconst 1, 1) := dk_4 (dk_at dksX0_by_1 4 rfl rfl)
theorem dX0_by_28 : decode cX0_by 28 = .ok (.invokevirtual 87, 3) := dk_182 0 87 (dk_at dksX0_by_1 5 rfl rfl)
theorem dX0_by_31 : decode cX0_by 31 = .ok (.aload_n 3, 1) := dk_45 (dk_at dksX0_by_1 8 rfl rfl)
theorem dX0_by_32 : decode cX0_by 32 = .ok (.invokevirtual 216, 3) := dk_182 0 216 (dk_at dksX0_by_1 9 rfl rfl)
theorem dX0_by_35 : decode cX0_by 35 = .ok (.astore 4, 2) := dk_58 4 (dk_at dksX0_by_1 12 rfl rfl)
theorem dX0_by_37 : decode cX0_by 37 = .ok (.aload_n 0, 1) := dk_42 (dk_at dksX0_by_1 14 rfl rfl)
theorem dX0_by_38 : decode cX0_by 38 = .ok (.aload 4, 2) := dk_25 4 (dk_at dksX0_by_1 15 rfl rfl)
theorem dX0_by_40 : decode cX0_by 40 = .ok (.iload_n 2, 1) := dk_28 (dk_at dksX0_by_1 17 rfl rfl)
theorem dX0_by_41 : decode cX0_by 41 = .ok (.invokevirtual 225, 3) := dk_182 0 225 (dk_at dksX0_by_1 18 rfl rfl)
theorem dX0_by_44 : decode cX0_by 44 = .ok (.aload 4, 2) := dk_25 4 (dk_at dksX0_by_1 21 rfl rfl)
theorem dX0_by_46 : decode cX0_by 46 = .ok (.getfield 24, 3) := dk_180 0 24 (dk_at dksX0_by_2 0 rfl rfl)
theorem dX0_by_49 : decode cX0_by 49 = .ok (.invokevirtual 228, 3) := dk_182 0 228 (dk_at dksX0_by_2 3 rfl rfl)
theorem dX0_by_52 : decode cX0_by 52 = .ok (.ireturn, 1) := dk_172 (dk_at dksX0_by_2 6 rfl rfl)
theorem dX0_by_53 : decode cX0_by 53 = .ok (.astore_n 3, 1) := dk_78 (dk_at dksX0_by_2 7 rfl rfl)
theorem dX0_by_54 : decode cX0_by 54 = .ok (.aload_n 0, 1) := dk_42 (dk_at dksX0_by_2 8 rfl rfl)
theorem dX0_by_55 : decode cX0_by 55 = .ok (.aload_n 3, 1) := dk_45 (dk_at dksX0_by_2 9 rfl rfl)
theorem dX0_by_56 : decode cX0_by 56 = .ok (.invokevirtual 117, 3) := dk_182 0 117 (dk_at dksX0_by_2 10 rfl rfl)
theorem dX0_by_59 : decode cX0_by 59 = .ok (.ireturn, 1) := dk_172 (dk_at dksX0_by_2 13 rfl rfl)
theorem dX0_by_60 : decode cX0_by 60 = .ok (.astore_n 3, 1) := dk_78 (dk_at dksX0_by_2 14 rfl rfl)
theorem dX0_by_61 : decode cX0_by 61 = .ok (.aload_n 0, 1) := dk_42 (dk_at dksX0_by_2 15 rfl rfl)
theorem dX0_by_62 : decode cX0_by 62 = .ok (.invokevirtual 222, 3) := dk_182 0 222 (dk_at dksX0_by_2 16 rfl rfl)
theorem dX0_by_65 : decode cX0_by 65 = .ok (.ireturn, 1) := dk_172 (dk_at dksX0_by_2 19 rfl rfl)
abbrev cX0_tells : ByteArray := prog_1_method_18_code
def yX0_tells : MethodName := ⟨RX0, "tells", "(JJ)I"⟩
def dkwX0_tells_1 : List UInt8 := [9, 148, 158, 0, 7, 4, 167, 0, 4, 3, 172]
abbrev dktX0_tells_1 : List UInt8 := dkwX0_tells_1 ++ []
def dkwX0_tells_0 : List UInt8 := [31, 33, 184, 0, 83, 55, 5, 42, 31, 22, 5, 109, 181, 0, 67, 42, 33, 22, 5, 109, 181, 0, 60, 31]
abbrev dktX0_tells_0 : List UInt8 := dkwX0_tells_0 ++ dktX0_tells_1
theorem dksX0_tells_0 : cX0_tells.data.toList.drop 0 = dktX0_tells_0 := by decide +kernel
theorem dksX0_tells_1 : cX0_tells.data.toList.drop 24 = dktX0_tells_1 := dk_seg dksX0_tells_0 24 rfl rfl
theorem dX0_tells_0 : decode cX0_tells 0 = .ok (.lload_n 1, 1) := dk_31 (dk_at dksX0_tells_0 0 rfl rfl)
theorem dX0_tells_1 : decode cX0_tells 1 = .ok (.lload_n 3, 1) := dk_33 (dk_at dksX0_tells_0 1 rfl rfl)
theorem dX0_tells_2 : decode cX0_tells 2 = .ok (.invokestatic 83, 3) := dk_184 0 83 (dk_at dksX0_tells_0 2 rfl rfl)
theorem dX0_tells_5 : decode cX0_tells 5 = .ok (.lstore 5, 2) := dk_55 5 (dk_at dksX0_tells_0 5 rfl rfl)
theorem dX0_tells_7 : decode cX0_tells 7 = .ok (.aload_n 0, 1) := dk_42 (dk_at dksX0_tells_0 7 rfl rfl)
theorem dX0_tells_8 : decode cX0_tells 8 = .ok (.lload_n 1, 1) := dk_31 (dk_at dksX0_tells_0 8 rfl rfl)
theorem dX0_tells_9 : decode cX0_tells 9 = .ok (.lload 5, 2) := dk_22 5 (dk_at dksX0_tells_0 9 rfl rfl)
theorem dX0_tells_11 : decode cX0_tells 11 = .ok (.ldiv, 1) := dk_109 (dk_at dksX0_tells_0 11 rfl rfl)
theorem dX0_tells_12 : decode cX0_tells 12 = .ok (.putfield 67, 3) := dk_181 0 67 (dk_at dksX0_tells_0 12 rfl rfl)
theorem dX0_tells_15 : decode cX0_tells 15 = .ok (.aload_n 0, 1) := dk_42 (dk_at dksX0_tells_0 15 rfl rfl)
theorem dX0_tells_16 : decode cX0_tells 16 = .ok (.lload_n 3, 1) := dk_33 (dk_at dksX0_tells_0 16 rfl rfl)
theorem dX0_tells_17 : decode cX0_tells 17 = .ok (.lload 5, 2) := dk_22 5 (dk_at dksX0_tells_0 17 rfl rfl)
theorem dX0_tells_19 : decode cX0_tells 19 = .ok (.ldiv, 1) := dk_109 (dk_at dksX0_tells_0 19 rfl rfl)
theorem dX0_tells_20 : decode cX0_tells 20 = .ok (.putfield 60, 3) := dk_181 0 60 (dk_at dksX0_tells_0 20 rfl rfl)
theorem dX0_tells_23 : decode cX0_tells 23 = .ok (.lload_n 1, 1) := dk_31 (dk_at dksX0_tells_0 23 rfl rfl)
theorem dX0_tells_24 : decode cX0_tells 24 = .ok (.lconst 0, 1) := dk_9 (dk_at dksX0_tells_1 0 rfl rfl)
theorem dX0_tells_25 : decode cX0_tells 25 = .ok (.lcmp, 1) := dk_148 (dk_at dksX0_tells_1 1 rfl rfl)
theorem dX0_tells_26 : decode cX0_tells 26 = .ok (.ifCond .le 7, 3) := dk_158 0 7 (dk_at dksX0_tells_1 2 rfl rfl)
theorem dX0_tells_29 : decode cX0_tells 29 = .ok (.iconst 1, 1) := dk_4 (dk_at dksX0_tells_1 5 rfl rfl)
theorem dX0_tells_30 : decode cX0_tells 30 = .ok (.goto 4, 3) := dk_167 0 4 (dk_at dksX0_tells_1 6 rfl rfl)
theorem dX0_tells_33 : decode cX0_tells 33 = .ok (.iconst 0, 1) := dk_3 (dk_at dksX0_tells_1 9 rfl rfl)
theorem dX0_tells_34 : decode cX0_tells 34 = .ok (.ireturn, 1) := dk_172 (dk_at dksX0_tells_1 10 rfl rfl)
abbrev cX0_fails : ByteArray := prog_1_method_42_code
def yX0_fails : MethodName := ⟨RX0, "fails", "(I)I"⟩
def dkwX0_fails_1 : List UInt8 := [182, 0, 228, 172, 77, 42, 44, 182, 0, 117, 172, 77, 42, 182, 0, 222, 172]
abbrev dktX0_fails_1 : List UInt8 := dkwX0_fails_1 ++ []
def dkwX0_fails_0 : List UInt8 := [42, 3, 181, 0, 63, 42, 27, 182, 0, 163, 182, 0, 216, 77, 42, 44, 182, 0, 232, 44, 180, 0, 24]
abbrev dktX0_fails_0 : List UInt8 := dkwX0_fails_0 ++ dktX0_fails_1
theorem dksX0_fails_0 : cX0_fails.data.toList.drop 0 = dktX0_fails_0 := by decide +kernel
theorem dksX0_fails_1 : cX0_fails.data.toList.drop 23 = dktX0_fails_1 := dk_seg dksX0_fails_0 23 rfl rfl
theorem dX0_fails_0 : decode cX0_fails 0 = .ok (.aload_n 0, 1) := dk_42 (dk_at dksX0_fails_0 0 rfl rfl)
theorem dX0_fails_1 : decode cX0_fails 1 = .ok (.iconst 0, 1) := dk_3 (dk_at dksX0_fails_0 1 rfl rfl)
theorem dX0_fails_2 : decode cX0_fails 2 = .ok (.putfield 63, 3) := dk_181 0 63 (dk_at dksX0_fails_0 2 rfl rfl)
theorem dX0_fails_5 : decode cX0_fails 5 = .ok (.aload_n 0, 1) := dk_42 (dk_at dksX0_fails_0 5 rfl rfl)
theorem dX0_fails_6 : decode cX0_fails 6 = .ok (.iload_n 1, 1) := dk_27 (dk_at dksX0_fails_0 6 rfl rfl)
theorem dX0_fails_7 : decode cX0_fails 7 = .ok (.invokevirtual 163, 3) := dk_182 0 163 (dk_at dksX0_fails_0 7 rfl rfl)
theorem dX0_fails_10 : decode cX0_fails 10 = .ok (.invokevirtual 216, 3) := dk_182 0 216 (dk_at dksX0_fails_0 10 rfl rfl)
theorem dX0_fails_13 : decode cX0_fails 13 = .ok (.astore_n 2, 1) := dk_77 (dk_at dksX0_fails_0 13 rfl rfl)
theorem dX0_fails_14 : decode cX0_fails 14 = .ok (.aload_n 0, 1) := dk_42 (dk_at dksX0_fails_0 14 rfl rfl)
theorem dX0_fails_15 : decode cX0_fails 15 = .ok (.aload_n 2, 1) := dk_44 (dk_at dksX0_fails_0 15 rfl rfl)
theorem dX0_fails_16 : decode cX0_fails 16 = .ok (.invokevirtual 232, 3) := dk_182 0 232 (dk_at dksX0_fails_0 16 rfl rfl)
theorem dX0_fails_19 : decode cX0_fails 19 = .ok (.aload_n 2, 1) := dk_44 (dk_at dksX0_fails_0 19 rfl rfl)
theorem dX0_fails_20 : decode cX0_fails 20 = .ok (.getfield 24, 3) := dk_180 0 24 (dk_at dksX0_fails_0 20 rfl rfl)
theorem dX0_fails_23 : decode cX0_fails 23 = .ok (.invokevirtual 228, 3) := dk_182 0 228 (dk_at dksX0_fails_1 0 rfl rfl)
theorem dX0_fails_26 : decode cX0_fails 26 = .ok (.ireturn, 1) := dk_172 (dk_at dksX0_fails_1 3 rfl rfl)
theorem dX0_fails_27 : decode cX0_fails 27 = .ok (.astore_n 2, 1) := dk_77 (dk_at dksX0_fails_1 4 rfl rfl)
theorem dX0_fails_28 : decode cX0_fails 28 = .ok (.aload_n 0, 1) := dk_42 (dk_at dksX0_fails_1 5 rfl rfl)
theorem dX0_fails_29 : decode cX0_fails 29 = .ok (.aload_n 2, 1) := dk_44 (dk_at dksX0_fails_1 6 rfl rfl)
theorem dX0_fails_30 : decode cX0_fails 30 = .ok (.invokevirtual 117, 3) := dk_182 0 117 (dk_at dksX0_fails_1 7 rfl rfl)
theorem dX0_fails_33 : decode cX0_fails 33 = .ok (.ireturn, 1) := dk_172 (dk_at dksX0_fails_1 10 rfl rfl)
theorem dX0_fails_34 : decode cX0_fails 34 = .ok (.astore_n 2, 1) := dk_77 (dk_at dksX0_fails_1 11 rfl rfl)
theorem dX0_fails_35 : decode cX0_fails 35 = .ok (.aload_n 0, 1) := dk_42 (dk_at dksX0_fails_1 12 rfl rfl)
theorem dX0_fails_36 : decode cX0_fails 36 = .ok (.invokevirtual 222, 3) := dk_182 0 222 (dk_at dksX0_fails_1 13 rfl rfl)
theorem dX0_fails_39 : decode cX0_fails 39 = .ok (.ireturn, 1) := dk_172 (dk_at dksX0_fails_1 16 rfl rfl)
abbrev cX0_promise : ByteArray := prog_1_method_45_code
def yX0_promise : MethodName := ⟨RX0, "promise", "(III)I"⟩
def dkwX0_promise_4 : List UInt8 := [172, 58, 4, 42, 182, 0, 222, 172]
abbrev dktX0_promise_4 : List UInt8 := dkwX0_promise_4 ++ []
def dkwX0_promise_3 : List UInt8 := [163, 0, 7, 4, 167, 0, 4, 3, 16, 6, 182, 0, 87, 21, 6, 172, 58, 4, 42, 25, 4, 182, 0, 117]
abbrev dktX0_promise_3 : List UInt8 := dkwX0_promise_3 ++ dktX0_promise_4
def dkwX0_promise_2 : List UInt8 := [180, 0, 24, 28, 133, 29, 133, 184, 0, 241, 154, 0, 9, 132, 6, 1, 167, 255, 224, 42, 21, 6, 16, 120]
abbrev dktX0_promise_2 : List UInt8 := dkwX0_promise_2 ++ dktX0_promise_3
def dkwX0_promise_1 : List UInt8 := [182, 0, 216, 58, 5, 3, 54, 6, 21, 6, 16, 120, 163, 0, 31, 25, 5, 21, 6, 182, 0, 225, 25, 5]
abbrev dktX0_promise_1 : List UInt8 := dkwX0_promise_1 ++ dktX0_promise_2
def dkwX0_promise_0 : List UInt8 := [42, 3, 181, 0, 63, 42, 27, 182, 0, 163, 58, 4, 42, 28, 29, 184, 0, 237, 4, 182, 0, 87, 25, 4]
abbrev dktX0_promise_0 : List UInt8 := dkwX0_promise_0 ++ dktX0_promise_1
theorem dksX0_promise_0 : cX0_promise.data.toList.drop 0 = dktX0_promise_0 := by decide +kernel
theorem dksX0_promise_1 : cX0_promise.data.toList.drop 24 = dktX0_promise_1 := dk_seg dksX0_promise_0 24 rfl rfl
theorem dksX0_promise_2 : cX0_promise.data.toList.drop 48 = dktX0_promise_2 := dk_seg dksX0_promise_1 24 rfl rfl
theorem dksX0_promise_3 : cX0_promise.data.toList.drop 72 = dktX0_promise_3 := dk_seg dksX0_promise_2 24 rfl rfl
theorem dksX0_promise_4 : cX0_promise.data.toList.drop 96 = dktX0_promise_4 := dk_seg dksX0_promise_3 24 rfl rfl
theorem dX0_promise_0 : decode cX0_promise 0 = .ok (.aload_n 0, 1) := dk_42 (dk_at dksX0_promise_0 0 rfl rfl)
theorem dX0_promise_1 : decode cX0_promise 1 = .ok (.iconst 0, 1) := dk_3 (dk_at dksX0_promise_0 1 rfl rfl)
theorem dX0_promise_2 : decode cX0_promise 2 = .ok (.putfield 63, 3) := dk_181 0 63 (dk_at dksX0_promise_0 2 rfl rfl)
theorem dX0_promise_5 : decode cX0_promise 5 = .ok (.aload_n 0, 1) := dk_42 (dk_at dksX0_promise_0 5 rfl rfl)
theorem dX0_promise_6 : decode cX0_promise 6 = .ok (.iload_n 1, 1) := dk_27 (dk_at dksX0_promise_0 6 rfl rfl)
theorem dX0_promise_7 : decode cX0_promise 7 = .ok (.invokevirtual 163, 3) := dk_182 0 163 (dk_at dksX0_promise_0 7 rfl rfl)
theorem dX0_promise_10 : decode cX0_promise 10 = .ok (.astore 4, 2) := dk_58 4 (dk_at dksX0_promise_0 10 rfl rfl)
theorem dX0_promise_12 : decode cX0_promise 12 = .ok (.aload_n 0, 1) := dk_42 (dk_at dksX0_promise_0 12 rfl rfl)
theorem dX0_promise_13 : decode cX0_promise 13 = .ok (.iload_n 2, 1) := dk_28 (dk_at dksX0_promise_0 13 rfl rfl)
theorem dX0_promise_14 : decode cX0_promise 14 = .ok (.iload_n 3, 1) := dk_29 (dk_at dksX0_promise_0 14 rfl rfl)
theorem dX0_promise_15 : decode cX0_promise 15 = .ok (.invokestatic 237, 3) := dk_184 0 237 (dk_at dksX0_promise_0 15 rfl rfl)
theorem dX0_promise_18 : decode cX0_promise 18 = .ok (.iconst 1, 1) := dk_4 (dk_at dksX0_promise_0 18 rfl rfl)
theorem dX0_promise_19 : decode cX0_promise 19 = .ok (.invokevirtual 87, 3) := dk_182 0 87 (dk_at dksX0_promise_0 19 rfl rfl)
theorem dX0_promise_22 : decode cX0_promise 22 = .ok (.aload 4, 2) := dk_25 4 (dk_at dksX0_promise_0 22 rfl rfl)
theorem dX0_promise_24 : decode cX0_promise 24 = .ok (.invokevirtual 216, 3) := dk_182 0 216 (dk_at dksX0_promise_1 0 rfl rfl)
theorem dX0_promise_27 : decode cX0_promise 27 = .ok (.astore 5, 2) := dk_58 5 (dk_at dksX0_promise_1 3 rfl rfl)
theorem dX0_promise_29 : decode cX0_promise 29 = .ok (.iconst 0, 1) := dk_3 (dk_at dksX0_promise_1 5 rfl rfl)
theorem dX0_promise_30 : decode cX0_promise 30 = .ok (.istore 6, 2) := dk_54 6 (dk_at dksX0_promise_1 6 rfl rfl)
theorem dX0_promise_32 : decode cX0_promise 32 = .ok (.iload 6, 2) := dk_21 6 (dk_at dksX0_promise_1 8 rfl rfl)
theorem dX0_promise_34 : decode cX0_promise 34 = .ok (.bipush 120, 2) := dk_16 120 (dk_at dksX0_promise_1 10 rfl rfl)
theorem dX0_promise_36 : decode cX0_promise 36 = .ok (.if_icmp .gt 31, 3) := dk_163 0 31 (dk_at dksX0_promise_1 12 rfl rfl)
theorem dX0_promise_39 : decode cX0_promise 39 = .ok (.aload 5, 2) := dk_25 5 (dk_at dksX0_promise_1 15 rfl rfl)
theorem dX0_promise_41 : decode cX0_promise 41 = .ok (.iload 6, 2) := dk_21 6 (dk_at dksX0_promise_1 17 rfl rfl)
theorem dX0_promise_43 : decode cX0_promise 43 = .ok (.invokevirtual 225, 3) := dk_182 0 225 (dk_at dksX0_promise_1 19 rfl rfl)
theorem dX0_promise_46 : decode cX0_promise 46 = .ok (.aload 5, 2) := dk_25 5 (dk_at dksX0_promise_1 22 rfl rfl)
theorem dX0_promise_48 : decode cX0_promise 48 = .ok (.getfield 24, 3) := dk_180 0 24 (dk_at dksX0_promise_2 0 rfl rfl)
theorem dX0_promise_51 : decode cX0_promise 51 = .ok (.iload_n 2, 1) := dk_28 (dk_at dksX0_promise_2 3 rfl rfl)
theorem dX0_promise_52 : decode cX0_promise 52 = .ok (.i2l, 1) := dk_133 (dk_at dksX0_promise_2 4 rfl rfl)
theorem dX0_promise_53 : decode cX0_promise 53 = .ok (.iload_n 3, 1) := dk_29 (dk_at dksX0_promise_2 5 rfl rfl)
theorem dX0_promise_54 : decode cX0_promise 54 = .ok (.i2l, 1) := dk_133 (dk_at dksX0_promise_2 6 rfl rfl)
theorem dX0_promise_55 : decode cX0_promise 55 = .ok (.invokestatic 241, 3) := dk_184 0 241 (dk_at dksX0_promise_2 7 rfl rfl)
theorem dX0_promise_58 : decode cX0_promise 58 = .ok (.ifCond .ne 9, 3) := dk_154 0 9 (dk_at dksX0_promise_2 10 rfl rfl)
theorem dX0_promise_61 : decode cX0_promise 61 = .ok (.iinc 6 1, 3) := dk_132 6 1 (dk_at dksX0_promise_2 13 rfl rfl)
theorem dX0_promise_64 : decode cX0_promise 64 = .ok (.goto (-32), 3) := dk_167 255 224 (dk_at dksX0_promise_2 16 rfl rfl)
theorem dX0_promise_67 : decode cX0_promise 67 = .ok (.aload_n 0, 1) := dk_42 (dk_at dksX0_promise_2 19 rfl rfl)
theorem dX0_promise_68 : decode cX0_promise 68 = .ok (.iload 6, 2) := dk_21 6 (dk_at dksX0_promise_2 20 rfl rfl)
theorem dX0_promise_70 : decode cX0_promise 70 = .ok (.bipush 120, 2) := dk_16 120 (dk_at dksX0_promise_2 22 rfl rfl)
theorem dX0_promise_72 : decode cX0_promise 72 = .ok (.if_icmp .gt 7, 3) := dk_163 0 7 (dk_at dksX0_promise_3 0 rfl rfl)
theorem dX0_promise_75 : decode cX0_promise 75 = .ok (.iconst 1, 1) := dk_4 (dk_at dksX0_promise_3 3 rfl rfl)
theorem dX0_promise_76 : decode cX0_promise 76 = .ok (.goto 4, 3) := dk_167 0 4 (dk_at dksX0_promise_3 4 rfl rfl)
theorem dX0_promise_79 : decode cX0_promise 79 = .ok (.iconst 0, 1) := dk_3 (dk_at dksX0_promise_3 7 rfl rfl)
theorem dX0_promise_80 : decode cX0_promise 80 = .ok (.bipush 6, 2) := dk_16 6 (dk_at dksX0_promise_3 8 rfl rfl)
theorem dX0_promise_82 : decode cX0_promise 82 = .ok (.invokevirtual 87, 3) := dk_182 0 87 (dk_at dksX0_promise_3 10 rfl rfl)
theorem dX0_promise_85 : decode cX0_promise 85 = .ok (.iload 6, 2) := dk_21 6 (dk_at dksX0_promise_3 13 rfl rfl)
theorem dX0_promise_87 : decode cX0_promise 87 = .ok (.ireturn, 1) := dk_172 (dk_at dksX0_promise_3 15 rfl rfl)
theorem dX0_promise_88 : decode cX0_promise 88 = .ok (.astore 4, 2) := dk_58 4 (dk_at dksX0_promise_3 16 rfl rfl)
theorem dX0_promise_90 : decode cX0_promise 90 = .ok (.aload_n 0, 1) := dk_42 (dk_at dksX0_promise_3 18 rfl rfl)
theorem dX0_promise_91 : decode cX0_promise 91 = .ok (.aload 4, 2) := dk_25 4 (dk_at dksX0_promise_3 19 rfl rfl)
theorem dX0_promise_93 : decode cX0_promise 93 = .ok (.invokevirtual 117, 3) := dk_182 0 117 (dk_at dksX0_promise_3 21 rfl rfl)
theorem dX0_promise_96 : decode cX0_promise 96 = .ok (.ireturn, 1) := dk_172 (dk_at dksX0_promise_4 0 rfl rfl)
theorem dX0_promise_97 : decode cX0_promise 97 = .ok (.astore 4, 2) := dk_58 4 (dk_at dksX0_promise_4 1 rfl rfl)
theorem dX0_promise_99 : decode cX0_promise 99 = .ok (.aload_n 0, 1) := dk_42 (dk_at dksX0_promise_4 3 rfl rfl)
theorem dX0_promise_100 : decode cX0_promise 100 = .ok (.invokevirtual 222, 3) := dk_182 0 222 (dk_at dksX0_promise_4 4 rfl rfl)
theorem dX0_promise_103 : decode cX0_promise 103 = .ok (.ireturn, 1) := dk_172 (dk_at dksX0_promise_4 7 rfl rfl)
abbrev cX0_isShare : ByteArray := prog_1_method_44_code
def yX0_isShare : MethodName := ⟨RX0, "isShare", "(II)Z"⟩
def dkwX0_isShare_1 : List UInt8 := [3, 172]
abbrev dktX0_isShare_1 : List UInt8 := dkwX0_isShare_1 ++ []
def dkwX0_isShare_0 : List UInt8 := [27, 4, 161, 0, 22, 27, 18, 236, 163, 0, 16, 26, 155, 0, 12, 26, 27, 163, 0, 7, 4, 167, 0, 4]
abbrev dktX0_isShare_0 : List UInt8 := dkwX0_isShare_0 ++ dktX0_isShare_1
theorem dksX0_isShare_0 : cX0_isShare.data.toList.drop 0 = dktX0_isShare_0 := by decide +kernel
theorem dksX0_isShare_1 : cX0_isShare.data.toList.drop 24 = dktX0_isShare_1 := dk_seg dksX0_isShare_0 24 rfl rfl
theorem dX0_isShare_0 : decode cX0_isShare 0 = .ok (.iload_n 1, 1) := dk_27 (dk_at dksX0_isShare_0 0 rfl rfl)
theorem dX0_isShare_1 : decode cX0_isShare 1 = .ok (.iconst 1, 1) := dk_4 (dk_at dksX0_isShare_0 1 rfl rfl)
theorem dX0_isShare_2 : decode cX0_isShare 2 = .ok (.if_icmp .lt 22, 3) := dk_161 0 22 (dk_at dksX0_isShare_0 2 rfl rfl)
theorem dX0_isShare_5 : decode cX0_isShare 5 = .ok (.iload_n 1, 1) := dk_27 (dk_at dksX0_isShare_0 5 rfl rfl)
theorem dX0_isShare_6 : decode cX0_isShare 6 = .ok (.ldc 236, 2) := dk_18 236 (dk_at dksX0_isShare_0 6 rfl rfl)
theorem dX0_isShare_8 : decode cX0_isShare 8 = .ok (.if_icmp .gt 16, 3) := dk_163 0 16 (dk_at dksX0_isShare_0 8 rfl rfl)
theorem dX0_isShare_11 : decode cX0_isShare 11 = .ok (.iload_n 0, 1) := dk_26 (dk_at dksX0_isShare_0 11 rfl rfl)
theorem dX0_isShare_12 : decode cX0_isShare 12 = .ok (.ifCond .lt 12, 3) := dk_155 0 12 (dk_at dksX0_isShare_0 12 rfl rfl)
theorem dX0_isShare_15 : decode cX0_isShare 15 = .ok (.iload_n 0, 1) := dk_26 (dk_at dksX0_isShare_0 15 rfl rfl)
theorem dX0_isShare_16 : decode cX0_isShare 16 = .ok (.iload_n 1, 1) := dk_27 (dk_at dksX0_isShare_0 16 rfl rfl)
theorem dX0_isShare_17 : decode cX0_isShare 17 = .ok (.if_icmp .gt 7, 3) := dk_163 0 7 (dk_at dksX0_isShare_0 17 rfl rfl)
theorem dX0_isShare_20 : decode cX0_isShare 20 = .ok (.iconst 1, 1) := dk_4 (dk_at dksX0_isShare_0 20 rfl rfl)
theorem dX0_isShare_21 : decode cX0_isShare 21 = .ok (.goto 4, 3) := dk_167 0 4 (dk_at dksX0_isShare_0 21 rfl rfl)
theorem dX0_isShare_24 : decode cX0_isShare 24 = .ok (.iconst 0, 1) := dk_3 (dk_at dksX0_isShare_1 0 rfl rfl)
theorem dX0_isShare_25 : decode cX0_isShare 25 = .ok (.ireturn, 1) := dk_172 (dk_at dksX0_isShare_1 1 rfl rfl)
abbrev cX0_isEnough : ByteArray := prog_1_method_43_code
def yX0_isEnough : MethodName := ⟨RX0, "isEnough", "(JJJJ)Z"⟩
def dkwX0_isEnough_8 : List UInt8 := [167, 0, 4, 3, 172]
abbrev dktX0_isEnough_8 : List UInt8 := dkwX0_isEnough_8 ++ []
def dkwX0_isEnough_7 : List UInt8 := [4, 167, 0, 26, 3, 167, 0, 22, 22, 8, 22, 10, 109, 22, 12, 22, 14, 109, 148, 158, 0, 7, 4]
abbrev dktX0_isEnough_7 : List UInt8 := dkwX0_isEnough_7 ++ dktX0_isEnough_8
def dkwX0_isEnough_6 : List UInt8 := [167, 0, 4, 3, 172, 21, 16, 153, 0, 25, 22, 8, 22, 10, 109, 22, 12, 22, 14, 109, 148, 156, 0, 7]
abbrev dktX0_isEnough_6 : List UInt8 := dkwX0_isEnough_6 ++ dktX0_isEnough_7
def dkwX0_isEnough_5 : List UInt8 := [21, 16, 153, 0, 13, 22, 14, 9, 148, 154, 0, 17, 167, 0, 10, 22, 10, 9, 148, 154, 0, 7, 4]
abbrev dktX0_isEnough_5 : List UInt8 := dkwX0_isEnough_5 ++ dktX0_isEnough_6
def dkwX0_isEnough_4 : List UInt8 := [153, 0, 10, 22, 14, 9, 148, 154, 0, 45, 22, 10, 9, 148, 154, 0, 10, 22, 14, 9, 148, 153, 0, 25]
abbrev dktX0_isEnough_4 : List UInt8 := dkwX0_isEnough_4 ++ dktX0_isEnough_5
def dkwX0_isEnough_3 : List UInt8 := [22, 19, 55, 14, 21, 16, 154, 0, 7, 4, 167, 0, 4, 3, 54, 16, 167, 255, 186, 22, 10, 9, 148]
abbrev dktX0_isEnough_3 : List UInt8 := dkwX0_isEnough_3 ++ dktX0_isEnough_4
def dkwX0_isEnough_2 : List UInt8 := [22, 10, 113, 55, 17, 22, 12, 22, 14, 113, 55, 19, 22, 10, 55, 8, 22, 17, 55, 10, 22, 14, 55, 12]
abbrev dktX0_isEnough_2 : List UInt8 := dkwX0_isEnough_2 ++ dktX0_isEnough_3
def dkwX0_isEnough_1 : List UInt8 := [22, 14, 9, 148, 153, 0, 62, 22, 8, 22, 10, 109, 22, 12, 22, 14, 109, 148, 154, 0, 48, 22, 8]
abbrev dktX0_isEnough_1 : List UInt8 := dkwX0_isEnough_1 ++ dktX0_isEnough_2
def dkwX0_isEnough_0 : List UInt8 := [30, 55, 8, 32, 55, 10, 22, 4, 55, 12, 22, 6, 55, 14, 3, 54, 16, 22, 10, 9, 148, 153, 0, 69]
abbrev dktX0_isEnough_0 : List UInt8 := dkwX0_isEnough_0 ++ dktX0_isEnough_1
theorem dksX0_isEnough_0 : cX0_isEnough.data.toList.drop 0 = dktX0_isEnough_0 := by decide +kernel
theorem dksX0_isEnough_1 : cX0_isEnough.data.toList.drop 24 = dktX0_isEnough_1 := dk_seg dksX0_isEnough_0 24 rfl rfl
theorem dksX0_isEnough_2 : cX0_isEnough.data.toList.drop 47 = dktX0_isEnough_2 := dk_seg dksX0_isEnough_1 23 rfl rfl
theorem dksX0_isEnough_3 : cX0_isEnough.data.toList.drop 71 = dktX0_isEnough_3 := dk_seg dksX0_isEnough_2 24 rfl rfl
theorem dksX0_isEnough_4 : cX0_isEnough.data.toList.drop 94 = dktX0_isEnough_4 := dk_seg dksX0_isEnough_3 23 rfl rfl
theorem dksX0_isEnough_5 : cX0_isEnough.data.toList.drop 118 = dktX0_isEnough_5 := dk_seg dksX0_isEnough_4 24 rfl rfl
theorem dksX0_isEnough_6 : cX0_isEnough.data.toList.drop 141 = dktX0_isEnough_6 := dk_seg dksX0_isEnough_5 23 rfl rfl
theorem dksX0_isEnough_7 : cX0_isEnough.data.toList.drop 165 = dktX0_isEnough_7 := dk_seg dksX0_isEnough_6 24 rfl rfl
theorem dksX0_isEnough_8 : cX0_isEnough.data.toList.drop 188 = dktX0_isEnough_8 := dk_seg dksX0_isEnough_7 23 rfl rfl
theorem dX0_isEnough_0 : decode cX0_isEnough 0 = .ok (.lload_n 0, 1) := dk_30 (dk_at dksX0_isEnough_0 0 rfl rfl)
theorem dX0_isEnough_1 : decode cX0_isEnough 1 = .ok (.lstore 8, 2) := dk_55 8 (dk_at dksX0_isEnough_0 1 rfl rfl)
theorem dX0_isEnough_3 : decode cX0_isEnough 3 = .ok (.lload_n 2, 1) := dk_32 (dk_at dksX0_isEnough_0 3 rfl rfl)
theorem dX0_isEnough_4 : decode cX0_isEnough 4 = .ok (.lstore 10, 2) := dk_55 10 (dk_at dksX0_isEnough_0 4 rfl rfl)
theorem dX0_isEnough_6 : decode cX0_isEnough 6 = .ok (.lload 4, 2) := dk_22 4 (dk_at dksX0_isEnough_0 6 rfl rfl)
theorem dX0_isEnough_8 : decode cX0_isEnough 8 = .ok (.lstore 12, 2) := dk_55 12 (dk_at dksX0_isEnough_0 8 rfl rfl)
theorem dX0_isEnough_10 : decode cX0_isEnough 10 = .ok (.lload 6, 2) := dk_22 6 (dk_at dksX0_isEnough_0 10 rfl rfl)
theorem dX0_isEnough_12 : decode cX0_isEnough 12 = .ok (.lstore 14, 2) := dk_55 14 (dk_at dksX0_isEnough_0 12 rfl rfl)
theorem dX0_isEnough_14 : decode cX0_isEnough 14 = .ok (.iconst 0, 1) := dk_3 (dk_at dksX0_isEnough_0 14 rfl rfl)
theorem dX0_isEnough_15 : decode cX0_isEnough 15 = .ok (.istore 16, 2) := dk_54 16 (dk_at dksX0_isEnough_0 15 rfl rfl)
theorem dX0_isEnough_17 : decode cX0_isEnough 17 = .ok (.lload 10, 2) := dk_22 10 (dk_at dksX0_isEnough_0 17 rfl rfl)
theorem dX0_isEnough_19 : decode cX0_isEnough 19 = .ok (.lconst 0, 1) := dk_9 (dk_at dksX0_isEnough_0 19 rfl rfl)
theorem dX0_isEnough_20 : decode cX0_isEnough 20 = .ok (.lcmp, 1) := dk_148 (dk_at dksX0_isEnough_0 20 rfl rfl)
theorem dX0_isEnough_21 : decode cX0_isEnough 21 = .ok (.ifCond .eq 69, 3) := dk_153 0 69 (dk_at dksX0_isEnough_0 21 rfl rfl)
theorem dX0_isEnough_24 : decode cX0_isEnough 24 = .ok (.lload 14, 2) := dk_22 14 (dk_at dksX0_isEnough_1 0 rfl rfl)
theorem dX0_isEnough_26 : decode cX0_isEnough 26 = .ok (.lconst 0, 1) := dk_9 (dk_at dksX0_isEnough_1 2 rfl rfl)
theorem dX0_isEnough_27 : decode cX0_isEnough 27 = .ok (.lcmp, 1) := dk_148 (dk_at dksX0_isEnough_1 3 rfl rfl)
theorem dX0_isEnough_28 : decode cX0_isEnough 28 = .ok (.ifCond .eq 62, 3) := dk_153 0 62 (dk_at dksX0_isEnough_1 4 rfl rfl)
theorem dX0_isEnough_31 : decode cX0_isEnough 31 = .ok (.lload 8, 2) := dk_22 8 (dk_at dksX0_isEnough_1 7 rfl rfl)
theorem dX0_isEnough_33 : decode cX0_isEnough 33 = .ok (.lload 10, 2) := dk_22 10 (dk_at dksX0_isEnough_1 9 rfl rfl)
theorem dX0_isEnough_35 : decode cX0_isEnough 35 = .ok (.ldiv, 1) := dk_109 (dk_at dksX0_isEnough_1 11 rfl rfl)
theorem dX0_isEnough_36 : decode cX0_isEnough 36 = .ok (.lload 12, 2) := dk_22 12 (dk_at dksX0_isEnough_1 12 rfl rfl)
theorem dX0_isEnough_38 : decode cX0_isEnough 38 = .ok (.lload 14, 2) := dk_22 14 (dk_at dksX0_isEnough_1 14 rfl rfl)
theorem dX0_isEnough_40 : decode cX0_isEnough 40 = .ok (.ldiv, 1) := dk_109 (dk_at dksX0_isEnough_1 16 rfl rfl)
theorem dX0_isEnough_41 : decode cX0_isEnough 41 = .ok (.lcmp, 1) := dk_148 (dk_at dksX0_isEnough_1 17 rfl rfl)
theorem dX0_isEnough_42 : decode cX0_isEnough 42 = .ok (.ifCond .ne 48, 3) := dk_154 0 48 (dk_at dksX0_isEnough_1 18 rfl rfl)
theorem dX0_isEnough_45 : decode cX0_isEnough 45 = .ok (.lload 8, 2) := dk_22 8 (dk_at dksX0_isEnough_1 21 rfl rfl)
theorem dX0_isEnough_47 : decode cX0_isEnough 47 = .ok (.lload 10, 2) := dk_22 10 (dk_at dksX0_isEnough_2 0 rfl rfl)
theorem dX0_isEnough_49 : decode cX0_isEnough 49 = .ok (.lrem, 1) := dk_113 (dk_at dksX0_isEnough_2 2 rfl rfl)
theorem dX0_isEnough_50 : decode cX0_isEnough 50 = .ok (.lstore 17, 2) := dk_55 17 (dk_at dksX0_isEnough_2 3 rfl rfl)
theorem dX0_isEnough_52 : decode cX0_isEnough 52 = .ok (.lload 12, 2) := dk_22 12 (dk_at dksX0_isEnough_2 5 rfl rfl)
theorem dX0_isEnough_54 : decode cX0_isEnough 54 = .ok (.lload 14, 2) := dk_22 14 (dk_at dksX0_isEnough_2 7 rfl rfl)
theorem dX0_isEnough_56 : decode cX0_isEnough 56 = .ok (.lrem, 1) := dk_113 (dk_at dksX0_isEnough_2 9 rfl rfl)
theorem dX0_isEnough_57 : decode cX0_isEnough 57 = .ok (.lstore 19, 2) := dk_55 19 (dk_at dksX0_isEnough_2 10 rfl rfl)
theorem dX0_isEnough_59 : decode cX0_isEnough 59 = .ok (.lload 10, 2) := dk_22 10 (dk_at dksX0_isEnough_2 12 rfl rfl)
theorem dX0_isEnough_61 : decode cX0_isEnough 61 = .ok (.lstore 8, 2) := dk_55 8 (dk_at dksX0_isEnough_2 14 rfl rfl)
theorem dX0_isEnough_63 : decode cX0_isEnough 63 = .ok (.lload 17, 2) := dk_22 17 (dk_at dksX0_isEnough_2 16 rfl rfl)
theorem dX0_isEnough_65 : decode cX0_isEnough 65 = .ok (.lstore 10, 2) := dk_55 10 (dk_at dksX0_isEnough_2 18 rfl rfl)
theorem dX0_isEnough_67 : decode cX0_isEnough 67 = .ok (.lload 14, 2) := dk_22 14 (dk_at dksX0_isEnough_2 20 rfl rfl)
theorem dX0_isEnough_69 : decode cX0_isEnough 69 = .ok (.lstore 12, 2) := dk_55 12 (dk_at dksX0_isEnough_2 22 rfl rfl)
theorem dX0_isEnough_71 : decode cX0_isEnough 71 = .ok (.lload 19, 2) := dk_22 19 (dk_at dksX0_isEnough_3 0 rfl rfl)
theorem dX0_isEnough_73 : decode cX0_isEnough 73 = .ok (.lstore 14, 2) := dk_55 14 (dk_at dksX0_isEnough_3 2 rfl rfl)
theorem dX0_isEnough_75 : decode cX0_isEnough 75 = .ok (.iload 16, 2) := dk_21 16 (dk_at dksX0_isEnough_3 4 rfl rfl)
theorem dX0_isEnough_77 : decode cX0_isEnough 77 = .ok (.ifCond .ne 7, 3) := dk_154 0 7 (dk_at dksX0_isEnough_3 6 rfl rfl)
theorem dX0_isEnough_80 : decode cX0_isEnough 80 = .ok (.iconst 1, 1) := dk_4 (dk_at dksX0_isEnough_3 9 rfl rfl)
theorem dX0_isEnough_81 : decode cX0_isEnough 81 = .ok (.goto 4, 3) := dk_167 0 4 (dk_at dksX0_isEnough_3 10 rfl rfl)
theorem dX0_isEnough_84 : decode cX0_isEnough 84 = .ok (.iconst 0, 1) := dk_3 (dk_at dksX0_isEnough_3 13 rfl rfl)
theorem dX0_isEnough_85 : decode cX0_isEnough 85 = .ok (.istore 16, 2) := dk_54 16 (dk_at dksX0_isEnough_3 14 rfl rfl)
theorem dX0_isEnough_87 : decode cX0_isEnough 87 = .ok (.goto (-70), 3) := dk_167 255 186 (dk_at dksX0_isEnough_3 16 rfl rfl)
theorem dX0_isEnough_90 : decode cX0_isEnough 90 = .ok (.lload 10, 2) := dk_22 10 (dk_at dksX0_isEnough_3 19 rfl rfl)
theorem dX0_isEnough_92 : decode cX0_isEnough 92 = .ok (.lconst 0, 1) := dk_9 (dk_at dksX0_isEnough_3 21 rfl rfl)
theorem dX0_isEnough_93 : decode cX0_isEnough 93 = .ok (.lcmp, 1) := dk_148 (dk_at dksX0_isEnough_3 22 rfl rfl)
theorem dX0_isEnough_94 : decode cX0_isEnough 94 = .ok (.ifCond .eq 10, 3) := dk_153 0 10 (dk_at dksX0_isEnough_4 0 rfl rfl)
theorem dX0_isEnough_97 : decode cX0_isEnough 97 = .ok (.lload 14, 2) := dk_22 14 (dk_at dksX0_isEnough_4 3 rfl rfl)
theorem dX0_isEnough_99 : decode cX0_isEnough 99 = .ok (.lconst 0, 1) := dk_9 (dk_at dksX0_isEnough_4 5 rfl rfl)
theorem dX0_isEnough_100 : decode cX0_isEnough 100 = .ok (.lcmp, 1) := dk_148 (dk_at dksX0_isEnough_4 6 rfl rfl)
theorem dX0_isEnough_101 : decode cX0_isEnough 101 = .ok (.ifCond .ne 45, 3) := dk_154 0 45 (dk_at dksX0_isEnough_4 7 rfl rfl)
theorem dX0_isEnough_104 : decode cX0_isEnough 104 = .ok (.lload 10, 2) := dk_22 10 (dk_at dksX0_isEnough_4 10 rfl rfl)
theorem dX0_isEnough_106 : decode cX0_isEnough 106 = .ok (.lconst 0, 1) := dk_9 (dk_at dksX0_isEnough_4 12 rfl rfl)
theorem dX0_isEnough_107 : decode cX0_isEnough 107 = .ok (.lcmp, 1) := dk_148 (dk_at dksX0_isEnough_4 13 rfl rfl)
theorem dX0_isEnough_108 : decode cX0_isEnough 108 = .ok (.ifCond .ne 10, 3) := dk_154 0 10 (dk_at dksX0_isEnough_4 14 rfl rfl)
theorem dX0_isEnough_111 : decode cX0_isEnough 111 = .ok (.lload 14, 2) := dk_22 14 (dk_at dksX0_isEnough_4 17 rfl rfl)
theorem dX0_isEnough_113 : decode cX0_isEnough 113 = .ok (.lconst 0, 1) := dk_9 (dk_at dksX0_isEnough_4 19 rfl rfl)
theorem dX0_isEnough_114 : decode cX0_isEnough 114 = .ok (.lcmp, 1) := dk_148 (dk_at dksX0_isEnough_4 20 rfl rfl)
theorem dX0_isEnough_115 : decode cX0_isEnough 115 = .ok (.ifCond .eq 25, 3) := dk_153 0 25 (dk_at dksX0_isEnough_4 21 rfl rfl)
theorem dX0_isEnough_118 : decode cX0_isEnough 118 = .ok (.iload 16, 2) := dk_21 16 (dk_at dksX0_isEnough_5 0 rfl rfl)
theorem dX0_isEnough_120 : decode cX0_isEnough 120 = .ok (.ifCond .eq 13, 3) := dk_153 0 13 (dk_at dksX0_isEnough_5 2 rfl rfl)
theorem dX0_isEnough_123 : decode cX0_isEnough 123 = .ok (.lload 14, 2) := dk_22 14 (dk_at dksX0_isEnough_5 5 rfl rfl)
theorem dX0_isEnough_125 : decode cX0_isEnough 125 = .ok (.lconst 0, 1) := dk_9 (dk_at dksX0_isEnough_5 7 rfl rfl)
theorem dX0_isEnough_126 : decode cX0_isEnough 126 = .ok (.lcmp, 1) := dk_148 (dk_at dksX0_isEnough_5 8 rfl rfl)
theorem dX0_isEnough_127 : decode cX0_isEnough 127 = .ok (.ifCond .ne 17, 3) := dk_154 0 17 (dk_at dksX0_isEnough_5 9 rfl rfl)
theorem dX0_isEnough_130 : decode cX0_isEnough 130 = .ok (.goto 10, 3) := dk_167 0 10 (dk_at dksX0_isEnough_5 12 rfl rfl)
theorem dX0_isEnough_133 : decode cX0_isEnough 133 = .ok (.lload 10, 2) := dk_22 10 (dk_at dksX0_isEnough_5 15 rfl rfl)
theorem dX0_isEnough_135 : decode cX0_isEnough 135 = .ok (.lconst 0, 1) := dk_9 (dk_at dksX0_isEnough_5 17 rfl rfl)
theorem dX0_isEnough_136 : decode cX0_isEnough 136 = .ok (.lcmp, 1) := dk_148 (dk_at dksX0_isEnough_5 18 rfl rfl)
theorem dX0_isEnough_137 : decode cX0_isEnough 137 = .ok (.ifCond .ne 7, 3) := dk_154 0 7 (dk_at dksX0_isEnough_5 19 rfl rfl)
theorem dX0_isEnough_140 : decode cX0_isEnough 140 = .ok (.iconst 1, 1) := dk_4 (dk_at dksX0_isEnough_5 22 rfl rfl)
theorem dX0_isEnough_141 : decode cX0_isEnough 141 = .ok (.goto 4, 3) := dk_167 0 4 (dk_at dksX0_isEnough_6 0 rfl rfl)
theorem dX0_isEnough_144 : decode cX0_isEnough 144 = .ok (.iconst 0, 1) := dk_3 (dk_at dksX0_isEnough_6 3 rfl rfl)
theorem dX0_isEnough_145 : decode cX0_isEnough 145 = .ok (.ireturn, 1) := dk_172 (dk_at dksX0_isEnough_6 4 rfl rfl)
theorem dX0_isEnough_146 : decode cX0_isEnough 146 = .ok (.iload 16, 2) := dk_21 16 (dk_at dksX0_isEnough_6 5 rfl rfl)
theorem dX0_isEnough_148 : decode cX0_isEnough 148 = .ok (.ifCond .eq 25, 3) := dk_153 0 25 (dk_at dksX0_isEnough_6 7 rfl rfl)
theorem dX0_isEnough_151 : decode cX0_isEnough 151 = .ok (.lload 8, 2) := dk_22 8 (dk_at dksX0_isEnough_6 10 rfl rfl)
theorem dX0_isEnough_153 : decode cX0_isEnough 153 = .ok (.lload 10, 2) := dk_22 10 (dk_at dksX0_isEnough_6 12 rfl rfl)
theorem dX0_isEnough_155 : decode cX0_isEnough 155 = .ok (.ldiv, 1) := dk_109 (dk_at dksX0_isEnough_6 14 rfl rfl)
theorem dX0_isEnough_156 : decode cX0_isEnough 156 = .ok (.lload 12, 2) := dk_22 12 (dk_at dksX0_isEnough_6 15 rfl rfl)
theorem dX0_isEnough_158 : decode cX0_isEnough 158 = .ok (.lload 14, 2) := dk_22 14 (dk_at dksX0_isEnough_6 17 rfl rfl)
theorem dX0_isEnough_160 : decode cX0_isEnough 160 = .ok (.ldiv, 1) := dk_109 (dk_at dksX0_isEnough_6 19 rfl rfl)
theorem dX0_isEnough_161 : decode cX0_isEnough 161 = .ok (.lcmp, 1) := dk_148 (dk_at dksX0_isEnough_6 20 rfl rfl)
theorem dX0_isEnough_162 : decode cX0_isEnough 162 = .ok (.ifCond .ge 7, 3) := dk_156 0 7 (dk_at dksX0_isEnough_6 21 rfl rfl)
theorem dX0_isEnough_165 : decode cX0_isEnough 165 = .ok (.iconst 1, 1) := dk_4 (dk_at dksX0_isEnough_7 0 rfl rfl)
theorem dX0_isEnough_166 : decode cX0_isEnough 166 = .ok (.goto 26, 3) := dk_167 0 26 (dk_at dksX0_isEnough_7 1 rfl rfl)
theorem dX0_isEnough_169 : decode cX0_isEnough 169 = .ok (.iconst 0, 1) := dk_3 (dk_at dksX0_isEnough_7 4 rfl rfl)
theorem dX0_isEnough_170 : decode cX0_isEnough 170 = .ok (.goto 22, 3) := dk_167 0 22 (dk_at dksX0_isEnough_7 5 rfl rfl)
theorem dX0_isEnough_173 : decode cX0_isEnough 173 = .ok (.lload 8, 2) := dk_22 8 (dk_at dksX0_isEnough_7 8 rfl rfl)
theorem dX0_isEnough_175 : decode cX0_isEnough 175 = .ok (.lload 10, 2) := dk_22 10 (dk_at dksX0_isEnough_7 10 rfl rfl)
theorem dX0_isEnough_177 : decode cX0_isEnough 177 = .ok (.ldiv, 1) := dk_109 (dk_at dksX0_isEnough_7 12 rfl rfl)
theorem dX0_isEnough_178 : decode cX0_isEnough 178 = .ok (.lload 12, 2) := dk_22 12 (dk_at dksX0_isEnough_7 13 rfl rfl)
theorem dX0_isEnough_180 : decode cX0_isEnough 180 = .ok (.lload 14, 2) := dk_22 14 (dk_at dksX0_isEnough_7 15 rfl rfl)
theorem dX0_isEnough_182 : decode cX0_isEnough 182 = .ok (.ldiv, 1) := dk_109 (dk_at dksX0_isEnough_7 17 rfl rfl)
theorem dX0_isEnough_183 : decode cX0_isEnough 183 = .ok (.lcmp, 1) := dk_148 (dk_at dksX0_isEnough_7 18 rfl rfl)
theorem dX0_isEnough_184 : decode cX0_isEnough 184 = .ok (.ifCond .le 7, 3) := dk_158 0 7 (dk_at dksX0_isEnough_7 19 rfl rfl)
theorem dX0_isEnough_187 : decode cX0_isEnough 187 = .ok (.iconst 1, 1) := dk_4 (dk_at dksX0_isEnough_7 22 rfl rfl)
theorem dX0_isEnough_188 : decode cX0_isEnough 188 = .ok (.goto 4, 3) := dk_167 0 4 (dk_at dksX0_isEnough_8 0 rfl rfl)
theorem dX0_isEnough_191 : decode cX0_isEnough 191 = .ok (.iconst 0, 1) := dk_3 (dk_at dksX0_isEnough_8 3 rfl rfl)
theorem dX0_isEnough_192 : decode cX0_isEnough 192 = .ok (.ireturn, 1) := dk_172 (dk_at dksX0_isEnough_8 4 rfl rfl)
abbrev cX0_bound : ByteArray := prog_1_method_46_code
def yX0_bound : MethodName := ⟨RX0, "bound", "(II)I"⟩
def dkwX0_bound_3 : List UInt8 := [172]
abbrev dktX0_bound_3 : List UInt8 := dkwX0_bound_3 ++ []
def dkwX0_bound_2 : List UInt8 := [42, 180, 0, 44, 28, 47, 22, 4, 182, 0, 228, 172, 78, 42, 45, 182, 0, 117, 172, 78, 42, 182, 0, 222]
abbrev dktX0_bound_2 : List UInt8 := dkwX0_bound_2 ++ dktX0_bound_3
def dkwX0_bound_1 : List UInt8 := [167, 0, 4, 3, 4, 182, 0, 87, 45, 182, 0, 216, 87, 45, 42, 180, 0, 44, 182, 0, 245, 55, 4, 42]
abbrev dktX0_bound_1 : List UInt8 := dkwX0_bound_1 ++ dktX0_bound_2
def dkwX0_bound_0 : List UInt8 := [42, 3, 181, 0, 63, 42, 27, 182, 0, 163, 78, 42, 28, 155, 0, 13, 28, 16, 120, 163, 0, 7, 4]
abbrev dktX0_bound_0 : List UInt8 := dkwX0_bound_0 ++ dktX0_bound_1
theorem dksX0_bound_0 : cX0_bound.data.toList.drop 0 = dktX0_bound_0 := by decide +kernel
theorem dksX0_bound_1 : cX0_bound.data.toList.drop 23 = dktX0_bound_1 := dk_seg dksX0_bound_0 23 rfl rfl
theorem dksX0_bound_2 : cX0_bound.data.toList.drop 47 = dktX0_bound_2 := dk_seg dksX0_bound_1 24 rfl rfl
theorem dksX0_bound_3 : cX0_bound.data.toList.drop 71 = dktX0_bound_3 := dk_seg dksX0_bound_2 24 rfl rfl
theorem dX0_bound_0 : decode cX0_bound 0 = .ok (.aload_n 0, 1) := dk_42 (dk_at dksX0_bound_0 0 rfl rfl)
theorem dX0_bound_1 : decode cX0_bound 1 = .ok (.iconst 0, 1) := dk_3 (dk_at dksX0_bound_0 1 rfl rfl)
theorem dX0_bound_2 : decode cX0_bound 2 = .ok (.putfield 63, 3) := dk_181 0 63 (dk_at dksX0_bound_0 2 rfl rfl)
theorem dX0_bound_5 : decode cX0_bound 5 = .ok (.aload_n 0, 1) := dk_42 (dk_at dksX0_bound_0 5 rfl rfl)
theorem dX0_bound_6 : decode cX0_bound 6 = .ok (.iload_n 1, 1) := dk_27 (dk_at dksX0_bound_0 6 rfl rfl)
theorem dX0_bound_7 : decode cX0_bound 7 = .ok (.invokevirtual 163, 3) := dk_182 0 163 (dk_at dksX0_bound_0 7 rfl rfl)
theorem dX0_bound_10 : decode cX0_bound 10 = .ok (.astore_n 3, 1) := dk_78 (dk_at dksX0_bound_0 10 rfl rfl)
theorem dX0_bound_11 : decode cX0_bound 11 = .ok (.aload_n 0, 1) := dk_42 (dk_at dksX0_bound_0 11 rfl rfl)
theorem dX0_bound_12 : decode cX0_bound 12 = .ok (.iload_n 2, 1) := dk_28 (dk_at dksX0_bound_0 12 rfl rfl)
theorem dX0_bound_13 : decode cX0_bound 13 = .ok (.ifCond .lt 13, 3) := dk_155 0 13 (dk_at dksX0_bound_0 13 rfl rfl)
theorem dX0_bound_16 : decode cX0_bound 16 = .ok (.iload_n 2, 1) := dk_28 (dk_at dksX0_bound_0 16 rfl rfl)
theorem dX0_bound_17 : decode cX0_bound 17 = .ok (.bipush 120, 2) := dk_16 120 (dk_at dksX0_bound_0 17 rfl rfl)
theorem dX0_bound_19 : decode cX0_bound 19 = .ok (.if_icmp .gt 7, 3) := dk_163 0 7 (dk_at dksX0_bound_0 19 rfl rfl)
theorem dX0_bound_22 : decode cX0_bound 22 = .ok (.iconst 1, 1) := dk_4 (dk_at dksX0_bound_0 22 rfl rfl)
theorem dX0_bound_23 : decode cX0_bound 23 = .ok (.goto 4, 3) := dk_167 0 4 (dk_at dksX0_bound_1 0 rfl rfl)
theorem dX0_bound_26 : decode cX0_bound 26 = .ok (.iconst 0, 1) := dk_3 (dk_at dksX0_bound_1 3 rfl rfl)
theorem dX0_bound_27 : decode cX0_bound 27 = .ok (.iconst 1, 1) := dk_4 (dk_at dksX0_bound_1 4 rfl rfl)
theorem dX0_bound_28 : decode cX0_bound 28 = .ok (.invokevirtual 87, 3) := dk_182 0 87 (dk_at dksX0_bound_1 5 rfl rfl)
theorem dX0_bound_31 : decode cX0_bound 31 = .ok (.aload_n 3, 1) := dk_45 (dk_at dksX0_bound_1 8 rfl rfl)
theorem dX0_bound_32 : decode cX0_bound 32 = .ok (.invokevirtual 216, 3) := dk_182 0 216 (dk_at dksX0_bound_1 9 rfl rfl)
theorem dX0_bound_35 : decode cX0_bound 35 = .ok (.pop, 1) := dk_87 (dk_at dksX0_bound_1 12 rfl rfl)
theorem dX0_bound_36 : decode cX0_bound 36 = .ok (.aload_n 3, 1) := dk_45 (dk_at dksX0_bound_1 13 rfl rfl)
theorem dX0_bound_37 : decode cX0_bound 37 = .ok (.aload_n 0, 1) := dk_42 (dk_at dksX0_bound_1 14 rfl rfl)
theorem dX0_bound_38 : decode cX0_bound 38 = .ok (.getfield 44, 3) := dk_180 0 44 (dk_at dksX0_bound_1 15 rfl rfl)
theorem dX0_bound_41 : decode cX0_bound 41 = .ok (.invokevirtual 245, 3) := dk_182 0 245 (dk_at dksX0_bound_1 18 rfl rfl)
theorem dX0_bound_44 : decode cX0_bound 44 = .ok (.lstore 4, 2) := dk_55 4 (dk_at dksX0_bound_1 21 rfl rfl)
theorem dX0_bound_46 : decode cX0_bound 46 = .ok (.aload_n 0, 1) := dk_42 (dk_at dksX0_bound_1 23 rfl rfl)
theorem dX0_bound_47 : decode cX0_bound 47 = .ok (.aload_n 0, 1) := dk_42 (dk_at dksX0_bound_2 0 rfl rfl)
theorem dX0_bound_48 : decode cX0_bound 48 = .ok (.getfield 44, 3) := dk_180 0 44 (dk_at dksX0_bound_2 1 rfl rfl)
theorem dX0_bound_51 : decode cX0_bound 51 = .ok (.iload_n 2, 1) := dk_28 (dk_at dksX0_bound_2 4 rfl rfl)
theorem dX0_bound_52 : decode cX0_bound 52 = .ok (.laload, 1) := dk_47 (dk_at dksX0_bound_2 5 rfl rfl)
theorem dX0_bound_53 : decode cX0_bound 53 = .ok (.lload 4, 2) := dk_22 4 (dk_at dksX0_bound_2 6 rfl rfl)
theorem dX0_bound_55 : decode cX0_bound 55 = .ok (.invokevirtual 228, 3) := dk_182 0 228 (dk_at dksX0_bound_2 8 rfl rfl)
theorem dX0_bound_58 : decode cX0_bound 58 = .ok (.ireturn, 1) := dk_172 (dk_at dksX0_bound_2 11 rfl rfl)
theorem dX0_bound_59 : decode cX0_bound 59 = .ok (.astore_n 3, 1) := dk_78 (dk_at dksX0_bound_2 12 rfl rfl)
theorem dX0_bound_60 : decode cX0_bound 60 = .ok (.aload_n 0, 1) := dk_42 (dk_at dksX0_bound_2 13 rfl rfl)
theorem dX0_bound_61 : decode cX0_bound 61 = .ok (.aload_n 3, 1) := dk_45 (dk_at dksX0_bound_2 14 rfl rfl)
theorem dX0_bound_62 : decode cX0_bound 62 = .ok (.invokevirtual 117, 3) := dk_182 0 117 (dk_at dksX0_bound_2 15 rfl rfl)
theorem dX0_bound_65 : decode cX0_bound 65 = .ok (.ireturn, 1) := dk_172 (dk_at dksX0_bound_2 18 rfl rfl)
theorem dX0_bound_66 : decode cX0_bound 66 = .ok (.astore_n 3, 1) := dk_78 (dk_at dksX0_bound_2 19 rfl rfl)
theorem dX0_bound_67 : decode cX0_bound 67 = .ok (.aload_n 0, 1) := dk_42 (dk_at dksX0_bound_2 20 rfl rfl)
theorem dX0_bound_68 : decode cX0_bound 68 = .ok (.invokevirtual 222, 3) := dk_182 0 222 (dk_at dksX0_bound_2 21 rfl rfl)
theorem dX0_bound_71 : decode cX0_bound 71 = .ok (.ireturn, 1) := dk_172 (dk_at dksX0_bound_3 0 rfl rfl)
abbrev cX0_bounded : ByteArray := prog_1_method_8_code
def yX0_bounded : MethodName := ⟨RX0, "bounded", "(J)J"⟩
def dkwX0_bounded_0 : List UInt8 := [30, 20, 0, 35, 148, 155, 0, 11, 187, 0, 13, 89, 183, 0, 15, 191, 30, 173]
abbrev dktX0_bounded_0 : List UInt8 := dkwX0_bounded_0 ++ []
theorem dksX0_bounded_0 : cX0_bounded.data.toList.drop 0 = dktX0_bounded_0 := by decide +kernel
theorem dX0_bounded_0 : decode cX0_bounded 0 = .ok (.lload_n 0, 1) := dk_30 (dk_at dksX0_bounded_0 0 rfl rfl)
theorem dX0_bounded_1 : decode cX0_bounded 1 = .ok (.ldc2_w 35, 3) := dk_20 0 35 (dk_at dksX0_bounded_0 1 rfl rfl)
theorem dX0_bounded_4 : decode cX0_bounded 4 = .ok (.lcmp, 1) := dk_148 (dk_at dksX0_bounded_0 4 rfl rfl)
theorem dX0_bounded_5 : decode cX0_bounded 5 = .ok (.ifCond .lt 11, 3) := dk_155 0 11 (dk_at dksX0_bounded_0 5 rfl rfl)
theorem dX0_bounded_8 : decode cX0_bounded 8 = .ok (.new 13, 3) := dk_187 0 13 (dk_at dksX0_bounded_0 8 rfl rfl)
theorem dX0_bounded_11 : decode cX0_bounded 11 = .ok (.dup, 1) := dk_89 (dk_at dksX0_bounded_0 11 rfl rfl)
theorem dX0_bounded_12 : decode cX0_bounded 12 = .ok (.invokespecial 15, 3) := dk_183 0 15 (dk_at dksX0_bounded_0 12 rfl rfl)
theorem dX0_bounded_15 : decode cX0_bounded 15 = .ok (.athrow, 1) := dk_191 (dk_at dksX0_bounded_0 15 rfl rfl)
theorem dX0_bounded_16 : decode cX0_bounded 16 = .ok (.lload_n 0, 1) := dk_30 (dk_at dksX0_bounded_0 16 rfl rfl)
theorem dX0_bounded_17 : decode cX0_bounded 17 = .ok (.lreturn, 1) := dk_173 (dk_at dksX0_bounded_0 17 rfl rfl)
abbrev cX0_asks : ByteArray := prog_1_method_48_code
def yX0_asks : MethodName := ⟨RX0, "asks", "(II)I"⟩
def dkwX0_asks_3 : List UInt8 := [182, 0, 117, 172]
abbrev dktX0_asks_3 : List UInt8 := dkwX0_asks_3 ++ []
def dkwX0_asks_2 : List UInt8 := [180, 0, 167, 58, 6, 21, 5, 25, 6, 182, 1, 1, 104, 54, 5, 167, 255, 233, 21, 5, 172, 78, 42, 45]
abbrev dktX0_asks_2 : List UInt8 := dkwX0_asks_2 ++ dktX0_asks_3
def dkwX0_asks_1 : List UInt8 := [184, 0, 253, 4, 182, 0, 87, 4, 54, 5, 25, 4, 58, 6, 25, 6, 45, 165, 0, 23, 25, 6]
abbrev dktX0_asks_1 : List UInt8 := dkwX0_asks_1 ++ dktX0_asks_2
def dkwX0_asks_0 : List UInt8 := [42, 3, 181, 0, 63, 42, 27, 182, 0, 163, 78, 42, 28, 182, 0, 249, 58, 4, 42, 25, 4, 45]
abbrev dktX0_asks_0 : List UInt8 := dkwX0_asks_0 ++ dktX0_asks_1
theorem dksX0_asks_0 : cX0_asks.data.toList.drop 0 = dktX0_asks_0 := by decide +kernel
theorem dksX0_asks_1 : cX0_asks.data.toList.drop 22 = dktX0_asks_1 := dk_seg dksX0_asks_0 22 rfl rfl
theorem dksX0_asks_2 : cX0_asks.data.toList.drop 44 = dktX0_asks_2 := dk_seg dksX0_asks_1 22 rfl rfl
theorem dksX0_asks_3 : cX0_asks.data.toList.drop 68 = dktX0_asks_3 := dk_seg dksX0_asks_2 24 rfl rfl
theorem dX0_asks_0 : decode cX0_asks 0 = .ok (.aload_n 0, 1) := dk_42 (dk_at dksX0_asks_0 0 rfl rfl)
theorem dX0_asks_1 : decode cX0_asks 1 = .ok (.iconst 0, 1) := dk_3 (dk_at dksX0_asks_0 1 rfl rfl)
theorem dX0_asks_2 : decode cX0_asks 2 = .ok (.putfield 63, 3) := dk_181 0 63 (dk_at dksX0_asks_0 2 rfl rfl)
theorem dX0_asks_5 : decode cX0_asks 5 = .ok (.aload_n 0, 1) := dk_42 (dk_at dksX0_asks_0 5 rfl rfl)
theorem dX0_asks_6 : decode cX0_asks 6 = .ok (.iload_n 1, 1) := dk_27 (dk_at dksX0_asks_0 6 rfl rfl)
theorem dX0_asks_7 : decode cX0_asks 7 = .ok (.invokevirtual 163, 3) := dk_182 0 163 (dk_at dksX0_asks_0 7 rfl rfl)
theorem dX0_asks_10 : decode cX0_asks 10 = .ok (.astore_n 3, 1) := dk_78 (dk_at dksX0_asks_0 10 rfl rfl)
theorem dX0_asks_11 : decode cX0_asks 11 = .ok (.aload_n 0, 1) := dk_42 (dk_at dksX0_asks_0 11 rfl rfl)
theorem dX0_asks_12 : decode cX0_asks 12 = .ok (.iload_n 2, 1) := dk_28 (dk_at dksX0_asks_0 12 rfl rfl)
theorem dX0_asks_13 : decode cX0_asks 13 = .ok (.invokevirtual 249, 3) := dk_182 0 249 (dk_at dksX0_asks_0 13 rfl rfl)
theorem dX0_asks_16 : decode cX0_asks 16 = .ok (.astore 4, 2) := dk_58 4 (dk_at dksX0_asks_0 16 rfl rfl)
theorem dX0_asks_18 : decode cX0_asks 18 = .ok (.aload_n 0, 1) := dk_42 (dk_at dksX0_asks_0 18 rfl rfl)
theorem dX0_asks_19 : decode cX0_asks 19 = .ok (.aload 4, 2) := dk_25 4 (dk_at dksX0_asks_0 19 rfl rfl)
theorem dX0_asks_21 : decode cX0_asks 21 = .ok (.aload_n 3, 1) := dk_45 (dk_at dksX0_asks_0 21 rfl rfl)
theorem dX0_asks_22 : decode cX0_asks 22 = .ok (.invokestatic 253, 3) := dk_184 0 253 (dk_at dksX0_asks_1 0 rfl rfl)
theorem dX0_asks_25 : decode cX0_asks 25 = .ok (.iconst 1, 1) := dk_4 (dk_at dksX0_asks_1 3 rfl rfl)
theorem dX0_asks_26 : decode cX0_asks 26 = .ok (.invokevirtual 87, 3) := dk_182 0 87 (dk_at dksX0_asks_1 4 rfl rfl)
theorem dX0_asks_29 : decode cX0_asks 29 = .ok (.iconst 1, 1) := dk_4 (dk_at dksX0_asks_1 7 rfl rfl)
theorem dX0_asks_30 : decode cX0_asks 30 = .ok (.istore 5, 2) := dk_54 5 (dk_at dksX0_asks_1 8 rfl rfl)
theorem dX0_asks_32 : decode cX0_asks 32 = .ok (.aload 4, 2) := dk_25 4 (dk_at dksX0_asks_1 10 rfl rfl)
theorem dX0_asks_34 : decode cX0_asks 34 = .ok (.astore 6, 2) := dk_58 6 (dk_at dksX0_asks_1 12 rfl rfl)
theorem dX0_asks_36 : decode cX0_asks 36 = .ok (.aload 6, 2) := dk_25 6 (dk_at dksX0_asks_1 14 rfl rfl)
theorem dX0_asks_38 : decode cX0_asks 38 = .ok (.aload_n 3, 1) := dk_45 (dk_at dksX0_asks_1 16 rfl rfl)
theorem dX0_asks_39 : decode cX0_asks 39 = .ok (.if_acmp .eq 23, 3) := dk_165 0 23 (dk_at dksX0_asks_1 17 rfl rfl)
theorem dX0_asks_42 : decode cX0_asks 42 = .ok (.aload 6, 2) := dk_25 6 (dk_at dksX0_asks_1 20 rfl rfl)
theorem dX0_asks_44 : decode cX0_asks 44 = .ok (.getfield 167, 3) := dk_180 0 167 (dk_at dksX0_asks_2 0 rfl rfl)
theorem dX0_asks_47 : decode cX0_asks 47 = .ok (.astore 6, 2) := dk_58 6 (dk_at dksX0_asks_2 3 rfl rfl)
theorem dX0_asks_49 : decode cX0_asks 49 = .ok (.iload 5, 2) := dk_21 5 (dk_at dksX0_asks_2 5 rfl rfl)
theorem dX0_asks_51 : decode cX0_asks 51 = .ok (.aload 6, 2) := dk_25 6 (dk_at dksX0_asks_2 7 rfl rfl)
theorem dX0_asks_53 : decode cX0_asks 53 = .ok (.invokevirtual 257, 3) := dk_182 1 1 (dk_at dksX0_asks_2 9 rfl rfl)
theorem dX0_asks_56 : decode cX0_asks 56 = .ok (.imul, 1) := dk_104 (dk_at dksX0_asks_2 12 rfl rfl)
theorem dX0_asks_57 : decode cX0_asks 57 = .ok (.istore 5, 2) := dk_54 5 (dk_at dksX0_asks_2 13 rfl rfl)
theorem dX0_asks_59 : decode cX0_asks 59 = .ok (.goto (-23), 3) := dk_167 255 233 (dk_at dksX0_asks_2 15 rfl rfl)
theorem dX0_asks_62 : decode cX0_asks 62 = .ok (.iload 5, 2) := dk_21 5 (dk_at dksX0_asks_2 18 rfl rfl)
theorem dX0_asks_64 : decode cX0_asks 64 = .ok (.ireturn, 1) := dk_172 (dk_at dksX0_asks_2 20 rfl rfl)
theorem dX0_asks_65 : decode cX0_asks 65 = .ok (.astore_n 3, 1) := dk_78 (dk_at dksX0_asks_2 21 rfl rfl)
theorem dX0_asks_66 : decode cX0_asks 66 = .ok (.aload_n 0, 1) := dk_42 (dk_at dksX0_asks_2 22 rfl rfl)
theorem dX0_asks_67 : decode cX0_asks 67 = .ok (.aload_n 3, 1) := dk_45 (dk_at dksX0_asks_2 23 rfl rfl)
theorem dX0_asks_68 : decode cX0_asks 68 = .ok (.invokevirtual 117, 3) := dk_182 0 117 (dk_at dksX0_asks_3 0 rfl rfl)
theorem dX0_asks_71 : decode cX0_asks 71 = .ok (.ireturn, 1) := dk_172 (dk_at dksX0_asks_3 3 rfl rfl)
abbrev cX0_leafOf : ByteArray := prog_1_method_25_code
def yX0_leafOf : MethodName := ⟨RX0, "leafOf", "(I)LTickShare$Leaf;"⟩
def dkwX0_leafOf_1 : List UInt8 := [153, 0, 7, 4, 167, 0, 4, 3, 4, 182, 0, 87, 42, 180, 0, 49, 27, 50, 192, 0, 136, 176]
abbrev dktX0_leafOf_1 : List UInt8 := dkwX0_leafOf_1 ++ []
def dkwX0_leafOf_0 : List UInt8 := [42, 27, 155, 0, 27, 27, 42, 180, 0, 133, 162, 0, 19, 42, 180, 0, 49, 27, 50, 193, 0, 136]
abbrev dktX0_leafOf_0 : List UInt8 := dkwX0_leafOf_0 ++ dktX0_leafOf_1
theorem dksX0_leafOf_0 : cX0_leafOf.data.toList.drop 0 = dktX0_leafOf_0 := by decide +kernel
theorem dksX0_leafOf_1 : cX0_leafOf.data.toList.drop 22 = dktX0_leafOf_1 := dk_seg dksX0_leafOf_0 22 rfl rfl
theorem dX0_leafOf_0 : decode cX0_leafOf 0 = .ok (.aload_n 0, 1) := dk_42 (dk_at dksX0_leafOf_0 0 rfl rfl)
theorem dX0_leafOf_1 : decode cX0_leafOf 1 = .ok (.iload_n 1, 1) := dk_27 (dk_at dksX0_leafOf_0 1 rfl rfl)
theorem dX0_leafOf_2 : decode cX0_leafOf 2 = .ok (.ifCond .lt 27, 3) := dk_155 0 27 (dk_at dksX0_leafOf_0 2 rfl rfl)
theorem dX0_leafOf_5 : decode cX0_leafOf 5 = .ok (.iload_n 1, 1) := dk_27 (dk_at dksX0_leafOf_0 5 rfl rfl)
theorem dX0_leafOf_6 : decode cX0_leafOf 6 = .ok (.aload_n 0, 1) := dk_42 (dk_at dksX0_leafOf_0 6 rfl rfl)
theorem dX0_leafOf_7 : decode cX0_leafOf 7 = .ok (.getfield 133, 3) := dk_180 0 133 (dk_at dksX0_leafOf_0 7 rfl rfl)
theorem dX0_leafOf_10 : decode cX0_leafOf 10 = .ok (.if_icmp .ge 19, 3) := dk_162 0 19 (dk_at dksX0_leafOf_0 10 rfl rfl)
theorem dX0_leafOf_13 : decode cX0_leafOf 13 = .ok (.aload_n 0, 1) := dk_42 (dk_at dksX0_leafOf_0 13 rfl rfl)
theorem dX0_leafOf_14 : decode cX0_leafOf 14 = .ok (.getfield 49, 3) := dk_180 0 49 (dk_at dksX0_leafOf_0 14 rfl rfl)
theorem dX0_leafOf_17 : decode cX0_leafOf 17 = .ok (.iload_n 1, 1) := dk_27 (dk_at dksX0_leafOf_0 17 rfl rfl)
theorem dX0_leafOf_18 : decode cX0_leafOf 18 = .ok (.aaload, 1) := dk_50 (dk_at dksX0_leafOf_0 18 rfl rfl)
theorem dX0_leafOf_19 : decode cX0_leafOf 19 = .ok (.instanceof 136, 3) := dk_193 0 136 (dk_at dksX0_leafOf_0 19 rfl rfl)
theorem dX0_leafOf_22 : decode cX0_leafOf 22 = .ok (.ifCond .eq 7, 3) := dk_153 0 7 (dk_at dksX0_leafOf_1 0 rfl rfl)
theorem dX0_leafOf_25 : decode cX0_leafOf 25 = .ok (.iconst 1, 1) := dk_4 (dk_at dksX0_leafOf_1 3 rfl rfl)
theorem dX0_leafOf_26 : decode cX0_leafOf 26 = .ok (.goto 4, 3) := dk_167 0 4 (dk_at dksX0_leafOf_1 4 rfl rfl)
theorem dX0_leafOf_29 : decode cX0_leafOf 29 = .ok (.iconst 0, 1) := dk_3 (dk_at dksX0_leafOf_1 7 rfl rfl)
theorem dX0_leafOf_30 : decode cX0_leafOf 30 = .ok (.iconst 1, 1) := dk_4 (dk_at dksX0_leafOf_1 8 rfl rfl)
theorem dX0_leafOf_31 : decode cX0_leafOf 31 = .ok (.invokevirtual 87, 3) := dk_182 0 87 (dk_at dksX0_leafOf_1 9 rfl rfl)
theorem dX0_leafOf_34 : decode cX0_leafOf 34 = .ok (.aload_n 0, 1) := dk_42 (dk_at dksX0_leafOf_1 12 rfl rfl)
theorem dX0_leafOf_35 : decode cX0_leafOf 35 = .ok (.getfield 49, 3) := dk_180 0 49 (dk_at dksX0_leafOf_1 13 rfl rfl)
theorem dX0_leafOf_38 : decode cX0_leafOf 38 = .ok (.iload_n 1, 1) := dk_27 (dk_at dksX0_leafOf_1 16 rfl rfl)
theorem dX0_leafOf_39 : decode cX0_leafOf 39 = .ok (.aaload, 1) := dk_50 (dk_at dksX0_leafOf_1 17 rfl rfl)
theorem dX0_leafOf_40 : decode cX0_leafOf 40 = .ok (.checkcast 136, 3) := dk_192 0 136 (dk_at dksX0_leafOf_1 18 rfl rfl)
theorem dX0_leafOf_43 : decode cX0_leafOf 43 = .ok (.areturn, 1) := dk_176 (dk_at dksX0_leafOf_1 21 rfl rfl)
abbrev cX0_isIn : ByteArray := prog_1_method_47_code
def yX0_isIn : MethodName := ⟨RX0, "isIn", "(LTickShare$Thing;LTickShare$Thing;)Z"⟩
def dkwX0_isIn_1 : List UInt8 := [4, 167, 0, 4, 3, 172]
abbrev dktX0_isIn_1 : List UInt8 := dkwX0_isIn_1 ++ []
def dkwX0_isIn_0 : List UInt8 := [42, 77, 44, 198, 0, 16, 44, 43, 165, 0, 11, 44, 180, 0, 167, 77, 167, 255, 242, 44, 43, 166, 0, 7]
abbrev dktX0_isIn_0 : List UInt8 := dkwX0_isIn_0 ++ dktX0_isIn_1
theorem dksX0_isIn_0 : cX0_isIn.data.toList.drop 0 = dktX0_isIn_0 := by decide +kernel
theorem dksX0_isIn_1 : cX0_isIn.data.toList.drop 24 = dktX0_isIn_1 := dk_seg dksX0_isIn_0 24 rfl rfl
theorem dX0_isIn_0 : decode cX0_isIn 0 = .ok (.aload_n 0, 1) := dk_42 (dk_at dksX0_isIn_0 0 rfl rfl)
theorem dX0_isIn_1 : decode cX0_isIn 1 = .ok (.astore_n 2, 1) := dk_77 (dk_at dksX0_isIn_0 1 rfl rfl)
theorem dX0_isIn_2 : decode cX0_isIn 2 = .ok (.aload_n 2, 1) := dk_44 (dk_at dksX0_isIn_0 2 rfl rfl)
theorem dX0_isIn_3 : decode cX0_isIn 3 = .ok (.ifnull 16, 3) := dk_198 0 16 (dk_at dksX0_isIn_0 3 rfl rfl)
theorem dX0_isIn_6 : decode cX0_isIn 6 = .ok (.aload_n 2, 1) := dk_44 (dk_at dksX0_isIn_0 6 rfl rfl)
theorem dX0_isIn_7 : decode cX0_isIn 7 = .ok (.aload_n 1, 1) := dk_43 (dk_at dksX0_isIn_0 7 rfl rfl)
theorem dX0_isIn_8 : decode cX0_isIn 8 = .ok (.if_acmp .eq 11, 3) := dk_165 0 11 (dk_at dksX0_isIn_0 8 rfl rfl)
theorem dX0_isIn_11 : decode cX0_isIn 11 = .ok (.aload_n 2, 1) := dk_44 (dk_at dksX0_isIn_0 11 rfl rfl)
theorem dX0_isIn_12 : decode cX0_isIn 12 = .ok (.getfield 167, 3) := dk_180 0 167 (dk_at dksX0_isIn_0 12 rfl rfl)
theorem dX0_isIn_15 : decode cX0_isIn 15 = .ok (.astore_n 2, 1) := dk_77 (dk_at dksX0_isIn_0 15 rfl rfl)
theorem dX0_isIn_16 : decode cX0_isIn 16 = .ok (.goto (-14), 3) := dk_167 255 242 (dk_at dksX0_isIn_0 16 rfl rfl)
theorem dX0_isIn_19 : decode cX0_isIn 19 = .ok (.aload_n 2, 1) := dk_44 (dk_at dksX0_isIn_0 19 rfl rfl)
theorem dX0_isIn_20 : decode cX0_isIn 20 = .ok (.aload_n 1, 1) := dk_43 (dk_at dksX0_isIn_0 20 rfl rfl)
theorem dX0_isIn_21 : decode cX0_isIn 21 = .ok (.if_acmp .ne 7, 3) := dk_166 0 7 (dk_at dksX0_isIn_0 21 rfl rfl)
theorem dX0_isIn_24 : decode cX0_isIn 24 = .ok (.iconst 1, 1) := dk_4 (dk_at dksX0_isIn_1 0 rfl rfl)
theorem dX0_isIn_25 : decode cX0_isIn 25 = .ok (.goto 4, 3) := dk_167 0 4 (dk_at dksX0_isIn_1 1 rfl rfl)
theorem dX0_isIn_28 : decode cX0_isIn 28 = .ok (.iconst 0, 1) := dk_3 (dk_at dksX0_isIn_1 4 rfl rfl)
theorem dX0_isIn_29 : decode cX0_isIn 29 = .ok (.ireturn, 1) := dk_172 (dk_at dksX0_isIn_1 5 rfl rfl)
abbrev cX0_change : ByteArray := prog_1_method_49_code
def yX0_change : MethodName := ⟨RX0, "change", "(III)Z"⟩
def dkwX0_change_2 : List UInt8 := [182, 0, 152, 83, 4, 172, 58, 4, 42, 25, 4, 182, 0, 97, 172]
abbrev dktX0_change_2 : List UInt8 := dkwX0_change_2 ++ []
def dkwX0_change_1 : List UInt8 := [167, 0, 4, 3, 4, 182, 0, 87, 42, 29, 182, 0, 148, 25, 4, 180, 1, 4, 3, 42, 28, 29]
abbrev dktX0_change_1 : List UInt8 := dkwX0_change_1 ++ dktX0_change_2
def dkwX0_change_0 : List UInt8 := [42, 3, 181, 0, 63, 42, 27, 182, 0, 249, 58, 4, 42, 28, 155, 0, 12, 28, 7, 162, 0, 7, 4]
abbrev dktX0_change_0 : List UInt8 := dkwX0_change_0 ++ dktX0_change_1
theorem dksX0_change_0 : cX0_change.data.toList.drop 0 = dktX0_change_0 := by decide +kernel
theorem dksX0_change_1 : cX0_change.data.toList.drop 23 = dktX0_change_1 := dk_seg dksX0_change_0 23 rfl rfl
theorem dksX0_change_2 : cX0_change.data.toList.drop 45 = dktX0_change_2 := dk_seg dksX0_change_1 22 rfl rfl
theorem dX0_change_0 : decode cX0_change 0 = .ok (.aload_n 0, 1) := dk_42 (dk_at dksX0_change_0 0 rfl rfl)
theorem dX0_change_1 : decode cX0_change 1 = .ok (.iconst 0, 1) := dk_3 (dk_at dksX0_change_0 1 rfl rfl)
theorem dX0_change_2 : decode cX0_change 2 = .ok (.putfield 63, 3) := dk_181 0 63 (dk_at dksX0_change_0 2 rfl rfl)
theorem dX0_change_5 : decode cX0_change 5 = .ok (.aload_n 0, 1) := dk_42 (dk_at dksX0_change_0 5 rfl rfl)
theorem dX0_change_6 : decode cX0_change 6 = .ok (.iload_n 1, 1) := dk_27 (dk_at dksX0_change_0 6 rfl rfl)
theorem dX0_change_7 : decode cX0_change 7 = .ok (.invokevirtual 249, 3) := dk_182 0 249 (dk_at dksX0_change_0 7 rfl rfl)
theorem dX0_change_10 : decode cX0_change 10 = .ok (.astore 4, 2) := dk_58 4 (dk_at dksX0_change_0 10 rfl rfl)
theorem dX0_change_12 : decode cX0_change 12 = .ok (.aload_n 0, 1) := dk_42 (dk_at dksX0_change_0 12 rfl rfl)
theorem dX0_change_13 : decode cX0_change 13 = .ok (.iload_n 2, 1) := dk_28 (dk_at dksX0_change_0 13 rfl rfl)
theorem dX0_change_14 : decode cX0_change 14 = .ok (.ifCond .lt 12, 3) := dk_155 0 12 (dk_at dksX0_change_0 14 rfl rfl)
theorem dX0_change_17 : decode cX0_change 17 = .ok (.iload_n 2, 1) := dk_28 (dk_at dksX0_change_0 17 rfl rfl)
theorem dX0_change_18 : decode cX0_change 18 = .ok (.iconst 4, 1) := dk_7 (dk_at dksX0_change_0 18 rfl rfl)
theorem dX0_change_19 : decode cX0_change 19 = .ok (.if_icmp .ge 7, 3) := dk_162 0 7 (dk_at dksX0_change_0 19 rfl rfl)
theorem dX0_change_22 : decode cX0_change 22 = .ok (.iconst 1, 1) := dk_4 (dk_at dksX0_change_0 22 rfl rfl)
theorem dX0_change_23 : decode cX0_change 23 = .ok (.goto 4, 3) := dk_167 0 4 (dk_at dksX0_change_1 0 rfl rfl)
theorem dX0_change_26 : decode cX0_change 26 = .ok (.iconst 0, 1) := dk_3 (dk_at dksX0_change_1 3 rfl rfl)
theorem dX0_change_27 : decode cX0_change 27 = .ok (.iconst 1, 1) := dk_4 (dk_at dksX0_change_1 4 rfl rfl)
theorem dX0_change_28 : decode cX0_change 28 = .ok (.invokevirtual 87, 3) := dk_182 0 87 (dk_at dksX0_change_1 5 rfl rfl)
theorem dX0_change_31 : decode cX0_change 31 = .ok (.aload_n 0, 1) := dk_42 (dk_at dksX0_change_1 8 rfl rfl)
theorem dX0_change_32 : decode cX0_change 32 = .ok (.iload_n 3, 1) := dk_29 (dk_at dksX0_change_1 9 rfl rfl)
theorem dX0_change_33 : decode cX0_change 33 = .ok (.invokevirtual 148, 3) := dk_182 0 148 (dk_at dksX0_change_1 10 rfl rfl)
theorem dX0_change_36 : decode cX0_change 36 = .ok (.aload 4, 2) := dk_25 4 (dk_at dksX0_change_1 13 rfl rfl)
theorem dX0_change_38 : decode cX0_change 38 = .ok (.getfield 260, 3) := dk_180 1 4 (dk_at dksX0_change_1 15 rfl rfl)
theorem dX0_change_41 : decode cX0_change 41 = .ok (.iconst 0, 1) := dk_3 (dk_at dksX0_change_1 18 rfl rfl)
theorem dX0_change_42 : decode cX0_change 42 = .ok (.aload_n 0, 1) := dk_42 (dk_at dksX0_change_1 19 rfl rfl)
theorem dX0_change_43 : decode cX0_change 43 = .ok (.iload_n 2, 1) := dk_28 (dk_at dksX0_change_1 20 rfl rfl)
theorem dX0_change_44 : decode cX0_change 44 = .ok (.iload_n 3, 1) := dk_29 (dk_at dksX0_change_1 21 rfl rfl)
theorem dX0_change_45 : decode cX0_change 45 = .ok (.invokevirtual 152, 3) := dk_182 0 152 (dk_at dksX0_change_2 0 rfl rfl)
theorem dX0_change_48 : decode cX0_change 48 = .ok (.aastore, 1) := dk_83 (dk_at dksX0_change_2 3 rfl rfl)
theorem dX0_change_49 : decode cX0_change 49 = .ok (.iconst 1, 1) := dk_4 (dk_at dksX0_change_2 4 rfl rfl)
theorem dX0_change_50 : decode cX0_change 50 = .ok (.ireturn, 1) := dk_172 (dk_at dksX0_change_2 5 rfl rfl)
theorem dX0_change_51 : decode cX0_change 51 = .ok (.astore 4, 2) := dk_58 4 (dk_at dksX0_change_2 6 rfl rfl)
theorem dX0_change_53 : decode cX0_change 53 = .ok (.aload_n 0, 1) := dk_42 (dk_at dksX0_change_2 8 rfl rfl)
theorem dX0_change_54 : decode cX0_change 54 = .ok (.aload 4, 2) := dk_25 4 (dk_at dksX0_change_2 9 rfl rfl)
theorem dX0_change_56 : decode cX0_change 56 = .ok (.invokevirtual 97, 3) := dk_182 0 97 (dk_at dksX0_change_2 11 rfl rfl)
theorem dX0_change_59 : decode cX0_change 59 = .ok (.ireturn, 1) := dk_172 (dk_at dksX0_change_2 14 rfl rfl)
abbrev cX0_price : ByteArray := prog_1_method_50_code
def yX0_price : MethodName := ⟨RX0, "price", "(II)Z"⟩
def dkwX0_price_1 : List UInt8 := [167, 0, 4, 3, 4, 182, 0, 87, 45, 180, 1, 8, 3, 28, 79, 4, 172, 78, 42, 45, 182, 0, 97, 172]
abbrev dktX0_price_1 : List UInt8 := dkwX0_price_1 ++ []
def dkwX0_price_0 : List UInt8 := [42, 3, 181, 0, 63, 42, 27, 182, 0, 249, 78, 42, 28, 155, 0, 14, 28, 17, 39, 16, 163, 0, 7, 4]
abbrev dktX0_price_0 : List UInt8 := dkwX0_price_0 ++ dktX0_price_1
theorem dksX0_price_0 : cX0_price.data.toList.drop 0 = dktX0_price_0 := by decide +kernel
theorem dksX0_price_1 : cX0_price.data.toList.drop 24 = dktX0_price_1 := dk_seg dksX0_price_0 24 rfl rfl
theorem dX0_price_0 : decode cX0_price 0 = .ok (.aload_n 0, 1) := dk_42 (dk_at dksX0_price_0 0 rfl rfl)
theorem dX0_price_1 : decode cX0_price 1 = .ok (.iconst 0, 1) := dk_3 (dk_at dksX0_price_0 1 rfl rfl)
theorem dX0_price_2 : decode cX0_price 2 = .ok (.putfield 63, 3) := dk_181 0 63 (dk_at dksX0_price_0 2 rfl rfl)
theorem dX0_price_5 : decode cX0_price 5 = .ok (.aload_n 0, 1) := dk_42 (dk_at dksX0_price_0 5 rfl rfl)
theorem dX0_price_6 : decode cX0_price 6 = .ok (.iload_n 1, 1) := dk_27 (dk_at dksX0_price_0 6 rfl rfl)
theorem dX0_price_7 : decode cX0_price 7 = .ok (.invokevirtual 249, 3) := dk_182 0 249 (dk_at dksX0_price_0 7 rfl rfl)
theorem dX0_price_10 : decode cX0_price 10 = .ok (.astore_n 3, 1) := dk_78 (dk_at dksX0_price_0 10 rfl rfl)
theorem dX0_price_11 : decode cX0_price 11 = .ok (.aload_n 0, 1) := dk_42 (dk_at dksX0_price_0 11 rfl rfl)
theorem dX0_price_12 : decode cX0_price 12 = .ok (.iload_n 2, 1) := dk_28 (dk_at dksX0_price_0 12 rfl rfl)
theorem dX0_price_13 : decode cX0_price 13 = .ok (.ifCond .lt 14, 3) := dk_155 0 14 (dk_at dksX0_price_0 13 rfl rfl)
theorem dX0_price_16 : decode cX0_price 16 = .ok (.iload_n 2, 1) := dk_28 (dk_at dksX0_price_0 16 rfl rfl)
theorem dX0_price_17 : decode cX0_price 17 = .ok (.sipush 10000, 3) := dk_17 39 16 (dk_at dksX0_price_0 17 rfl rfl)
theorem dX0_price_20 : decode cX0_price 20 = .ok (.if_icmp .gt 7, 3) := dk_163 0 7 (dk_at dksX0_price_0 20 rfl rfl)
theorem dX0_price_23 : decode cX0_price 23 = .ok (.iconst 1, 1) := dk_4 (dk_at dksX0_price_0 23 rfl rfl)
theorem dX0_price_24 : decode cX0_price 24 = .ok (.goto 4, 3) := dk_167 0 4 (dk_at dksX0_price_1 0 rfl rfl)
theorem dX0_price_27 : decode cX0_price 27 = .ok (.iconst 0, 1) := dk_3 (dk_at dksX0_price_1 3 rfl rfl)
theorem dX0_price_28 : decode cX0_price 28 = .ok (.iconst 1, 1) := dk_4 (dk_at dksX0_price_1 4 rfl rfl)
theorem dX0_price_29 : decode cX0_price 29 = .ok (.invokevirtual 87, 3) := dk_182 0 87 (dk_at dksX0_price_1 5 rfl rfl)
theorem dX0_price_32 : decode cX0_price 32 = .ok (.aload_n 3, 1) := dk_45 (dk_at dksX0_price_1 8 rfl rfl)
theorem dX0_price_33 : decode cX0_price 33 = .ok (.getfield 264, 3) := dk_180 1 8 (dk_at dksX0_price_1 9 rfl rfl)
theorem dX0_price_36 : decode cX0_price 36 = .ok (.iconst 0, 1) := dk_3 (dk_at dksX0_price_1 12 rfl rfl)
theorem dX0_price_37 : decode cX0_price 37 = .ok (.iload_n 2, 1) := dk_28 (dk_at dksX0_price_1 13 rfl rfl)
theorem dX0_price_38 : decode cX0_price 38 = .ok (.iastore, 1) := dk_79 (dk_at dksX0_price_1 14 rfl rfl)
theorem dX0_price_39 : decode cX0_price 39 = .ok (.iconst 1, 1) := dk_4 (dk_at dksX0_price_1 15 rfl rfl)
theorem dX0_price_40 : decode cX0_price 40 = .ok (.ireturn, 1) := dk_172 (dk_at dksX0_price_1 16 rfl rfl)
theorem dX0_price_41 : decode cX0_price 41 = .ok (.astore_n 3, 1) := dk_78 (dk_at dksX0_price_1 17 rfl rfl)
theorem dX0_price_42 : decode cX0_price 42 = .ok (.aload_n 0, 1) := dk_42 (dk_at dksX0_price_1 18 rfl rfl)
theorem dX0_price_43 : decode cX0_price 43 = .ok (.aload_n 3, 1) := dk_45 (dk_at dksX0_price_1 19 rfl rfl)
theorem dX0_price_44 : decode cX0_price 44 = .ok (.invokevirtual 97, 3) := dk_182 0 97 (dk_at dksX0_price_1 20 rfl rfl)
theorem dX0_price_47 : decode cX0_price 47 = .ok (.ireturn, 1) := dk_172 (dk_at dksX0_price_1 23 rfl rfl)
abbrev cX0_grade : ByteArray := prog_1_method_52_code
def yX0_grade : MethodName := ⟨RX0, "grade", "(IIII)I"⟩
def dkwX0_grade_6 : List UInt8 := [42, 25, 5, 182, 0, 117, 172]
abbrev dktX0_grade_6 : List UInt8 := dkwX0_grade_6 ++ []
def dkwX0_grade_5 : List UInt8 := [21, 4, 79, 25, 5, 89, 180, 1, 11, 4, 96, 181, 1, 11, 25, 5, 180, 1, 11, 4, 100, 172, 58, 5]
abbrev dktX0_grade_5 : List UInt8 := dkwX0_grade_5 ++ dktX0_grade_6
def dkwX0_grade_4 : List UInt8 := [25, 5, 180, 1, 4, 25, 5, 180, 1, 11, 25, 6, 83, 25, 5, 180, 1, 8, 25, 5, 180, 1, 11]
abbrev dktX0_grade_4 : List UInt8 := dkwX0_grade_4 ++ dktX0_grade_5
def dkwX0_grade_3 : List UInt8 := [180, 1, 11, 4, 163, 0, 11, 42, 182, 1, 14, 7, 162, 0, 7, 4, 167, 0, 4, 3, 7, 182, 0, 87]
abbrev dktX0_grade_3 : List UInt8 := dkwX0_grade_3 ++ dktX0_grade_4
def dkwX0_grade_2 : List UInt8 := [182, 0, 148, 42, 28, 29, 182, 0, 152, 58, 6, 42, 25, 5, 180, 1, 11, 6, 162, 0, 24, 25, 5]
abbrev dktX0_grade_2 : List UInt8 := dkwX0_grade_2 ++ dktX0_grade_3
def dkwX0_grade_1 : List UInt8 := [155, 0, 15, 21, 4, 17, 39, 16, 163, 0, 7, 4, 167, 0, 4, 3, 4, 182, 0, 87, 42, 29]
abbrev dktX0_grade_1 : List UInt8 := dkwX0_grade_1 ++ dktX0_grade_2
def dkwX0_grade_0 : List UInt8 := [42, 3, 181, 0, 63, 42, 27, 182, 0, 249, 58, 5, 42, 28, 155, 0, 25, 28, 7, 162, 0, 20, 21, 4]
abbrev dktX0_grade_0 : List UInt8 := dkwX0_grade_0 ++ dktX0_grade_1
theorem dksX0_grade_0 : cX0_grade.data.toList.drop 0 = dktX0_grade_0 := by decide +kernel
theorem dksX0_grade_1 : cX0_grade.data.toList.drop 24 = dktX0_grade_1 := dk_seg dksX0_grade_0 24 rfl rfl
theorem dksX0_grade_2 : cX0_grade.data.toList.drop 46 = dktX0_grade_2 := dk_seg dksX0_grade_1 22 rfl rfl
theorem dksX0_grade_3 : cX0_grade.data.toList.drop 69 = dktX0_grade_3 := dk_seg dksX0_grade_2 23 rfl rfl
theorem dksX0_grade_4 : cX0_grade.data.toList.drop 93 = dktX0_grade_4 := dk_seg dksX0_grade_3 24 rfl rfl
theorem dksX0_grade_5 : cX0_grade.data.toList.drop 116 = dktX0_grade_5 := dk_seg dksX0_grade_4 23 rfl rfl
theorem dksX0_grade_6 : cX0_grade.data.toList.drop 140 = dktX0_grade_6 := dk_seg dksX0_grade_5 24 rfl rfl
theorem dX0_grade_0 : decode cX0_grade 0 = .ok (.aload_n 0, 1) := dk_42 (dk_at dksX0_grade_0 0 rfl rfl)
theorem dX0_grade_1 : decode cX0_grade 1 = .ok (.iconst 0, 1) := dk_3 (dk_at dksX0_grade_0 1 rfl rfl)
theorem dX0_grade_2 : decode cX0_grade 2 = .ok (.putfield 63, 3) := dk_181 0 63 (dk_at dksX0_grade_0 2 rfl rfl)
theorem dX0_grade_5 : decode cX0_grade 5 = .ok (.aload_n 0, 1) := dk_42 (dk_at dksX0_grade_0 5 rfl rfl)
theorem dX0_grade_6 : decode cX0_grade 6 = .ok (.iload_n 1, 1) := dk_27 (dk_at dksX0_grade_0 6 rfl rfl)
theorem dX0_grade_7 : decode cX0_grade 7 = .ok (.invokevirtual 249, 3) := dk_182 0 249 (dk_at dksX0_grade_0 7 rfl rfl)
theorem dX0_grade_10 : decode cX0_grade 10 = .ok (.astore 5, 2) := dk_58 5 (dk_at dksX0_grade_0 10 rfl rfl)
theorem dX0_grade_12 : decode cX0_grade 12 = .ok (.aload_n 0, 1) := dk_42 (dk_at dksX0_grade_0 12 rfl rfl)
theorem dX0_grade_13 : decode cX0_grade 13 = .ok (.iload_n 2, 1) := dk_28 (dk_at dksX0_grade_0 13 rfl rfl)
theorem dX0_grade_14 : decode cX0_grade 14 = .ok (.ifCond .lt 25, 3) := dk_155 0 25 (dk_at dksX0_grade_0 14 rfl rfl)
theorem dX0_grade_17 : decode cX0_grade 17 = .ok (.iload_n 2, 1) := dk_28 (dk_at dksX0_grade_0 17 rfl rfl)
theorem dX0_grade_18 : decode cX0_grade 18 = .ok (.iconst 4, 1) := dk_7 (dk_at dksX0_grade_0 18 rfl rfl)
theorem dX0_grade_19 : decode cX0_grade 19 = .ok (.if_icmp .ge 20, 3) := dk_162 0 20 (dk_at dksX0_grade_0 19 rfl rfl)
theorem dX0_grade_22 : decode cX0_grade 22 = .ok (.iload 4, 2) := dk_21 4 (dk_at dksX0_grade_0 22 rfl rfl)
theorem dX0_grade_24 : decode cX0_grade 24 = .ok (.ifCond .lt 15, 3) := dk_155 0 15 (dk_at dksX0_grade_1 0 rfl rfl)
theorem dX0_grade_27 : decode cX0_grade 27 = .ok (.iload 4, 2) := dk_21 4 (dk_at dksX0_grade_1 3 rfl rfl)
theorem dX0_grade_29 : decode cX0_grade 29 = .ok (.sipush 10000, 3) := dk_17 39 16 (dk_at dksX0_grade_1 5 rfl rfl)
theorem dX0_grade_32 : decode cX0_grade 32 = .ok (.if_icmp .gt 7, 3) := dk_163 0 7 (dk_at dksX0_grade_1 8 rfl rfl)
theorem dX0_grade_35 : decode cX0_grade 35 = .ok (.iconst 1, 1) := dk_4 (dk_at dksX0_grade_1 11 rfl rfl)
theorem dX0_grade_36 : decode cX0_grade 36 = .ok (.goto 4, 3) := dk_167 0 4 (dk_at dksX0_grade_1 12 rfl rfl)
theorem dX0_grade_39 : decode cX0_grade 39 = .ok (.iconst 0, 1) := dk_3 (dk_at dksX0_grade_1 15 rfl rfl)
theorem dX0_grade_40 : decode cX0_grade 40 = .ok (.iconst 1, 1) := dk_4 (dk_at dksX0_grade_1 16 rfl rfl)
theorem dX0_grade_41 : decode cX0_grade 41 = .ok (.invokevirtual 87, 3) := dk_182 0 87 (dk_at dksX0_grade_1 17 rfl rfl)
theorem dX0_grade_44 : decode cX0_grade 44 = .ok (.aload_n 0, 1) := dk_42 (dk_at dksX0_grade_1 20 rfl rfl)
theorem dX0_grade_45 : decode cX0_grade 45 = .ok (.iload_n 3, 1) := dk_29 (dk_at dksX0_grade_1 21 rfl rfl)
theorem dX0_grade_46 : decode cX0_grade 46 = .ok (.invokevirtual 148, 3) := dk_182 0 148 (dk_at dksX0_grade_2 0 rfl rfl)
theorem dX0_grade_49 : decode cX0_grade 49 = .ok (.aload_n 0, 1) := dk_42 (dk_at dksX0_grade_2 3 rfl rfl)
theorem dX0_grade_50 : decode cX0_grade 50 = .ok (.iload_n 2, 1) := dk_28 (dk_at dksX0_grade_2 4 rfl rfl)
theorem dX0_grade_51 : decode cX0_grade 51 = .ok (.iload_n 3, 1) := dk_29 (dk_at dksX0_grade_2 5 rfl rfl)
theorem dX0_grade_52 : decode cX0_grade 52 = .ok (.invokevirtual 152, 3) := dk_182 0 152 (dk_at dksX0_grade_2 6 rfl rfl)
theorem dX0_grade_55 : decode cX0_grade 55 = .ok (.astore 6, 2) := dk_58 6 (dk_at dksX0_grade_2 9 rfl rfl)
theorem dX0_grade_57 : decode cX0_grade 57 = .ok (.aload_n 0, 1) := dk_42 (dk_at dksX0_grade_2 11 rfl rfl)
theorem dX0_grade_58 : decode cX0_grade 58 = .ok (.aload 5, 2) := dk_25 5 (dk_at dksX0_grade_2 12 rfl rfl)
theorem dX0_grade_60 : decode cX0_grade 60 = .ok (.getfield 267, 3) := dk_180 1 11 (dk_at dksX0_grade_2 14 rfl rfl)
theorem dX0_grade_63 : decode cX0_grade 63 = .ok (.iconst 3, 1) := dk_6 (dk_at dksX0_grade_2 17 rfl rfl)
theorem dX0_grade_64 : decode cX0_grade 64 = .ok (.if_icmp .ge 24, 3) := dk_162 0 24 (dk_at dksX0_grade_2 18 rfl rfl)
theorem dX0_grade_67 : decode cX0_grade 67 = .ok (.aload 5, 2) := dk_25 5 (dk_at dksX0_grade_2 21 rfl rfl)
theorem dX0_grade_69 : decode cX0_grade 69 = .ok (.getfield 267, 3) := dk_180 1 11 (dk_at dksX0_grade_3 0 rfl rfl)
theorem dX0_grade_72 : decode cX0_grade 72 = .ok (.iconst 1, 1) := dk_4 (dk_at dksX0_grade_3 3 rfl rfl)
theorem dX0_grade_73 : decode cX0_grade 73 = .ok (.if_icmp .gt 11, 3) := dk_163 0 11 (dk_at dksX0_grade_3 4 rfl rfl)
theorem dX0_grade_76 : decode cX0_grade 76 = .ok (.aload_n 0, 1) := dk_42 (dk_at dksX0_grade_3 7 rfl rfl)
theorem dX0_grade_77 : decode cX0_grade 77 = .ok (.invokevirtual 270, 3) := dk_182 1 14 (dk_at dksX0_grade_3 8 rfl rfl)
theorem dX0_grade_80 : decode cX0_grade 80 = .ok (.iconst 4, 1) := dk_7 (dk_at dksX0_grade_3 11 rfl rfl)
theorem dX0_grade_81 : decode cX0_grade 81 = .ok (.if_icmp .ge 7, 3) := dk_162 0 7 (dk_at dksX0_grade_3 12 rfl rfl)
theorem dX0_grade_84 : decode cX0_grade 84 = .ok (.iconst 1, 1) := dk_4 (dk_at dksX0_grade_3 15 rfl rfl)
theorem dX0_grade_85 : decode cX0_grade 85 = .ok (.goto 4, 3) := dk_167 0 4 (dk_at dksX0_grade_3 16 rfl rfl)
theorem dX0_grade_88 : decode cX0_grade 88 = .ok (.iconst 0, 1) := dk_3 (dk_at dksX0_grade_3 19 rfl rfl)
theorem dX0_grade_89 : decode cX0_grade 89 = .ok (.iconst 4, 1) := dk_7 (dk_at dksX0_grade_3 20 rfl rfl)
theorem dX0_grade_90 : decode cX0_grade 90 = .ok (.invokevirtual 87, 3) := dk_182 0 87 (dk_at dksX0_grade_3 21 rfl rfl)
theorem dX0_grade_93 : decode cX0_grade 93 = .ok (.aload 5, 2) := dk_25 5 (dk_at dksX0_grade_4 0 rfl rfl)
theorem dX0_grade_95 : decode cX0_grade 95 = .ok (.getfield 260, 3) := dk_180 1 4 (dk_at dksX0_grade_4 2 rfl rfl)
theorem dX0_grade_98 : decode cX0_grade 98 = .ok (.aload 5, 2) := dk_25 5 (dk_at dksX0_grade_4 5 rfl rfl)
theorem dX0_grade_100 : decode cX0_grade 100 = .ok (.getfield 267, 3) := dk_180 1 11 (dk_at dksX0_grade_4 7 rfl rfl)
theorem dX0_grade_103 : decode cX0_grade 103 = .ok (.aload 6, 2) := dk_25 6 (dk_at dksX0_grade_4 10 rfl rfl)
theorem dX0_grade_105 : decode cX0_grade 105 = .ok (.aastore, 1) := dk_83 (dk_at dksX0_grade_4 12 rfl rfl)
theorem dX0_grade_106 : decode cX0_grade 106 = .ok (.aload 5, 2) := dk_25 5 (dk_at dksX0_grade_4 13 rfl rfl)
theorem dX0_grade_108 : decode cX0_grade 108 = .ok (.getfield 264, 3) := dk_180 1 8 (dk_at dksX0_grade_4 15 rfl rfl)
theorem dX0_grade_111 : decode cX0_grade 111 = .ok (.aload 5, 2) := dk_25 5 (dk_at dksX0_grade_4 18 rfl rfl)
theorem dX0_grade_113 : decode cX0_grade 113 = .ok (.getfield 267, 3) := dk_180 1 11 (dk_at dksX0_grade_4 20 rfl rfl)
theorem dX0_grade_116 : decode cX0_grade 116 = .ok (.iload 4, 2) := dk_21 4 (dk_at dksX0_grade_5 0 rfl rfl)
theorem dX0_grade_118 : decode cX0_grade 118 = .ok (.iastore, 1) := dk_79 (dk_at dksX0_grade_5 2 rfl rfl)
theorem dX0_grade_119 : decode cX0_grade 119 = .ok (.aload 5, 2) := dk_25 5 (dk_at dksX0_grade_5 3 rfl rfl)
theorem dX0_grade_121 : decode cX0_grade 121 = .ok (.dup, 1) := dk_89 (dk_at dksX0_grade_5 5 rfl rfl)
theorem dX0_grade_122 : decode cX0_grade 122 = .ok (.getfield 267, 3) := dk_180 1 11 (dk_at dksX0_grade_5 6 rfl rfl)
theorem dX0_grade_125 : decode cX0_grade 125 = .ok (.iconst 1, 1) := dk_4 (dk_at dksX0_grade_5 9 rfl rfl)
theorem dX0_grade_126 : decode cX0_grade 126 = .ok (.iadd, 1) := dk_96 (dk_at dksX0_grade_5 10 rfl rfl)
theorem dX0_grade_127 : decode cX0_grade 127 = .ok (.putfield 267, 3) := dk_181 1 11 (dk_at dksX0_grade_5 11 rfl rfl)
theorem dX0_grade_130 : decode cX0_grade 130 = .ok (.aload 5, 2) := dk_25 5 (dk_at dksX0_grade_5 14 rfl rfl)
theorem dX0_grade_132 : decode cX0_grade 132 = .ok (.getfield 267, 3) := dk_180 1 11 (dk_at dksX0_grade_5 16 rfl rfl)
theorem dX0_grade_135 : decode cX0_grade 135 = .ok (.iconst 1, 1) := dk_4 (dk_at dksX0_grade_5 19 rfl rfl)
theorem dX0_grade_136 : decode cX0_grade 136 = .ok (.isub, 1) := dk_100 (dk_at dksX0_grade_5 20 rfl rfl)
theorem dX0_grade_137 : decode cX0_grade 137 = .ok (.ireturn, 1) := dk_172 (dk_at dksX0_grade_5 21 rfl rfl)
theorem dX0_grade_138 : decode cX0_grade 138 = .ok (.astore 5, 2) := dk_58 5 (dk_at dksX0_grade_5 22 rfl rfl)
theorem dX0_grade_140 : decode cX0_grade 140 = .ok (.aload_n 0, 1) := dk_42 (dk_at dksX0_grade_6 0 rfl rfl)
theorem dX0_grade_141 : decode cX0_grade 141 = .ok (.aload 5, 2) := dk_25 5 (dk_at dksX0_grade_6 1 rfl rfl)
theorem dX0_grade_143 : decode cX0_grade 143 = .ok (.invokevirtual 117, 3) := dk_182 0 117 (dk_at dksX0_grade_6 3 rfl rfl)
theorem dX0_grade_146 : decode cX0_grade 146 = .ok (.ireturn, 1) := dk_172 (dk_at dksX0_grade_6 6 rfl rfl)
abbrev cX0_choosers : ByteArray := prog_1_method_51_code
def yX0_choosers : MethodName := ⟨RX0, "choosers", "()I"⟩
def dkwX0_choosers_2 : List UInt8 := [3, 96, 60, 132, 3, 1, 167, 255, 207, 27, 172]
abbrev dktX0_choosers_2 : List UInt8 := dkwX0_choosers_2 ++ []
def dkwX0_choosers_1 : List UInt8 := [193, 0, 136, 153, 0, 21, 25, 4, 192, 0, 136, 77, 44, 180, 1, 11, 4, 164, 0, 7, 4, 167, 0, 4]
abbrev dktX0_choosers_1 : List UInt8 := dkwX0_choosers_1 ++ dktX0_choosers_2
def dkwX0_choosers_0 : List UInt8 := [3, 60, 3, 62, 29, 42, 180, 0, 133, 162, 0, 47, 27, 42, 180, 0, 49, 29, 50, 58, 4, 25, 4]
abbrev dktX0_choosers_0 : List UInt8 := dkwX0_choosers_0 ++ dktX0_choosers_1
theorem dksX0_choosers_0 : cX0_choosers.data.toList.drop 0 = dktX0_choosers_0 := by decide +kernel
theorem dksX0_choosers_1 : cX0_choosers.data.toList.drop 23 = dktX0_choosers_1 := dk_seg dksX0_choosers_0 23 rfl rfl
theorem dksX0_choosers_2 : cX0_choosers.data.toList.drop 47 = dktX0_choosers_2 := dk_seg dksX0_choosers_1 24 rfl rfl
theorem dX0_choosers_0 : decode cX0_choosers 0 = .ok (.iconst 0, 1) := dk_3 (dk_at dksX0_choosers_0 0 rfl rfl)
theorem dX0_choosers_1 : decode cX0_choosers 1 = .ok (.istore_n 1, 1) := dk_60 (dk_at dksX0_choosers_0 1 rfl rfl)
theorem dX0_choosers_2 : decode cX0_choosers 2 = .ok (.iconst 0, 1) := dk_3 (dk_at dksX0_choosers_0 2 rfl rfl)
theorem dX0_choosers_3 : decode cX0_choosers 3 = .ok (.istore_n 3, 1) := dk_62 (dk_at dksX0_choosers_0 3 rfl rfl)
theorem dX0_choosers_4 : decode cX0_choosers 4 = .ok (.iload_n 3, 1) := dk_29 (dk_at dksX0_choosers_0 4 rfl rfl)
theorem dX0_choosers_5 : decode cX0_choosers 5 = .ok (.aload_n 0, 1) := dk_42 (dk_at dksX0_choosers_0 5 rfl rfl)
theorem dX0_choosers_6 : decode cX0_choosers 6 = .ok (.getfield 133, 3) := dk_180 0 133 (dk_at dksX0_choosers_0 6 rfl rfl)
theorem dX0_choosers_9 : decode cX0_choosers 9 = .ok (.if_icmp .ge 47, 3) := dk_162 0 47 (dk_at dksX0_choosers_0 9 rfl rfl)
theorem dX0_choosers_12 : decode cX0_choosers 12 = .ok (.iload_n 1, 1) := dk_27 (dk_at dksX0_choosers_0 12 rfl rfl)
theorem dX0_choosers_13 : decode cX0_choosers 13 = .ok (.aload_n 0, 1) := dk_42 (dk_at dksX0_choosers_0 13 rfl rfl)
theorem dX0_choosers_14 : decode cX0_choosers 14 = .ok (.getfield 49, 3) := dk_180 0 49 (dk_at dksX0_choosers_0 14 rfl rfl)
theorem dX0_choosers_17 : decode cX0_choosers 17 = .ok (.iload_n 3, 1) := dk_29 (dk_at dksX0_choosers_0 17 rfl rfl)
theorem dX0_choosers_18 : decode cX0_choosers 18 = .ok (.aaload, 1) := dk_50 (dk_at dksX0_choosers_0 18 rfl rfl)
theorem dX0_choosers_19 : decode cX0_choosers 19 = .ok (.astore 4, 2) := dk_58 4 (dk_at dksX0_choosers_0 19 rfl rfl)
theorem dX0_choosers_21 : decode cX0_choosers 21 = .ok (.aload 4, 2) := dk_25 4 (dk_at dksX0_choosers_0 21 rfl rfl)
theorem dX0_choosers_23 : decode cX0_choosers 23 = .ok (.instanceof 136, 3) := dk_193 0 136 (dk_at dksX0_choosers_1 0 rfl rfl)
theorem dX0_choosers_26 : decode cX0_choosers 26 = .ok (.ifCond .eq 21, 3) := dk_153 0 21 (dk_at dksX0_choosers_1 3 rfl rfl)
theorem dX0_choosers_29 : decode cX0_choosers 29 = .ok (.aload 4, 2) := dk_25 4 (dk_at dksX0_choosers_1 6 rfl rfl)
theorem dX0_choosers_31 : decode cX0_choosers 31 = .ok (.checkcast 136, 3) := dk_192 0 136 (dk_at dksX0_choosers_1 8 rfl rfl)
theorem dX0_choosers_34 : decode cX0_choosers 34 = .ok (.astore_n 2, 1) := dk_77 (dk_at dksX0_choosers_1 11 rfl rfl)
theorem dX0_choosers_35 : decode cX0_choosers 35 = .ok (.aload_n 2, 1) := dk_44 (dk_at dksX0_choosers_1 12 rfl rfl)
theorem dX0_choosers_36 : decode cX0_choosers 36 = .ok (.getfield 267, 3) := dk_180 1 11 (dk_at dksX0_choosers_1 13 rfl rfl)
theorem dX0_choosers_39 : decode cX0_choosers 39 = .ok (.iconst 1, 1) := dk_4 (dk_at dksX0_choosers_1 16 rfl rfl)
theorem dX0_choosers_40 : decode cX0_choosers 40 = .ok (.if_icmp .le 7, 3) := dk_164 0 7 (dk_at dksX0_choosers_1 17 rfl rfl)
theorem dX0_choosers_43 : decode cX0_choosers 43 = .ok (.iconst 1, 1) := dk_4 (dk_at dksX0_choosers_1 20 rfl rfl)
theorem dX0_choosers_44 : decode cX0_choosers 44 = .ok (.goto 4, 3) := dk_167 0 4 (dk_at dksX0_choosers_1 21 rfl rfl)
theorem dX0_choosers_47 : decode cX0_choosers 47 = .ok (.iconst 0, 1) := dk_3 (dk_at dksX0_choosers_2 0 rfl rfl)
theorem dX0_choosers_48 : decode cX0_choosers 48 = .ok (.iadd, 1) := dk_96 (dk_at dksX0_choosers_2 1 rfl rfl)
theorem dX0_choosers_49 : decode cX0_choosers 49 = .ok (.istore_n 1, 1) := dk_60 (dk_at dksX0_choosers_2 2 rfl rfl)
theorem dX0_choosers_50 : decode cX0_choosers 50 = .ok (.iinc 3 1, 3) := dk_132 3 1 (dk_at dksX0_choosers_2 3 rfl rfl)
theorem dX0_choosers_53 : decode cX0_choosers 53 = .ok (.goto (-49), 3) := dk_167 255 207 (dk_at dksX0_choosers_2 6 rfl rfl)
theorem dX0_choosers_56 : decode cX0_choosers 56 = .ok (.iload_n 1, 1) := dk_27 (dk_at dksX0_choosers_2 9 rfl rfl)
theorem dX0_choosers_57 : decode cX0_choosers 57 = .ok (.ireturn, 1) := dk_172 (dk_at dksX0_choosers_2 10 rfl rfl)
abbrev cX0_best : ByteArray := prog_1_method_55_code
def yX0_best : MethodName := ⟨RX0, "best", "(IIII)I"⟩
def dkwX0_best_20 : List UInt8 := [25, 17, 21, 19, 50, 58, 20, 25, 20, 3, 181, 1, 17, 132, 19, 1, 167, 255, 233, 25, 16, 191]
abbrev dktX0_best_20 : List UInt8 := dkwX0_best_20 ++ []
def dkwX0_best_19 : List UInt8 := [21, 7, 172, 58, 16, 25, 5, 58, 17, 25, 17, 190, 54, 18, 3, 54, 19, 21, 19, 21, 18, 162, 0, 22]
abbrev dktX0_best_19 : List UInt8 := dkwX0_best_19 ++ dktX0_best_20
def dkwX0_best_18 : List UInt8 := [21, 9, 162, 0, 22, 25, 8, 21, 10, 50, 58, 11, 25, 11, 3, 181, 1, 17, 132, 10, 1, 167, 255, 233]
abbrev dktX0_best_18 : List UInt8 := dkwX0_best_18 ++ dktX0_best_19
def dkwX0_best_17 : List UInt8 := [172, 58, 6, 42, 182, 0, 222, 54, 7, 25, 5, 58, 8, 25, 8, 190, 54, 9, 3, 54, 10, 21, 10]
abbrev dktX0_best_17 : List UInt8 := dkwX0_best_17 ++ dktX0_best_18
def dkwX0_best_16 : List UInt8 := [162, 0, 22, 25, 8, 21, 10, 50, 58, 11, 25, 11, 3, 181, 1, 17, 132, 10, 1, 167, 255, 233, 21, 7]
abbrev dktX0_best_16 : List UInt8 := dkwX0_best_16 ++ dktX0_best_17
def dkwX0_best_15 : List UInt8 := [42, 25, 6, 182, 0, 117, 54, 7, 25, 5, 58, 8, 25, 8, 190, 54, 9, 3, 54, 10, 21, 10, 21, 9]
abbrev dktX0_best_15 : List UInt8 := dkwX0_best_15 ++ dktX0_best_16
def dkwX0_best_14 : List UInt8 := [25, 11, 21, 13, 50, 58, 14, 25, 14, 3, 181, 1, 17, 132, 13, 1, 167, 255, 233, 21, 10, 172, 58, 6]
abbrev dktX0_best_14 : List UInt8 := dkwX0_best_14 ++ dktX0_best_15
def dkwX0_best_13 : List UInt8 := [21, 8, 54, 10, 25, 5, 58, 11, 25, 11, 190, 54, 12, 3, 54, 13, 21, 13, 21, 12, 162, 0, 22]
abbrev dktX0_best_13 : List UInt8 := dkwX0_best_13 ++ dktX0_best_14
def dkwX0_best_12 : List UInt8 := [190, 162, 0, 22, 25, 5, 21, 10, 50, 25, 7, 21, 10, 46, 181, 1, 27, 132, 10, 1, 167, 255, 232]
abbrev dktX0_best_12 : List UInt8 := dkwX0_best_12 ++ dktX0_best_13
def dkwX0_best_11 : List UInt8 := [192, 0, 136, 58, 10, 25, 10, 2, 181, 1, 27, 132, 11, 1, 167, 255, 214, 3, 54, 10, 21, 10, 25, 5]
abbrev dktX0_best_11 : List UInt8 := dkwX0_best_11 ++ dktX0_best_12
def dkwX0_best_10 : List UInt8 := [162, 0, 39, 42, 180, 0, 49, 21, 11, 50, 58, 12, 25, 12, 193, 0, 136, 153, 0, 16, 25, 12]
abbrev dktX0_best_10 : List UInt8 := dkwX0_best_10 ++ dktX0_best_11
def dkwX0_best_9 : List UInt8 := [21, 8, 155, 0, 7, 4, 167, 0, 4, 3, 16, 6, 182, 0, 87, 3, 54, 11, 21, 11, 42, 180, 0, 133]
abbrev dktX0_best_9 : List UInt8 := dkwX0_best_9 ++ dktX0_best_10
def dkwX0_best_8 : List UInt8 := [21, 12, 50, 180, 1, 17, 79, 132, 12, 1, 167, 255, 232, 25, 5, 184, 1, 23, 54, 9, 167, 255, 118, 42]
abbrev dktX0_best_8 : List UInt8 := dkwX0_best_8 ++ dktX0_best_9
def dkwX0_best_7 : List UInt8 := [153, 0, 37, 21, 11, 54, 8, 3, 54, 12, 21, 12, 25, 5, 190, 162, 0, 22, 25, 7, 21, 12, 25, 5]
abbrev dktX0_best_7 : List UInt8 := dkwX0_best_7 ++ dktX0_best_8
def dkwX0_best_6 : List UInt8 := [162, 0, 59, 25, 10, 28, 182, 0, 225, 25, 10, 180, 0, 24, 29, 133, 21, 4, 133, 184, 0, 241]
abbrev dktX0_best_6 : List UInt8 := dkwX0_best_6 ++ dktX0_best_7
def dkwX0_best_5 : List UInt8 := [25, 15, 180, 1, 17, 46, 96, 54, 11, 132, 14, 1, 167, 255, 223, 21, 8, 155, 0, 10, 21, 11, 21, 8]
abbrev dktX0_best_5 : List UInt8 := dkwX0_best_5 ++ dktX0_best_6
def dkwX0_best_4 : List UInt8 := [54, 14, 21, 14, 21, 13, 162, 0, 32, 25, 12, 21, 14, 50, 58, 15, 21, 11, 25, 15, 180, 1, 8]
abbrev dktX0_best_4 : List UInt8 := dkwX0_best_4 ++ dktX0_best_5
def dkwX0_best_3 : List UInt8 := [153, 0, 139, 25, 6, 182, 0, 216, 58, 10, 3, 54, 11, 25, 5, 58, 12, 25, 12, 190, 54, 13, 3]
abbrev dktX0_best_3 : List UInt8 := dkwX0_best_3 ++ dktX0_best_4
def dkwX0_best_2 : List UInt8 := [25, 6, 182, 1, 20, 58, 5, 25, 5, 190, 188, 10, 58, 7, 2, 54, 8, 4, 54, 9, 21, 9]
abbrev dktX0_best_2 : List UInt8 := dkwX0_best_2 ++ dktX0_best_3
def dkwX0_best_1 : List UInt8 := [16, 120, 163, 0, 16, 29, 21, 4, 184, 0, 237, 153, 0, 7, 4, 167, 0, 4, 3, 4, 182, 0, 87, 42]
abbrev dktX0_best_1 : List UInt8 := dkwX0_best_1 ++ dktX0_best_2
def dkwX0_best_0 : List UInt8 := [42, 3, 181, 0, 63, 3, 189, 0, 136, 58, 5, 42, 27, 182, 0, 163, 58, 6, 42, 28, 155, 0, 22, 28]
abbrev dktX0_best_0 : List UInt8 := dkwX0_best_0 ++ dktX0_best_1
theorem dksX0_best_0 : cX0_best.data.toList.drop 0 = dktX0_best_0 := by decide +kernel
theorem dksX0_best_1 : cX0_best.data.toList.drop 24 = dktX0_best_1 := dk_seg dksX0_best_0 24 rfl rfl
theorem dksX0_best_2 : cX0_best.data.toList.drop 48 = dktX0_best_2 := dk_seg dksX0_best_1 24 rfl rfl
theorem dksX0_best_3 : cX0_best.data.toList.drop 70 = dktX0_best_3 := dk_seg dksX0_best_2 22 rfl rfl
theorem dksX0_best_4 : cX0_best.data.toList.drop 93 = dktX0_best_4 := dk_seg dksX0_best_3 23 rfl rfl
theorem dksX0_best_5 : cX0_best.data.toList.drop 116 = dktX0_best_5 := dk_seg dksX0_best_4 23 rfl rfl
theorem dksX0_best_6 : cX0_best.data.toList.drop 140 = dktX0_best_6 := dk_seg dksX0_best_5 24 rfl rfl
theorem dksX0_best_7 : cX0_best.data.toList.drop 162 = dktX0_best_7 := dk_seg dksX0_best_6 22 rfl rfl
theorem dksX0_best_8 : cX0_best.data.toList.drop 186 = dktX0_best_8 := dk_seg dksX0_best_7 24 rfl rfl
theorem dksX0_best_9 : cX0_best.data.toList.drop 210 = dktX0_best_9 := dk_seg dksX0_best_8 24 rfl rfl
theorem dksX0_best_10 : cX0_best.data.toList.drop 234 = dktX0_best_10 := dk_seg dksX0_best_9 24 rfl rfl
theorem dksX0_best_11 : cX0_best.data.toList.drop 256 = dktX0_best_11 := dk_seg dksX0_best_10 22 rfl rfl
theorem dksX0_best_12 : cX0_best.data.toList.drop 280 = dktX0_best_12 := dk_seg dksX0_best_11 24 rfl rfl
theorem dksX0_best_13 : cX0_best.data.toList.drop 303 = dktX0_best_13 := dk_seg dksX0_best_12 23 rfl rfl
theorem dksX0_best_14 : cX0_best.data.toList.drop 326 = dktX0_best_14 := dk_seg dksX0_best_13 23 rfl rfl
theorem dksX0_best_15 : cX0_best.data.toList.drop 350 = dktX0_best_15 := dk_seg dksX0_best_14 24 rfl rfl
theorem dksX0_best_16 : cX0_best.data.toList.drop 374 = dktX0_best_16 := dk_seg dksX0_best_15 24 rfl rfl
theorem dksX0_best_17 : cX0_best.data.toList.drop 398 = dktX0_best_17 := dk_seg dksX0_best_16 24 rfl rfl
theorem dksX0_best_18 : cX0_best.data.toList.drop 421 = dktX0_best_18 := dk_seg dksX0_best_17 23 rfl rfl
theorem dksX0_best_19 : cX0_best.data.toList.drop 445 = dktX0_best_19 := dk_seg dksX0_best_18 24 rfl rfl
theorem dksX0_best_20 : cX0_best.data.toList.drop 469 = dktX0_best_20 := dk_seg dksX0_best_19 24 rfl rfl
theorem dX0_best_0 : decode cX0_best 0 = .ok (.aload_n 0, 1) := dk_42 (dk_at dksX0_best_0 0 rfl rfl)
theorem dX0_best_1 : decode cX0_best 1 = .ok (.iconst 0, 1) := dk_3 (dk_at dksX0_best_0 1 rfl rfl)
theorem dX0_best_2 : decode cX0_best 2 = .ok (.putfield 63, 3) := dk_181 0 63 (dk_at dksX0_best_0 2 rfl rfl)
theorem dX0_best_5 : decode cX0_best 5 = .ok (.iconst 0, 1) := dk_3 (dk_at dksX0_best_0 5 rfl rfl)
theorem dX0_best_6 : decode cX0_best 6 = .ok (.anewarray 136, 3) := dk_189 0 136 (dk_at dksX0_best_0 6 rfl rfl)
theorem dX0_best_9 : decode cX0_best 9 = .ok (.astore 5, 2) := dk_58 5 (dk_at dksX0_best_0 9 rfl rfl)
theorem dX0_best_11 : decode cX0_best 11 = .ok (.aload_n 0, 1) := dk_42 (dk_at dksX0_best_0 11 rfl rfl)
theorem dX0_best_12 : decode cX0_best 12 = .ok (.iload_n 1, 1) := dk_27 (dk_at dksX0_best_0 12 rfl rfl)
theorem dX0_best_13 : decode cX0_best 13 = .ok (.invokevirtual 163, 3) := dk_182 0 163 (dk_at dksX0_best_0 13 rfl rfl)
theorem dX0_best_16 : decode cX0_best 16 = .ok (.astore 6, 2) := dk_58 6 (dk_at dksX0_best_0 16 rfl rfl)
theorem dX0_best_18 : decode cX0_best 18 = .ok (.aload_n 0, 1) := dk_42 (dk_at dksX0_best_0 18 rfl rfl)
theorem dX0_best_19 : decode cX0_best 19 = .ok (.iload_n 2, 1) := dk_28 (dk_at dksX0_best_0 19 rfl rfl)
theorem dX0_best_20 : decode cX0_best 20 = .ok (.ifCond .lt 22, 3) := dk_155 0 22 (dk_at dksX0_best_0 20 rfl rfl)
theorem dX0_best_23 : decode cX0_best 23 = .ok (.iload_n 2, 1) := dk_28 (dk_at dksX0_best_0 23 rfl rfl)
theorem dX0_best_24 : decode cX0_best 24 = .ok (.bipush 120, 2) := dk_16 120 (dk_at dksX0_best_1 0 rfl rfl)
theorem dX0_best_26 : decode cX0_best 26 = .ok (.if_icmp .gt 16, 3) := dk_163 0 16 (dk_at dksX0_best_1 2 rfl rfl)
theorem dX0_best_29 : decode cX0_best 29 = .ok (.iload_n 3, 1) := dk_29 (dk_at dksX0_best_1 5 rfl rfl)
theorem dX0_best_30 : decode cX0_best 30 = .ok (.iload 4, 2) := dk_21 4 (dk_at dksX0_best_1 6 rfl rfl)
theorem dX0_best_32 : decode cX0_best 32 = .ok (.invokestatic 237, 3) := dk_184 0 237 (dk_at dksX0_best_1 8 rfl rfl)
theorem dX0_best_35 : decode cX0_best 35 = .ok (.ifCond .eq 7, 3) := dk_153 0 7 (dk_at dksX0_best_1 11 rfl rfl)
theorem dX0_best_38 : decode cX0_best 38 = .ok (.iconst 1, 1) := dk_4 (dk_at dksX0_best_1 14 rfl rfl)
theorem dX0_best_39 : decode cX0_best 39 = .ok (.goto 4, 3) := dk_167 0 4 (dk_at dksX0_best_1 15 rfl rfl)
theorem dX0_best_42 : decode cX0_best 42 = .ok (.iconst 0, 1) := dk_3 (dk_at dksX0_best_1 18 rfl rfl)
theorem dX0_best_43 : decode cX0_best 43 = .ok (.iconst 1, 1) := dk_4 (dk_at dksX0_best_1 19 rfl rfl)
theorem dX0_best_44 : decode cX0_best 44 = .ok (.invokevirtual 87, 3) := dk_182 0 87 (dk_at dksX0_best_1 20 rfl rfl)
theorem dX0_best_47 : decode cX0_best 47 = .ok (.aload_n 0, 1) := dk_42 (dk_at dksX0_best_1 23 rfl rfl)
theorem dX0_best_48 : decode cX0_best 48 = .ok (.aload 6, 2) := dk_25 6 (dk_at dksX0_best_2 0 rfl rfl)
theorem dX0_best_50 : decode cX0_best 50 = .ok (.invokevirtual 276, 3) := dk_182 1 20 (dk_at dksX0_best_2 2 rfl rfl)
theorem dX0_best_53 : decode cX0_best 53 = .ok (.astore 5, 2) := dk_58 5 (dk_at dksX0_best_2 5 rfl rfl)
theorem dX0_best_55 : decode cX0_best 55 = .ok (.aload 5, 2) := dk_25 5 (dk_at dksX0_best_2 7 rfl rfl)
theorem dX0_best_57 : decode cX0_best 57 = .ok (.arraylength, 1) := dk_190 (dk_at dksX0_best_2 9 rfl rfl)
theorem dX0_best_58 : decode cX0_best 58 = .ok (.newarray .int, 2) := dk_188_10 (dk_at dksX0_best_2 10 rfl rfl)
theorem dX0_best_60 : decode cX0_best 60 = .ok (.astore 7, 2) := dk_58 7 (dk_at dksX0_best_2 12 rfl rfl)
theorem dX0_best_62 : decode cX0_best 62 = .ok (.iconst (-1), 1) := dk_2 (dk_at dksX0_best_2 14 rfl rfl)
theorem dX0_best_63 : decode cX0_best 63 = .ok (.istore 8, 2) := dk_54 8 (dk_at dksX0_best_2 15 rfl rfl)
theorem dX0_best_65 : decode cX0_best 65 = .ok (.iconst 1, 1) := dk_4 (dk_at dksX0_best_2 17 rfl rfl)
theorem dX0_best_66 : decode cX0_best 66 = .ok (.istore 9, 2) := dk_54 9 (dk_at dksX0_best_2 18 rfl rfl)
theorem dX0_best_68 : decode cX0_best 68 = .ok (.iload 9, 2) := dk_21 9 (dk_at dksX0_best_2 20 rfl rfl)
theorem dX0_best_70 : decode cX0_best 70 = .ok (.ifCond .eq 139, 3) := dk_153 0 139 (dk_at dksX0_best_3 0 rfl rfl)
theorem dX0_best_73 : decode cX0_best 73 = .ok (.aload 6, 2) := dk_25 6 (dk_at dksX0_best_3 3 rfl rfl)
theorem dX0_best_75 : decode cX0_best 75 = .ok (.invokevirtual 216, 3) := dk_182 0 216 (dk_at dksX0_best_3 5 rfl rfl)
theorem dX0_best_78 : decode cX0_best 78 = .ok (.astore 10, 2) := dk_58 10 (dk_at dksX0_best_3 8 rfl rfl)
theorem dX0_best_80 : decode cX0_best 80 = .ok (.iconst 0, 1) := dk_3 (dk_at dksX0_best_3 10 rfl rfl)
theorem dX0_best_81 : decode cX0_best 81 = .ok (.istore 11, 2) := dk_54 11 (dk_at dksX0_best_3 11 rfl rfl)
theorem dX0_best_83 : decode cX0_best 83 = .ok (.aload 5, 2) := dk_25 5 (dk_at dksX0_best_3 13 rfl rfl)
theorem dX0_best_85 : decode cX0_best 85 = .ok (.astore 12, 2) := dk_58 12 (dk_at dksX0_best_3 15 rfl rfl)
theorem dX0_best_87 : decode cX0_best 87 = .ok (.aload 12, 2) := dk_25 12 (dk_at dksX0_best_3 17 rfl rfl)
theorem dX0_best_89 : decode cX0_best 89 = .ok (.arraylength, 1) := dk_190 (dk_at dksX0_best_3 19 rfl rfl)
theorem dX0_best_90 : decode cX0_best 90 = .ok (.istore 13, 2) := dk_54 13 (dk_at dksX0_best_3 20 rfl rfl)
theorem dX0_best_92 : decode cX0_best 92 = .ok (.iconst 0, 1) := dk_3 (dk_at dksX0_best_3 22 rfl rfl)
theorem dX0_best_93 : decode cX0_best 93 = .ok (.istore 14, 2) := dk_54 14 (dk_at dksX0_best_4 0 rfl rfl)
theorem dX0_best_95 : decode cX0_best 95 = .ok (.iload 14, 2) := dk_21 14 (dk_at dksX0_best_4 2 rfl rfl)
theorem dX0_best_97 : decode cX0_best 97 = .ok (.iload 13, 2) := dk_21 13 (dk_at dksX0_best_4 4 rfl rfl)
theorem dX0_best_99 : decode cX0_best 99 = .ok (.if_icmp .ge 32, 3) := dk_162 0 32 (dk_at dksX0_best_4 6 rfl rfl)
theorem dX0_best_102 : decode cX0_best 102 = .ok (.aload 12, 2) := dk_25 12 (dk_at dksX0_best_4 9 rfl rfl)
theorem dX0_best_104 : decode cX0_best 104 = .ok (.iload 14, 2) := dk_21 14 (dk_at dksX0_best_4 11 rfl rfl)
theorem dX0_best_106 : decode cX0_best 106 = .ok (.aaload, 1) := dk_50 (dk_at dksX0_best_4 13 rfl rfl)
theorem dX0_best_107 : decode cX0_best 107 = .ok (.astore 15, 2) := dk_58 15 (dk_at dksX0_best_4 14 rfl rfl)
theorem dX0_best_109 : decode cX0_best 109 = .ok (.iload 11, 2) := dk_21 11 (dk_at dksX0_best_4 16 rfl rfl)
theorem dX0_best_111 : decode cX0_best 111 = .ok (.aload 15, 2) := dk_25 15 (dk_at dksX0_best_4 18 rfl rfl)
theorem dX0_best_113 : decode cX0_best 113 = .ok (.getfield 264, 3) := dk_180 1 8 (dk_at dksX0_best_4 20 rfl rfl)
theorem dX0_best_116 : decode cX0_best 116 = .ok (.aload 15, 2) := dk_25 15 (dk_at dksX0_best_5 0 rfl rfl)
theorem dX0_best_118 : decode cX0_best 118 = .ok (.getfield 273, 3) := dk_180 1 17 (dk_at dksX0_best_5 2 rfl rfl)
theorem dX0_best_121 : decode cX0_best 121 = .ok (.iaload, 1) := dk_46 (dk_at dksX0_best_5 5 rfl rfl)
theorem dX0_best_122 : decode cX0_best 122 = .ok (.iadd, 1) := dk_96 (dk_at dksX0_best_5 6 rfl rfl)
theorem dX0_best_123 : decode cX0_best 123 = .ok (.istore 11, 2) := dk_54 11 (dk_at dksX0_best_5 7 rfl rfl)
theorem dX0_best_125 : decode cX0_best 125 = .ok (.iinc 14 1, 3) := dk_132 14 1 (dk_at dksX0_best_5 9 rfl rfl)
theorem dX0_best_128 : decode cX0_best 128 = .ok (.goto (-33), 3) := dk_167 255 223 (dk_at dksX0_best_5 12 rfl rfl)
theorem dX0_best_131 : decode cX0_best 131 = .ok (.iload 8, 2) := dk_21 8 (dk_at dksX0_best_5 15 rfl rfl)
theorem dX0_best_133 : decode cX0_best 133 = .ok (.ifCond .lt 10, 3) := dk_155 0 10 (dk_at dksX0_best_5 17 rfl rfl)
theorem dX0_best_136 : decode cX0_best 136 = .ok (.iload 11, 2) := dk_21 11 (dk_at dksX0_best_5 20 rfl rfl)
theorem dX0_best_138 : decode cX0_best 138 = .ok (.iload 8, 2) := dk_21 8 (dk_at dksX0_best_5 22 rfl rfl)
theorem dX0_best_140 : decode cX0_best 140 = .ok (.if_icmp .ge 59, 3) := dk_162 0 59 (dk_at dksX0_best_6 0 rfl rfl)
theorem dX0_best_143 : decode cX0_best 143 = .ok (.aload 10, 2) := dk_25 10 (dk_at dksX0_best_6 3 rfl rfl)
theorem dX0_best_145 : decode cX0_best 145 = .ok (.iload_n 2, 1) := dk_28 (dk_at dksX0_best_6 5 rfl rfl)
theorem dX0_best_146 : decode cX0_best 146 = .ok (.invokevirtual 225, 3) := dk_182 0 225 (dk_at dksX0_best_6 6 rfl rfl)
theorem dX0_best_149 : decode cX0_best 149 = .ok (.aload 10, 2) := dk_25 10 (dk_at dksX0_best_6 9 rfl rfl)
theorem dX0_best_151 : decode cX0_best 151 = .ok (.getfield 24, 3) := dk_180 0 24 (dk_at dksX0_best_6 11 rfl rfl)
theorem dX0_best_154 : decode cX0_best 154 = .ok (.iload_n 3, 1) := dk_29 (dk_at dksX0_best_6 14 rfl rfl)
theorem dX0_best_155 : decode cX0_best 155 = .ok (.i2l, 1) := dk_133 (dk_at dksX0_best_6 15 rfl rfl)
theorem dX0_best_156 : decode cX0_best 156 = .ok (.iload 4, 2) := dk_21 4 (dk_at dksX0_best_6 16 rfl rfl)
theorem dX0_best_158 : decode cX0_best 158 = .ok (.i2l, 1) := dk_133 (dk_at dksX0_best_6 18 rfl rfl)
theorem dX0_best_159 : decode cX0_best 159 = .ok (.invokestatic 241, 3) := dk_184 0 241 (dk_at dksX0_best_6 19 rfl rfl)
theorem dX0_best_162 : decode cX0_best 162 = .ok (.ifCond .eq 37, 3) := dk_153 0 37 (dk_at dksX0_best_7 0 rfl rfl)
theorem dX0_best_165 : decode cX0_best 165 = .ok (.iload 11, 2) := dk_21 11 (dk_at dksX0_best_7 3 rfl rfl)
theorem dX0_best_167 : decode cX0_best 167 = .ok (.istore 8, 2) := dk_54 8 (dk_at dksX0_best_7 5 rfl rfl)
theorem dX0_best_169 : decode cX0_best 169 = .ok (.iconst 0, 1) := dk_3 (dk_at dksX0_best_7 7 rfl rfl)
theorem dX0_best_170 : decode cX0_best 170 = .ok (.istore 12, 2) := dk_54 12 (dk_at dksX0_best_7 8 rfl rfl)
theorem dX0_best_172 : decode cX0_best 172 = .ok (.iload 12, 2) := dk_21 12 (dk_at dksX0_best_7 10 rfl rfl)
theorem dX0_best_174 : decode cX0_best 174 = .ok (.aload 5, 2) := dk_25 5 (dk_at dksX0_best_7 12 rfl rfl)
theorem dX0_best_176 : decode cX0_best 176 = .ok (.arraylength, 1) := dk_190 (dk_at dksX0_best_7 14 rfl rfl)
theorem dX0_best_177 : decode cX0_best 177 = .ok (.if_icmp .ge 22, 3) := dk_162 0 22 (dk_at dksX0_best_7 15 rfl rfl)
theorem dX0_best_180 : decode cX0_best 180 = .ok (.aload 7, 2) := dk_25 7 (dk_at dksX0_best_7 18 rfl rfl)
theorem dX0_best_182 : decode cX0_best 182 = .ok (.iload 12, 2) := dk_21 12 (dk_at dksX0_best_7 20 rfl rfl)
theorem dX0_best_184 : decode cX0_best 184 = .ok (.aload 5, 2) := dk_25 5 (dk_at dksX0_best_7 22 rfl rfl)
theorem dX0_best_186 : decode cX0_best 186 = .ok (.iload 12, 2) := dk_21 12 (dk_at dksX0_best_8 0 rfl rfl)
theorem dX0_best_188 : decode cX0_best 188 = .ok (.aaload, 1) := dk_50 (dk_at dksX0_best_8 2 rfl rfl)
theorem dX0_best_189 : decode cX0_best 189 = .ok (.getfield 273, 3) := dk_180 1 17 (dk_at dksX0_best_8 3 rfl rfl)
theorem dX0_best_192 : decode cX0_best 192 = .ok (.iastore, 1) := dk_79 (dk_at dksX0_best_8 6 rfl rfl)
theorem dX0_best_193 : decode cX0_best 193 = .ok (.iinc 12 1, 3) := dk_132 12 1 (dk_at dksX0_best_8 7 rfl rfl)
theorem dX0_best_196 : decode cX0_best 196 = .ok (.goto (-24), 3) := dk_167 255 232 (dk_at dksX0_best_8 10 rfl rfl)
theorem dX0_best_199 : decode cX0_best 199 = .ok (.aload 5, 2) := dk_25 5 (dk_at dksX0_best_8 13 rfl rfl)
theorem dX0_best_201 : decode cX0_best 201 = .ok (.invokestatic 279, 3) := dk_184 1 23 (dk_at dksX0_best_8 15 rfl rfl)
theorem dX0_best_204 : decode cX0_best 204 = .ok (.istore 9, 2) := dk_54 9 (dk_at dksX0_best_8 18 rfl rfl)
theorem dX0_best_206 : decode cX0_best 206 = .ok (.goto (-138), 3) := dk_167 255 118 (dk_at dksX0_best_8 20 rfl rfl)
theorem dX0_best_209 : decode cX0_best 209 = .ok (.aload_n 0, 1) := dk_42 (dk_at dksX0_best_8 23 rfl rfl)
theorem dX0_best_210 : decode cX0_best 210 = .ok (.iload 8, 2) := dk_21 8 (dk_at dksX0_best_9 0 rfl rfl)
theorem dX0_best_212 : decode cX0_best 212 = .ok (.ifCond .lt 7, 3) := dk_155 0 7 (dk_at dksX0_best_9 2 rfl rfl)
theorem dX0_best_215 : decode cX0_best 215 = .ok (.iconst 1, 1) := dk_4 (dk_at dksX0_best_9 5 rfl rfl)
theorem dX0_best_216 : decode cX0_best 216 = .ok (.goto 4, 3) := dk_167 0 4 (dk_at dksX0_best_9 6 rfl rfl)
theorem dX0_best_219 : decode cX0_best 219 = .ok (.iconst 0, 1) := dk_3 (dk_at dksX0_best_9 9 rfl rfl)
theorem dX0_best_220 : decode cX0_best 220 = .ok (.bipush 6, 2) := dk_16 6 (dk_at dksX0_best_9 10 rfl rfl)
theorem dX0_best_222 : decode cX0_best 222 = .ok (.invokevirtual 87, 3) := dk_182 0 87 (dk_at dksX0_best_9 12 rfl rfl)
theorem dX0_best_225 : decode cX0_best 225 = .ok (.iconst 0, 1) := dk_3 (dk_at dksX0_best_9 15 rfl rfl)
theorem dX0_best_226 : decode cX0_best 226 = .ok (.istore 11, 2) := dk_54 11 (dk_at dksX0_best_9 16 rfl rfl)
theorem dX0_best_228 : decode cX0_best 228 = .ok (.iload 11, 2) := dk_21 11 (dk_at dksX0_best_9 18 rfl rfl)
theorem dX0_best_230 : decode cX0_best 230 = .ok (.aload_n 0, 1) := dk_42 (dk_at dksX0_best_9 20 rfl rfl)
theorem dX0_best_231 : decode cX0_best 231 = .ok (.getfield 133, 3) := dk_180 0 133 (dk_at dksX0_best_9 21 rfl rfl)
theorem dX0_best_234 : decode cX0_best 234 = .ok (.if_icmp .ge 39, 3) := dk_162 0 39 (dk_at dksX0_best_10 0 rfl rfl)
theorem dX0_best_237 : decode cX0_best 237 = .ok (.aload_n 0, 1) := dk_42 (dk_at dksX0_best_10 3 rfl rfl)
theorem dX0_best_238 : decode cX0_best 238 = .ok (.getfield 49, 3) := dk_180 0 49 (dk_at dksX0_best_10 4 rfl rfl)
theorem dX0_best_241 : decode cX0_best 241 = .ok (.iload 11, 2) := dk_21 11 (dk_at dksX0_best_10 7 rfl rfl)
theorem dX0_best_243 : decode cX0_best 243 = .ok (.aaload, 1) := dk_50 (dk_at dksX0_best_10 9 rfl rfl)
theorem dX0_best_244 : decode cX0_best 244 = .ok (.astore 12, 2) := dk_58 12 (dk_at dksX0_best_10 10 rfl rfl)
theorem dX0_best_246 : decode cX0_best 246 = .ok (.aload 12, 2) := dk_25 12 (dk_at dksX0_best_10 12 rfl rfl)
theorem dX0_best_248 : decode cX0_best 248 = .ok (.instanceof 136, 3) := dk_193 0 136 (dk_at dksX0_best_10 14 rfl rfl)
theorem dX0_best_251 : decode cX0_best 251 = .ok (.ifCond .eq 16, 3) := dk_153 0 16 (dk_at dksX0_best_10 17 rfl rfl)
theorem dX0_best_254 : decode cX0_best 254 = .ok (.aload 12, 2) := dk_25 12 (dk_at dksX0_best_10 20 rfl rfl)
theorem dX0_best_256 : decode cX0_best 256 = .ok (.checkcast 136, 3) := dk_192 0 136 (dk_at dksX0_best_11 0 rfl rfl)
theorem dX0_best_259 : decode cX0_best 259 = .ok (.astore 10, 2) := dk_58 10 (dk_at dksX0_best_11 3 rfl rfl)
theorem dX0_best_261 : decode cX0_best 261 = .ok (.aload 10, 2) := dk_25 10 (dk_at dksX0_best_11 5 rfl rfl)
theorem dX0_best_263 : decode cX0_best 263 = .ok (.iconst (-1), 1) := dk_2 (dk_at dksX0_best_11 7 rfl rfl)
theorem dX0_best_264 : decode cX0_best 264 = .ok (.putfield 283, 3) := dk_181 1 27 (dk_at dksX0_best_11 8 rfl rfl)
theorem dX0_best_267 : decode cX0_best 267 = .ok (.iinc 11 1, 3) := dk_132 11 1 (dk_at dksX0_best_11 11 rfl rfl)
theorem dX0_best_270 : decode cX0_best 270 = .ok (.goto (-42), 3) := dk_167 255 214 (dk_at dksX0_best_11 14 rfl rfl)
theorem dX0_best_273 : decode cX0_best 273 = .ok (.iconst 0, 1) := dk_3 (dk_at dksX0_best_11 17 rfl rfl)
theorem dX0_best_274 : decode cX0_best 274 = .ok (.istore 10, 2) := dk_54 10 (dk_at dksX0_best_11 18 rfl rfl)
theorem dX0_best_276 : decode cX0_best 276 = .ok (.iload 10, 2) := dk_21 10 (dk_at dksX0_best_11 20 rfl rfl)
theorem dX0_best_278 : decode cX0_best 278 = .ok (.aload 5, 2) := dk_25 5 (dk_at dksX0_best_11 22 rfl rfl)
theorem dX0_best_280 : decode cX0_best 280 = .ok (.arraylength, 1) := dk_190 (dk_at dksX0_best_12 0 rfl rfl)
theorem dX0_best_281 : decode cX0_best 281 = .ok (.if_icmp .ge 22, 3) := dk_162 0 22 (dk_at dksX0_best_12 1 rfl rfl)
theorem dX0_best_284 : decode cX0_best 284 = .ok (.aload 5, 2) := dk_25 5 (dk_at dksX0_best_12 4 rfl rfl)
theorem dX0_best_286 : decode cX0_best 286 = .ok (.iload 10, 2) := dk_21 10 (dk_at dksX0_best_12 6 rfl rfl)
theorem dX0_best_288 : decode cX0_best 288 = .ok (.aaload, 1) := dk_50 (dk_at dksX0_best_12 8 rfl rfl)
theorem dX0_best_289 : decode cX0_best 289 = .ok (.aload 7, 2) := dk_25 7 (dk_at dksX0_best_12 9 rfl rfl)
theorem dX0_best_291 : decode cX0_best 291 = .ok (.iload 10, 2) := dk_21 10 (dk_at dksX0_best_12 11 rfl rfl)
theorem dX0_best_293 : decode cX0_best 293 = .ok (.iaload, 1) := dk_46 (dk_at dksX0_best_12 13 rfl rfl)
theorem dX0_best_294 : decode cX0_best 294 = .ok (.putfield 283, 3) := dk_181 1 27 (dk_at dksX0_best_12 14 rfl rfl)
theorem dX0_best_297 : decode cX0_best 297 = .ok (.iinc 10 1, 3) := dk_132 10 1 (dk_at dksX0_best_12 17 rfl rfl)
theorem dX0_best_300 : decode cX0_best 300 = .ok (.goto (-24), 3) := dk_167 255 232 (dk_at dksX0_best_12 20 rfl rfl)
theorem dX0_best_303 : decode cX0_best 303 = .ok (.iload 8, 2) := dk_21 8 (dk_at dksX0_best_13 0 rfl rfl)
theorem dX0_best_305 : decode cX0_best 305 = .ok (.istore 10, 2) := dk_54 10 (dk_at dksX0_best_13 2 rfl rfl)
theorem dX0_best_307 : decode cX0_best 307 = .ok (.aload 5, 2) := dk_25 5 (dk_at dksX0_best_13 4 rfl rfl)
theorem dX0_best_309 : decode cX0_best 309 = .ok (.astore 11, 2) := dk_58 11 (dk_at dksX0_best_13 6 rfl rfl)
theorem dX0_best_311 : decode cX0_best 311 = .ok (.aload 11, 2) := dk_25 11 (dk_at dksX0_best_13 8 rfl rfl)
theorem dX0_best_313 : decode cX0_best 313 = .ok (.arraylength, 1) := dk_190 (dk_at dksX0_best_13 10 rfl rfl)
theorem dX0_best_314 : decode cX0_best 314 = .ok (.istore 12, 2) := dk_54 12 (dk_at dksX0_best_13 11 rfl rfl)
theorem dX0_best_316 : decode cX0_best 316 = .ok (.iconst 0, 1) := dk_3 (dk_at dksX0_best_13 13 rfl rfl)
theorem dX0_best_317 : decode cX0_best 317 = .ok (.istore 13, 2) := dk_54 13 (dk_at dksX0_best_13 14 rfl rfl)
theorem dX0_best_319 : decode cX0_best 319 = .ok (.iload 13, 2) := dk_21 13 (dk_at dksX0_best_13 16 rfl rfl)
theorem dX0_best_321 : decode cX0_best 321 = .ok (.iload 12, 2) := dk_21 12 (dk_at dksX0_best_13 18 rfl rfl)
theorem dX0_best_323 : decode cX0_best 323 = .ok (.if_icmp .ge 22, 3) := dk_162 0 22 (dk_at dksX0_best_13 20 rfl rfl)
theorem dX0_best_326 : decode cX0_best 326 = .ok (.aload 11, 2) := dk_25 11 (dk_at dksX0_best_14 0 rfl rfl)
theorem dX0_best_328 : decode cX0_best 328 = .ok (.iload 13, 2) := dk_21 13 (dk_at dksX0_best_14 2 rfl rfl)
theorem dX0_best_330 : decode cX0_best 330 = .ok (.aaload, 1) := dk_50 (dk_at dksX0_best_14 4 rfl rfl)
theorem dX0_best_331 : decode cX0_best 331 = .ok (.astore 14, 2) := dk_58 14 (dk_at dksX0_best_14 5 rfl rfl)
theorem dX0_best_333 : decode cX0_best 333 = .ok (.aload 14, 2) := dk_25 14 (dk_at dksX0_best_14 7 rfl rfl)
theorem dX0_best_335 : decode cX0_best 335 = .ok (.iconst 0, 1) := dk_3 (dk_at dksX0_best_14 9 rfl rfl)
theorem dX0_best_336 : decode cX0_best 336 = .ok (.putfield 273, 3) := dk_181 1 17 (dk_at dksX0_best_14 10 rfl rfl)
theorem dX0_best_339 : decode cX0_best 339 = .ok (.iinc 13 1, 3) := dk_132 13 1 (dk_at dksX0_best_14 13 rfl rfl)
theorem dX0_best_342 : decode cX0_best 342 = .ok (.goto (-23), 3) := dk_167 255 233 (dk_at dksX0_best_14 16 rfl rfl)
theorem dX0_best_345 : decode cX0_best 345 = .ok (.iload 10, 2) := dk_21 10 (dk_at dksX0_best_14 19 rfl rfl)
theorem dX0_best_347 : decode cX0_best 347 = .ok (.ireturn, 1) := dk_172 (dk_at dksX0_best_14 21 rfl rfl)
theorem dX0_best_348 : decode cX0_best 348 = .ok (.astore 6, 2) := dk_58 6 (dk_at dksX0_best_14 22 rfl rfl)
theorem dX0_best_350 : decode cX0_best 350 = .ok (.aload_n 0, 1) := dk_42 (dk_at dksX0_best_15 0 rfl rfl)
theorem dX0_best_351 : decode cX0_best 351 = .ok (.aload 6, 2) := dk_25 6 (dk_at dksX0_best_15 1 rfl rfl)
theorem dX0_best_353 : decode cX0_best 353 = .ok (.invokevirtual 117, 3) := dk_182 0 117 (dk_at dksX0_best_15 3 rfl rfl)
theorem dX0_best_356 : decode cX0_best 356 = .ok (.istore 7, 2) := dk_54 7 (dk_at dksX0_best_15 6 rfl rfl)
theorem dX0_best_358 : decode cX0_best 358 = .ok (.aload 5, 2) := dk_25 5 (dk_at dksX0_best_15 8 rfl rfl)
theorem dX0_best_360 : decode cX0_best 360 = .ok (.astore 8, 2) := dk_58 8 (dk_at dksX0_best_15 10 rfl rfl)
theorem dX0_best_362 : decode cX0_best 362 = .ok (.aload 8, 2) := dk_25 8 (dk_at dksX0_best_15 12 rfl rfl)
theorem dX0_best_364 : decode cX0_best 364 = .ok (.arraylength, 1) := dk_190 (dk_at dksX0_best_15 14 rfl rfl)
theorem dX0_best_365 : decode cX0_best 365 = .ok (.istore 9, 2) := dk_54 9 (dk_at dksX0_best_15 15 rfl rfl)
theorem dX0_best_367 : decode cX0_best 367 = .ok (.iconst 0, 1) := dk_3 (dk_at dksX0_best_15 17 rfl rfl)
theorem dX0_best_368 : decode cX0_best 368 = .ok (.istore 10, 2) := dk_54 10 (dk_at dksX0_best_15 18 rfl rfl)
theorem dX0_best_370 : decode cX0_best 370 = .ok (.iload 10, 2) := dk_21 10 (dk_at dksX0_best_15 20 rfl rfl)
theorem dX0_best_372 : decode cX0_best 372 = .ok (.iload 9, 2) := dk_21 9 (dk_at dksX0_best_15 22 rfl rfl)
theorem dX0_best_374 : decode cX0_best 374 = .ok (.if_icmp .ge 22, 3) := dk_162 0 22 (dk_at dksX0_best_16 0 rfl rfl)
theorem dX0_best_377 : decode cX0_best 377 = .ok (.aload 8, 2) := dk_25 8 (dk_at dksX0_best_16 3 rfl rfl)
theorem dX0_best_379 : decode cX0_best 379 = .ok (.iload 10, 2) := dk_21 10 (dk_at dksX0_best_16 5 rfl rfl)
theorem dX0_best_381 : decode cX0_best 381 = .ok (.aaload, 1) := dk_50 (dk_at dksX0_best_16 7 rfl rfl)
theorem dX0_best_382 : decode cX0_best 382 = .ok (.astore 11, 2) := dk_58 11 (dk_at dksX0_best_16 8 rfl rfl)
theorem dX0_best_384 : decode cX0_best 384 = .ok (.aload 11, 2) := dk_25 11 (dk_at dksX0_best_16 10 rfl rfl)
theorem dX0_best_386 : decode cX0_best 386 = .ok (.iconst 0, 1) := dk_3 (dk_at dksX0_best_16 12 rfl rfl)
theorem dX0_best_387 : decode cX0_best 387 = .ok (.putfield 273, 3) := dk_181 1 17 (dk_at dksX0_best_16 13 rfl rfl)
theorem dX0_best_390 : decode cX0_best 390 = .ok (.iinc 10 1, 3) := dk_132 10 1 (dk_at dksX0_best_16 16 rfl rfl)
theorem dX0_best_393 : decode cX0_best 393 = .ok (.goto (-23), 3) := dk_167 255 233 (dk_at dksX0_best_16 19 rfl rfl)
theorem dX0_best_396 : decode cX0_best 396 = .ok (.iload 7, 2) := dk_21 7 (dk_at dksX0_best_16 22 rfl rfl)
theorem dX0_best_398 : decode cX0_best 398 = .ok (.ireturn, 1) := dk_172 (dk_at dksX0_best_17 0 rfl rfl)
theorem dX0_best_399 : decode cX0_best 399 = .ok (.astore 6, 2) := dk_58 6 (dk_at dksX0_best_17 1 rfl rfl)
theorem dX0_best_401 : decode cX0_best 401 = .ok (.aload_n 0, 1) := dk_42 (dk_at dksX0_best_17 3 rfl rfl)
theorem dX0_best_402 : decode cX0_best 402 = .ok (.invokevirtual 222, 3) := dk_182 0 222 (dk_at dksX0_best_17 4 rfl rfl)
theorem dX0_best_405 : decode cX0_best 405 = .ok (.istore 7, 2) := dk_54 7 (dk_at dksX0_best_17 7 rfl rfl)
theorem dX0_best_407 : decode cX0_best 407 = .ok (.aload 5, 2) := dk_25 5 (dk_at dksX0_best_17 9 rfl rfl)
theorem dX0_best_409 : decode cX0_best 409 = .ok (.astore 8, 2) := dk_58 8 (dk_at dksX0_best_17 11 rfl rfl)
theorem dX0_best_411 : decode cX0_best 411 = .ok (.aload 8, 2) := dk_25 8 (dk_at dksX0_best_17 13 rfl rfl)
theorem dX0_best_413 : decode cX0_best 413 = .ok (.arraylength, 1) := dk_190 (dk_at dksX0_best_17 15 rfl rfl)
theorem dX0_best_414 : decode cX0_best 414 = .ok (.istore 9, 2) := dk_54 9 (dk_at dksX0_best_17 16 rfl rfl)
theorem dX0_best_416 : decode cX0_best 416 = .ok (.iconst 0, 1) := dk_3 (dk_at dksX0_best_17 18 rfl rfl)
theorem dX0_best_417 : decode cX0_best 417 = .ok (.istore 10, 2) := dk_54 10 (dk_at dksX0_best_17 19 rfl rfl)
theorem dX0_best_419 : decode cX0_best 419 = .ok (.iload 10, 2) := dk_21 10 (dk_at dksX0_best_17 21 rfl rfl)
theorem dX0_best_421 : decode cX0_best 421 = .ok (.iload 9, 2) := dk_21 9 (dk_at dksX0_best_18 0 rfl rfl)
theorem dX0_best_423 : decode cX0_best 423 = .ok (.if_icmp .ge 22, 3) := dk_162 0 22 (dk_at dksX0_best_18 2 rfl rfl)
theorem dX0_best_426 : decode cX0_best 426 = .ok (.aload 8, 2) := dk_25 8 (dk_at dksX0_best_18 5 rfl rfl)
theorem dX0_best_428 : decode cX0_best 428 = .ok (.iload 10, 2) := dk_21 10 (dk_at dksX0_best_18 7 rfl rfl)
theorem dX0_best_430 : decode cX0_best 430 = .ok (.aaload, 1) := dk_50 (dk_at dksX0_best_18 9 rfl rfl)
theorem dX0_best_431 : decode cX0_best 431 = .ok (.astore 11, 2) := dk_58 11 (dk_at dksX0_best_18 10 rfl rfl)
theorem dX0_best_433 : decode cX0_best 433 = .ok (.aload 11, 2) := dk_25 11 (dk_at dksX0_best_18 12 rfl rfl)
theorem dX0_best_435 : decode cX0_best 435 = .ok (.iconst 0, 1) := dk_3 (dk_at dksX0_best_18 14 rfl rfl)
theorem dX0_best_436 : decode cX0_best 436 = .ok (.putfield 273, 3) := dk_181 1 17 (dk_at dksX0_best_18 15 rfl rfl)
theorem dX0_best_439 : decode cX0_best 439 = .ok (.iinc 10 1, 3) := dk_132 10 1 (dk_at dksX0_best_18 18 rfl rfl)
theorem dX0_best_442 : decode cX0_best 442 = .ok (.goto (-23), 3) := dk_167 255 233 (dk_at dksX0_best_18 21 rfl rfl)
theorem dX0_best_445 : decode cX0_best 445 = .ok (.iload 7, 2) := dk_21 7 (dk_at dksX0_best_19 0 rfl rfl)
theorem dX0_best_447 : decode cX0_best 447 = .ok (.ireturn, 1) := dk_172 (dk_at dksX0_best_19 2 rfl rfl)
theorem dX0_best_448 : decode cX0_best 448 = .ok (.astore 16, 2) := dk_58 16 (dk_at dksX0_best_19 3 rfl rfl)
theorem dX0_best_450 : decode cX0_best 450 = .ok (.aload 5, 2) := dk_25 5 (dk_at dksX0_best_19 5 rfl rfl)
theorem dX0_best_452 : decode cX0_best 452 = .ok (.astore 17, 2) := dk_58 17 (dk_at dksX0_best_19 7 rfl rfl)
theorem dX0_best_454 : decode cX0_best 454 = .ok (.aload 17, 2) := dk_25 17 (dk_at dksX0_best_19 9 rfl rfl)
theorem dX0_best_456 : decode cX0_best 456 = .ok (.arraylength, 1) := dk_190 (dk_at dksX0_best_19 11 rfl rfl)
theorem dX0_best_457 : decode cX0_best 457 = .ok (.istore 18, 2) := dk_54 18 (dk_at dksX0_best_19 12 rfl rfl)
theorem dX0_best_459 : decode cX0_best 459 = .ok (.iconst 0, 1) := dk_3 (dk_at dksX0_best_19 14 rfl rfl)
theorem dX0_best_460 : decode cX0_best 460 = .ok (.istore 19, 2) := dk_54 19 (dk_at dksX0_best_19 15 rfl rfl)
theorem dX0_best_462 : decode cX0_best 462 = .ok (.iload 19, 2) := dk_21 19 (dk_at dksX0_best_19 17 rfl rfl)
theorem dX0_best_464 : decode cX0_best 464 = .ok (.iload 18, 2) := dk_21 18 (dk_at dksX0_best_19 19 rfl rfl)
theorem dX0_best_466 : decode cX0_best 466 = .ok (.if_icmp .ge 22, 3) := dk_162 0 22 (dk_at dksX0_best_19 21 rfl rfl)
theorem dX0_best_469 : decode cX0_best 469 = .ok (.aload 17, 2) := dk_25 17 (dk_at dksX0_best_20 0 rfl rfl)
theorem dX0_best_471 : decode cX0_best 471 = .ok (.iload 19, 2) := dk_21 19 (dk_at dksX0_best_20 2 rfl rfl)
theorem dX0_best_473 : decode cX0_best 473 = .ok (.aaload, 1) := dk_50 (dk_at dksX0_best_20 4 rfl rfl)
theorem dX0_best_474 : decode cX0_best 474 = .ok (.astore 20, 2) := dk_58 20 (dk_at dksX0_best_20 5 rfl rfl)
theorem dX0_best_476 : decode cX0_best 476 = .ok (.aload 20, 2) := dk_25 20 (dk_at dksX0_best_20 7 rfl rfl)
theorem dX0_best_478 : decode cX0_best 478 = .ok (.iconst 0, 1) := dk_3 (dk_at dksX0_best_20 9 rfl rfl)
theorem dX0_best_479 : decode cX0_best 479 = .ok (.putfield 273, 3) := dk_181 1 17 (dk_at dksX0_best_20 10 rfl rfl)
theorem dX0_best_482 : decode cX0_best 482 = .ok (.iinc 19 1, 3) := dk_132 19 1 (dk_at dksX0_best_20 13 rfl rfl)
theorem dX0_best_485 : decode cX0_best 485 = .ok (.goto (-23), 3) := dk_167 255 233 (dk_at dksX0_best_20 16 rfl rfl)
theorem dX0_best_488 : decode cX0_best 488 = .ok (.aload 16, 2) := dk_25 16 (dk_at dksX0_best_20 19 rfl rfl)
theorem dX0_best_490 : decode cX0_best 490 = .ok (.athrow, 1) := dk_191 (dk_at dksX0_best_20 21 rfl rfl)
abbrev cX0_leaves : ByteArray := prog_1_method_53_code
def yX0_leaves : MethodName := ⟨RX0, "leaves", "(LTickShare$Thing;)[LTickShare$Leaf;"⟩
def dkwX0_leaves_3 : List UInt8 := [167, 255, 200, 44, 176]
abbrev dktX0_leaves_3 : List UInt8 := dkwX0_leaves_3 ++ []
def dkwX0_leaves_2 : List UInt8 := [25, 5, 43, 184, 0, 253, 154, 0, 6, 167, 0, 11, 44, 29, 25, 5, 83, 132, 3, 1, 132, 4, 1]
abbrev dktX0_leaves_2 : List UInt8 := dkwX0_leaves_2 ++ dktX0_leaves_3
def dkwX0_leaves_1 : List UInt8 := [180, 0, 49, 21, 4, 50, 58, 6, 25, 6, 193, 0, 136, 153, 0, 30, 25, 6, 192, 0, 136, 58, 5]
abbrev dktX0_leaves_1 : List UInt8 := dkwX0_leaves_1 ++ dktX0_leaves_2
def dkwX0_leaves_0 : List UInt8 := [43, 182, 0, 213, 189, 0, 136, 77, 3, 62, 3, 54, 4, 21, 4, 42, 180, 0, 133, 162, 0, 53, 42]
abbrev dktX0_leaves_0 : List UInt8 := dkwX0_leaves_0 ++ dktX0_leaves_1
theorem dksX0_leaves_0 : cX0_leaves.data.toList.drop 0 = dktX0_leaves_0 := by decide +kernel
theorem dksX0_leaves_1 : cX0_leaves.data.toList.drop 23 = dktX0_leaves_1 := dk_seg dksX0_leaves_0 23 rfl rfl
theorem dksX0_leaves_2 : cX0_leaves.data.toList.drop 46 = dktX0_leaves_2 := dk_seg dksX0_leaves_1 23 rfl rfl
theorem dksX0_leaves_3 : cX0_leaves.data.toList.drop 69 = dktX0_leaves_3 := dk_seg dksX0_leaves_2 23 rfl rfl
theorem dX0_leaves_0 : decode cX0_leaves 0 = .ok (.aload_n 1, 1) := dk_43 (dk_at dksX0_leaves_0 0 rfl rfl)
theorem dX0_leaves_1 : decode cX0_leaves 1 = .ok (.invokevirtual 213, 3) := dk_182 0 213 (dk_at dksX0_leaves_0 1 rfl rfl)
theorem dX0_leaves_4 : decode cX0_leaves 4 = .ok (.anewarray 136, 3) := dk_189 0 136 (dk_at dksX0_leaves_0 4 rfl rfl)
theorem dX0_leaves_7 : decode cX0_leaves 7 = .ok (.astore_n 2, 1) := dk_77 (dk_at dksX0_leaves_0 7 rfl rfl)
theorem dX0_leaves_8 : decode cX0_leaves 8 = .ok (.iconst 0, 1) := dk_3 (dk_at dksX0_leaves_0 8 rfl rfl)
theorem dX0_leaves_9 : decode cX0_leaves 9 = .ok (.istore_n 3, 1) := dk_62 (dk_at dksX0_leaves_0 9 rfl rfl)
theorem dX0_leaves_10 : decode cX0_leaves 10 = .ok (.iconst 0, 1) := dk_3 (dk_at dksX0_leaves_0 10 rfl rfl)
theorem dX0_leaves_11 : decode cX0_leaves 11 = .ok (.istore 4, 2) := dk_54 4 (dk_at dksX0_leaves_0 11 rfl rfl)
theorem dX0_leaves_13 : decode cX0_leaves 13 = .ok (.iload 4, 2) := dk_21 4 (dk_at dksX0_leaves_0 13 rfl rfl)
theorem dX0_leaves_15 : decode cX0_leaves 15 = .ok (.aload_n 0, 1) := dk_42 (dk_at dksX0_leaves_0 15 rfl rfl)
theorem dX0_leaves_16 : decode cX0_leaves 16 = .ok (.getfield 133, 3) := dk_180 0 133 (dk_at dksX0_leaves_0 16 rfl rfl)
theorem dX0_leaves_19 : decode cX0_leaves 19 = .ok (.if_icmp .ge 53, 3) := dk_162 0 53 (dk_at dksX0_leaves_0 19 rfl rfl)
theorem dX0_leaves_22 : decode cX0_leaves 22 = .ok (.aload_n 0, 1) := dk_42 (dk_at dksX0_leaves_0 22 rfl rfl)
theorem dX0_leaves_23 : decode cX0_leaves 23 = .ok (.getfield 49, 3) := dk_180 0 49 (dk_at dksX0_leaves_1 0 rfl rfl)
theorem dX0_leaves_26 : decode cX0_leaves 26 = .ok (.iload 4, 2) := dk_21 4 (dk_at dksX0_leaves_1 3 rfl rfl)
theorem dX0_leaves_28 : decode cX0_leaves 28 = .ok (.aaload, 1) := dk_50 (dk_at dksX0_leaves_1 5 rfl rfl)
theorem dX0_leaves_29 : decode cX0_leaves 29 = .ok (.astore 6, 2) := dk_58 6 (dk_at dksX0_leaves_1 6 rfl rfl)
theorem dX0_leaves_31 : decode cX0_leaves 31 = .ok (.aload 6, 2) := dk_25 6 (dk_at dksX0_leaves_1 8 rfl rfl)
theorem dX0_leaves_33 : decode cX0_leaves 33 = .ok (.instanceof 136, 3) := dk_193 0 136 (dk_at dksX0_leaves_1 10 rfl rfl)
theorem dX0_leaves_36 : decode cX0_leaves 36 = .ok (.ifCond .eq 30, 3) := dk_153 0 30 (dk_at dksX0_leaves_1 13 rfl rfl)
theorem dX0_leaves_39 : decode cX0_leaves 39 = .ok (.aload 6, 2) := dk_25 6 (dk_at dksX0_leaves_1 16 rfl rfl)
theorem dX0_leaves_41 : decode cX0_leaves 41 = .ok (.checkcast 136, 3) := dk_192 0 136 (dk_at dksX0_leaves_1 18 rfl rfl)
theorem dX0_leaves_44 : decode cX0_leaves 44 = .ok (.astore 5, 2) := dk_58 5 (dk_at dksX0_leaves_1 21 rfl rfl)
theorem dX0_leaves_46 : decode cX0_leaves 46 = .ok (.aload 5, 2) := dk_25 5 (dk_at dksX0_leaves_2 0 rfl rfl)
theorem dX0_leaves_48 : decode cX0_leaves 48 = .ok (.aload_n 1, 1) := dk_43 (dk_at dksX0_leaves_2 2 rfl rfl)
theorem dX0_leaves_49 : decode cX0_leaves 49 = .ok (.invokestatic 253, 3) := dk_184 0 253 (dk_at dksX0_leaves_2 3 rfl rfl)
theorem dX0_leaves_52 : decode cX0_leaves 52 = .ok (.ifCond .ne 6, 3) := dk_154 0 6 (dk_at dksX0_leaves_2 6 rfl rfl)
theorem dX0_leaves_55 : decode cX0_leaves 55 = .ok (.goto 11, 3) := dk_167 0 11 (dk_at dksX0_leaves_2 9 rfl rfl)
theorem dX0_leaves_58 : decode cX0_leaves 58 = .ok (.aload_n 2, 1) := dk_44 (dk_at dksX0_leaves_2 12 rfl rfl)
theorem dX0_leaves_59 : decode cX0_leaves 59 = .ok (.iload_n 3, 1) := dk_29 (dk_at dksX0_leaves_2 13 rfl rfl)
theorem dX0_leaves_60 : decode cX0_leaves 60 = .ok (.aload 5, 2) := dk_25 5 (dk_at dksX0_leaves_2 14 rfl rfl)
theorem dX0_leaves_62 : decode cX0_leaves 62 = .ok (.aastore, 1) := dk_83 (dk_at dksX0_leaves_2 16 rfl rfl)
theorem dX0_leaves_63 : decode cX0_leaves 63 = .ok (.iinc 3 1, 3) := dk_132 3 1 (dk_at dksX0_leaves_2 17 rfl rfl)
theorem dX0_leaves_66 : decode cX0_leaves 66 = .ok (.iinc 4 1, 3) := dk_132 4 1 (dk_at dksX0_leaves_2 20 rfl rfl)
theorem dX0_leaves_69 : decode cX0_leaves 69 = .ok (.goto (-56), 3) := dk_167 255 200 (dk_at dksX0_leaves_3 0 rfl rfl)
theorem dX0_leaves_72 : decode cX0_leaves 72 = .ok (.aload_n 2, 1) := dk_44 (dk_at dksX0_leaves_3 3 rfl rfl)
theorem dX0_leaves_73 : decode cX0_leaves 73 = .ok (.areturn, 1) := dk_176 (dk_at dksX0_leaves_3 4 rfl rfl)
abbrev cX0_next : ByteArray := prog_1_method_54_code
def yX0_next : MethodName := ⟨RX0, "next", "([LTickShare$Leaf;)Z"⟩
def dkwX0_next_2 : List UInt8 := [167, 255, 213, 3, 172]
abbrev dktX0_next_2 : List UInt8 := dkwX0_next_2 ++ []
def dkwX0_next_1 : List UInt8 := [180, 1, 17, 42, 27, 50, 180, 1, 11, 162, 0, 5, 4, 172, 42, 27, 50, 3, 181, 1, 17, 132, 1, 255]
abbrev dktX0_next_1 : List UInt8 := dkwX0_next_1 ++ dktX0_next_2
def dkwX0_next_0 : List UInt8 := [42, 190, 4, 100, 60, 27, 155, 0, 45, 42, 27, 50, 89, 180, 1, 17, 4, 96, 181, 1, 17, 42, 27, 50]
abbrev dktX0_next_0 : List UInt8 := dkwX0_next_0 ++ dktX0_next_1
theorem dksX0_next_0 : cX0_next.data.toList.drop 0 = dktX0_next_0 := by decide +kernel
theorem dksX0_next_1 : cX0_next.data.toList.drop 24 = dktX0_next_1 := dk_seg dksX0_next_0 24 rfl rfl
theorem dksX0_next_2 : cX0_next.data.toList.drop 48 = dktX0_next_2 := dk_seg dksX0_next_1 24 rfl rfl
theorem dX0_next_0 : decode cX0_next 0 = .ok (.aload_n 0, 1) := dk_42 (dk_at dksX0_next_0 0 rfl rfl)
theorem dX0_next_1 : decode cX0_next 1 = .ok (.arraylength, 1) := dk_190 (dk_at dksX0_next_0 1 rfl rfl)
theorem dX0_next_2 : decode cX0_next 2 = .ok (.iconst 1, 1) := dk_4 (dk_at dksX0_next_0 2 rfl rfl)
theorem dX0_next_3 : decode cX0_next 3 = .ok (.isub, 1) := dk_100 (dk_at dksX0_next_0 3 rfl rfl)
theorem dX0_next_4 : decode cX0_next 4 = .ok (.istore_n 1, 1) := dk_60 (dk_at dksX0_next_0 4 rfl rfl)
theorem dX0_next_5 : decode cX0_next 5 = .ok (.iload_n 1, 1) := dk_27 (dk_at dksX0_next_0 5 rfl rfl)
theorem dX0_next_6 : decode cX0_next 6 = .ok (.ifCond .lt 45, 3) := dk_155 0 45 (dk_at dksX0_next_0 6 rfl rfl)
theorem dX0_next_9 : decode cX0_next 9 = .ok (.aload_n 0, 1) := dk_42 (dk_at dksX0_next_0 9 rfl rfl)
theorem dX0_next_10 : decode cX0_next 10 = .ok (.iload_n 1, 1) := dk_27 (dk_at dksX0_next_0 10 rfl rfl)
theorem dX0_next_11 : decode cX0_next 11 = .ok (.aaload, 1) := dk_50 (dk_at dksX0_next_0 11 rfl rfl)
theorem dX0_next_12 : decode cX0_next 12 = .ok (.dup, 1) := dk_89 (dk_at dksX0_next_0 12 rfl rfl)
theorem dX0_next_13 : decode cX0_next 13 = .ok (.getfield 273, 3) := dk_180 1 17 (dk_at dksX0_next_0 13 rfl rfl)
theorem dX0_next_16 : decode cX0_next 16 = .ok (.iconst 1, 1) := dk_4 (dk_at dksX0_next_0 16 rfl rfl)
theorem dX0_next_17 : decode cX0_next 17 = .ok (.iadd, 1) := dk_96 (dk_at dksX0_next_0 17 rfl rfl)
theorem dX0_next_18 : decode cX0_next 18 = .ok (.putfield 273, 3) := dk_181 1 17 (dk_at dksX0_next_0 18 rfl rfl)
theorem dX0_next_21 : decode cX0_next 21 = .ok (.aload_n 0, 1) := dk_42 (dk_at dksX0_next_0 21 rfl rfl)
theorem dX0_next_22 : decode cX0_next 22 = .ok (.iload_n 1, 1) := dk_27 (dk_at dksX0_next_0 22 rfl rfl)
theorem dX0_next_23 : decode cX0_next 23 = .ok (.aaload, 1) := dk_50 (dk_at dksX0_next_0 23 rfl rfl)
theorem dX0_next_24 : decode cX0_next 24 = .ok (.getfield 273, 3) := dk_180 1 17 (dk_at dksX0_next_1 0 rfl rfl)
theorem dX0_next_27 : decode cX0_next 27 = .ok (.aload_n 0, 1) := dk_42 (dk_at dksX0_next_1 3 rfl rfl)
theorem dX0_next_28 : decode cX0_next 28 = .ok (.iload_n 1, 1) := dk_27 (dk_at dksX0_next_1 4 rfl rfl)
theorem dX0_next_29 : decode cX0_next 29 = .ok (.aaload, 1) := dk_50 (dk_at dksX0_next_1 5 rfl rfl)
theorem dX0_next_30 : decode cX0_next 30 = .ok (.getfield 267, 3) := dk_180 1 11 (dk_at dksX0_next_1 6 rfl rfl)
theorem dX0_next_33 : decode cX0_next 33 = .ok (.if_icmp .ge 5, 3) := dk_162 0 5 (dk_at dksX0_next_1 9 rfl rfl)
theorem dX0_next_36 : decode cX0_next 36 = .ok (.iconst 1, 1) := dk_4 (dk_at dksX0_next_1 12 rfl rfl)
theorem dX0_next_37 : decode cX0_next 37 = .ok (.ireturn, 1) := dk_172 (dk_at dksX0_next_1 13 rfl rfl)
theorem dX0_next_38 : decode cX0_next 38 = .ok (.aload_n 0, 1) := dk_42 (dk_at dksX0_next_1 14 rfl rfl)
theorem dX0_next_39 : decode cX0_next 39 = .ok (.iload_n 1, 1) := dk_27 (dk_at dksX0_next_1 15 rfl rfl)
theorem dX0_next_40 : decode cX0_next 40 = .ok (.aaload, 1) := dk_50 (dk_at dksX0_next_1 16 rfl rfl)
theorem dX0_next_41 : decode cX0_next 41 = .ok (.iconst 0, 1) := dk_3 (dk_at dksX0_next_1 17 rfl rfl)
theorem dX0_next_42 : decode cX0_next 42 = .ok (.putfield 273, 3) := dk_181 1 17 (dk_at dksX0_next_1 18 rfl rfl)
theorem dX0_next_45 : decode cX0_next 45 = .ok (.iinc 1 (-1), 3) := dk_132 1 255 (dk_at dksX0_next_1 21 rfl rfl)
theorem dX0_next_48 : decode cX0_next 48 = .ok (.goto (-43), 3) := dk_167 255 213 (dk_at dksX0_next_2 0 rfl rfl)
theorem dX0_next_51 : decode cX0_next 51 = .ok (.iconst 0, 1) := dk_3 (dk_at dksX0_next_2 3 rfl rfl)
theorem dX0_next_52 : decode cX0_next 52 = .ok (.ireturn, 1) := dk_172 (dk_at dksX0_next_2 4 rfl rfl)
abbrev cX0_chosen : ByteArray := prog_1_method_56_code
def yX0_chosen : MethodName := ⟨RX0, "chosen", "(I)I"⟩
def dkwX0_chosen_1 : List UInt8 := [16, 6, 182, 0, 87, 44, 180, 1, 27, 172, 77, 42, 44, 182, 0, 117, 172]
abbrev dktX0_chosen_1 : List UInt8 := dkwX0_chosen_1 ++ []
def dkwX0_chosen_0 : List UInt8 := [42, 3, 181, 0, 63, 42, 27, 182, 0, 249, 77, 42, 44, 180, 1, 27, 155, 0, 7, 4, 167, 0, 4, 3]
abbrev dktX0_chosen_0 : List UInt8 := dkwX0_chosen_0 ++ dktX0_chosen_1
theorem dksX0_chosen_0 : cX0_chosen.data.toList.drop 0 = dktX0_chosen_0 := by decide +kernel
theorem dksX0_chosen_1 : cX0_chosen.data.toList.drop 24 = dktX0_chosen_1 := dk_seg dksX0_chosen_0 24 rfl rfl
theorem dX0_chosen_0 : decode cX0_chosen 0 = .ok (.aload_n 0, 1) := dk_42 (dk_at dksX0_chosen_0 0 rfl rfl)
theorem dX0_chosen_1 : decode cX0_chosen 1 = .ok (.iconst 0, 1) := dk_3 (dk_at dksX0_chosen_0 1 rfl rfl)
theorem dX0_chosen_2 : decode cX0_chosen 2 = .ok (.putfield 63, 3) := dk_181 0 63 (dk_at dksX0_chosen_0 2 rfl rfl)
theorem dX0_chosen_5 : decode cX0_chosen 5 = .ok (.aload_n 0, 1) := dk_42 (dk_at dksX0_chosen_0 5 rfl rfl)
theorem dX0_chosen_6 : decode cX0_chosen 6 = .ok (.iload_n 1, 1) := dk_27 (dk_at dksX0_chosen_0 6 rfl rfl)
theorem dX0_chosen_7 : decode cX0_chosen 7 = .ok (.invokevirtual 249, 3) := dk_182 0 249 (dk_at dksX0_chosen_0 7 rfl rfl)
theorem dX0_chosen_10 : decode cX0_chosen 10 = .ok (.astore_n 2, 1) := dk_77 (dk_at dksX0_chosen_0 10 rfl rfl)
theorem dX0_chosen_11 : decode cX0_chosen 11 = .ok (.aload_n 0, 1) := dk_42 (dk_at dksX0_chosen_0 11 rfl rfl)
theorem dX0_chosen_12 : decode cX0_chosen 12 = .ok (.aload_n 2, 1) := dk_44 (dk_at dksX0_chosen_0 12 rfl rfl)
theorem dX0_chosen_13 : decode cX0_chosen 13 = .ok (.getfield 283, 3) := dk_180 1 27 (dk_at dksX0_chosen_0 13 rfl rfl)
theorem dX0_chosen_16 : decode cX0_chosen 16 = .ok (.ifCond .lt 7, 3) := dk_155 0 7 (dk_at dksX0_chosen_0 16 rfl rfl)
theorem dX0_chosen_19 : decode cX0_chosen 19 = .ok (.iconst 1, 1) := dk_4 (dk_at dksX0_chosen_0 19 rfl rfl)
theorem dX0_chosen_20 : decode cX0_chosen 20 = .ok (.goto 4, 3) := dk_167 0 4 (dk_at dksX0_chosen_0 20 rfl rfl)
theorem dX0_chosen_23 : decode cX0_chosen 23 = .ok (.iconst 0, 1) := dk_3 (dk_at dksX0_chosen_0 23 rfl rfl)
theorem dX0_chosen_24 : decode cX0_chosen 24 = .ok (.bipush 6, 2) := dk_16 6 (dk_at dksX0_chosen_1 0 rfl rfl)
theorem dX0_chosen_26 : decode cX0_chosen 26 = .ok (.invokevirtual 87, 3) := dk_182 0 87 (dk_at dksX0_chosen_1 2 rfl rfl)
theorem dX0_chosen_29 : decode cX0_chosen 29 = .ok (.aload_n 2, 1) := dk_44 (dk_at dksX0_chosen_1 5 rfl rfl)
theorem dX0_chosen_30 : decode cX0_chosen 30 = .ok (.getfield 283, 3) := dk_180 1 27 (dk_at dksX0_chosen_1 6 rfl rfl)
theorem dX0_chosen_33 : decode cX0_chosen 33 = .ok (.ireturn, 1) := dk_172 (dk_at dksX0_chosen_1 9 rfl rfl)
theorem dX0_chosen_34 : decode cX0_chosen 34 = .ok (.astore_n 2, 1) := dk_77 (dk_at dksX0_chosen_1 10 rfl rfl)
theorem dX0_chosen_35 : decode cX0_chosen 35 = .ok (.aload_n 0, 1) := dk_42 (dk_at dksX0_chosen_1 11 rfl rfl)
theorem dX0_chosen_36 : decode cX0_chosen 36 = .ok (.aload_n 2, 1) := dk_44 (dk_at dksX0_chosen_1 12 rfl rfl)
theorem dX0_chosen_37 : decode cX0_chosen 37 = .ok (.invokevirtual 117, 3) := dk_182 0 117 (dk_at dksX0_chosen_1 13 rfl rfl)
theorem dX0_chosen_40 : decode cX0_chosen 40 = .ok (.ireturn, 1) := dk_172 (dk_at dksX0_chosen_1 16 rfl rfl)
abbrev cX0_part : ByteArray := prog_1_method_57_code
def yX0_part : MethodName := ⟨RX0, "part", "(II)Z"⟩
def dkwX0_part_1 : List UInt8 := [167, 0, 4, 3, 4, 182, 0, 87, 45, 28, 181, 1, 30, 4, 172, 78, 42, 45, 182, 0, 97, 172]
abbrev dktX0_part_1 : List UInt8 := dkwX0_part_1 ++ []
def dkwX0_part_0 : List UInt8 := [42, 3, 181, 0, 63, 42, 27, 182, 0, 249, 78, 42, 28, 2, 161, 0, 13, 28, 16, 120, 163, 0, 7, 4]
abbrev dktX0_part_0 : List UInt8 := dkwX0_part_0 ++ dktX0_part_1
theorem dksX0_part_0 : cX0_part.data.toList.drop 0 = dktX0_part_0 := by decide +kernel
theorem dksX0_part_1 : cX0_part.data.toList.drop 24 = dktX0_part_1 := dk_seg dksX0_part_0 24 rfl rfl
theorem dX0_part_0 : decode cX0_part 0 = .ok (.aload_n 0, 1) := dk_42 (dk_at dksX0_part_0 0 rfl rfl)
theorem dX0_part_1 : decode cX0_part 1 = .ok (.iconst 0, 1) := dk_3 (dk_at dksX0_part_0 1 rfl rfl)
theorem dX0_part_2 : decode cX0_part 2 = .ok (.putfield 63, 3) := dk_181 0 63 (dk_at dksX0_part_0 2 rfl rfl)
theorem dX0_part_5 : decode cX0_part 5 = .ok (.aload_n 0, 1) := dk_42 (dk_at dksX0_part_0 5 rfl rfl)
theorem dX0_part_6 : decode cX0_part 6 = .ok (.iload_n 1, 1) := dk_27 (dk_at dksX0_part_0 6 rfl rfl)
theorem dX0_part_7 : decode cX0_part 7 = .ok (.invokevirtual 249, 3) := dk_182 0 249 (dk_at dksX0_part_0 7 rfl rfl)
theorem dX0_part_10 : decode cX0_part 10 = .ok (.astore_n 3, 1) := dk_78 (dk_at dksX0_part_0 10 rfl rfl)
theorem dX0_part_11 : decode cX0_part 11 = .ok (.aload_n 0, 1) := dk_42 (dk_at dksX0_part_0 11 rfl rfl)
theorem dX0_part_12 : decode cX0_part 12 = .ok (.iload_n 2, 1) := dk_28 (dk_at dksX0_part_0 12 rfl rfl)
theorem dX0_part_13 : decode cX0_part 13 = .ok (.iconst (-1), 1) := dk_2 (dk_at dksX0_part_0 13 rfl rfl)
theorem dX0_part_14 : decode cX0_part 14 = .ok (.if_icmp .lt 13, 3) := dk_161 0 13 (dk_at dksX0_part_0 14 rfl rfl)
theorem dX0_part_17 : decode cX0_part 17 = .ok (.iload_n 2, 1) := dk_28 (dk_at dksX0_part_0 17 rfl rfl)
theorem dX0_part_18 : decode cX0_part 18 = .ok (.bipush 120, 2) := dk_16 120 (dk_at dksX0_part_0 18 rfl rfl)
theorem dX0_part_20 : decode cX0_part 20 = .ok (.if_icmp .gt 7, 3) := dk_163 0 7 (dk_at dksX0_part_0 20 rfl rfl)
theorem dX0_part_23 : decode cX0_part 23 = .ok (.iconst 1, 1) := dk_4 (dk_at dksX0_part_0 23 rfl rfl)
theorem dX0_part_24 : decode cX0_part 24 = .ok (.goto 4, 3) := dk_167 0 4 (dk_at dksX0_part_1 0 rfl rfl)
theorem dX0_part_27 : decode cX0_part 27 = .ok (.iconst 0, 1) := dk_3 (dk_at dksX0_part_1 3 rfl rfl)
theorem dX0_part_28 : decode cX0_part 28 = .ok (.iconst 1, 1) := dk_4 (dk_at dksX0_part_1 4 rfl rfl)
theorem dX0_part_29 : decode cX0_part 29 = .ok (.invokevirtual 87, 3) := dk_182 0 87 (dk_at dksX0_part_1 5 rfl rfl)
theorem dX0_part_32 : decode cX0_part 32 = .ok (.aload_n 3, 1) := dk_45 (dk_at dksX0_part_1 8 rfl rfl)
theorem dX0_part_33 : decode cX0_part 33 = .ok (.iload_n 2, 1) := dk_28 (dk_at dksX0_part_1 9 rfl rfl)
theorem dX0_part_34 : decode cX0_part 34 = .ok (.putfield 286, 3) := dk_181 1 30 (dk_at dksX0_part_1 10 rfl rfl)
theorem dX0_part_37 : decode cX0_part 37 = .ok (.iconst 1, 1) := dk_4 (dk_at dksX0_part_1 13 rfl rfl)
theorem dX0_part_38 : decode cX0_part 38 = .ok (.ireturn, 1) := dk_172 (dk_at dksX0_part_1 14 rfl rfl)
theorem dX0_part_39 : decode cX0_part 39 = .ok (.astore_n 3, 1) := dk_78 (dk_at dksX0_part_1 15 rfl rfl)
theorem dX0_part_40 : decode cX0_part 40 = .ok (.aload_n 0, 1) := dk_42 (dk_at dksX0_part_1 16 rfl rfl)
theorem dX0_part_41 : decode cX0_part 41 = .ok (.aload_n 3, 1) := dk_45 (dk_at dksX0_part_1 17 rfl rfl)
theorem dX0_part_42 : decode cX0_part 42 = .ok (.invokevirtual 97, 3) := dk_182 0 97 (dk_at dksX0_part_1 18 rfl rfl)
theorem dX0_part_45 : decode cX0_part 45 = .ok (.ireturn, 1) := dk_172 (dk_at dksX0_part_1 21 rfl rfl)
abbrev cX0_trace : ByteArray := prog_1_method_58_code
def yX0_trace : MethodName := ⟨RX0, "trace", "(II)I"⟩
def dkwX0_trace_9 : List UInt8 := [167, 255, 203, 4, 172, 78, 42, 45, 182, 0, 117, 172]
abbrev dktX0_trace_9 : List UInt8 := dkwX0_trace_9 ++ []
def dkwX0_trace_8 : List UInt8 := [50, 180, 1, 30, 184, 1, 33, 133, 148, 158, 0, 7, 4, 167, 0, 4, 3, 96, 181, 1, 43, 132, 8, 1]
abbrev dktX0_trace_8 : List UInt8 := dkwX0_trace_8 ++ dktX0_trace_9
def dkwX0_trace_7 : List UInt8 := [162, 0, 51, 25, 5, 21, 8, 50, 89, 180, 1, 43, 25, 4, 21, 8, 184, 0, 111, 3, 25, 5, 21, 8]
abbrev dktX0_trace_7 : List UInt8 := dkwX0_trace_7 ++ dktX0_trace_8
def dkwX0_trace_6 : List UInt8 := [148, 157, 0, 5, 3, 172, 45, 89, 180, 1, 40, 4, 96, 181, 1, 40, 3, 54, 8, 21, 8, 25, 5, 190]
abbrev dktX0_trace_6 : List UInt8 := dkwX0_trace_6 ++ dktX0_trace_7
def dkwX0_trace_5 : List UInt8 := [133, 101, 97, 55, 6, 132, 8, 1, 167, 255, 183, 45, 89, 180, 1, 37, 4, 96, 181, 1, 37, 22, 6, 9]
abbrev dktX0_trace_5 : List UInt8 := dkwX0_trace_5 ++ dktX0_trace_6
def dkwX0_trace_4 : List UInt8 := [182, 0, 87, 22, 6, 25, 4, 21, 8, 184, 0, 111, 3, 25, 5, 21, 8, 50, 180, 1, 30, 184, 1, 33]
abbrev dktX0_trace_4 : List UInt8 := dkwX0_trace_4 ++ dktX0_trace_5
def dkwX0_trace_3 : List UInt8 := [155, 0, 21, 25, 4, 21, 8, 184, 0, 111, 20, 0, 142, 148, 157, 0, 7, 4, 167, 0, 4, 3, 4]
abbrev dktX0_trace_3 : List UInt8 := dkwX0_trace_3 ++ dktX0_trace_4
def dkwX0_trace_2 : List UInt8 := [55, 6, 3, 54, 8, 21, 8, 25, 5, 190, 162, 0, 71, 42, 25, 4, 21, 8, 184, 0, 111, 9, 148]
abbrev dktX0_trace_2 : List UInt8 := dkwX0_trace_2 ++ dktX0_trace_3
def dkwX0_trace_1 : List UInt8 := [58, 5, 42, 25, 5, 190, 25, 4, 184, 0, 138, 163, 0, 7, 4, 167, 0, 4, 3, 6, 182, 0, 87, 9]
abbrev dktX0_trace_1 : List UInt8 := dkwX0_trace_1 ++ dktX0_trace_2
def dkwX0_trace_0 : List UInt8 := [42, 3, 181, 0, 63, 42, 27, 182, 0, 163, 78, 42, 28, 182, 0, 101, 58, 4, 42, 45, 182, 1, 20]
abbrev dktX0_trace_0 : List UInt8 := dkwX0_trace_0 ++ dktX0_trace_1
theorem dksX0_trace_0 : cX0_trace.data.toList.drop 0 = dktX0_trace_0 := by decide +kernel
theorem dksX0_trace_1 : cX0_trace.data.toList.drop 23 = dktX0_trace_1 := dk_seg dksX0_trace_0 23 rfl rfl
theorem dksX0_trace_2 : cX0_trace.data.toList.drop 47 = dktX0_trace_2 := dk_seg dksX0_trace_1 24 rfl rfl
theorem dksX0_trace_3 : cX0_trace.data.toList.drop 70 = dktX0_trace_3 := dk_seg dksX0_trace_2 23 rfl rfl
theorem dksX0_trace_4 : cX0_trace.data.toList.drop 93 = dktX0_trace_4 := dk_seg dksX0_trace_3 23 rfl rfl
theorem dksX0_trace_5 : cX0_trace.data.toList.drop 117 = dktX0_trace_5 := dk_seg dksX0_trace_4 24 rfl rfl
theorem dksX0_trace_6 : cX0_trace.data.toList.drop 141 = dktX0_trace_6 := dk_seg dksX0_trace_5 24 rfl rfl
theorem dksX0_trace_7 : cX0_trace.data.toList.drop 165 = dktX0_trace_7 := dk_seg dksX0_trace_6 24 rfl rfl
theorem dksX0_trace_8 : cX0_trace.data.toList.drop 189 = dktX0_trace_8 := dk_seg dksX0_trace_7 24 rfl rfl
theorem dksX0_trace_9 : cX0_trace.data.toList.drop 213 = dktX0_trace_9 := dk_seg dksX0_trace_8 24 rfl rfl
theorem dX0_trace_0 : decode cX0_trace 0 = .ok (.aload_n 0, 1) := dk_42 (dk_at dksX0_trace_0 0 rfl rfl)
theorem dX0_trace_1 : decode cX0_trace 1 = .ok (.iconst 0, 1) := dk_3 (dk_at dksX0_trace_0 1 rfl rfl)
theorem dX0_trace_2 : decode cX0_trace 2 = .ok (.putfield 63, 3) := dk_181 0 63 (dk_at dksX0_trace_0 2 rfl rfl)
theorem dX0_trace_5 : decode cX0_trace 5 = .ok (.aload_n 0, 1) := dk_42 (dk_at dksX0_trace_0 5 rfl rfl)
theorem dX0_trace_6 : decode cX0_trace 6 = .ok (.iload_n 1, 1) := dk_27 (dk_at dksX0_trace_0 6 rfl rfl)
theorem dX0_trace_7 : decode cX0_trace 7 = .ok (.invokevirtual 163, 3) := dk_182 0 163 (dk_at dksX0_trace_0 7 rfl rfl)
theorem dX0_trace_10 : decode cX0_trace 10 = .ok (.astore_n 3, 1) := dk_78 (dk_at dksX0_trace_0 10 rfl rfl)
theorem dX0_trace_11 : decode cX0_trace 11 = .ok (.aload_n 0, 1) := dk_42 (dk_at dksX0_trace_0 11 rfl rfl)
theorem dX0_trace_12 : decode cX0_trace 12 = .ok (.iload_n 2, 1) := dk_28 (dk_at dksX0_trace_0 12 rfl rfl)
theorem dX0_trace_13 : decode cX0_trace 13 = .ok (.invokevirtual 101, 3) := dk_182 0 101 (dk_at dksX0_trace_0 13 rfl rfl)
theorem dX0_trace_16 : decode cX0_trace 16 = .ok (.astore 4, 2) := dk_58 4 (dk_at dksX0_trace_0 16 rfl rfl)
theorem dX0_trace_18 : decode cX0_trace 18 = .ok (.aload_n 0, 1) := dk_42 (dk_at dksX0_trace_0 18 rfl rfl)
theorem dX0_trace_19 : decode cX0_trace 19 = .ok (.aload_n 3, 1) := dk_45 (dk_at dksX0_trace_0 19 rfl rfl)
theorem dX0_trace_20 : decode cX0_trace 20 = .ok (.invokevirtual 276, 3) := dk_182 1 20 (dk_at dksX0_trace_0 20 rfl rfl)
theorem dX0_trace_23 : decode cX0_trace 23 = .ok (.astore 5, 2) := dk_58 5 (dk_at dksX0_trace_1 0 rfl rfl)
theorem dX0_trace_25 : decode cX0_trace 25 = .ok (.aload_n 0, 1) := dk_42 (dk_at dksX0_trace_1 2 rfl rfl)
theorem dX0_trace_26 : decode cX0_trace 26 = .ok (.aload 5, 2) := dk_25 5 (dk_at dksX0_trace_1 3 rfl rfl)
theorem dX0_trace_28 : decode cX0_trace 28 = .ok (.arraylength, 1) := dk_190 (dk_at dksX0_trace_1 5 rfl rfl)
theorem dX0_trace_29 : decode cX0_trace 29 = .ok (.aload 4, 2) := dk_25 4 (dk_at dksX0_trace_1 6 rfl rfl)
theorem dX0_trace_31 : decode cX0_trace 31 = .ok (.invokestatic 138, 3) := dk_184 0 138 (dk_at dksX0_trace_1 8 rfl rfl)
theorem dX0_trace_34 : decode cX0_trace 34 = .ok (.if_icmp .gt 7, 3) := dk_163 0 7 (dk_at dksX0_trace_1 11 rfl rfl)
theorem dX0_trace_37 : decode cX0_trace 37 = .ok (.iconst 1, 1) := dk_4 (dk_at dksX0_trace_1 14 rfl rfl)
theorem dX0_trace_38 : decode cX0_trace 38 = .ok (.goto 4, 3) := dk_167 0 4 (dk_at dksX0_trace_1 15 rfl rfl)
theorem dX0_trace_41 : decode cX0_trace 41 = .ok (.iconst 0, 1) := dk_3 (dk_at dksX0_trace_1 18 rfl rfl)
theorem dX0_trace_42 : decode cX0_trace 42 = .ok (.iconst 3, 1) := dk_6 (dk_at dksX0_trace_1 19 rfl rfl)
theorem dX0_trace_43 : decode cX0_trace 43 = .ok (.invokevirtual 87, 3) := dk_182 0 87 (dk_at dksX0_trace_1 20 rfl rfl)
theorem dX0_trace_46 : decode cX0_trace 46 = .ok (.lconst 0, 1) := dk_9 (dk_at dksX0_trace_1 23 rfl rfl)
theorem dX0_trace_47 : decode cX0_trace 47 = .ok (.lstore 6, 2) := dk_55 6 (dk_at dksX0_trace_2 0 rfl rfl)
theorem dX0_trace_49 : decode cX0_trace 49 = .ok (.iconst 0, 1) := dk_3 (dk_at dksX0_trace_2 2 rfl rfl)
theorem dX0_trace_50 : decode cX0_trace 50 = .ok (.istore 8, 2) := dk_54 8 (dk_at dksX0_trace_2 3 rfl rfl)
theorem dX0_trace_52 : decode cX0_trace 52 = .ok (.iload 8, 2) := dk_21 8 (dk_at dksX0_trace_2 5 rfl rfl)
theorem dX0_trace_54 : decode cX0_trace 54 = .ok (.aload 5, 2) := dk_25 5 (dk_at dksX0_trace_2 7 rfl rfl)
theorem dX0_trace_56 : decode cX0_trace 56 = .ok (.arraylength, 1) := dk_190 (dk_at dksX0_trace_2 9 rfl rfl)
theorem dX0_trace_57 : decode cX0_trace 57 = .ok (.if_icmp .ge 71, 3) := dk_162 0 71 (dk_at dksX0_trace_2 10 rfl rfl)
theorem dX0_trace_60 : decode cX0_trace 60 = .ok (.aload_n 0, 1) := dk_42 (dk_at dksX0_trace_2 13 rfl rfl)
theorem dX0_trace_61 : decode cX0_trace 61 = .ok (.aload 4, 2) := dk_25 4 (dk_at dksX0_trace_2 14 rfl rfl)
theorem dX0_trace_63 : decode cX0_trace 63 = .ok (.iload 8, 2) := dk_21 8 (dk_at dksX0_trace_2 16 rfl rfl)
theorem dX0_trace_65 : decode cX0_trace 65 = .ok (.invokestatic 111, 3) := dk_184 0 111 (dk_at dksX0_trace_2 18 rfl rfl)
theorem dX0_trace_68 : decode cX0_trace 68 = .ok (.lconst 0, 1) := dk_9 (dk_at dksX0_trace_2 21 rfl rfl)
theorem dX0_trace_69 : decode cX0_trace 69 = .ok (.lcmp, 1) := dk_148 (dk_at dksX0_trace_2 22 rfl rfl)
theorem dX0_trace_70 : decode cX0_trace 70 = .ok (.ifCond .lt 21, 3) := dk_155 0 21 (dk_at dksX0_trace_3 0 rfl rfl)
theorem dX0_trace_73 : decode cX0_trace 73 = .ok (.aload 4, 2) := dk_25 4 (dk_at dksX0_trace_3 3 rfl rfl)
theorem dX0_trace_75 : decode cX0_trace 75 = .ok (.iload 8, 2) := dk_21 8 (dk_at dksX0_trace_3 5 rfl rfl)
theorem dX0_trace_77 : decode cX0_trace 77 = .ok (.invokestatic 111, 3) := dk_184 0 111 (dk_at dksX0_trace_3 7 rfl rfl)
theorem dX0_trace_80 : decode cX0_trace 80 = .ok (.ldc2_w 142, 3) := dk_20 0 142 (dk_at dksX0_trace_3 10 rfl rfl)
theorem dX0_trace_83 : decode cX0_trace 83 = .ok (.lcmp, 1) := dk_148 (dk_at dksX0_trace_3 13 rfl rfl)
theorem dX0_trace_84 : decode cX0_trace 84 = .ok (.ifCond .gt 7, 3) := dk_157 0 7 (dk_at dksX0_trace_3 14 rfl rfl)
theorem dX0_trace_87 : decode cX0_trace 87 = .ok (.iconst 1, 1) := dk_4 (dk_at dksX0_trace_3 17 rfl rfl)
theorem dX0_trace_88 : decode cX0_trace 88 = .ok (.goto 4, 3) := dk_167 0 4 (dk_at dksX0_trace_3 18 rfl rfl)
theorem dX0_trace_91 : decode cX0_trace 91 = .ok (.iconst 0, 1) := dk_3 (dk_at dksX0_trace_3 21 rfl rfl)
theorem dX0_trace_92 : decode cX0_trace 92 = .ok (.iconst 1, 1) := dk_4 (dk_at dksX0_trace_3 22 rfl rfl)
theorem dX0_trace_93 : decode cX0_trace 93 = .ok (.invokevirtual 87, 3) := dk_182 0 87 (dk_at dksX0_trace_4 0 rfl rfl)
theorem dX0_trace_96 : decode cX0_trace 96 = .ok (.lload 6, 2) := dk_22 6 (dk_at dksX0_trace_4 3 rfl rfl)
theorem dX0_trace_98 : decode cX0_trace 98 = .ok (.aload 4, 2) := dk_25 4 (dk_at dksX0_trace_4 5 rfl rfl)
theorem dX0_trace_100 : decode cX0_trace 100 = .ok (.iload 8, 2) := dk_21 8 (dk_at dksX0_trace_4 7 rfl rfl)
theorem dX0_trace_102 : decode cX0_trace 102 = .ok (.invokestatic 111, 3) := dk_184 0 111 (dk_at dksX0_trace_4 9 rfl rfl)
theorem dX0_trace_105 : decode cX0_trace 105 = .ok (.iconst 0, 1) := dk_3 (dk_at dksX0_trace_4 12 rfl rfl)
theorem dX0_trace_106 : decode cX0_trace 106 = .ok (.aload 5, 2) := dk_25 5 (dk_at dksX0_trace_4 13 rfl rfl)
theorem dX0_trace_108 : decode cX0_trace 108 = .ok (.iload 8, 2) := dk_21 8 (dk_at dksX0_trace_4 15 rfl rfl)
theorem dX0_trace_110 : decode cX0_trace 110 = .ok (.aaload, 1) := dk_50 (dk_at dksX0_trace_4 17 rfl rfl)
theorem dX0_trace_111 : decode cX0_trace 111 = .ok (.getfield 286, 3) := dk_180 1 30 (dk_at dksX0_trace_4 18 rfl rfl)
theorem dX0_trace_114 : decode cX0_trace 114 = .ok (.invokestatic 289, 3) := dk_184 1 33 (dk_at dksX0_trace_4 21 rfl rfl)
theorem dX0_trace_117 : decode cX0_trace 117 = .ok (.i2l, 1) := dk_133 (dk_at dksX0_trace_5 0 rfl rfl)
theorem dX0_trace_118 : decode cX0_trace 118 = .ok (.lsub, 1) := dk_101 (dk_at dksX0_trace_5 1 rfl rfl)
theorem dX0_trace_119 : decode cX0_trace 119 = .ok (.ladd, 1) := dk_97 (dk_at dksX0_trace_5 2 rfl rfl)
theorem dX0_trace_120 : decode cX0_trace 120 = .ok (.lstore 6, 2) := dk_55 6 (dk_at dksX0_trace_5 3 rfl rfl)
theorem dX0_trace_122 : decode cX0_trace 122 = .ok (.iinc 8 1, 3) := dk_132 8 1 (dk_at dksX0_trace_5 5 rfl rfl)
theorem dX0_trace_125 : decode cX0_trace 125 = .ok (.goto (-73), 3) := dk_167 255 183 (dk_at dksX0_trace_5 8 rfl rfl)
theorem dX0_trace_128 : decode cX0_trace 128 = .ok (.aload_n 3, 1) := dk_45 (dk_at dksX0_trace_5 11 rfl rfl)
theorem dX0_trace_129 : decode cX0_trace 129 = .ok (.dup, 1) := dk_89 (dk_at dksX0_trace_5 12 rfl rfl)
theorem dX0_trace_130 : decode cX0_trace 130 = .ok (.getfield 293, 3) := dk_180 1 37 (dk_at dksX0_trace_5 13 rfl rfl)
theorem dX0_trace_133 : decode cX0_trace 133 = .ok (.iconst 1, 1) := dk_4 (dk_at dksX0_trace_5 16 rfl rfl)
theorem dX0_trace_134 : decode cX0_trace 134 = .ok (.iadd, 1) := dk_96 (dk_at dksX0_trace_5 17 rfl rfl)
theorem dX0_trace_135 : decode cX0_trace 135 = .ok (.putfield 293, 3) := dk_181 1 37 (dk_at dksX0_trace_5 18 rfl rfl)
theorem dX0_trace_138 : decode cX0_trace 138 = .ok (.lload 6, 2) := dk_22 6 (dk_at dksX0_trace_5 21 rfl rfl)
theorem dX0_trace_140 : decode cX0_trace 140 = .ok (.lconst 0, 1) := dk_9 (dk_at dksX0_trace_5 23 rfl rfl)
theorem dX0_trace_141 : decode cX0_trace 141 = .ok (.lcmp, 1) := dk_148 (dk_at dksX0_trace_6 0 rfl rfl)
theorem dX0_trace_142 : decode cX0_trace 142 = .ok (.ifCond .gt 5, 3) := dk_157 0 5 (dk_at dksX0_trace_6 1 rfl rfl)
theorem dX0_trace_145 : decode cX0_trace 145 = .ok (.iconst 0, 1) := dk_3 (dk_at dksX0_trace_6 4 rfl rfl)
theorem dX0_trace_146 : decode cX0_trace 146 = .ok (.ireturn, 1) := dk_172 (dk_at dksX0_trace_6 5 rfl rfl)
theorem dX0_trace_147 : decode cX0_trace 147 = .ok (.aload_n 3, 1) := dk_45 (dk_at dksX0_trace_6 6 rfl rfl)
theorem dX0_trace_148 : decode cX0_trace 148 = .ok (.dup, 1) := dk_89 (dk_at dksX0_trace_6 7 rfl rfl)
theorem dX0_trace_149 : decode cX0_trace 149 = .ok (.getfield 296, 3) := dk_180 1 40 (dk_at dksX0_trace_6 8 rfl rfl)
theorem dX0_trace_152 : decode cX0_trace 152 = .ok (.iconst 1, 1) := dk_4 (dk_at dksX0_trace_6 11 rfl rfl)
theorem dX0_trace_153 : decode cX0_trace 153 = .ok (.iadd, 1) := dk_96 (dk_at dksX0_trace_6 12 rfl rfl)
theorem dX0_trace_154 : decode cX0_trace 154 = .ok (.putfield 296, 3) := dk_181 1 40 (dk_at dksX0_trace_6 13 rfl rfl)
theorem dX0_trace_157 : decode cX0_trace 157 = .ok (.iconst 0, 1) := dk_3 (dk_at dksX0_trace_6 16 rfl rfl)
theorem dX0_trace_158 : decode cX0_trace 158 = .ok (.istore 8, 2) := dk_54 8 (dk_at dksX0_trace_6 17 rfl rfl)
theorem dX0_trace_160 : decode cX0_trace 160 = .ok (.iload 8, 2) := dk_21 8 (dk_at dksX0_trace_6 19 rfl rfl)
theorem dX0_trace_162 : decode cX0_trace 162 = .ok (.aload 5, 2) := dk_25 5 (dk_at dksX0_trace_6 21 rfl rfl)
theorem dX0_trace_164 : decode cX0_trace 164 = .ok (.arraylength, 1) := dk_190 (dk_at dksX0_trace_6 23 rfl rfl)
theorem dX0_trace_165 : decode cX0_trace 165 = .ok (.if_icmp .ge 51, 3) := dk_162 0 51 (dk_at dksX0_trace_7 0 rfl rfl)
theorem dX0_trace_168 : decode cX0_trace 168 = .ok (.aload 5, 2) := dk_25 5 (dk_at dksX0_trace_7 3 rfl rfl)
theorem dX0_trace_170 : decode cX0_trace 170 = .ok (.iload 8, 2) := dk_21 8 (dk_at dksX0_trace_7 5 rfl rfl)
theorem dX0_trace_172 : decode cX0_trace 172 = .ok (.aaload, 1) := dk_50 (dk_at dksX0_trace_7 7 rfl rfl)
theorem dX0_trace_173 : decode cX0_trace 173 = .ok (.dup, 1) := dk_89 (dk_at dksX0_trace_7 8 rfl rfl)
theorem dX0_trace_174 : decode cX0_trace 174 = .ok (.getfield 299, 3) := dk_180 1 43 (dk_at dksX0_trace_7 9 rfl rfl)
theorem dX0_trace_177 : decode cX0_trace 177 = .ok (.aload 4, 2) := dk_25 4 (dk_at dksX0_trace_7 12 rfl rfl)
theorem dX0_trace_179 : decode cX0_trace 179 = .ok (.iload 8, 2) := dk_21 8 (dk_at dksX0_trace_7 14 rfl rfl)
theorem dX0_trace_181 : decode cX0_trace 181 = .ok (.invokestatic 111, 3) := dk_184 0 111 (dk_at dksX0_trace_7 16 rfl rfl)
theorem dX0_trace_184 : decode cX0_trace 184 = .ok (.iconst 0, 1) := dk_3 (dk_at dksX0_trace_7 19 rfl rfl)
theorem dX0_trace_185 : decode cX0_trace 185 = .ok (.aload 5, 2) := dk_25 5 (dk_at dksX0_trace_7 20 rfl rfl)
theorem dX0_trace_187 : decode cX0_trace 187 = .ok (.iload 8, 2) := dk_21 8 (dk_at dksX0_trace_7 22 rfl rfl)
theorem dX0_trace_189 : decode cX0_trace 189 = .ok (.aaload, 1) := dk_50 (dk_at dksX0_trace_8 0 rfl rfl)
theorem dX0_trace_190 : decode cX0_trace 190 = .ok (.getfield 286, 3) := dk_180 1 30 (dk_at dksX0_trace_8 1 rfl rfl)
theorem dX0_trace_193 : decode cX0_trace 193 = .ok (.invokestatic 289, 3) := dk_184 1 33 (dk_at dksX0_trace_8 4 rfl rfl)
theorem dX0_trace_196 : decode cX0_trace 196 = .ok (.i2l, 1) := dk_133 (dk_at dksX0_trace_8 7 rfl rfl)
theorem dX0_trace_197 : decode cX0_trace 197 = .ok (.lcmp, 1) := dk_148 (dk_at dksX0_trace_8 8 rfl rfl)
theorem dX0_trace_198 : decode cX0_trace 198 = .ok (.ifCond .le 7, 3) := dk_158 0 7 (dk_at dksX0_trace_8 9 rfl rfl)
theorem dX0_trace_201 : decode cX0_trace 201 = .ok (.iconst 1, 1) := dk_4 (dk_at dksX0_trace_8 12 rfl rfl)
theorem dX0_trace_202 : decode cX0_trace 202 = .ok (.goto 4, 3) := dk_167 0 4 (dk_at dksX0_trace_8 13 rfl rfl)
theorem dX0_trace_205 : decode cX0_trace 205 = .ok (.iconst 0, 1) := dk_3 (dk_at dksX0_trace_8 16 rfl rfl)
theorem dX0_trace_206 : decode cX0_trace 206 = .ok (.iadd, 1) := dk_96 (dk_at dksX0_trace_8 17 rfl rfl)
theorem dX0_trace_207 : decode cX0_trace 207 = .ok (.putfield 299, 3) := dk_181 1 43 (dk_at dksX0_trace_8 18 rfl rfl)
theorem dX0_trace_210 : decode cX0_trace 210 = .ok (.iinc 8 1, 3) := dk_132 8 1 (dk_at dksX0_trace_8 21 rfl rfl)
theorem dX0_trace_213 : decode cX0_trace 213 = .ok (.goto (-53), 3) := dk_167 255 203 (dk_at dksX0_trace_9 0 rfl rfl)
theorem dX0_trace_216 : decode cX0_trace 216 = .ok (.iconst 1, 1) := dk_4 (dk_at dksX0_trace_9 3 rfl rfl)
theorem dX0_trace_217 : decode cX0_trace 217 = .ok (.ireturn, 1) := dk_172 (dk_at dksX0_trace_9 4 rfl rfl)
theorem dX0_trace_218 : decode cX0_trace 218 = .ok (.astore_n 3, 1) := dk_78 (dk_at dksX0_trace_9 5 rfl rfl)
theorem dX0_trace_219 : decode cX0_trace 219 = .ok (.aload_n 0, 1) := dk_42 (dk_at dksX0_trace_9 6 rfl rfl)
theorem dX0_trace_220 : decode cX0_trace 220 = .ok (.aload_n 3, 1) := dk_45 (dk_at dksX0_trace_9 7 rfl rfl)
theorem dX0_trace_221 : decode cX0_trace 221 = .ok (.invokevirtual 117, 3) := dk_182 0 117 (dk_at dksX0_trace_9 8 rfl rfl)
theorem dX0_trace_224 : decode cX0_trace 224 = .ok (.ireturn, 1) := dk_172 (dk_at dksX0_trace_9 11 rfl rfl)
abbrev cX0_traces : ByteArray := prog_1_method_59_code
def yX0_traces : MethodName := ⟨RX0, "traces", "(II)I"⟩
def dkwX0_traces_2 : List UInt8 := [78, 42, 45, 182, 0, 117, 172]
abbrev dktX0_traces_2 : List UInt8 := dkwX0_traces_2 ++ []
def dkwX0_traces_1 : List UInt8 := [167, 0, 4, 3, 4, 182, 0, 87, 28, 154, 0, 10, 45, 180, 1, 37, 167, 0, 7, 45, 180, 1, 40, 172]
abbrev dktX0_traces_1 : List UInt8 := dkwX0_traces_1 ++ dktX0_traces_2
def dkwX0_traces_0 : List UInt8 := [42, 3, 181, 0, 63, 42, 27, 182, 0, 163, 78, 42, 28, 155, 0, 12, 28, 4, 163, 0, 7, 4]
abbrev dktX0_traces_0 : List UInt8 := dkwX0_traces_0 ++ dktX0_traces_1
theorem dksX0_traces_0 : cX0_traces.data.toList.drop 0 = dktX0_traces_0 := by decide +kernel
theorem dksX0_traces_1 : cX0_traces.data.toList.drop 22 = dktX0_traces_1 := dk_seg dksX0_traces_0 22 rfl rfl
theorem dksX0_traces_2 : cX0_traces.data.toList.drop 46 = dktX0_traces_2 := dk_seg dksX0_traces_1 24 rfl rfl
theorem dX0_traces_0 : decode cX0_traces 0 = .ok (.aload_n 0, 1) := dk_42 (dk_at dksX0_traces_0 0 rfl rfl)
theorem dX0_traces_1 : decode cX0_traces 1 = .ok (.iconst 0, 1) := dk_3 (dk_at dksX0_traces_0 1 rfl rfl)
theorem dX0_traces_2 : decode cX0_traces 2 = .ok (.putfield 63, 3) := dk_181 0 63 (dk_at dksX0_traces_0 2 rfl rfl)
theorem dX0_traces_5 : decode cX0_traces 5 = .ok (.aload_n 0, 1) := dk_42 (dk_at dksX0_traces_0 5 rfl rfl)
theorem dX0_traces_6 : decode cX0_traces 6 = .ok (.iload_n 1, 1) := dk_27 (dk_at dksX0_traces_0 6 rfl rfl)
theorem dX0_traces_7 : decode cX0_traces 7 = .ok (.invokevirtual 163, 3) := dk_182 0 163 (dk_at dksX0_traces_0 7 rfl rfl)
theorem dX0_traces_10 : decode cX0_traces 10 = .ok (.astore_n 3, 1) := dk_78 (dk_at dksX0_traces_0 10 rfl rfl)
theorem dX0_traces_11 : decode cX0_traces 11 = .ok (.aload_n 0, 1) := dk_42 (dk_at dksX0_traces_0 11 rfl rfl)
theorem dX0_traces_12 : decode cX0_traces 12 = .ok (.iload_n 2, 1) := dk_28 (dk_at dksX0_traces_0 12 rfl rfl)
theorem dX0_traces_13 : decode cX0_traces 13 = .ok (.ifCond .lt 12, 3) := dk_155 0 12 (dk_at dksX0_traces_0 13 rfl rfl)
theorem dX0_traces_16 : decode cX0_traces 16 = .ok (.iload_n 2, 1) := dk_28 (dk_at dksX0_traces_0 16 rfl rfl)
theorem dX0_traces_17 : decode cX0_traces 17 = .ok (.iconst 1, 1) := dk_4 (dk_at dksX0_traces_0 17 rfl rfl)
theorem dX0_traces_18 : decode cX0_traces 18 = .ok (.if_icmp .gt 7, 3) := dk_163 0 7 (dk_at dksX0_traces_0 18 rfl rfl)
theorem dX0_traces_21 : decode cX0_traces 21 = .ok (.iconst 1, 1) := dk_4 (dk_at dksX0_traces_0 21 rfl rfl)
theorem dX0_traces_22 : decode cX0_traces 22 = .ok (.goto 4, 3) := dk_167 0 4 (dk_at dksX0_traces_1 0 rfl rfl)
theorem dX0_traces_25 : decode cX0_traces 25 = .ok (.iconst 0, 1) := dk_3 (dk_at dksX0_traces_1 3 rfl rfl)
theorem dX0_traces_26 : decode cX0_traces 26 = .ok (.iconst 1, 1) := dk_4 (dk_at dksX0_traces_1 4 rfl rfl)
theorem dX0_traces_27 : decode cX0_traces 27 = .ok (.invokevirtual 87, 3) := dk_182 0 87 (dk_at dksX0_traces_1 5 rfl rfl)
theorem dX0_traces_30 : decode cX0_traces 30 = .ok (.iload_n 2, 1) := dk_28 (dk_at dksX0_traces_1 8 rfl rfl)
theorem dX0_traces_31 : decode cX0_traces 31 = .ok (.ifCond .ne 10, 3) := dk_154 0 10 (dk_at dksX0_traces_1 9 rfl rfl)
theorem dX0_traces_34 : decode cX0_traces 34 = .ok (.aload_n 3, 1) := dk_45 (dk_at dksX0_traces_1 12 rfl rfl)
theorem dX0_traces_35 : decode cX0_traces 35 = .ok (.getfield 293, 3) := dk_180 1 37 (dk_at dksX0_traces_1 13 rfl rfl)
theorem dX0_traces_38 : decode cX0_traces 38 = .ok (.goto 7, 3) := dk_167 0 7 (dk_at dksX0_traces_1 16 rfl rfl)
theorem dX0_traces_41 : decode cX0_traces 41 = .ok (.aload_n 3, 1) := dk_45 (dk_at dksX0_traces_1 19 rfl rfl)
theorem dX0_traces_42 : decode cX0_traces 42 = .ok (.getfield 296, 3) := dk_180 1 40 (dk_at dksX0_traces_1 20 rfl rfl)
theorem dX0_traces_45 : decode cX0_traces 45 = .ok (.ireturn, 1) := dk_172 (dk_at dksX0_traces_1 23 rfl rfl)
theorem dX0_traces_46 : decode cX0_traces 46 = .ok (.astore_n 3, 1) := dk_78 (dk_at dksX0_traces_2 0 rfl rfl)
theorem dX0_traces_47 : decode cX0_traces 47 = .ok (.aload_n 0, 1) := dk_42 (dk_at dksX0_traces_2 1 rfl rfl)
theorem dX0_traces_48 : decode cX0_traces 48 = .ok (.aload_n 3, 1) := dk_45 (dk_at dksX0_traces_2 2 rfl rfl)
theorem dX0_traces_49 : decode cX0_traces 49 = .ok (.invokevirtual 117, 3) := dk_182 0 117 (dk_at dksX0_traces_2 3 rfl rfl)
theorem dX0_traces_52 : decode cX0_traces 52 = .ok (.ireturn, 1) := dk_172 (dk_at dksX0_traces_2 6 rfl rfl)
abbrev cX0_over : ByteArray := prog_1_method_60_code
def yX0_over : MethodName := ⟨RX0, "over", "(I)I"⟩
def dkwX0_over_0 : List UInt8 := [42, 3, 181, 0, 63, 42, 27, 182, 0, 249, 180, 1, 43, 172, 77, 42, 44, 182, 0, 117, 172]
abbrev dktX0_over_0 : List UInt8 := dkwX0_over_0 ++ []
theorem dksX0_over_0 : cX0_over.data.toList.drop 0 = dktX0_over_0 := by decide +kernel
theorem dX0_over_0 : decode cX0_over 0 = .ok (.aload_n 0, 1) := dk_42 (dk_at dksX0_over_0 0 rfl rfl)
theorem dX0_over_1 : decode cX0_over 1 = .ok (.iconst 0, 1) := dk_3 (dk_at dksX0_over_0 1 rfl rfl)
theorem dX0_over_2 : decode cX0_over 2 = .ok (.putfield 63, 3) := dk_181 0 63 (dk_at dksX0_over_0 2 rfl rfl)
theorem dX0_over_5 : decode cX0_over 5 = .ok (.aload_n 0, 1) := dk_42 (dk_at dksX0_over_0 5 rfl rfl)
theorem dX0_over_6 : decode cX0_over 6 = .ok (.iload_n 1, 1) := dk_27 (dk_at dksX0_over_0 6 rfl rfl)
theorem dX0_over_7 : decode cX0_over 7 = .ok (.invokevirtual 249, 3) := dk_182 0 249 (dk_at dksX0_over_0 7 rfl rfl)
theorem dX0_over_10 : decode cX0_over 10 = .ok (.getfield 299, 3) := dk_180 1 43 (dk_at dksX0_over_0 10 rfl rfl)
theorem dX0_over_13 : decode cX0_over 13 = .ok (.ireturn, 1) := dk_172 (dk_at dksX0_over_0 13 rfl rfl)
theorem dX0_over_14 : decode cX0_over 14 = .ok (.astore_n 2, 1) := dk_77 (dk_at dksX0_over_0 14 rfl rfl)
theorem dX0_over_15 : decode cX0_over 15 = .ok (.aload_n 0, 1) := dk_42 (dk_at dksX0_over_0 15 rfl rfl)
theorem dX0_over_16 : decode cX0_over 16 = .ok (.aload_n 2, 1) := dk_44 (dk_at dksX0_over_0 16 rfl rfl)
theorem dX0_over_17 : decode cX0_over 17 = .ok (.invokevirtual 117, 3) := dk_182 0 117 (dk_at dksX0_over_0 17 rfl rfl)
theorem dX0_over_20 : decode cX0_over 20 = .ok (.ireturn, 1) := dk_172 (dk_at dksX0_over_0 20 rfl rfl)
theorem q50 : (Jvm.Cond.initialized "TickShare") ∈ lw_all := lw_g (lw_at lw_m1 1 rfl) rfl
theorem q73 : (Jvm.Cond.instantiable "TickShare" (8 : Nat)) ∈ lw_all := lw_g (lw_at lw_m1 24 rfl) rfl
theorem q75 : (Jvm.Cond.instanceMethod ({ cls := "TickShare", name := "<init>", desc := "()V" } : Jvm.MethodName)) ∈ lw_all := lw_g (lw_at lw_m1 26 rfl) rfl
theorem q76 : (Jvm.Cond.code ({ cls := "TickShare", name := "<init>", desc := "()V" } : Jvm.MethodName) prog_1_method_9_code (1 : Nat) (Option.none : Option Jvm.ClassFile.FieldType)) ∈ lw_all := lw_g (lw_at lw_m1 27 rfl) rfl
theorem q77 : (Jvm.Cond.methodLink "TickShare" (37 : Nat) ({ cls := "java/lang/Object", name := "<init>", desc := "()V" } : Jvm.MethodName)) ∈ lw_all := lw_g (lw_at lw_m1 28 rfl) rfl
theorem q80 : (Jvm.Cond.classLink "TickShare" (38 : Nat) "java/lang/Object") ∈ lw_all := lw_g (lw_at lw_m1 31 rfl) rfl
theorem q82 : (Jvm.Cond.classLink "TickShare" (47 : Nat) "TickShare$Thing") ∈ lw_all := lw_g (lw_at lw_m1 33 rfl) rfl
theorem q84 : (Jvm.Cond.classLink "TickShare" (53 : Nat) "TickShare$Refused") ∈ lw_all := lw_g (lw_at lw_m1 35 rfl) rfl
theorem q124 : (Jvm.Cond.methodLink "TickShare" (55 : Nat) ({ cls := "TickShare$Refused", name := "<init>", desc := "()V" } : Jvm.MethodName)) ∈ lw_all := lw_g (lw_at lw_m1 75 rfl) rfl
theorem q134 : (Jvm.Cond.fieldLinkNest "TickShare" (74 : Nat) "TickShare$Refused" "why" "I" "TickShare") ∈ lw_tbl := lw_at lw_m1 85 rfl
theorem q151 : (Jvm.Cond.fieldLink "TickShare" (40 : Nat) "TickShare" "trays" "[Ljava/lang/Object;") ∈ lw_all := lw_g (lw_at lw_m1 102 rfl) rfl
theorem q152 : (Jvm.Cond.fieldLink "TickShare" (44 : Nat) "TickShare" "tops" "[J") ∈ lw_all := lw_g (lw_at lw_m1 103 rfl) rfl
theorem q153 : (Jvm.Cond.fieldLink "TickShare" (49 : Nat) "TickShare" "things" "[LTickShare$Thing;") ∈ lw_all := lw_g (lw_at lw_m1 104 rfl) rfl
theorem q154 : (Jvm.Cond.fieldLink "TickShare" (133 : Nat) "TickShare" "size" "I") ∈ lw_all := lw_g (lw_at lw_m1 105 rfl) rfl
theorem q155 : (Jvm.Cond.fieldLink "TickShare" (56 : Nat) "TickShare" "refused" "LTickShare$Refused;") ∈ lw_all := lw_g (lw_at lw_m1 106 rfl) rfl
theorem q156 : (Jvm.Cond.fieldLink "TickShare" (63 : Nat) "TickShare" "status" "I") ∈ lw_all := lw_g (lw_at lw_m1 107 rfl) rfl
theorem q157 : (Jvm.Cond.fieldLink "TickShare" (67 : Nat) "TickShare" "above" "J") ∈ lw_all := lw_g (lw_at lw_m1 108 rfl) rfl
theorem q158 : (Jvm.Cond.fieldLink "TickShare" (60 : Nat) "TickShare" "under" "J") ∈ lw_all := lw_g (lw_at lw_m1 109 rfl) rfl
theorem q159 : (Jvm.Cond.laysFinal "TickShare" "TickShare" "trays" "[Ljava/lang/Object;") ∈ lw_all := lw_g (lw_at lw_m1 110 rfl) rfl
theorem q160 : (Jvm.Cond.soleField "TickShare" "trays") ∈ lw_all := lw_g (lw_at lw_m1 111 rfl) rfl
theorem q161 : (Jvm.Cond.laysFinal "TickShare" "TickShare" "tops" "[J") ∈ lw_all := lw_g (lw_at lw_m1 112 rfl) rfl
theorem q162 : (Jvm.Cond.soleField "TickShare" "tops") ∈ lw_all := lw_g (lw_at lw_m1 113 rfl) rfl
theorem q163 : (Jvm.Cond.laysFinal "TickShare" "TickShare" "things" "[LTickShare$Thing;") ∈ lw_all := lw_g (lw_at lw_m1 114 rfl) rfl
theorem q164 : (Jvm.Cond.soleField "TickShare" "things") ∈ lw_all := lw_g (lw_at lw_m1 115 rfl) rfl
theorem q165 : (Jvm.Cond.lays "TickShare" "TickShare" "size" "I") ∈ lw_all := lw_g (lw_at lw_m1 116 rfl) rfl
theorem q166 : (Jvm.Cond.soleField "TickShare" "size") ∈ lw_all := lw_g (lw_at lw_m1 117 rfl) rfl
theorem q167 : (Jvm.Cond.laysFinal "TickShare" "TickShare" "refused" "LTickShare$Refused;") ∈ lw_all := lw_g (lw_at lw_m1 118 rfl) rfl
theorem q168 : (Jvm.Cond.soleField "TickShare" "refused") ∈ lw_all := lw_g (lw_at lw_m1 119 rfl) rfl
theorem q169 : (Jvm.Cond.lays "TickShare" "TickShare" "status" "I") ∈ lw_all := lw_g (lw_at lw_m1 120 rfl) rfl
theorem q170 : (Jvm.Cond.soleField "TickShare" "status") ∈ lw_all := lw_g (lw_at lw_m1 121 rfl) rfl
theorem q171 : (Jvm.Cond.lays "TickShare" "TickShare" "above" "J") ∈ lw_all := lw_g (lw_at lw_m1 122 rfl) rfl
theorem q172 : (Jvm.Cond.soleField "TickShare" "above") ∈ lw_all := lw_g (lw_at lw_m1 123 rfl) rfl
theorem q173 : (Jvm.Cond.lays "TickShare" "TickShare" "under" "J") ∈ lw_all := lw_g (lw_at lw_m1 124 rfl) rfl
theorem q174 : (Jvm.Cond.soleField "TickShare" "under") ∈ lw_all := lw_g (lw_at lw_m1 125 rfl) rfl
theorem q175 : (Jvm.Cond.superclass "TickShare" "java/lang/Object") ∈ lw_all := lw_g (lw_at lw_m1 126 rfl) rfl
theorem q177 : (Jvm.Cond.instanceMethod ({ cls := "TickShare", name := "status", desc := "()I" } : Jvm.MethodName)) ∈ lw_all := lw_g (lw_at lw_m1 128 rfl) rfl
theorem q178 : (Jvm.Cond.selects "TickShare" ({ cls := "TickShare", name := "status", desc := "()I" } : Jvm.MethodName) ({ cls := "TickShare", name := "status", desc := "()I" } : Jvm.MethodName)) ∈ lw_all := lw_g (lw_at lw_m1 129 rfl) rfl
theorem q179 : (Jvm.Cond.code ({ cls := "TickShare", name := "status", desc := "()I" } : Jvm.MethodName) prog_1_method_10_code (1 : Nat) (Option.some Jvm.ClassFile.FieldType.int)) ∈ lw_all := lw_g (lw_at lw_m1 130 rfl) rfl
theorem q181 : (Jvm.Cond.instanceMethod ({ cls := "TickShare", name := "top", desc := "()J" } : Jvm.MethodName)) ∈ lw_all := lw_g (lw_at lw_m1 132 rfl) rfl
theorem q182 : (Jvm.Cond.selects "TickShare" ({ cls := "TickShare", name := "top", desc := "()J" } : Jvm.MethodName) ({ cls := "TickShare", name := "top", desc := "()J" } : Jvm.MethodName)) ∈ lw_all := lw_g (lw_at lw_m1 133 rfl) rfl
theorem q183 : (Jvm.Cond.code ({ cls := "TickShare", name := "top", desc := "()J" } : Jvm.MethodName) prog_1_method_11_code (1 : Nat) (Option.some Jvm.ClassFile.FieldType.long)) ∈ lw_all := lw_g (lw_at lw_m1 134 rfl) rfl
theorem q185 : (Jvm.Cond.instanceMethod ({ cls := "TickShare", name := "bottom", desc := "()J" } : Jvm.MethodName)) ∈ lw_all := lw_g (lw_at lw_m1 136 rfl) rfl
theorem q186 : (Jvm.Cond.selects "TickShare" ({ cls := "TickShare", name := "bottom", desc := "()J" } : Jvm.MethodName) ({ cls := "TickShare", name := "bottom", desc := "()J" } : Jvm.MethodName)) ∈ lw_all := lw_g (lw_at lw_m1 137 rfl) rfl
theorem q187 : (Jvm.Cond.code ({ cls := "TickShare", name := "bottom", desc := "()J" } : Jvm.MethodName) prog_1_method_12_code (1 : Nat) (Option.some Jvm.ClassFile.FieldType.long)) ∈ lw_all := lw_g (lw_at lw_m1 138 rfl) rfl
theorem q189 : (Jvm.Cond.instanceMethod ({ cls := "TickShare", name := "tray", desc := "(III)Z" } : Jvm.MethodName)) ∈ lw_all := lw_g (lw_at lw_m1 140 rfl) rfl
theorem q190 : (Jvm.Cond.selects "TickShare" ({ cls := "TickShare", name := "tray", desc := "(III)Z" } : Jvm.MethodName) ({ cls := "TickShare", name := "tray", desc := "(III)Z" } : Jvm.MethodName)) ∈ lw_all := lw_g (lw_at lw_m1 141 rfl) rfl
theorem q191 : (Jvm.Cond.codeWith ({ cls := "TickShare", name := "tray", desc := "(III)Z" } : Jvm.MethodName) prog_1_method_20_code (5 : Nat) (Option.some Jvm.ClassFile.FieldType.boolean) [((5 : Nat), (51 : Nat), (52 : Nat), (95 : Nat)), ((5 : Nat), (51 : Nat), (61 : Nat), (53 : Nat))]) ∈ lw_all := lw_g (lw_at lw_m1 142 rfl) rfl
theorem q192 : (Jvm.Cond.classLink "TickShare" (95 : Nat) "java/lang/NegativeArraySizeException") ∈ lw_all := lw_g (lw_at lw_m1 143 rfl) rfl
theorem q222 : (Jvm.Cond.methodLink "TickShare" (87 : Nat) ({ cls := "TickShare", name := "want", desc := "(ZI)V" } : Jvm.MethodName)) ∈ lw_all := lw_g (lw_at lw_m1 173 rfl) rfl
theorem q223 : (Jvm.Cond.privateMethod ({ cls := "TickShare", name := "want", desc := "(ZI)V" } : Jvm.MethodName)) ∈ lw_tbl := lw_at lw_m1 174 rfl
theorem q224 : (Jvm.Cond.instanceMethod ({ cls := "TickShare", name := "want", desc := "(ZI)V" } : Jvm.MethodName)) ∈ lw_all := lw_g (lw_at lw_m1 175 rfl) rfl
theorem q225 : (Jvm.Cond.code ({ cls := "TickShare", name := "want", desc := "(ZI)V" } : Jvm.MethodName) prog_1_method_13_code (3 : Nat) (Option.none : Option Jvm.ClassFile.FieldType)) ∈ lw_all := lw_g (lw_at lw_m1 176 rfl) rfl
theorem q226 : (Jvm.Cond.methodLink "TickShare" (70 : Nat) ({ cls := "TickShare$Refused", name := "by", desc := "(I)LTickShare$Refused;" } : Jvm.MethodName)) ∈ lw_all := lw_g (lw_at lw_m1 177 rfl) rfl
theorem q230 : (Jvm.Cond.methodLink "TickShare" (91 : Nat) ({ cls := "TickShare", name := "row", desc := "(II)Ljava/lang/Object;" } : Jvm.MethodName)) ∈ lw_all := lw_g (lw_at lw_m1 181 rfl) rfl
theorem q231 : (Jvm.Cond.static ({ cls := "TickShare", name := "row", desc := "(II)Ljava/lang/Object;" } : Jvm.MethodName)) ∈ lw_all := lw_g (lw_at lw_m1 182 rfl) rfl
theorem q232 : (Jvm.Cond.code ({ cls := "TickShare", name := "row", desc := "(II)Ljava/lang/Object;" } : Jvm.MethodName) prog_1_method_1_code (2 : Nat) (Option.some (Jvm.ClassFile.FieldType.object "java/lang/Object"))) ∈ lw_all := lw_g (lw_at lw_m1 183 rfl) rfl
theorem q233 : (Jvm.Cond.methodLink "TickShare" (97 : Nat) ({ cls := "TickShare", name := "no", desc := "(LTickShare$Refused;)Z" } : Jvm.MethodName)) ∈ lw_all := lw_g (lw_at lw_m1 184 rfl) rfl
theorem q234 : (Jvm.Cond.privateMethod ({ cls := "TickShare", name := "no", desc := "(LTickShare$Refused;)Z" } : Jvm.MethodName)) ∈ lw_tbl := lw_at lw_m1 185 rfl
theorem q235 : (Jvm.Cond.instanceMethod ({ cls := "TickShare", name := "no", desc := "(LTickShare$Refused;)Z" } : Jvm.MethodName)) ∈ lw_all := lw_g (lw_at lw_m1 186 rfl) rfl
theorem q236 : (Jvm.Cond.code ({ cls := "TickShare", name := "no", desc := "(LTickShare$Refused;)Z" } : Jvm.MethodName) prog_1_method_16_code (2 : Nat) (Option.some Jvm.ClassFile.FieldType.boolean)) ∈ lw_all := lw_g (lw_at lw_m1 187 rfl) rfl
theorem q240 : (Jvm.Cond.instanceMethod ({ cls := "TickShare", name := "write", desc := "(IIJ)Z" } : Jvm.MethodName)) ∈ lw_all := lw_g (lw_at lw_m1 191 rfl) rfl
theorem q241 : (Jvm.Cond.selects "TickShare" ({ cls := "TickShare", name := "write", desc := "(IIJ)Z" } : Jvm.MethodName) ({ cls := "TickShare", name := "write", desc := "(IIJ)Z" } : Jvm.MethodName)) ∈ lw_all := lw_g (lw_at lw_m1 192 rfl) rfl
theorem q242 : (Jvm.Cond.codeWith ({ cls := "TickShare", name := "write", desc := "(IIJ)Z" } : Jvm.MethodName) prog_1_method_21_code (6 : Nat) (Option.some Jvm.ClassFile.FieldType.boolean) [((5 : Nat), (16 : Nat), (17 : Nat), (109 : Nat)), ((5 : Nat), (16 : Nat), (26 : Nat), (53 : Nat))]) ∈ lw_all := lw_g (lw_at lw_m1 193 rfl) rfl
theorem q243 : (Jvm.Cond.classLink "TickShare" (109 : Nat) "java/lang/ArrayIndexOutOfBoundsException") ∈ lw_all := lw_g (lw_at lw_m1 194 rfl) rfl
theorem q262 : (Jvm.Cond.methodLink "TickShare" (101 : Nat) ({ cls := "TickShare", name := "on", desc := "(I)Ljava/lang/Object;" } : Jvm.MethodName)) ∈ lw_all := lw_g (lw_at lw_m1 213 rfl) rfl
theorem q263 : (Jvm.Cond.privateMethod ({ cls := "TickShare", name := "on", desc := "(I)Ljava/lang/Object;" } : Jvm.MethodName)) ∈ lw_tbl := lw_at lw_m1 214 rfl
theorem q264 : (Jvm.Cond.instanceMethod ({ cls := "TickShare", name := "on", desc := "(I)Ljava/lang/Object;" } : Jvm.MethodName)) ∈ lw_all := lw_g (lw_at lw_m1 215 rfl) rfl
theorem q265 : (Jvm.Cond.code ({ cls := "TickShare", name := "on", desc := "(I)Ljava/lang/Object;" } : Jvm.MethodName) prog_1_method_19_code (2 : Nat) (Option.some (Jvm.ClassFile.FieldType.object "java/lang/Object"))) ∈ lw_all := lw_g (lw_at lw_m1 216 rfl) rfl
theorem q266 : (Jvm.Cond.methodLink "TickShare" (105 : Nat) ({ cls := "TickShare", name := "put", desc := "(Ljava/lang/Object;IJ)V" } : Jvm.MethodName)) ∈ lw_all := lw_g (lw_at lw_m1 217 rfl) rfl
theorem q267 : (Jvm.Cond.static ({ cls := "TickShare", name := "put", desc := "(Ljava/lang/Object;IJ)V" } : Jvm.MethodName)) ∈ lw_all := lw_g (lw_at lw_m1 218 rfl) rfl
theorem q268 : (Jvm.Cond.code ({ cls := "TickShare", name := "put", desc := "(Ljava/lang/Object;IJ)V" } : Jvm.MethodName) prog_1_method_5_code (7 : Nat) (Option.none : Option Jvm.ClassFile.FieldType)) ∈ lw_all := lw_g (lw_at lw_m1 219 rfl) rfl
theorem q269 : (Jvm.Cond.classLink "TickShare" (1 : Nat) "[B") ∈ lw_all := lw_g (lw_at lw_m1 220 rfl) rfl
theorem q270 : (Jvm.Cond.classLink "TickShare" (3 : Nat) "[S") ∈ lw_all := lw_g (lw_at lw_m1 221 rfl) rfl
theorem q271 : (Jvm.Cond.classLink "TickShare" (5 : Nat) "[I") ∈ lw_all := lw_g (lw_at lw_m1 222 rfl) rfl
theorem q272 : (Jvm.Cond.classLink "TickShare" (7 : Nat) "[J") ∈ lw_all := lw_g (lw_at lw_m1 223 rfl) rfl
theorem q274 : (Jvm.Cond.instanceMethod ({ cls := "TickShare", name := "read", desc := "(II)J" } : Jvm.MethodName)) ∈ lw_all := lw_g (lw_at lw_m1 225 rfl) rfl
theorem q275 : (Jvm.Cond.selects "TickShare" ({ cls := "TickShare", name := "read", desc := "(II)J" } : Jvm.MethodName) ({ cls := "TickShare", name := "read", desc := "(II)J" } : Jvm.MethodName)) ∈ lw_all := lw_g (lw_at lw_m1 226 rfl) rfl
theorem q276 : (Jvm.Cond.codeWith ({ cls := "TickShare", name := "read", desc := "(II)J" } : Jvm.MethodName) prog_1_method_22_code (4 : Nat) (Option.some Jvm.ClassFile.FieldType.long) [((5 : Nat), (14 : Nat), (15 : Nat), (109 : Nat)), ((5 : Nat), (14 : Nat), (25 : Nat), (53 : Nat))]) ∈ lw_all := lw_g (lw_at lw_m1 227 rfl) rfl
theorem q277 : (Jvm.Cond.methodLink "TickShare" (111 : Nat) ({ cls := "TickShare", name := "number", desc := "(Ljava/lang/Object;I)J" } : Jvm.MethodName)) ∈ lw_all := lw_g (lw_at lw_m1 228 rfl) rfl
theorem q278 : (Jvm.Cond.static ({ cls := "TickShare", name := "number", desc := "(Ljava/lang/Object;I)J" } : Jvm.MethodName)) ∈ lw_all := lw_g (lw_at lw_m1 229 rfl) rfl
theorem q279 : (Jvm.Cond.code ({ cls := "TickShare", name := "number", desc := "(Ljava/lang/Object;I)J" } : Jvm.MethodName) prog_1_method_4_code (3 : Nat) (Option.some Jvm.ClassFile.FieldType.long)) ∈ lw_all := lw_g (lw_at lw_m1 230 rfl) rfl
theorem q280 : (Jvm.Cond.constantLong "TickShare" (115 : Nat) (-1 : Int64)) ∈ lw_all := lw_g (lw_at lw_m1 231 rfl) rfl
theorem q281 : (Jvm.Cond.methodLink "TickShare" (117 : Nat) ({ cls := "TickShare", name := "none", desc := "(LTickShare$Refused;)I" } : Jvm.MethodName)) ∈ lw_all := lw_g (lw_at lw_m1 232 rfl) rfl
theorem q282 : (Jvm.Cond.privateMethod ({ cls := "TickShare", name := "none", desc := "(LTickShare$Refused;)I" } : Jvm.MethodName)) ∈ lw_tbl := lw_at lw_m1 233 rfl
theorem q283 : (Jvm.Cond.instanceMethod ({ cls := "TickShare", name := "none", desc := "(LTickShare$Refused;)I" } : Jvm.MethodName)) ∈ lw_all := lw_g (lw_at lw_m1 234 rfl) rfl
theorem q284 : (Jvm.Cond.code ({ cls := "TickShare", name := "none", desc := "(LTickShare$Refused;)I" } : Jvm.MethodName) prog_1_method_14_code (2 : Nat) (Option.some Jvm.ClassFile.FieldType.int)) ∈ lw_all := lw_g (lw_at lw_m1 235 rfl) rfl
theorem q286 : (Jvm.Cond.instanceMethod ({ cls := "TickShare", name := "pour", desc := "(IIIII)Z" } : Jvm.MethodName)) ∈ lw_all := lw_g (lw_at lw_m1 237 rfl) rfl
theorem q287 : (Jvm.Cond.selects "TickShare" ({ cls := "TickShare", name := "pour", desc := "(IIIII)Z" } : Jvm.MethodName) ({ cls := "TickShare", name := "pour", desc := "(IIIII)Z" } : Jvm.MethodName)) ∈ lw_all := lw_g (lw_at lw_m1 238 rfl) rfl
theorem q288 : (Jvm.Cond.codeWith ({ cls := "TickShare", name := "pour", desc := "(IIIII)Z" } : Jvm.MethodName) prog_1_method_23_code (9 : Nat) (Option.some Jvm.ClassFile.FieldType.boolean) [((85 : Nat), (97 : Nat), (100 : Nat), (131 : Nat)), ((5 : Nat), (112 : Nat), (113 : Nat), (53 : Nat))]) ∈ lw_all := lw_g (lw_at lw_m1 239 rfl) rfl
theorem q289 : (Jvm.Cond.classLink "TickShare" (131 : Nat) "java/lang/IndexOutOfBoundsException") ∈ lw_all := lw_g (lw_at lw_m2 0 rfl) rfl
theorem q290 : (Jvm.Cond.methodLink "TickShare" (121 : Nat) ({ cls := "TickShare", name := "sortOf", desc := "(Ljava/lang/Object;)I" } : Jvm.MethodName)) ∈ lw_all := lw_g (lw_at lw_m2 1 rfl) rfl
theorem q291 : (Jvm.Cond.static ({ cls := "TickShare", name := "sortOf", desc := "(Ljava/lang/Object;)I" } : Jvm.MethodName)) ∈ lw_all := lw_g (lw_at lw_m2 2 rfl) rfl
theorem q292 : (Jvm.Cond.code ({ cls := "TickShare", name := "sortOf", desc := "(Ljava/lang/Object;)I" } : Jvm.MethodName) prog_1_method_2_code (1 : Nat) (Option.some Jvm.ClassFile.FieldType.int)) ∈ lw_all := lw_g (lw_at lw_m2 3 rfl) rfl
theorem q293 : (Jvm.Cond.methodLink "TickShare" (125 : Nat) ({ cls := "java/lang/System", name := "arraycopy", desc := "(Ljava/lang/Object;ILjava/lang/Object;II)V" } : Jvm.MethodName)) ∈ lw_all := lw_g (lw_at lw_m2 4 rfl) rfl
theorem q297 : (Jvm.Cond.instanceMethod ({ cls := "TickShare", name := "leaf", desc := "(II)I" } : Jvm.MethodName)) ∈ lw_all := lw_g (lw_at lw_m2 8 rfl) rfl
theorem q298 : (Jvm.Cond.selects "TickShare" ({ cls := "TickShare", name := "leaf", desc := "(II)I" } : Jvm.MethodName) ({ cls := "TickShare", name := "leaf", desc := "(II)I" } : Jvm.MethodName)) ∈ lw_all := lw_g (lw_at lw_m2 9 rfl) rfl
theorem q299 : (Jvm.Cond.codeWith ({ cls := "TickShare", name := "leaf", desc := "(II)I" } : Jvm.MethodName) prog_1_method_29_code (4 : Nat) (Option.some Jvm.ClassFile.FieldType.int) [((5 : Nat), (67 : Nat), (68 : Nat), (53 : Nat))]) ∈ lw_all := lw_g (lw_at lw_m2 10 rfl) rfl
theorem q300 : (Jvm.Cond.methodLink "TickShare" (148 : Nat) ({ cls := "TickShare", name := "wantMany", desc := "(I)V" } : Jvm.MethodName)) ∈ lw_all := lw_g (lw_at lw_m2 11 rfl) rfl
theorem q301 : (Jvm.Cond.privateMethod ({ cls := "TickShare", name := "wantMany", desc := "(I)V" } : Jvm.MethodName)) ∈ lw_tbl := lw_at lw_m2 12 rfl
theorem q302 : (Jvm.Cond.instanceMethod ({ cls := "TickShare", name := "wantMany", desc := "(I)V" } : Jvm.MethodName)) ∈ lw_all := lw_g (lw_at lw_m2 13 rfl) rfl
theorem q303 : (Jvm.Cond.code ({ cls := "TickShare", name := "wantMany", desc := "(I)V" } : Jvm.MethodName) prog_1_method_28_code (2 : Nat) (Option.none : Option Jvm.ClassFile.FieldType)) ∈ lw_all := lw_g (lw_at lw_m2 14 rfl) rfl
theorem q304 : (Jvm.Cond.methodLink "TickShare" (152 : Nat) ({ cls := "TickShare", name := "weights", desc := "(II)LTickShare$Table;" } : Jvm.MethodName)) ∈ lw_all := lw_g (lw_at lw_m2 15 rfl) rfl
theorem q305 : (Jvm.Cond.privateMethod ({ cls := "TickShare", name := "weights", desc := "(II)LTickShare$Table;" } : Jvm.MethodName)) ∈ lw_tbl := lw_at lw_m2 16 rfl
theorem q306 : (Jvm.Cond.instanceMethod ({ cls := "TickShare", name := "weights", desc := "(II)LTickShare$Table;" } : Jvm.MethodName)) ∈ lw_all := lw_g (lw_at lw_m2 17 rfl) rfl
theorem q307 : (Jvm.Cond.code ({ cls := "TickShare", name := "weights", desc := "(II)LTickShare$Table;" } : Jvm.MethodName) prog_1_method_27_code (6 : Nat) (Option.some (Jvm.ClassFile.FieldType.object "TickShare$Table"))) ∈ lw_all := lw_g (lw_at lw_m2 18 rfl) rfl
theorem q308 : (Jvm.Cond.methodLink "TickShare" (138 : Nat) ({ cls := "TickShare", name := "sizeOf", desc := "(Ljava/lang/Object;)I" } : Jvm.MethodName)) ∈ lw_all := lw_g (lw_at lw_m2 19 rfl) rfl
theorem q309 : (Jvm.Cond.static ({ cls := "TickShare", name := "sizeOf", desc := "(Ljava/lang/Object;)I" } : Jvm.MethodName)) ∈ lw_all := lw_g (lw_at lw_m2 20 rfl) rfl
theorem q310 : (Jvm.Cond.code ({ cls := "TickShare", name := "sizeOf", desc := "(Ljava/lang/Object;)I" } : Jvm.MethodName) prog_1_method_3_code (2 : Nat) (Option.some Jvm.ClassFile.FieldType.int)) ∈ lw_all := lw_g (lw_at lw_m2 21 rfl) rfl
theorem q311 : (Jvm.Cond.classLink "TickShare" (20 : Nat) "TickShare$Table") ∈ lw_all := lw_g (lw_at lw_m2 22 rfl) rfl
theorem q313 : (Jvm.Cond.methodLinkNest "TickShare" (141 : Nat) ({ cls := "TickShare$Table", name := "<init>", desc := "()V" } : Jvm.MethodName) "TickShare") ∈ lw_tbl := lw_at lw_m2 24 rfl
theorem q322 : (Jvm.Cond.fieldLinkNest "TickShare" (32 : Nat) "TickShare$Table" "ok" "[J" "TickShare") ∈ lw_tbl := lw_at lw_m2 33 rfl
theorem q328 : (Jvm.Cond.fieldLinkNest "TickShare" (19 : Nat) "TickShare$Table" "fail" "[J" "TickShare") ∈ lw_tbl := lw_at lw_m2 39 rfl
theorem q336 : (Jvm.Cond.fieldLinkNest "TickShare" (24 : Nat) "TickShare$Table" "whole" "J" "TickShare") ∈ lw_tbl := lw_at lw_m2 47 rfl
theorem q344 : (Jvm.Cond.constantLong "TickShare" (142 : Nat) (1000 : Int64)) ∈ lw_all := lw_g (lw_at lw_m2 55 rfl) rfl
theorem q345 : (Jvm.Cond.methodLink "TickShare" (144 : Nat) ({ cls := "TickShare$Table", name := "less", desc := "()LTickShare$Table;" } : Jvm.MethodName)) ∈ lw_all := lw_g (lw_at lw_m2 56 rfl) rfl
theorem q350 : (Jvm.Cond.static ({ cls := "TickShare", name := "common", desc := "(JJ)J" } : Jvm.MethodName)) ∈ lw_all := lw_g (lw_at lw_m2 61 rfl) rfl
theorem q351 : (Jvm.Cond.code ({ cls := "TickShare", name := "common", desc := "(JJ)J" } : Jvm.MethodName) prog_1_method_17_code (10 : Nat) (Option.some Jvm.ClassFile.FieldType.long)) ∈ lw_all := lw_g (lw_at lw_m2 62 rfl) rfl
theorem q352 : (Jvm.Cond.methodLink "TickShare" (77 : Nat) ({ cls := "java/lang/Math", name := "abs", desc := "(J)J" } : Jvm.MethodName)) ∈ lw_all := lw_g (lw_at lw_m2 63 rfl) rfl
theorem q355 : (Jvm.Cond.classLink "TickShare" (136 : Nat) "TickShare$Leaf") ∈ lw_all := lw_g (lw_at lw_m2 66 rfl) rfl
theorem q357 : (Jvm.Cond.methodLink "TickShare" (156 : Nat) ({ cls := "TickShare$Leaf", name := "<init>", desc := "(LTickShare$Table;)V" } : Jvm.MethodName)) ∈ lw_all := lw_g (lw_at lw_m2 68 rfl) rfl
theorem q370 : (Jvm.Cond.fieldLinkNest "TickShare" (260 : Nat) "TickShare$Leaf" "grades" "[LTickShare$Table;" "TickShare") ∈ lw_tbl := lw_at lw_m2 81 rfl
theorem q372 : (Jvm.Cond.fieldLinkNest "TickShare" (264 : Nat) "TickShare$Leaf" "prices" "[I" "TickShare") ∈ lw_tbl := lw_at lw_m2 83 rfl
theorem q374 : (Jvm.Cond.fieldLinkNest "TickShare" (267 : Nat) "TickShare$Leaf" "many" "I" "TickShare") ∈ lw_tbl := lw_at lw_m2 85 rfl
theorem q376 : (Jvm.Cond.fieldLinkNest "TickShare" (273 : Nat) "TickShare$Leaf" "now" "I" "TickShare") ∈ lw_tbl := lw_at lw_m2 87 rfl
theorem q378 : (Jvm.Cond.fieldLinkNest "TickShare" (283 : Nat) "TickShare$Leaf" "best" "I" "TickShare") ∈ lw_tbl := lw_at lw_m2 89 rfl
theorem q380 : (Jvm.Cond.fieldLinkNest "TickShare" (286 : Nat) "TickShare$Leaf" "part" "I" "TickShare") ∈ lw_tbl := lw_at lw_m2 91 rfl
theorem q381 : (Jvm.Cond.fieldLinkNest "TickShare" (299 : Nat) "TickShare$Leaf" "over" "I" "TickShare") ∈ lw_tbl := lw_at lw_m2 92 rfl
theorem q393 : (Jvm.Cond.fieldLink "TickShare" (210 : Nat) "TickShare$Thing" "parts" "[LTickShare$Thing;") ∈ lw_all := lw_g (lw_at lw_m2 104 rfl) rfl
theorem q411 : (Jvm.Cond.fieldLinkNest "TickShare" (167 : Nat) "TickShare$Thing" "in" "LTickShare$Thing;" "TickShare") ∈ lw_tbl := lw_at lw_m2 122 rfl
theorem q412 : (Jvm.Cond.fieldLinkNest "TickShare" (293 : Nat) "TickShare$Thing" "traces" "I" "TickShare") ∈ lw_tbl := lw_at lw_m2 123 rfl
theorem q413 : (Jvm.Cond.fieldLinkNest "TickShare" (296 : Nat) "TickShare$Thing" "slow" "I" "TickShare") ∈ lw_tbl := lw_at lw_m2 124 rfl
theorem q441 : (Jvm.Cond.methodLink "TickShare" (159 : Nat) ({ cls := "TickShare", name := "adds", desc := "(LTickShare$Thing;)I" } : Jvm.MethodName)) ∈ lw_all := lw_g (lw_at lw_m2 152 rfl) rfl
theorem q442 : (Jvm.Cond.privateMethod ({ cls := "TickShare", name := "adds", desc := "(LTickShare$Thing;)I" } : Jvm.MethodName)) ∈ lw_tbl := lw_at lw_m2 153 rfl
theorem q443 : (Jvm.Cond.instanceMethod ({ cls := "TickShare", name := "adds", desc := "(LTickShare$Thing;)I" } : Jvm.MethodName)) ∈ lw_all := lw_g (lw_at lw_m2 154 rfl) rfl
theorem q444 : (Jvm.Cond.code ({ cls := "TickShare", name := "adds", desc := "(LTickShare$Thing;)I" } : Jvm.MethodName) prog_1_method_26_code (2 : Nat) (Option.some Jvm.ClassFile.FieldType.int)) ∈ lw_all := lw_g (lw_at lw_m2 155 rfl) rfl
theorem q446 : (Jvm.Cond.instanceMethod ({ cls := "TickShare", name := "row", desc := "(IIII)I" } : Jvm.MethodName)) ∈ lw_all := lw_g (lw_at lw_m2 157 rfl) rfl
theorem q447 : (Jvm.Cond.selects "TickShare" ({ cls := "TickShare", name := "row", desc := "(IIII)I" } : Jvm.MethodName) ({ cls := "TickShare", name := "row", desc := "(IIII)I" } : Jvm.MethodName)) ∈ lw_all := lw_g (lw_at lw_m2 158 rfl) rfl
theorem q448 : (Jvm.Cond.codeWith ({ cls := "TickShare", name := "row", desc := "(IIII)I" } : Jvm.MethodName) prog_1_method_32_code (6 : Nat) (Option.some Jvm.ClassFile.FieldType.int) [((5 : Nat), (67 : Nat), (68 : Nat), (53 : Nat))]) ∈ lw_all := lw_g (lw_at lw_m2 159 rfl) rfl
theorem q449 : (Jvm.Cond.methodLink "TickShare" (171 : Nat) ({ cls := "TickShare", name := "free", desc := "([I)[LTickShare$Thing;" } : Jvm.MethodName)) ∈ lw_all := lw_g (lw_at lw_m2 160 rfl) rfl
theorem q450 : (Jvm.Cond.privateMethod ({ cls := "TickShare", name := "free", desc := "([I)[LTickShare$Thing;" } : Jvm.MethodName)) ∈ lw_tbl := lw_at lw_m2 161 rfl
theorem q451 : (Jvm.Cond.instanceMethod ({ cls := "TickShare", name := "free", desc := "([I)[LTickShare$Thing;" } : Jvm.MethodName)) ∈ lw_all := lw_g (lw_at lw_m2 162 rfl) rfl
theorem q452 : (Jvm.Cond.code ({ cls := "TickShare", name := "free", desc := "([I)[LTickShare$Thing;" } : Jvm.MethodName) prog_1_method_30_code (5 : Nat) (Option.some (Jvm.ClassFile.FieldType.array (Jvm.ClassFile.FieldType.object "TickShare$Thing")))) ∈ lw_all := lw_g (lw_at lw_m2 163 rfl) rfl
theorem q453 : (Jvm.Cond.methodLink "TickShare" (163 : Nat) ({ cls := "TickShare", name := "thing", desc := "(I)LTickShare$Thing;" } : Jvm.MethodName)) ∈ lw_all := lw_g (lw_at lw_m2 164 rfl) rfl
theorem q454 : (Jvm.Cond.privateMethod ({ cls := "TickShare", name := "thing", desc := "(I)LTickShare$Thing;" } : Jvm.MethodName)) ∈ lw_tbl := lw_at lw_m2 165 rfl
theorem q455 : (Jvm.Cond.instanceMethod ({ cls := "TickShare", name := "thing", desc := "(I)LTickShare$Thing;" } : Jvm.MethodName)) ∈ lw_all := lw_g (lw_at lw_m2 166 rfl) rfl
theorem q456 : (Jvm.Cond.code ({ cls := "TickShare", name := "thing", desc := "(I)LTickShare$Thing;" } : Jvm.MethodName) prog_1_method_24_code (2 : Nat) (Option.some (Jvm.ClassFile.FieldType.object "TickShare$Thing"))) ∈ lw_all := lw_g (lw_at lw_m2 167 rfl) rfl
theorem q457 : (Jvm.Cond.methodLink "TickShare" (175 : Nat) ({ cls := "TickShare", name := "wantFree", desc := "([LTickShare$Thing;)V" } : Jvm.MethodName)) ∈ lw_all := lw_g (lw_at lw_m2 168 rfl) rfl
theorem q458 : (Jvm.Cond.privateMethod ({ cls := "TickShare", name := "wantFree", desc := "([LTickShare$Thing;)V" } : Jvm.MethodName)) ∈ lw_tbl := lw_at lw_m2 169 rfl
theorem q459 : (Jvm.Cond.instanceMethod ({ cls := "TickShare", name := "wantFree", desc := "([LTickShare$Thing;)V" } : Jvm.MethodName)) ∈ lw_all := lw_g (lw_at lw_m2 170 rfl) rfl
theorem q460 : (Jvm.Cond.code ({ cls := "TickShare", name := "wantFree", desc := "([LTickShare$Thing;)V" } : Jvm.MethodName) prog_1_method_31_code (4 : Nat) (Option.none : Option Jvm.ClassFile.FieldType)) ∈ lw_all := lw_g (lw_at lw_m2 171 rfl) rfl
theorem q461 : (Jvm.Cond.classLink "TickShare" (179 : Nat) "TickShare$Row") ∈ lw_all := lw_g (lw_at lw_m2 172 rfl) rfl
theorem q463 : (Jvm.Cond.methodLink "TickShare" (181 : Nat) ({ cls := "TickShare$Row", name := "<init>", desc := "([LTickShare$Thing;)V" } : Jvm.MethodName)) ∈ lw_all := lw_g (lw_at lw_m2 174 rfl) rfl
theorem q483 : (Jvm.Cond.instanceMethod ({ cls := "TickShare", name := "fan", desc := "(IIIII)I" } : Jvm.MethodName)) ∈ lw_all := lw_g (lw_at lw_m2 194 rfl) rfl
theorem q484 : (Jvm.Cond.selects "TickShare" ({ cls := "TickShare", name := "fan", desc := "(IIIII)I" } : Jvm.MethodName) ({ cls := "TickShare", name := "fan", desc := "(IIIII)I" } : Jvm.MethodName)) ∈ lw_all := lw_g (lw_at lw_m2 195 rfl) rfl
theorem q485 : (Jvm.Cond.codeWith ({ cls := "TickShare", name := "fan", desc := "(IIIII)I" } : Jvm.MethodName) prog_1_method_33_code (7 : Nat) (Option.some Jvm.ClassFile.FieldType.int) [((5 : Nat), (81 : Nat), (82 : Nat), (53 : Nat))]) ∈ lw_all := lw_g (lw_at lw_m2 196 rfl) rfl
theorem q486 : (Jvm.Cond.classLink "TickShare" (183 : Nat) "TickShare$Fan") ∈ lw_all := lw_g (lw_at lw_m2 197 rfl) rfl
theorem q488 : (Jvm.Cond.methodLink "TickShare" (185 : Nat) ({ cls := "TickShare$Fan", name := "<init>", desc := "(I[LTickShare$Thing;)V" } : Jvm.MethodName)) ∈ lw_all := lw_g (lw_at lw_m2 199 rfl) rfl
theorem q515 : (Jvm.Cond.instanceMethod ({ cls := "TickShare", name := "cache", desc := "(IIII)I" } : Jvm.MethodName)) ∈ lw_all := lw_g (lw_at lw_m2 226 rfl) rfl
theorem q516 : (Jvm.Cond.selects "TickShare" ({ cls := "TickShare", name := "cache", desc := "(IIII)I" } : Jvm.MethodName) ({ cls := "TickShare", name := "cache", desc := "(IIII)I" } : Jvm.MethodName)) ∈ lw_all := lw_g (lw_at lw_m2 227 rfl) rfl
theorem q517 : (Jvm.Cond.codeWith ({ cls := "TickShare", name := "cache", desc := "(IIII)I" } : Jvm.MethodName) prog_1_method_34_code (7 : Nat) (Option.some Jvm.ClassFile.FieldType.int) [((5 : Nat), (88 : Nat), (89 : Nat), (53 : Nat))]) ∈ lw_all := lw_g (lw_at lw_m2 228 rfl) rfl
theorem q518 : (Jvm.Cond.classLink "TickShare" (188 : Nat) "TickShare$Cache") ∈ lw_all := lw_g (lw_at lw_m2 229 rfl) rfl
theorem q520 : (Jvm.Cond.methodLink "TickShare" (190 : Nat) ({ cls := "TickShare$Cache", name := "<init>", desc := "(LTickShare$Thing;LTickShare$Thing;II)V" } : Jvm.MethodName)) ∈ lw_all := lw_g (lw_at lw_m2 231 rfl) rfl
theorem q539 : (Jvm.Cond.instanceMethod ({ cls := "TickShare", name := "retry", desc := "(III)I" } : Jvm.MethodName)) ∈ lw_all := lw_g (lw_at lw_m3 10 rfl) rfl
theorem q540 : (Jvm.Cond.selects "TickShare" ({ cls := "TickShare", name := "retry", desc := "(III)I" } : Jvm.MethodName) ({ cls := "TickShare", name := "retry", desc := "(III)I" } : Jvm.MethodName)) ∈ lw_all := lw_g (lw_at lw_m3 11 rfl) rfl
theorem q541 : (Jvm.Cond.codeWith ({ cls := "TickShare", name := "retry", desc := "(III)I" } : Jvm.MethodName) prog_1_method_35_code (5 : Nat) (Option.some Jvm.ClassFile.FieldType.int) [((5 : Nat), (71 : Nat), (72 : Nat), (53 : Nat))]) ∈ lw_all := lw_g (lw_at lw_m3 12 rfl) rfl
theorem q542 : (Jvm.Cond.classLink "TickShare" (193 : Nat) "TickShare$Retry") ∈ lw_all := lw_g (lw_at lw_m3 13 rfl) rfl
theorem q544 : (Jvm.Cond.methodLink "TickShare" (195 : Nat) ({ cls := "TickShare$Retry", name := "<init>", desc := "(LTickShare$Thing;II)V" } : Jvm.MethodName)) ∈ lw_all := lw_g (lw_at lw_m3 15 rfl) rfl
theorem q569 : (Jvm.Cond.instanceMethod ({ cls := "TickShare", name := "hedge", desc := "(II)I" } : Jvm.MethodName)) ∈ lw_all := lw_g (lw_at lw_m3 40 rfl) rfl
theorem q570 : (Jvm.Cond.selects "TickShare" ({ cls := "TickShare", name := "hedge", desc := "(II)I" } : Jvm.MethodName) ({ cls := "TickShare", name := "hedge", desc := "(II)I" } : Jvm.MethodName)) ∈ lw_all := lw_g (lw_at lw_m3 41 rfl) rfl
theorem q571 : (Jvm.Cond.codeWith ({ cls := "TickShare", name := "hedge", desc := "(II)I" } : Jvm.MethodName) prog_1_method_36_code (4 : Nat) (Option.some Jvm.ClassFile.FieldType.int) [((5 : Nat), (56 : Nat), (57 : Nat), (53 : Nat))]) ∈ lw_all := lw_g (lw_at lw_m3 42 rfl) rfl
theorem q572 : (Jvm.Cond.classLink "TickShare" (198 : Nat) "TickShare$Hedge") ∈ lw_all := lw_g (lw_at lw_m3 43 rfl) rfl
theorem q574 : (Jvm.Cond.methodLink "TickShare" (200 : Nat) ({ cls := "TickShare$Hedge", name := "<init>", desc := "(LTickShare$Thing;I)V" } : Jvm.MethodName)) ∈ lw_all := lw_g (lw_at lw_m3 45 rfl) rfl
theorem q590 : (Jvm.Cond.instanceMethod ({ cls := "TickShare", name := "told", desc := "(II)I" } : Jvm.MethodName)) ∈ lw_all := lw_g (lw_at lw_m3 61 rfl) rfl
theorem q591 : (Jvm.Cond.selects "TickShare" ({ cls := "TickShare", name := "told", desc := "(II)I" } : Jvm.MethodName) ({ cls := "TickShare", name := "told", desc := "(II)I" } : Jvm.MethodName)) ∈ lw_all := lw_g (lw_at lw_m3 62 rfl) rfl
theorem q592 : (Jvm.Cond.codeWith ({ cls := "TickShare", name := "told", desc := "(II)I" } : Jvm.MethodName) prog_1_method_38_code (4 : Nat) (Option.some Jvm.ClassFile.FieldType.int) [((5 : Nat), (68 : Nat), (102 : Nat), (53 : Nat)), ((69 : Nat), (73 : Nat), (102 : Nat), (53 : Nat)), ((74 : Nat), (82 : Nat), (102 : Nat), (53 : Nat)), ((83 : Nat), (88 : Nat), (102 : Nat), (53 : Nat)), ((89 : Nat), (93 : Nat), (102 : Nat), (53 : Nat)), ((94 : Nat), (101 : Nat), (102 : Nat), (53 : Nat)), ((5 : Nat), (68 : Nat), (109 : Nat), (13 : Nat)), ((69 : Nat), (73 : Nat), (109 : Nat), (13 : Nat)), ((74 : Nat), (82 : Nat), (109 : Nat), (13 : Nat)), ((83 : Nat), (88 : Nat), (109 : Nat), (13 : Nat)), ((89 : Nat), (93 : Nat), (109 : Nat), (13 : Nat)), ((94 : Nat), (101 : Nat), (109 : Nat), (13 : Nat))]) ∈ lw_all := lw_g (lw_at lw_m3 63 rfl) rfl
theorem q593 : (Jvm.Cond.classLink "TickShare" (13 : Nat) "TickShare$TooGreat") ∈ lw_all := lw_g (lw_at lw_m3 64 rfl) rfl
theorem q594 : (Jvm.Cond.methodLink "TickShare" (203 : Nat) ({ cls := "TickShare$Thing", name := "kind", desc := "()I" } : Jvm.MethodName)) ∈ lw_all := lw_g (lw_at lw_m3 65 rfl) rfl
theorem q615 : (Jvm.Cond.methodLink "TickShare" (207 : Nat) ({ cls := "TickShare", name := "numberOf", desc := "(LTickShare$Thing;)I" } : Jvm.MethodName)) ∈ lw_all := lw_g (lw_at lw_m3 86 rfl) rfl
theorem q616 : (Jvm.Cond.privateMethod ({ cls := "TickShare", name := "numberOf", desc := "(LTickShare$Thing;)I" } : Jvm.MethodName)) ∈ lw_tbl := lw_at lw_m3 87 rfl
theorem q617 : (Jvm.Cond.instanceMethod ({ cls := "TickShare", name := "numberOf", desc := "(LTickShare$Thing;)I" } : Jvm.MethodName)) ∈ lw_all := lw_g (lw_at lw_m3 88 rfl) rfl
theorem q618 : (Jvm.Cond.code ({ cls := "TickShare", name := "numberOf", desc := "(LTickShare$Thing;)I" } : Jvm.MethodName) prog_1_method_37_code (3 : Nat) (Option.some Jvm.ClassFile.FieldType.int)) ∈ lw_all := lw_g (lw_at lw_m3 89 rfl) rfl
theorem q619 : (Jvm.Cond.methodLink "TickShare" (213 : Nat) ({ cls := "TickShare$Thing", name := "leaves", desc := "()I" } : Jvm.MethodName)) ∈ lw_all := lw_g (lw_at lw_m3 90 rfl) rfl
theorem q632 : (Jvm.Cond.methodLink "TickShare" (216 : Nat) ({ cls := "TickShare$Thing", name := "table", desc := "()LTickShare$Table;" } : Jvm.MethodName)) ∈ lw_all := lw_g (lw_at lw_m3 103 rfl) rfl
theorem q658 : (Jvm.Cond.static ({ cls := "TickShare", name := "times", desc := "(JJ)J" } : Jvm.MethodName)) ∈ lw_all := lw_g (lw_at lw_m3 129 rfl) rfl
theorem q659 : (Jvm.Cond.code ({ cls := "TickShare", name := "times", desc := "(JJ)J" } : Jvm.MethodName) prog_1_method_6_code (4 : Nat) (Option.some Jvm.ClassFile.FieldType.long)) ∈ lw_all := lw_g (lw_at lw_m3 130 rfl) rfl
theorem q660 : (Jvm.Cond.constantLong "TickShare" (11 : Nat) (4611686018427387903 : Int64)) ∈ lw_all := lw_g (lw_at lw_m3 131 rfl) rfl
theorem q669 : (Jvm.Cond.methodLink "TickShare" (15 : Nat) ({ cls := "TickShare$TooGreat", name := "<init>", desc := "()V" } : Jvm.MethodName)) ∈ lw_all := lw_g (lw_at lw_m3 140 rfl) rfl
theorem q680 : (Jvm.Cond.static ({ cls := "TickShare", name := "fold", desc := "(LTickShare$Table;LTickShare$Table;JLTickShare$Table;)V" } : Jvm.MethodName)) ∈ lw_all := lw_g (lw_at lw_m3 151 rfl) rfl
theorem q681 : (Jvm.Cond.code ({ cls := "TickShare", name := "fold", desc := "(LTickShare$Table;LTickShare$Table;JLTickShare$Table;)V" } : Jvm.MethodName) prog_1_method_7_code (7 : Nat) (Option.none : Option Jvm.ClassFile.FieldType)) ∈ lw_all := lw_g (lw_at lw_m3 152 rfl) rfl
theorem q682 : (Jvm.Cond.methodLink "TickShare" (28 : Nat) ({ cls := "TickShare$Table", name := "add", desc := "(ZIJ)V" } : Jvm.MethodName)) ∈ lw_all := lw_g (lw_at lw_m3 153 rfl) rfl
theorem q725 : (Jvm.Cond.methodLink "TickShare" (219 : Nat) ({ cls := "TickShare$Table", name := "last", desc := "()I" } : Jvm.MethodName)) ∈ lw_all := lw_g (lw_at lw_m3 196 rfl) rfl
theorem q729 : (Jvm.Cond.methodLink "TickShare" (222 : Nat) ({ cls := "TickShare", name := "great", desc := "()I" } : Jvm.MethodName)) ∈ lw_all := lw_g (lw_at lw_m3 200 rfl) rfl
theorem q730 : (Jvm.Cond.privateMethod ({ cls := "TickShare", name := "great", desc := "()I" } : Jvm.MethodName)) ∈ lw_tbl := lw_at lw_m3 201 rfl
theorem q731 : (Jvm.Cond.instanceMethod ({ cls := "TickShare", name := "great", desc := "()I" } : Jvm.MethodName)) ∈ lw_all := lw_g (lw_at lw_m3 202 rfl) rfl
theorem q732 : (Jvm.Cond.code ({ cls := "TickShare", name := "great", desc := "()I" } : Jvm.MethodName) prog_1_method_15_code (1 : Nat) (Option.some Jvm.ClassFile.FieldType.int)) ∈ lw_all := lw_g (lw_at lw_m3 203 rfl) rfl
theorem q734 : (Jvm.Cond.instanceMethod ({ cls := "TickShare", name := "weight", desc := "(IIZ)J" } : Jvm.MethodName)) ∈ lw_all := lw_g (lw_at lw_m3 205 rfl) rfl
theorem q735 : (Jvm.Cond.selects "TickShare" ({ cls := "TickShare", name := "weight", desc := "(IIZ)J" } : Jvm.MethodName) ({ cls := "TickShare", name := "weight", desc := "(IIZ)J" } : Jvm.MethodName)) ∈ lw_all := lw_g (lw_at lw_m3 206 rfl) rfl
theorem q736 : (Jvm.Cond.codeWith ({ cls := "TickShare", name := "weight", desc := "(IIZ)J" } : Jvm.MethodName) prog_1_method_39_code (5 : Nat) (Option.some Jvm.ClassFile.FieldType.long) [((5 : Nat), (59 : Nat), (60 : Nat), (53 : Nat)), ((5 : Nat), (59 : Nat), (70 : Nat), (13 : Nat))]) ∈ lw_all := lw_g (lw_at lw_m3 207 rfl) rfl
theorem q738 : (Jvm.Cond.instanceMethod ({ cls := "TickShare", name := "whole", desc := "(I)J" } : Jvm.MethodName)) ∈ lw_all := lw_g (lw_at lw_m3 209 rfl) rfl
theorem q739 : (Jvm.Cond.selects "TickShare" ({ cls := "TickShare", name := "whole", desc := "(I)J" } : Jvm.MethodName) ({ cls := "TickShare", name := "whole", desc := "(I)J" } : Jvm.MethodName)) ∈ lw_all := lw_g (lw_at lw_m3 210 rfl) rfl
theorem q740 : (Jvm.Cond.codeWith ({ cls := "TickShare", name := "whole", desc := "(I)J" } : Jvm.MethodName) prog_1_method_40_code (3 : Nat) (Option.some Jvm.ClassFile.FieldType.long) [((5 : Nat), (16 : Nat), (17 : Nat), (53 : Nat)), ((5 : Nat), (16 : Nat), (25 : Nat), (13 : Nat))]) ∈ lw_all := lw_g (lw_at lw_m3 211 rfl) rfl
theorem q742 : (Jvm.Cond.instanceMethod ({ cls := "TickShare", name := "by", desc := "(II)I" } : Jvm.MethodName)) ∈ lw_all := lw_g (lw_at lw_m3 213 rfl) rfl
theorem q743 : (Jvm.Cond.selects "TickShare" ({ cls := "TickShare", name := "by", desc := "(II)I" } : Jvm.MethodName) ({ cls := "TickShare", name := "by", desc := "(II)I" } : Jvm.MethodName)) ∈ lw_all := lw_g (lw_at lw_m3 214 rfl) rfl
theorem q744 : (Jvm.Cond.codeWith ({ cls := "TickShare", name := "by", desc := "(II)I" } : Jvm.MethodName) prog_1_method_41_code (5 : Nat) (Option.some Jvm.ClassFile.FieldType.int) [((5 : Nat), (52 : Nat), (53 : Nat), (53 : Nat)), ((5 : Nat), (52 : Nat), (60 : Nat), (13 : Nat))]) ∈ lw_all := lw_g (lw_at lw_m3 215 rfl) rfl
theorem q745 : (Jvm.Cond.methodLink "TickShare" (225 : Nat) ({ cls := "TickShare$Table", name := "by", desc := "(I)J" } : Jvm.MethodName)) ∈ lw_all := lw_g (lw_at lw_m3 216 rfl) rfl
theorem q749 : (Jvm.Cond.methodLink "TickShare" (228 : Nat) ({ cls := "TickShare", name := "tells", desc := "(JJ)I" } : Jvm.MethodName)) ∈ lw_all := lw_g (lw_at lw_m3 220 rfl) rfl
theorem q750 : (Jvm.Cond.privateMethod ({ cls := "TickShare", name := "tells", desc := "(JJ)I" } : Jvm.MethodName)) ∈ lw_tbl := lw_at lw_m3 221 rfl
theorem q751 : (Jvm.Cond.instanceMethod ({ cls := "TickShare", name := "tells", desc := "(JJ)I" } : Jvm.MethodName)) ∈ lw_all := lw_g (lw_at lw_m3 222 rfl) rfl
theorem q752 : (Jvm.Cond.code ({ cls := "TickShare", name := "tells", desc := "(JJ)I" } : Jvm.MethodName) prog_1_method_18_code (7 : Nat) (Option.some Jvm.ClassFile.FieldType.int)) ∈ lw_all := lw_g (lw_at lw_m3 223 rfl) rfl
theorem q753 : (Jvm.Cond.methodLink "TickShare" (83 : Nat) ({ cls := "TickShare", name := "common", desc := "(JJ)J" } : Jvm.MethodName)) ∈ lw_all := lw_g (lw_at lw_m3 224 rfl) rfl
theorem q755 : (Jvm.Cond.instanceMethod ({ cls := "TickShare", name := "fails", desc := "(I)I" } : Jvm.MethodName)) ∈ lw_all := lw_g (lw_at lw_m3 226 rfl) rfl
theorem q756 : (Jvm.Cond.selects "TickShare" ({ cls := "TickShare", name := "fails", desc := "(I)I" } : Jvm.MethodName) ({ cls := "TickShare", name := "fails", desc := "(I)I" } : Jvm.MethodName)) ∈ lw_all := lw_g (lw_at lw_m3 227 rfl) rfl
theorem q757 : (Jvm.Cond.codeWith ({ cls := "TickShare", name := "fails", desc := "(I)I" } : Jvm.MethodName) prog_1_method_42_code (3 : Nat) (Option.some Jvm.ClassFile.FieldType.int) [((5 : Nat), (26 : Nat), (27 : Nat), (53 : Nat)), ((5 : Nat), (26 : Nat), (34 : Nat), (13 : Nat))]) ∈ lw_all := lw_g (lw_at lw_m3 228 rfl) rfl
theorem q758 : (Jvm.Cond.methodLink "TickShare" (232 : Nat) ({ cls := "TickShare$Table", name := "failed", desc := "()J" } : Jvm.MethodName)) ∈ lw_all := lw_g (lw_at lw_m3 229 rfl) rfl
theorem q763 : (Jvm.Cond.instanceMethod ({ cls := "TickShare", name := "promise", desc := "(III)I" } : Jvm.MethodName)) ∈ lw_all := lw_g (lw_at lw_m3 234 rfl) rfl
theorem q764 : (Jvm.Cond.selects "TickShare" ({ cls := "TickShare", name := "promise", desc := "(III)I" } : Jvm.MethodName) ({ cls := "TickShare", name := "promise", desc := "(III)I" } : Jvm.MethodName)) ∈ lw_all := lw_g (lw_at lw_m3 235 rfl) rfl
theorem q765 : (Jvm.Cond.codeWith ({ cls := "TickShare", name := "promise", desc := "(III)I" } : Jvm.MethodName) prog_1_method_45_code (7 : Nat) (Option.some Jvm.ClassFile.FieldType.int) [((5 : Nat), (87 : Nat), (88 : Nat), (53 : Nat)), ((5 : Nat), (87 : Nat), (97 : Nat), (13 : Nat))]) ∈ lw_all := lw_g (lw_at lw_m3 236 rfl) rfl
theorem q766 : (Jvm.Cond.methodLink "TickShare" (237 : Nat) ({ cls := "TickShare", name := "isShare", desc := "(II)Z" } : Jvm.MethodName)) ∈ lw_all := lw_g (lw_at lw_m3 237 rfl) rfl
theorem q767 : (Jvm.Cond.static ({ cls := "TickShare", name := "isShare", desc := "(II)Z" } : Jvm.MethodName)) ∈ lw_all := lw_g (lw_at lw_m3 238 rfl) rfl
theorem q768 : (Jvm.Cond.code ({ cls := "TickShare", name := "isShare", desc := "(II)Z" } : Jvm.MethodName) prog_1_method_44_code (2 : Nat) (Option.some Jvm.ClassFile.FieldType.boolean)) ∈ lw_all := lw_g (lw_at lw_m3 239 rfl) rfl
theorem q769 : (Jvm.Cond.constant "TickShare" (236 : Nat) (1000000 : Int32)) ∈ lw_all := lw_g (lw_at lw_m4 0 rfl) rfl
theorem q770 : (Jvm.Cond.methodLink "TickShare" (241 : Nat) ({ cls := "TickShare", name := "isEnough", desc := "(JJJJ)Z" } : Jvm.MethodName)) ∈ lw_all := lw_g (lw_at lw_m4 1 rfl) rfl
theorem q771 : (Jvm.Cond.static ({ cls := "TickShare", name := "isEnough", desc := "(JJJJ)Z" } : Jvm.MethodName)) ∈ lw_all := lw_g (lw_at lw_m4 2 rfl) rfl
theorem q772 : (Jvm.Cond.code ({ cls := "TickShare", name := "isEnough", desc := "(JJJJ)Z" } : Jvm.MethodName) prog_1_method_43_code (21 : Nat) (Option.some Jvm.ClassFile.FieldType.boolean)) ∈ lw_all := lw_g (lw_at lw_m4 3 rfl) rfl
theorem q774 : (Jvm.Cond.instanceMethod ({ cls := "TickShare", name := "bound", desc := "(II)I" } : Jvm.MethodName)) ∈ lw_all := lw_g (lw_at lw_m4 5 rfl) rfl
theorem q775 : (Jvm.Cond.selects "TickShare" ({ cls := "TickShare", name := "bound", desc := "(II)I" } : Jvm.MethodName) ({ cls := "TickShare", name := "bound", desc := "(II)I" } : Jvm.MethodName)) ∈ lw_all := lw_g (lw_at lw_m4 6 rfl) rfl
theorem q776 : (Jvm.Cond.codeWith ({ cls := "TickShare", name := "bound", desc := "(II)I" } : Jvm.MethodName) prog_1_method_46_code (6 : Nat) (Option.some Jvm.ClassFile.FieldType.int) [((5 : Nat), (58 : Nat), (59 : Nat), (53 : Nat)), ((5 : Nat), (58 : Nat), (66 : Nat), (13 : Nat))]) ∈ lw_all := lw_g (lw_at lw_m4 7 rfl) rfl
theorem q777 : (Jvm.Cond.methodLink "TickShare" (245 : Nat) ({ cls := "TickShare$Thing", name := "bounds", desc := "([J)J" } : Jvm.MethodName)) ∈ lw_all := lw_g (lw_at lw_m4 8 rfl) rfl
theorem q800 : (Jvm.Cond.static ({ cls := "TickShare", name := "bounded", desc := "(J)J" } : Jvm.MethodName)) ∈ lw_all := lw_g (lw_at lw_m4 31 rfl) rfl
theorem q801 : (Jvm.Cond.code ({ cls := "TickShare", name := "bounded", desc := "(J)J" } : Jvm.MethodName) prog_1_method_8_code (2 : Nat) (Option.some Jvm.ClassFile.FieldType.long)) ∈ lw_all := lw_g (lw_at lw_m4 32 rfl) rfl
theorem q802 : (Jvm.Cond.constantLong "TickShare" (35 : Nat) (1152921504606846976 : Int64)) ∈ lw_all := lw_g (lw_at lw_m4 33 rfl) rfl
theorem q814 : (Jvm.Cond.instanceMethod ({ cls := "TickShare", name := "asks", desc := "(II)I" } : Jvm.MethodName)) ∈ lw_all := lw_g (lw_at lw_m4 45 rfl) rfl
theorem q815 : (Jvm.Cond.selects "TickShare" ({ cls := "TickShare", name := "asks", desc := "(II)I" } : Jvm.MethodName) ({ cls := "TickShare", name := "asks", desc := "(II)I" } : Jvm.MethodName)) ∈ lw_all := lw_g (lw_at lw_m4 46 rfl) rfl
theorem q816 : (Jvm.Cond.codeWith ({ cls := "TickShare", name := "asks", desc := "(II)I" } : Jvm.MethodName) prog_1_method_48_code (7 : Nat) (Option.some Jvm.ClassFile.FieldType.int) [((5 : Nat), (64 : Nat), (65 : Nat), (53 : Nat))]) ∈ lw_all := lw_g (lw_at lw_m4 47 rfl) rfl
theorem q817 : (Jvm.Cond.methodLink "TickShare" (249 : Nat) ({ cls := "TickShare", name := "leafOf", desc := "(I)LTickShare$Leaf;" } : Jvm.MethodName)) ∈ lw_all := lw_g (lw_at lw_m4 48 rfl) rfl
theorem q818 : (Jvm.Cond.privateMethod ({ cls := "TickShare", name := "leafOf", desc := "(I)LTickShare$Leaf;" } : Jvm.MethodName)) ∈ lw_tbl := lw_at lw_m4 49 rfl
theorem q819 : (Jvm.Cond.instanceMethod ({ cls := "TickShare", name := "leafOf", desc := "(I)LTickShare$Leaf;" } : Jvm.MethodName)) ∈ lw_all := lw_g (lw_at lw_m4 50 rfl) rfl
theorem q820 : (Jvm.Cond.code ({ cls := "TickShare", name := "leafOf", desc := "(I)LTickShare$Leaf;" } : Jvm.MethodName) prog_1_method_25_code (2 : Nat) (Option.some (Jvm.ClassFile.FieldType.object "TickShare$Leaf"))) ∈ lw_all := lw_g (lw_at lw_m4 51 rfl) rfl
theorem q821 : (Jvm.Cond.methodLink "TickShare" (253 : Nat) ({ cls := "TickShare", name := "isIn", desc := "(LTickShare$Thing;LTickShare$Thing;)Z" } : Jvm.MethodName)) ∈ lw_all := lw_g (lw_at lw_m4 52 rfl) rfl
theorem q822 : (Jvm.Cond.static ({ cls := "TickShare", name := "isIn", desc := "(LTickShare$Thing;LTickShare$Thing;)Z" } : Jvm.MethodName)) ∈ lw_all := lw_g (lw_at lw_m4 53 rfl) rfl
theorem q823 : (Jvm.Cond.code ({ cls := "TickShare", name := "isIn", desc := "(LTickShare$Thing;LTickShare$Thing;)Z" } : Jvm.MethodName) prog_1_method_47_code (3 : Nat) (Option.some Jvm.ClassFile.FieldType.boolean)) ∈ lw_all := lw_g (lw_at lw_m4 54 rfl) rfl
theorem q824 : (Jvm.Cond.methodLink "TickShare" (257 : Nat) ({ cls := "TickShare$Thing", name := "asks", desc := "()I" } : Jvm.MethodName)) ∈ lw_all := lw_g (lw_at lw_m4 55 rfl) rfl
theorem q839 : (Jvm.Cond.instanceMethod ({ cls := "TickShare", name := "change", desc := "(III)Z" } : Jvm.MethodName)) ∈ lw_all := lw_g (lw_at lw_m4 70 rfl) rfl
theorem q840 : (Jvm.Cond.selects "TickShare" ({ cls := "TickShare", name := "change", desc := "(III)Z" } : Jvm.MethodName) ({ cls := "TickShare", name := "change", desc := "(III)Z" } : Jvm.MethodName)) ∈ lw_all := lw_g (lw_at lw_m4 71 rfl) rfl
theorem q841 : (Jvm.Cond.codeWith ({ cls := "TickShare", name := "change", desc := "(III)Z" } : Jvm.MethodName) prog_1_method_49_code (5 : Nat) (Option.some Jvm.ClassFile.FieldType.boolean) [((5 : Nat), (50 : Nat), (51 : Nat), (53 : Nat))]) ∈ lw_all := lw_g (lw_at lw_m4 72 rfl) rfl
theorem q843 : (Jvm.Cond.instanceMethod ({ cls := "TickShare", name := "price", desc := "(II)Z" } : Jvm.MethodName)) ∈ lw_all := lw_g (lw_at lw_m4 74 rfl) rfl
theorem q844 : (Jvm.Cond.selects "TickShare" ({ cls := "TickShare", name := "price", desc := "(II)Z" } : Jvm.MethodName) ({ cls := "TickShare", name := "price", desc := "(II)Z" } : Jvm.MethodName)) ∈ lw_all := lw_g (lw_at lw_m4 75 rfl) rfl
theorem q845 : (Jvm.Cond.codeWith ({ cls := "TickShare", name := "price", desc := "(II)Z" } : Jvm.MethodName) prog_1_method_50_code (4 : Nat) (Option.some Jvm.ClassFile.FieldType.boolean) [((5 : Nat), (40 : Nat), (41 : Nat), (53 : Nat))]) ∈ lw_all := lw_g (lw_at lw_m4 76 rfl) rfl
theorem q847 : (Jvm.Cond.instanceMethod ({ cls := "TickShare", name := "grade", desc := "(IIII)I" } : Jvm.MethodName)) ∈ lw_all := lw_g (lw_at lw_m4 78 rfl) rfl
theorem q848 : (Jvm.Cond.selects "TickShare" ({ cls := "TickShare", name := "grade", desc := "(IIII)I" } : Jvm.MethodName) ({ cls := "TickShare", name := "grade", desc := "(IIII)I" } : Jvm.MethodName)) ∈ lw_all := lw_g (lw_at lw_m4 79 rfl) rfl
theorem q849 : (Jvm.Cond.codeWith ({ cls := "TickShare", name := "grade", desc := "(IIII)I" } : Jvm.MethodName) prog_1_method_52_code (7 : Nat) (Option.some Jvm.ClassFile.FieldType.int) [((5 : Nat), (137 : Nat), (138 : Nat), (53 : Nat))]) ∈ lw_all := lw_g (lw_at lw_m4 80 rfl) rfl
theorem q850 : (Jvm.Cond.methodLink "TickShare" (270 : Nat) ({ cls := "TickShare", name := "choosers", desc := "()I" } : Jvm.MethodName)) ∈ lw_all := lw_g (lw_at lw_m4 81 rfl) rfl
theorem q851 : (Jvm.Cond.privateMethod ({ cls := "TickShare", name := "choosers", desc := "()I" } : Jvm.MethodName)) ∈ lw_tbl := lw_at lw_m4 82 rfl
theorem q852 : (Jvm.Cond.instanceMethod ({ cls := "TickShare", name := "choosers", desc := "()I" } : Jvm.MethodName)) ∈ lw_all := lw_g (lw_at lw_m4 83 rfl) rfl
theorem q853 : (Jvm.Cond.code ({ cls := "TickShare", name := "choosers", desc := "()I" } : Jvm.MethodName) prog_1_method_51_code (5 : Nat) (Option.some Jvm.ClassFile.FieldType.int)) ∈ lw_all := lw_g (lw_at lw_m4 84 rfl) rfl
theorem q855 : (Jvm.Cond.instanceMethod ({ cls := "TickShare", name := "best", desc := "(IIII)I" } : Jvm.MethodName)) ∈ lw_all := lw_g (lw_at lw_m4 86 rfl) rfl
theorem q856 : (Jvm.Cond.selects "TickShare" ({ cls := "TickShare", name := "best", desc := "(IIII)I" } : Jvm.MethodName) ({ cls := "TickShare", name := "best", desc := "(IIII)I" } : Jvm.MethodName)) ∈ lw_all := lw_g (lw_at lw_m4 87 rfl) rfl
theorem q857 : (Jvm.Cond.codeWith ({ cls := "TickShare", name := "best", desc := "(IIII)I" } : Jvm.MethodName) prog_1_method_55_code (21 : Nat) (Option.some Jvm.ClassFile.FieldType.int) [((11 : Nat), (307 : Nat), (348 : Nat), (53 : Nat)), ((11 : Nat), (307 : Nat), (399 : Nat), (13 : Nat)), ((11 : Nat), (307 : Nat), (448 : Nat), (0 : Nat)), ((348 : Nat), (358 : Nat), (448 : Nat), (0 : Nat)), ((399 : Nat), (407 : Nat), (448 : Nat), (0 : Nat)), ((448 : Nat), (450 : Nat), (448 : Nat), (0 : Nat))]) ∈ lw_all := lw_g (lw_at lw_m4 88 rfl) rfl
theorem q859 : (Jvm.Cond.methodLink "TickShare" (276 : Nat) ({ cls := "TickShare", name := "leaves", desc := "(LTickShare$Thing;)[LTickShare$Leaf;" } : Jvm.MethodName)) ∈ lw_all := lw_g (lw_at lw_m4 90 rfl) rfl
theorem q860 : (Jvm.Cond.privateMethod ({ cls := "TickShare", name := "leaves", desc := "(LTickShare$Thing;)[LTickShare$Leaf;" } : Jvm.MethodName)) ∈ lw_tbl := lw_at lw_m4 91 rfl
theorem q861 : (Jvm.Cond.instanceMethod ({ cls := "TickShare", name := "leaves", desc := "(LTickShare$Thing;)[LTickShare$Leaf;" } : Jvm.MethodName)) ∈ lw_all := lw_g (lw_at lw_m4 92 rfl) rfl
theorem q862 : (Jvm.Cond.code ({ cls := "TickShare", name := "leaves", desc := "(LTickShare$Thing;)[LTickShare$Leaf;" } : Jvm.MethodName) prog_1_method_53_code (7 : Nat) (Option.some (Jvm.ClassFile.FieldType.array (Jvm.ClassFile.FieldType.object "TickShare$Leaf")))) ∈ lw_all := lw_g (lw_at lw_m4 93 rfl) rfl
theorem q863 : (Jvm.Cond.methodLink "TickShare" (279 : Nat) ({ cls := "TickShare", name := "next", desc := "([LTickShare$Leaf;)Z" } : Jvm.MethodName)) ∈ lw_all := lw_g (lw_at lw_m4 94 rfl) rfl
theorem q864 : (Jvm.Cond.static ({ cls := "TickShare", name := "next", desc := "([LTickShare$Leaf;)Z" } : Jvm.MethodName)) ∈ lw_all := lw_g (lw_at lw_m4 95 rfl) rfl
theorem q865 : (Jvm.Cond.code ({ cls := "TickShare", name := "next", desc := "([LTickShare$Leaf;)Z" } : Jvm.MethodName) prog_1_method_54_code (2 : Nat) (Option.some Jvm.ClassFile.FieldType.boolean)) ∈ lw_all := lw_g (lw_at lw_m4 96 rfl) rfl
theorem q867 : (Jvm.Cond.instanceMethod ({ cls := "TickShare", name := "chosen", desc := "(I)I" } : Jvm.MethodName)) ∈ lw_all := lw_g (lw_at lw_m4 98 rfl) rfl
theorem q868 : (Jvm.Cond.selects "TickShare" ({ cls := "TickShare", name := "chosen", desc := "(I)I" } : Jvm.MethodName) ({ cls := "TickShare", name := "chosen", desc := "(I)I" } : Jvm.MethodName)) ∈ lw_all := lw_g (lw_at lw_m4 99 rfl) rfl
theorem q869 : (Jvm.Cond.codeWith ({ cls := "TickShare", name := "chosen", desc := "(I)I" } : Jvm.MethodName) prog_1_method_56_code (3 : Nat) (Option.some Jvm.ClassFile.FieldType.int) [((5 : Nat), (33 : Nat), (34 : Nat), (53 : Nat))]) ∈ lw_all := lw_g (lw_at lw_m4 100 rfl) rfl
theorem q871 : (Jvm.Cond.instanceMethod ({ cls := "TickShare", name := "part", desc := "(II)Z" } : Jvm.MethodName)) ∈ lw_all := lw_g (lw_at lw_m4 102 rfl) rfl
theorem q872 : (Jvm.Cond.selects "TickShare" ({ cls := "TickShare", name := "part", desc := "(II)Z" } : Jvm.MethodName) ({ cls := "TickShare", name := "part", desc := "(II)Z" } : Jvm.MethodName)) ∈ lw_all := lw_g (lw_at lw_m4 103 rfl) rfl
theorem q873 : (Jvm.Cond.codeWith ({ cls := "TickShare", name := "part", desc := "(II)Z" } : Jvm.MethodName) prog_1_method_57_code (4 : Nat) (Option.some Jvm.ClassFile.FieldType.boolean) [((5 : Nat), (38 : Nat), (39 : Nat), (53 : Nat))]) ∈ lw_all := lw_g (lw_at lw_m4 104 rfl) rfl
theorem q875 : (Jvm.Cond.instanceMethod ({ cls := "TickShare", name := "trace", desc := "(II)I" } : Jvm.MethodName)) ∈ lw_all := lw_g (lw_at lw_m4 106 rfl) rfl
theorem q876 : (Jvm.Cond.selects "TickShare" ({ cls := "TickShare", name := "trace", desc := "(II)I" } : Jvm.MethodName) ({ cls := "TickShare", name := "trace", desc := "(II)I" } : Jvm.MethodName)) ∈ lw_all := lw_g (lw_at lw_m4 107 rfl) rfl
theorem q877 : (Jvm.Cond.codeWith ({ cls := "TickShare", name := "trace", desc := "(II)I" } : Jvm.MethodName) prog_1_method_58_code (9 : Nat) (Option.some Jvm.ClassFile.FieldType.int) [((5 : Nat), (146 : Nat), (218 : Nat), (53 : Nat)), ((147 : Nat), (217 : Nat), (218 : Nat), (53 : Nat))]) ∈ lw_all := lw_g (lw_at lw_m4 108 rfl) rfl
theorem q878 : (Jvm.Cond.methodLink "TickShare" (289 : Nat) ({ cls := "java/lang/Math", name := "max", desc := "(II)I" } : Jvm.MethodName)) ∈ lw_all := lw_g (lw_at lw_m4 109 rfl) rfl
theorem q880 : (Jvm.Cond.instanceMethod ({ cls := "TickShare", name := "traces", desc := "(II)I" } : Jvm.MethodName)) ∈ lw_all := lw_g (lw_at lw_m4 111 rfl) rfl
theorem q881 : (Jvm.Cond.selects "TickShare" ({ cls := "TickShare", name := "traces", desc := "(II)I" } : Jvm.MethodName) ({ cls := "TickShare", name := "traces", desc := "(II)I" } : Jvm.MethodName)) ∈ lw_all := lw_g (lw_at lw_m4 112 rfl) rfl
theorem q882 : (Jvm.Cond.codeWith ({ cls := "TickShare", name := "traces", desc := "(II)I" } : Jvm.MethodName) prog_1_method_59_code (4 : Nat) (Option.some Jvm.ClassFile.FieldType.int) [((5 : Nat), (45 : Nat), (46 : Nat), (53 : Nat))]) ∈ lw_all := lw_g (lw_at lw_m4 113 rfl) rfl
theorem q884 : (Jvm.Cond.instanceMethod ({ cls := "TickShare", name := "over", desc := "(I)I" } : Jvm.MethodName)) ∈ lw_all := lw_g (lw_at lw_m4 115 rfl) rfl
theorem q885 : (Jvm.Cond.selects "TickShare" ({ cls := "TickShare", name := "over", desc := "(I)I" } : Jvm.MethodName) ({ cls := "TickShare", name := "over", desc := "(I)I" } : Jvm.MethodName)) ∈ lw_all := lw_g (lw_at lw_m4 116 rfl) rfl
theorem q886 : (Jvm.Cond.codeWith ({ cls := "TickShare", name := "over", desc := "(I)I" } : Jvm.MethodName) prog_1_method_60_code (3 : Nat) (Option.some Jvm.ClassFile.FieldType.int) [((5 : Nat), (13 : Nat), (14 : Nat), (53 : Nat))]) ∈ lw_all := lw_g (lw_at lw_m4 117 rfl) rfl
theorem q1293 : (Jvm.Cond.castable "TickShare" "java/lang/Object") ∈ lw_tbl := lw_at lw_m6 44 rfl
theorem in_X0 : ∀ w ∈ wsX00, w ∈ lw_all := lw_in wsX00 [159, 161, 163, 165, 167, 169, 171, 173] (by decide +kernel) (by decide +kernel)

/-! TickShare$Refused -/
set_option maxRecDepth 100000
def RX1 : String := "TickShare$Refused"
def TX1 : u_T := fun k => match k with
  | 0 => ("java/lang/Throwable", "cause", "Ljava/lang/Throwable;", false)
  | 1 => ("java/lang/Throwable", "stackTrace", "[Ljava/lang/StackTraceElement;", false)
  | 2 => ("java/lang/Throwable", "suppressedExceptions", "Ljava/util/List;", false)
  | 3 => ("java/lang/Throwable", "detailMessage", "Ljava/lang/String;", false)
  | 4 => ("java/lang/Throwable", "backtrace", "Ljava/lang/Object;", false)
  | 5 => ("java/lang/Throwable", "depth", "I", false)
  | _ => ("TickShare$Refused", "why", "I", false)
def tyX1 : Nat → FieldType := fun k => match k with
  | 0 => .object "java/lang/Throwable"
  | 1 => .array (.object "java/lang/StackTraceElement")
  | 2 => .object "java/util/List"
  | 3 => .object "java/lang/String"
  | 4 => .object "java/lang/Object"
  | 5 => .int
  | _ => .int
abbrev wsX10 : List Cond := u_ws RX1 TX1 7
theorem nmX1 : ∀ a, a < 7 → ∀ b, b < 7 → a ≠ b → (TX1 a).2.1 ≠ (TX1 b).2.1 := by decide +kernel
theorem tyX1_ok : ∀ k, k < 7 → parseFieldDescriptor (TX1 k).2.2.1 = some (tyX1 k) := by decide +kernel
abbrev cX1_init : ByteArray := prog_6_method_1_code
def yX1_init : MethodName := ⟨RX1, "<init>", "()V"⟩
def dkwX1_init_0 : List UInt8 := [42, 1, 1, 3, 3, 183, 0, 1, 177]
abbrev dktX1_init_0 : List UInt8 := dkwX1_init_0 ++ []
theorem dksX1_init_0 : cX1_init.data.toList.drop 0 = dktX1_init_0 := by decide +kernel
theorem dX1_init_0 : decode cX1_init 0 = .ok (.aload_n 0, 1) := dk_42 (dk_at dksX1_init_0 0 rfl rfl)
theorem dX1_init_1 : decode cX1_init 1 = .ok (.aconst_null, 1) := dk_1 (dk_at dksX1_init_0 1 rfl rfl)
theorem dX1_init_2 : decode cX1_init 2 = .ok (.aconst_null, 1) := dk_1 (dk_at dksX1_init_0 2 rfl rfl)
theorem dX1_init_3 : decode cX1_init 3 = .ok (.iconst 0, 1) := dk_3 (dk_at dksX1_init_0 3 rfl rfl)
theorem dX1_init_4 : decode cX1_init 4 = .ok (.iconst 0, 1) := dk_3 (dk_at dksX1_init_0 4 rfl rfl)
theorem dX1_init_5 : decode cX1_init 5 = .ok (.invokespecial 1, 3) := dk_183 0 1 (dk_at dksX1_init_0 5 rfl rfl)
theorem dX1_init_8 : decode cX1_init 8 = .ok (.return_, 1) := dk_177 (dk_at dksX1_init_0 8 rfl rfl)
abbrev cX1_by : ByteArray := prog_6_method_2_code
def yX1_by : MethodName := ⟨RX1, "by", "(I)LTickShare$Refused;"⟩
def dkwX1_by_0 : List UInt8 := [42, 27, 181, 0, 7, 42, 176]
abbrev dktX1_by_0 : List UInt8 := dkwX1_by_0 ++ []
theorem dksX1_by_0 : cX1_by.data.toList.drop 0 = dktX1_by_0 := by decide +kernel
theorem dX1_by_0 : decode cX1_by 0 = .ok (.aload_n 0, 1) := dk_42 (dk_at dksX1_by_0 0 rfl rfl)
theorem dX1_by_1 : decode cX1_by 1 = .ok (.iload_n 1, 1) := dk_27 (dk_at dksX1_by_0 1 rfl rfl)
theorem dX1_by_2 : decode cX1_by 2 = .ok (.putfield 7, 3) := dk_181 0 7 (dk_at dksX1_by_0 2 rfl rfl)
theorem dX1_by_5 : decode cX1_by 5 = .ok (.aload_n 0, 1) := dk_42 (dk_at dksX1_by_0 5 rfl rfl)
theorem dX1_by_6 : decode cX1_by 6 = .ok (.areturn, 1) := dk_176 (dk_at dksX1_by_0 6 rfl rfl)
theorem q53 : (Jvm.Cond.initialized "TickShare$Refused") ∈ lw_all := lw_g (lw_at lw_m1 4 rfl) rfl
theorem q85 : (Jvm.Cond.instantiable "TickShare$Refused" (7 : Nat)) ∈ lw_all := lw_g (lw_at lw_m1 36 rfl) rfl
theorem q86 : (Jvm.Cond.castable "TickShare$Refused" "TickShare$Refused") ∈ lw_tbl := lw_at lw_m1 37 rfl
theorem q91 : (Jvm.Cond.selects "TickShare$Refused" ({ cls := "java/lang/Throwable", name := "fillInStackTrace", desc := "(I)Ljava/lang/Throwable;" } : Jvm.MethodName) ({ cls := "java/lang/Throwable", name := "fillInStackTrace", desc := "(I)Ljava/lang/Throwable;" } : Jvm.MethodName)) ∈ lw_all := lw_g (lw_at lw_m1 42 rfl) rfl
theorem q92 : (Jvm.Cond.selects "TickShare$Refused" ({ cls := "java/lang/Throwable", name := "fillInStackTrace", desc := "()Ljava/lang/Throwable;" } : Jvm.MethodName) ({ cls := "java/lang/Throwable", name := "fillInStackTrace", desc := "()Ljava/lang/Throwable;" } : Jvm.MethodName)) ∈ lw_all := lw_g (lw_at lw_m1 43 rfl) rfl
theorem q93 : (Jvm.Cond.lays "TickShare$Refused" "java/lang/Throwable" "cause" "Ljava/lang/Throwable;") ∈ lw_all := lw_g (lw_at lw_m1 44 rfl) rfl
theorem q95 : (Jvm.Cond.lays "TickShare$Refused" "java/lang/Throwable" "stackTrace" "[Ljava/lang/StackTraceElement;") ∈ lw_all := lw_g (lw_at lw_m1 46 rfl) rfl
theorem q97 : (Jvm.Cond.lays "TickShare$Refused" "java/lang/Throwable" "suppressedExceptions" "Ljava/util/List;") ∈ lw_all := lw_g (lw_at lw_m1 48 rfl) rfl
theorem q99 : (Jvm.Cond.lays "TickShare$Refused" "java/lang/Throwable" "detailMessage" "Ljava/lang/String;") ∈ lw_all := lw_g (lw_at lw_m1 50 rfl) rfl
theorem q101 : (Jvm.Cond.lays "TickShare$Refused" "java/lang/Throwable" "backtrace" "Ljava/lang/Object;") ∈ lw_all := lw_g (lw_at lw_m1 52 rfl) rfl
theorem q125 : (Jvm.Cond.instanceMethod ({ cls := "TickShare$Refused", name := "<init>", desc := "()V" } : Jvm.MethodName)) ∈ lw_all := lw_g (lw_at lw_m1 76 rfl) rfl
theorem q126 : (Jvm.Cond.code ({ cls := "TickShare$Refused", name := "<init>", desc := "()V" } : Jvm.MethodName) prog_6_method_1_code (1 : Nat) (Option.none : Option Jvm.ClassFile.FieldType)) ∈ lw_all := lw_g (lw_at lw_m1 77 rfl) rfl
theorem q127 : (Jvm.Cond.methodLink "TickShare$Refused" (1 : Nat) ({ cls := "java/lang/Exception", name := "<init>", desc := "(Ljava/lang/String;Ljava/lang/Throwable;ZZ)V" } : Jvm.MethodName)) ∈ lw_all := lw_g (lw_at lw_m1 78 rfl) rfl
theorem q133 : (Jvm.Cond.fieldLink "TickShare$Refused" (7 : Nat) "TickShare$Refused" "why" "I") ∈ lw_all := lw_g (lw_at lw_m1 84 rfl) rfl
theorem q140 : (Jvm.Cond.lays "TickShare$Refused" "TickShare$Refused" "why" "I") ∈ lw_all := lw_g (lw_at lw_m1 91 rfl) rfl
theorem q141 : (Jvm.Cond.soleField "TickShare$Refused" "why") ∈ lw_all := lw_g (lw_at lw_m1 92 rfl) rfl
theorem q146 : (Jvm.Cond.lays "TickShare$Refused" "java/lang/Throwable" "depth" "I") ∈ lw_all := lw_g (lw_at lw_m1 97 rfl) rfl
theorem q149 : (Jvm.Cond.superclass "TickShare$Refused" "java/lang/Exception") ∈ lw_all := lw_g (lw_at lw_m1 100 rfl) rfl
theorem q227 : (Jvm.Cond.instanceMethod ({ cls := "TickShare$Refused", name := "by", desc := "(I)LTickShare$Refused;" } : Jvm.MethodName)) ∈ lw_all := lw_g (lw_at lw_m1 178 rfl) rfl
theorem q228 : (Jvm.Cond.selects "TickShare$Refused" ({ cls := "TickShare$Refused", name := "by", desc := "(I)LTickShare$Refused;" } : Jvm.MethodName) ({ cls := "TickShare$Refused", name := "by", desc := "(I)LTickShare$Refused;" } : Jvm.MethodName)) ∈ lw_all := lw_g (lw_at lw_m1 179 rfl) rfl
theorem q229 : (Jvm.Cond.code ({ cls := "TickShare$Refused", name := "by", desc := "(I)LTickShare$Refused;" } : Jvm.MethodName) prog_6_method_2_code (2 : Nat) (Option.some (Jvm.ClassFile.FieldType.object "TickShare$Refused"))) ∈ lw_all := lw_g (lw_at lw_m1 180 rfl) rfl
theorem q1294 : (Jvm.Cond.castable "TickShare$Refused" "java/lang/Object") ∈ lw_tbl := lw_at lw_m6 45 rfl
theorem in_X1 : ∀ w ∈ wsX10, w ∈ lw_all := lw_in wsX10 [93, 95, 97, 99, 101, 146, 140] (by decide +kernel) (by decide +kernel)

/-! TickShare$Table -/
set_option maxRecDepth 100000
def RX3 : String := "TickShare$Table"
def TX3 : u_T := fun k => match k with
  | 0 => ("TickShare$Table", "ok", "[J", true)
  | 1 => ("TickShare$Table", "fail", "[J", true)
  | _ => ("TickShare$Table", "whole", "J", false)
def tyX3 : Nat → FieldType := fun k => match k with
  | 0 => .array .long
  | 1 => .array .long
  | _ => .long
abbrev wsX30 : List Cond := u_ws RX3 TX3 3
theorem nmX3 : ∀ a, a < 3 → ∀ b, b < 3 → a ≠ b → (TX3 a).2.1 ≠ (TX3 b).2.1 := by decide +kernel
theorem tyX3_ok : ∀ k, k < 3 → parseFieldDescriptor (TX3 k).2.2.1 = some (tyX3 k) := by decide +kernel
abbrev cX3_init : ByteArray := prog_9_method_1_code
def yX3_init : MethodName := ⟨RX3, "<init>", "()V"⟩
def dkwX3_init_0 : List UInt8 := [42, 183, 0, 3, 42, 16, 121, 188, 11, 181, 0, 9, 42, 16, 121, 188, 11, 181, 0, 15, 177]
abbrev dktX3_init_0 : List UInt8 := dkwX3_init_0 ++ []
theorem dksX3_init_0 : cX3_init.data.toList.drop 0 = dktX3_init_0 := by decide +kernel
theorem dX3_init_0 : decode cX3_init 0 = .ok (.aload_n 0, 1) := dk_42 (dk_at dksX3_init_0 0 rfl rfl)
theorem dX3_init_1 : decode cX3_init 1 = .ok (.invokespecial 3, 3) := dk_183 0 3 (dk_at dksX3_init_0 1 rfl rfl)
theorem dX3_init_4 : decode cX3_init 4 = .ok (.aload_n 0, 1) := dk_42 (dk_at dksX3_init_0 4 rfl rfl)
theorem dX3_init_5 : decode cX3_init 5 = .ok (.bipush 121, 2) := dk_16 121 (dk_at dksX3_init_0 5 rfl rfl)
theorem dX3_init_7 : decode cX3_init 7 = .ok (.newarray .long, 2) := dk_188_11 (dk_at dksX3_init_0 7 rfl rfl)
theorem dX3_init_9 : decode cX3_init 9 = .ok (.putfield 9, 3) := dk_181 0 9 (dk_at dksX3_init_0 9 rfl rfl)
theorem dX3_init_12 : decode cX3_init 12 = .ok (.aload_n 0, 1) := dk_42 (dk_at dksX3_init_0 12 rfl rfl)
theorem dX3_init_13 : decode cX3_init 13 = .ok (.bipush 121, 2) := dk_16 121 (dk_at dksX3_init_0 13 rfl rfl)
theorem dX3_init_15 : decode cX3_init 15 = .ok (.newarray .long, 2) := dk_188_11 (dk_at dksX3_init_0 15 rfl rfl)
theorem dX3_init_17 : decode cX3_init 17 = .ok (.putfield 15, 3) := dk_181 0 15 (dk_at dksX3_init_0 17 rfl rfl)
theorem dX3_init_20 : decode cX3_init 20 = .ok (.return_, 1) := dk_177 (dk_at dksX3_init_0 20 rfl rfl)
abbrev cX3_less : ByteArray := prog_9_method_4_code
def yX3_less : MethodName := ⟨RX3, "less", "()LTickShare$Table;"⟩
def dkwX3_less_3 : List UInt8 := [31, 109, 80, 132, 3, 1, 167, 255, 227, 42, 89, 180, 0, 21, 31, 109, 181, 0, 21, 42, 176]
abbrev dktX3_less_3 : List UInt8 := dkwX3_less_3 ++ []
def dkwX3_less_2 : List UInt8 := [62, 29, 16, 120, 163, 0, 29, 42, 180, 0, 9, 29, 92, 47, 31, 109, 80, 42, 180, 0, 15, 29, 92, 47]
abbrev dktX3_less_2 : List UInt8 := dkwX3_less_2 ++ dktX3_less_3
def dkwX3_less_1 : List UInt8 := [47, 184, 0, 25, 31, 184, 0, 25, 64, 132, 3, 1, 167, 255, 227, 31, 10, 148, 154, 0, 5, 42, 176, 3]
abbrev dktX3_less_1 : List UInt8 := dkwX3_less_1 ++ dktX3_less_2
def dkwX3_less_0 : List UInt8 := [42, 180, 0, 21, 64, 3, 62, 29, 16, 120, 163, 0, 29, 42, 180, 0, 9, 29, 47, 42, 180, 0, 15, 29]
abbrev dktX3_less_0 : List UInt8 := dkwX3_less_0 ++ dktX3_less_1
theorem dksX3_less_0 : cX3_less.data.toList.drop 0 = dktX3_less_0 := by decide +kernel
theorem dksX3_less_1 : cX3_less.data.toList.drop 24 = dktX3_less_1 := dk_seg dksX3_less_0 24 rfl rfl
theorem dksX3_less_2 : cX3_less.data.toList.drop 48 = dktX3_less_2 := dk_seg dksX3_less_1 24 rfl rfl
theorem dksX3_less_3 : cX3_less.data.toList.drop 72 = dktX3_less_3 := dk_seg dksX3_less_2 24 rfl rfl
theorem dX3_less_0 : decode cX3_less 0 = .ok (.aload_n 0, 1) := dk_42 (dk_at dksX3_less_0 0 rfl rfl)
theorem dX3_less_1 : decode cX3_less 1 = .ok (.getfield 21, 3) := dk_180 0 21 (dk_at dksX3_less_0 1 rfl rfl)
theorem dX3_less_4 : decode cX3_less 4 = .ok (.lstore_n 1, 1) := dk_64 (dk_at dksX3_less_0 4 rfl rfl)
theorem dX3_less_5 : decode cX3_less 5 = .ok (.iconst 0, 1) := dk_3 (dk_at dksX3_less_0 5 rfl rfl)
theorem dX3_less_6 : decode cX3_less 6 = .ok (.istore_n 3, 1) := dk_62 (dk_at dksX3_less_0 6 rfl rfl)
theorem dX3_less_7 : decode cX3_less 7 = .ok (.iload_n 3, 1) := dk_29 (dk_at dksX3_less_0 7 rfl rfl)
theorem dX3_less_8 : decode cX3_less 8 = .ok (.bipush 120, 2) := dk_16 120 (dk_at dksX3_less_0 8 rfl rfl)
theorem dX3_less_10 : decode cX3_less 10 = .ok (.if_icmp .gt 29, 3) := dk_163 0 29 (dk_at dksX3_less_0 10 rfl rfl)
theorem dX3_less_13 : decode cX3_less 13 = .ok (.aload_n 0, 1) := dk_42 (dk_at dksX3_less_0 13 rfl rfl)
theorem dX3_less_14 : decode cX3_less 14 = .ok (.getfield 9, 3) := dk_180 0 9 (dk_at dksX3_less_0 14 rfl rfl)
theorem dX3_less_17 : decode cX3_less 17 = .ok (.iload_n 3, 1) := dk_29 (dk_at dksX3_less_0 17 rfl rfl)
theorem dX3_less_18 : decode cX3_less 18 = .ok (.laload, 1) := dk_47 (dk_at dksX3_less_0 18 rfl rfl)
theorem dX3_less_19 : decode cX3_less 19 = .ok (.aload_n 0, 1) := dk_42 (dk_at dksX3_less_0 19 rfl rfl)
theorem dX3_less_20 : decode cX3_less 20 = .ok (.getfield 15, 3) := dk_180 0 15 (dk_at dksX3_less_0 20 rfl rfl)
theorem dX3_less_23 : decode cX3_less 23 = .ok (.iload_n 3, 1) := dk_29 (dk_at dksX3_less_0 23 rfl rfl)
theorem dX3_less_24 : decode cX3_less 24 = .ok (.laload, 1) := dk_47 (dk_at dksX3_less_1 0 rfl rfl)
theorem dX3_less_25 : decode cX3_less 25 = .ok (.invokestatic 25, 3) := dk_184 0 25 (dk_at dksX3_less_1 1 rfl rfl)
theorem dX3_less_28 : decode cX3_less 28 = .ok (.lload_n 1, 1) := dk_31 (dk_at dksX3_less_1 4 rfl rfl)
theorem dX3_less_29 : decode cX3_less 29 = .ok (.invokestatic 25, 3) := dk_184 0 25 (dk_at dksX3_less_1 5 rfl rfl)
theorem dX3_less_32 : decode cX3_less 32 = .ok (.lstore_n 1, 1) := dk_64 (dk_at dksX3_less_1 8 rfl rfl)
theorem dX3_less_33 : decode cX3_less 33 = .ok (.iinc 3 1, 3) := dk_132 3 1 (dk_at dksX3_less_1 9 rfl rfl)
theorem dX3_less_36 : decode cX3_less 36 = .ok (.goto (-29), 3) := dk_167 255 227 (dk_at dksX3_less_1 12 rfl rfl)
theorem dX3_less_39 : decode cX3_less 39 = .ok (.lload_n 1, 1) := dk_31 (dk_at dksX3_less_1 15 rfl rfl)
theorem dX3_less_40 : decode cX3_less 40 = .ok (.lconst 1, 1) := dk_10 (dk_at dksX3_less_1 16 rfl rfl)
theorem dX3_less_41 : decode cX3_less 41 = .ok (.lcmp, 1) := dk_148 (dk_at dksX3_less_1 17 rfl rfl)
theorem dX3_less_42 : decode cX3_less 42 = .ok (.ifCond .ne 5, 3) := dk_154 0 5 (dk_at dksX3_less_1 18 rfl rfl)
theorem dX3_less_45 : decode cX3_less 45 = .ok (.aload_n 0, 1) := dk_42 (dk_at dksX3_less_1 21 rfl rfl)
theorem dX3_less_46 : decode cX3_less 46 = .ok (.areturn, 1) := dk_176 (dk_at dksX3_less_1 22 rfl rfl)
theorem dX3_less_47 : decode cX3_less 47 = .ok (.iconst 0, 1) := dk_3 (dk_at dksX3_less_1 23 rfl rfl)
theorem dX3_less_48 : decode cX3_less 48 = .ok (.istore_n 3, 1) := dk_62 (dk_at dksX3_less_2 0 rfl rfl)
theorem dX3_less_49 : decode cX3_less 49 = .ok (.iload_n 3, 1) := dk_29 (dk_at dksX3_less_2 1 rfl rfl)
theorem dX3_less_50 : decode cX3_less 50 = .ok (.bipush 120, 2) := dk_16 120 (dk_at dksX3_less_2 2 rfl rfl)
theorem dX3_less_52 : decode cX3_less 52 = .ok (.if_icmp .gt 29, 3) := dk_163 0 29 (dk_at dksX3_less_2 4 rfl rfl)
theorem dX3_less_55 : decode cX3_less 55 = .ok (.aload_n 0, 1) := dk_42 (dk_at dksX3_less_2 7 rfl rfl)
theorem dX3_less_56 : decode cX3_less 56 = .ok (.getfield 9, 3) := dk_180 0 9 (dk_at dksX3_less_2 8 rfl rfl)
theorem dX3_less_59 : decode cX3_less 59 = .ok (.iload_n 3, 1) := dk_29 (dk_at dksX3_less_2 11 rfl rfl)
theorem dX3_less_60 : decode cX3_less 60 = .ok (.dup2, 1) := dk_92 (dk_at dksX3_less_2 12 rfl rfl)
theorem dX3_less_61 : decode cX3_less 61 = .ok (.laload, 1) := dk_47 (dk_at dksX3_less_2 13 rfl rfl)
theorem dX3_less_62 : decode cX3_less 62 = .ok (.lload_n 1, 1) := dk_31 (dk_at dksX3_less_2 14 rfl rfl)
theorem dX3_less_63 : decode cX3_less 63 = .ok (.ldiv, 1) := dk_109 (dk_at dksX3_less_2 15 rfl rfl)
theorem dX3_less_64 : decode cX3_less 64 = .ok (.lastore, 1) := dk_80 (dk_at dksX3_less_2 16 rfl rfl)
theorem dX3_less_65 : decode cX3_less 65 = .ok (.aload_n 0, 1) := dk_42 (dk_at dksX3_less_2 17 rfl rfl)
theorem dX3_less_66 : decode cX3_less 66 = .ok (.getfield 15, 3) := dk_180 0 15 (dk_at dksX3_less_2 18 rfl rfl)
theorem dX3_less_69 : decode cX3_less 69 = .ok (.iload_n 3, 1) := dk_29 (dk_at dksX3_less_2 21 rfl rfl)
theorem dX3_less_70 : decode cX3_less 70 = .ok (.dup2, 1) := dk_92 (dk_at dksX3_less_2 22 rfl rfl)
theorem dX3_less_71 : decode cX3_less 71 = .ok (.laload, 1) := dk_47 (dk_at dksX3_less_2 23 rfl rfl)
theorem dX3_less_72 : decode cX3_less 72 = .ok (.lload_n 1, 1) := dk_31 (dk_at dksX3_less_3 0 rfl rfl)
theorem dX3_less_73 : decode cX3_less 73 = .ok (.ldiv, 1) := dk_109 (dk_at dksX3_less_3 1 rfl rfl)
theorem dX3_less_74 : decode cX3_less 74 = .ok (.lastore, 1) := dk_80 (dk_at dksX3_less_3 2 rfl rfl)
theorem dX3_less_75 : decode cX3_less 75 = .ok (.iinc 3 1, 3) := dk_132 3 1 (dk_at dksX3_less_3 3 rfl rfl)
theorem dX3_less_78 : decode cX3_less 78 = .ok (.goto (-29), 3) := dk_167 255 227 (dk_at dksX3_less_3 6 rfl rfl)
theorem dX3_less_81 : decode cX3_less 81 = .ok (.aload_n 0, 1) := dk_42 (dk_at dksX3_less_3 9 rfl rfl)
theorem dX3_less_82 : decode cX3_less 82 = .ok (.dup, 1) := dk_89 (dk_at dksX3_less_3 10 rfl rfl)
theorem dX3_less_83 : decode cX3_less 83 = .ok (.getfield 21, 3) := dk_180 0 21 (dk_at dksX3_less_3 11 rfl rfl)
theorem dX3_less_86 : decode cX3_less 86 = .ok (.lload_n 1, 1) := dk_31 (dk_at dksX3_less_3 14 rfl rfl)
theorem dX3_less_87 : decode cX3_less 87 = .ok (.ldiv, 1) := dk_109 (dk_at dksX3_less_3 15 rfl rfl)
theorem dX3_less_88 : decode cX3_less 88 = .ok (.putfield 21, 3) := dk_181 0 21 (dk_at dksX3_less_3 16 rfl rfl)
theorem dX3_less_91 : decode cX3_less 91 = .ok (.aload_n 0, 1) := dk_42 (dk_at dksX3_less_3 19 rfl rfl)
theorem dX3_less_92 : decode cX3_less 92 = .ok (.areturn, 1) := dk_176 (dk_at dksX3_less_3 20 rfl rfl)
abbrev cX3_anew : ByteArray := prog_9_method_3_code
def yX3_anew : MethodName := ⟨RX3, "anew", "(J)LTickShare$Table;"⟩
def dkwX3_anew_1 : List UInt8 := [132, 3, 1, 167, 255, 233, 42, 31, 181, 0, 21, 42, 176]
abbrev dktX3_anew_1 : List UInt8 := dkwX3_anew_1 ++ []
def dkwX3_anew_0 : List UInt8 := [3, 62, 29, 16, 120, 163, 0, 23, 42, 180, 0, 9, 29, 9, 80, 42, 180, 0, 15, 29, 9, 80]
abbrev dktX3_anew_0 : List UInt8 := dkwX3_anew_0 ++ dktX3_anew_1
theorem dksX3_anew_0 : cX3_anew.data.toList.drop 0 = dktX3_anew_0 := by decide +kernel
theorem dksX3_anew_1 : cX3_anew.data.toList.drop 22 = dktX3_anew_1 := dk_seg dksX3_anew_0 22 rfl rfl
theorem dX3_anew_0 : decode cX3_anew 0 = .ok (.iconst 0, 1) := dk_3 (dk_at dksX3_anew_0 0 rfl rfl)
theorem dX3_anew_1 : decode cX3_anew 1 = .ok (.istore_n 3, 1) := dk_62 (dk_at dksX3_anew_0 1 rfl rfl)
theorem dX3_anew_2 : decode cX3_anew 2 = .ok (.iload_n 3, 1) := dk_29 (dk_at dksX3_anew_0 2 rfl rfl)
theorem dX3_anew_3 : decode cX3_anew 3 = .ok (.bipush 120, 2) := dk_16 120 (dk_at dksX3_anew_0 3 rfl rfl)
theorem dX3_anew_5 : decode cX3_anew 5 = .ok (.if_icmp .gt 23, 3) := dk_163 0 23 (dk_at dksX3_anew_0 5 rfl rfl)
theorem dX3_anew_8 : decode cX3_anew 8 = .ok (.aload_n 0, 1) := dk_42 (dk_at dksX3_anew_0 8 rfl rfl)
theorem dX3_anew_9 : decode cX3_anew 9 = .ok (.getfield 9, 3) := dk_180 0 9 (dk_at dksX3_anew_0 9 rfl rfl)
theorem dX3_anew_12 : decode cX3_anew 12 = .ok (.iload_n 3, 1) := dk_29 (dk_at dksX3_anew_0 12 rfl rfl)
theorem dX3_anew_13 : decode cX3_anew 13 = .ok (.lconst 0, 1) := dk_9 (dk_at dksX3_anew_0 13 rfl rfl)
theorem dX3_anew_14 : decode cX3_anew 14 = .ok (.lastore, 1) := dk_80 (dk_at dksX3_anew_0 14 rfl rfl)
theorem dX3_anew_15 : decode cX3_anew 15 = .ok (.aload_n 0, 1) := dk_42 (dk_at dksX3_anew_0 15 rfl rfl)
theorem dX3_anew_16 : decode cX3_anew 16 = .ok (.getfield 15, 3) := dk_180 0 15 (dk_at dksX3_anew_0 16 rfl rfl)
theorem dX3_anew_19 : decode cX3_anew 19 = .ok (.iload_n 3, 1) := dk_29 (dk_at dksX3_anew_0 19 rfl rfl)
theorem dX3_anew_20 : decode cX3_anew 20 = .ok (.lconst 0, 1) := dk_9 (dk_at dksX3_anew_0 20 rfl rfl)
theorem dX3_anew_21 : decode cX3_anew 21 = .ok (.lastore, 1) := dk_80 (dk_at dksX3_anew_0 21 rfl rfl)
theorem dX3_anew_22 : decode cX3_anew 22 = .ok (.iinc 3 1, 3) := dk_132 3 1 (dk_at dksX3_anew_1 0 rfl rfl)
theorem dX3_anew_25 : decode cX3_anew 25 = .ok (.goto (-23), 3) := dk_167 255 233 (dk_at dksX3_anew_1 3 rfl rfl)
theorem dX3_anew_28 : decode cX3_anew 28 = .ok (.aload_n 0, 1) := dk_42 (dk_at dksX3_anew_1 6 rfl rfl)
theorem dX3_anew_29 : decode cX3_anew 29 = .ok (.lload_n 1, 1) := dk_31 (dk_at dksX3_anew_1 7 rfl rfl)
theorem dX3_anew_30 : decode cX3_anew 30 = .ok (.putfield 21, 3) := dk_181 0 21 (dk_at dksX3_anew_1 8 rfl rfl)
theorem dX3_anew_33 : decode cX3_anew 33 = .ok (.aload_n 0, 1) := dk_42 (dk_at dksX3_anew_1 11 rfl rfl)
theorem dX3_anew_34 : decode cX3_anew 34 = .ok (.areturn, 1) := dk_176 (dk_at dksX3_anew_1 12 rfl rfl)
abbrev cX3_add : ByteArray := prog_9_method_2_code
def yX3_add : MethodName := ⟨RX3, "add", "(ZIJ)V"⟩
def dkwX3_add_2 : List UInt8 := [97, 80, 177]
abbrev dktX3_add_2 : List UInt8 := dkwX3_add_2 ++ []
def dkwX3_add_1 : List UInt8 := [153, 0, 16, 42, 180, 0, 9, 28, 92, 47, 33, 97, 80, 167, 0, 13, 42, 180, 0, 15, 28, 92, 47, 33]
abbrev dktX3_add_1 : List UInt8 := dkwX3_add_1 ++ dktX3_add_2
def dkwX3_add_0 : List UInt8 := [33, 9, 148, 154, 0, 4, 177, 28, 16, 120, 164, 0, 11, 187, 0, 18, 89, 183, 0, 20, 191, 27]
abbrev dktX3_add_0 : List UInt8 := dkwX3_add_0 ++ dktX3_add_1
theorem dksX3_add_0 : cX3_add.data.toList.drop 0 = dktX3_add_0 := by decide +kernel
theorem dksX3_add_1 : cX3_add.data.toList.drop 22 = dktX3_add_1 := dk_seg dksX3_add_0 22 rfl rfl
theorem dksX3_add_2 : cX3_add.data.toList.drop 46 = dktX3_add_2 := dk_seg dksX3_add_1 24 rfl rfl
theorem dX3_add_0 : decode cX3_add 0 = .ok (.lload_n 3, 1) := dk_33 (dk_at dksX3_add_0 0 rfl rfl)
theorem dX3_add_1 : decode cX3_add 1 = .ok (.lconst 0, 1) := dk_9 (dk_at dksX3_add_0 1 rfl rfl)
theorem dX3_add_2 : decode cX3_add 2 = .ok (.lcmp, 1) := dk_148 (dk_at dksX3_add_0 2 rfl rfl)
theorem dX3_add_3 : decode cX3_add 3 = .ok (.ifCond .ne 4, 3) := dk_154 0 4 (dk_at dksX3_add_0 3 rfl rfl)
theorem dX3_add_6 : decode cX3_add 6 = .ok (.return_, 1) := dk_177 (dk_at dksX3_add_0 6 rfl rfl)
theorem dX3_add_7 : decode cX3_add 7 = .ok (.iload_n 2, 1) := dk_28 (dk_at dksX3_add_0 7 rfl rfl)
theorem dX3_add_8 : decode cX3_add 8 = .ok (.bipush 120, 2) := dk_16 120 (dk_at dksX3_add_0 8 rfl rfl)
theorem dX3_add_10 : decode cX3_add 10 = .ok (.if_icmp .le 11, 3) := dk_164 0 11 (dk_at dksX3_add_0 10 rfl rfl)
theorem dX3_add_13 : decode cX3_add 13 = .ok (.new 18, 3) := dk_187 0 18 (dk_at dksX3_add_0 13 rfl rfl)
theorem dX3_add_16 : decode cX3_add 16 = .ok (.dup, 1) := dk_89 (dk_at dksX3_add_0 16 rfl rfl)
theorem dX3_add_17 : decode cX3_add 17 = .ok (.invokespecial 20, 3) := dk_183 0 20 (dk_at dksX3_add_0 17 rfl rfl)
theorem dX3_add_20 : decode cX3_add 20 = .ok (.athrow, 1) := dk_191 (dk_at dksX3_add_0 20 rfl rfl)
theorem dX3_add_21 : decode cX3_add 21 = .ok (.iload_n 1, 1) := dk_27 (dk_at dksX3_add_0 21 rfl rfl)
theorem dX3_add_22 : decode cX3_add 22 = .ok (.ifCond .eq 16, 3) := dk_153 0 16 (dk_at dksX3_add_1 0 rfl rfl)
theorem dX3_add_25 : decode cX3_add 25 = .ok (.aload_n 0, 1) := dk_42 (dk_at dksX3_add_1 3 rfl rfl)
theorem dX3_add_26 : decode cX3_add 26 = .ok (.getfield 9, 3) := dk_180 0 9 (dk_at dksX3_add_1 4 rfl rfl)
theorem dX3_add_29 : decode cX3_add 29 = .ok (.iload_n 2, 1) := dk_28 (dk_at dksX3_add_1 7 rfl rfl)
theorem dX3_add_30 : decode cX3_add 30 = .ok (.dup2, 1) := dk_92 (dk_at dksX3_add_1 8 rfl rfl)
theorem dX3_add_31 : decode cX3_add 31 = .ok (.laload, 1) := dk_47 (dk_at dksX3_add_1 9 rfl rfl)
theorem dX3_add_32 : decode cX3_add 32 = .ok (.lload_n 3, 1) := dk_33 (dk_at dksX3_add_1 10 rfl rfl)
theorem dX3_add_33 : decode cX3_add 33 = .ok (.ladd, 1) := dk_97 (dk_at dksX3_add_1 11 rfl rfl)
theorem dX3_add_34 : decode cX3_add 34 = .ok (.lastore, 1) := dk_80 (dk_at dksX3_add_1 12 rfl rfl)
theorem dX3_add_35 : decode cX3_add 35 = .ok (.goto 13, 3) := dk_167 0 13 (dk_at dksX3_add_1 13 rfl rfl)
theorem dX3_add_38 : decode cX3_add 38 = .ok (.aload_n 0, 1) := dk_42 (dk_at dksX3_add_1 16 rfl rfl)
theorem dX3_add_39 : decode cX3_add 39 = .ok (.getfield 15, 3) := dk_180 0 15 (dk_at dksX3_add_1 17 rfl rfl)
theorem dX3_add_42 : decode cX3_add 42 = .ok (.iload_n 2, 1) := dk_28 (dk_at dksX3_add_1 20 rfl rfl)
theorem dX3_add_43 : decode cX3_add 43 = .ok (.dup2, 1) := dk_92 (dk_at dksX3_add_1 21 rfl rfl)
theorem dX3_add_44 : decode cX3_add 44 = .ok (.laload, 1) := dk_47 (dk_at dksX3_add_1 22 rfl rfl)
theorem dX3_add_45 : decode cX3_add 45 = .ok (.lload_n 3, 1) := dk_33 (dk_at dksX3_add_1 23 rfl rfl)
theorem dX3_add_46 : decode cX3_add 46 = .ok (.ladd, 1) := dk_97 (dk_at dksX3_add_2 0 rfl rfl)
theorem dX3_add_47 : decode cX3_add 47 = .ok (.lastore, 1) := dk_80 (dk_at dksX3_add_2 1 rfl rfl)
theorem dX3_add_48 : decode cX3_add 48 = .ok (.return_, 1) := dk_177 (dk_at dksX3_add_2 2 rfl rfl)
abbrev cX3_last : ByteArray := prog_9_method_7_code
def yX3_last : MethodName := ⟨RX3, "last", "()I"⟩
def dkwX3_last_1 : List UInt8 := [9, 148, 154, 0, 9, 132, 1, 255, 167, 255, 227, 27, 172]
abbrev dktX3_last_1 : List UInt8 := dkwX3_last_1 ++ []
def dkwX3_last_0 : List UInt8 := [16, 120, 60, 27, 158, 0, 31, 42, 180, 0, 9, 27, 47, 9, 148, 154, 0, 20, 42, 180, 0, 15, 27, 47]
abbrev dktX3_last_0 : List UInt8 := dkwX3_last_0 ++ dktX3_last_1
theorem dksX3_last_0 : cX3_last.data.toList.drop 0 = dktX3_last_0 := by decide +kernel
theorem dksX3_last_1 : cX3_last.data.toList.drop 24 = dktX3_last_1 := dk_seg dksX3_last_0 24 rfl rfl
theorem dX3_last_0 : decode cX3_last 0 = .ok (.bipush 120, 2) := dk_16 120 (dk_at dksX3_last_0 0 rfl rfl)
theorem dX3_last_2 : decode cX3_last 2 = .ok (.istore_n 1, 1) := dk_60 (dk_at dksX3_last_0 2 rfl rfl)
theorem dX3_last_3 : decode cX3_last 3 = .ok (.iload_n 1, 1) := dk_27 (dk_at dksX3_last_0 3 rfl rfl)
theorem dX3_last_4 : decode cX3_last 4 = .ok (.ifCond .le 31, 3) := dk_158 0 31 (dk_at dksX3_last_0 4 rfl rfl)
theorem dX3_last_7 : decode cX3_last 7 = .ok (.aload_n 0, 1) := dk_42 (dk_at dksX3_last_0 7 rfl rfl)
theorem dX3_last_8 : decode cX3_last 8 = .ok (.getfield 9, 3) := dk_180 0 9 (dk_at dksX3_last_0 8 rfl rfl)
theorem dX3_last_11 : decode cX3_last 11 = .ok (.iload_n 1, 1) := dk_27 (dk_at dksX3_last_0 11 rfl rfl)
theorem dX3_last_12 : decode cX3_last 12 = .ok (.laload, 1) := dk_47 (dk_at dksX3_last_0 12 rfl rfl)
theorem dX3_last_13 : decode cX3_last 13 = .ok (.lconst 0, 1) := dk_9 (dk_at dksX3_last_0 13 rfl rfl)
theorem dX3_last_14 : decode cX3_last 14 = .ok (.lcmp, 1) := dk_148 (dk_at dksX3_last_0 14 rfl rfl)
theorem dX3_last_15 : decode cX3_last 15 = .ok (.ifCond .ne 20, 3) := dk_154 0 20 (dk_at dksX3_last_0 15 rfl rfl)
theorem dX3_last_18 : decode cX3_last 18 = .ok (.aload_n 0, 1) := dk_42 (dk_at dksX3_last_0 18 rfl rfl)
theorem dX3_last_19 : decode cX3_last 19 = .ok (.getfield 15, 3) := dk_180 0 15 (dk_at dksX3_last_0 19 rfl rfl)
theorem dX3_last_22 : decode cX3_last 22 = .ok (.iload_n 1, 1) := dk_27 (dk_at dksX3_last_0 22 rfl rfl)
theorem dX3_last_23 : decode cX3_last 23 = .ok (.laload, 1) := dk_47 (dk_at dksX3_last_0 23 rfl rfl)
theorem dX3_last_24 : decode cX3_last 24 = .ok (.lconst 0, 1) := dk_9 (dk_at dksX3_last_1 0 rfl rfl)
theorem dX3_last_25 : decode cX3_last 25 = .ok (.lcmp, 1) := dk_148 (dk_at dksX3_last_1 1 rfl rfl)
theorem dX3_last_26 : decode cX3_last 26 = .ok (.ifCond .ne 9, 3) := dk_154 0 9 (dk_at dksX3_last_1 2 rfl rfl)
theorem dX3_last_29 : decode cX3_last 29 = .ok (.iinc 1 (-1), 3) := dk_132 1 255 (dk_at dksX3_last_1 5 rfl rfl)
theorem dX3_last_32 : decode cX3_last 32 = .ok (.goto (-29), 3) := dk_167 255 227 (dk_at dksX3_last_1 8 rfl rfl)
theorem dX3_last_35 : decode cX3_last 35 = .ok (.iload_n 1, 1) := dk_27 (dk_at dksX3_last_1 11 rfl rfl)
theorem dX3_last_36 : decode cX3_last 36 = .ok (.ireturn, 1) := dk_172 (dk_at dksX3_last_1 12 rfl rfl)
abbrev cX3_by : ByteArray := prog_9_method_5_code
def yX3_by : MethodName := ⟨RX3, "by", "(I)J"⟩
def dkwX3_by_1 : List UInt8 := [167, 255, 237, 32, 173]
abbrev dktX3_by_1 : List UInt8 := dkwX3_by_1 ++ []
def dkwX3_by_0 : List UInt8 := [9, 65, 3, 54, 4, 21, 4, 27, 163, 0, 19, 32, 42, 180, 0, 9, 21, 4, 47, 97, 65, 132, 4, 1]
abbrev dktX3_by_0 : List UInt8 := dkwX3_by_0 ++ dktX3_by_1
theorem dksX3_by_0 : cX3_by.data.toList.drop 0 = dktX3_by_0 := by decide +kernel
theorem dksX3_by_1 : cX3_by.data.toList.drop 24 = dktX3_by_1 := dk_seg dksX3_by_0 24 rfl rfl
theorem dX3_by_0 : decode cX3_by 0 = .ok (.lconst 0, 1) := dk_9 (dk_at dksX3_by_0 0 rfl rfl)
theorem dX3_by_1 : decode cX3_by 1 = .ok (.lstore_n 2, 1) := dk_65 (dk_at dksX3_by_0 1 rfl rfl)
theorem dX3_by_2 : decode cX3_by 2 = .ok (.iconst 0, 1) := dk_3 (dk_at dksX3_by_0 2 rfl rfl)
theorem dX3_by_3 : decode cX3_by 3 = .ok (.istore 4, 2) := dk_54 4 (dk_at dksX3_by_0 3 rfl rfl)
theorem dX3_by_5 : decode cX3_by 5 = .ok (.iload 4, 2) := dk_21 4 (dk_at dksX3_by_0 5 rfl rfl)
theorem dX3_by_7 : decode cX3_by 7 = .ok (.iload_n 1, 1) := dk_27 (dk_at dksX3_by_0 7 rfl rfl)
theorem dX3_by_8 : decode cX3_by 8 = .ok (.if_icmp .gt 19, 3) := dk_163 0 19 (dk_at dksX3_by_0 8 rfl rfl)
theorem dX3_by_11 : decode cX3_by 11 = .ok (.lload_n 2, 1) := dk_32 (dk_at dksX3_by_0 11 rfl rfl)
theorem dX3_by_12 : decode cX3_by 12 = .ok (.aload_n 0, 1) := dk_42 (dk_at dksX3_by_0 12 rfl rfl)
theorem dX3_by_13 : decode cX3_by 13 = .ok (.getfield 9, 3) := dk_180 0 9 (dk_at dksX3_by_0 13 rfl rfl)
theorem dX3_by_16 : decode cX3_by 16 = .ok (.iload 4, 2) := dk_21 4 (dk_at dksX3_by_0 16 rfl rfl)
theorem dX3_by_18 : decode cX3_by 18 = .ok (.laload, 1) := dk_47 (dk_at dksX3_by_0 18 rfl rfl)
theorem dX3_by_19 : decode cX3_by 19 = .ok (.ladd, 1) := dk_97 (dk_at dksX3_by_0 19 rfl rfl)
theorem dX3_by_20 : decode cX3_by 20 = .ok (.lstore_n 2, 1) := dk_65 (dk_at dksX3_by_0 20 rfl rfl)
theorem dX3_by_21 : decode cX3_by 21 = .ok (.iinc 4 1, 3) := dk_132 4 1 (dk_at dksX3_by_0 21 rfl rfl)
theorem dX3_by_24 : decode cX3_by 24 = .ok (.goto (-19), 3) := dk_167 255 237 (dk_at dksX3_by_1 0 rfl rfl)
theorem dX3_by_27 : decode cX3_by 27 = .ok (.lload_n 2, 1) := dk_32 (dk_at dksX3_by_1 3 rfl rfl)
theorem dX3_by_28 : decode cX3_by 28 = .ok (.lreturn, 1) := dk_173 (dk_at dksX3_by_1 4 rfl rfl)
abbrev cX3_failed : ByteArray := prog_9_method_6_code
def yX3_failed : MethodName := ⟨RX3, "failed", "()J"⟩
def dkwX3_failed_1 : List UInt8 := [167, 255, 238, 31, 173]
abbrev dktX3_failed_1 : List UInt8 := dkwX3_failed_1 ++ []
def dkwX3_failed_0 : List UInt8 := [9, 64, 3, 62, 29, 16, 120, 163, 0, 18, 31, 42, 180, 0, 15, 29, 47, 97, 64, 132, 3, 1]
abbrev dktX3_failed_0 : List UInt8 := dkwX3_failed_0 ++ dktX3_failed_1
theorem dksX3_failed_0 : cX3_failed.data.toList.drop 0 = dktX3_failed_0 := by decide +kernel
theorem dksX3_failed_1 : cX3_failed.data.toList.drop 22 = dktX3_failed_1 := dk_seg dksX3_failed_0 22 rfl rfl
theorem dX3_failed_0 : decode cX3_failed 0 = .ok (.lconst 0, 1) := dk_9 (dk_at dksX3_failed_0 0 rfl rfl)
theorem dX3_failed_1 : decode cX3_failed 1 = .ok (.lstore_n 1, 1) := dk_64 (dk_at dksX3_failed_0 1 rfl rfl)
theorem dX3_failed_2 : decode cX3_failed 2 = .ok (.iconst 0, 1) := dk_3 (dk_at dksX3_failed_0 2 rfl rfl)
theorem dX3_failed_3 : decode cX3_failed 3 = .ok (.istore_n 3, 1) := dk_62 (dk_at dksX3_failed_0 3 rfl rfl)
theorem dX3_failed_4 : decode cX3_failed 4 = .ok (.iload_n 3, 1) := dk_29 (dk_at dksX3_failed_0 4 rfl rfl)
theorem dX3_failed_5 : decode cX3_failed 5 = .ok (.bipush 120, 2) := dk_16 120 (dk_at dksX3_failed_0 5 rfl rfl)
theorem dX3_failed_7 : decode cX3_failed 7 = .ok (.if_icmp .gt 18, 3) := dk_163 0 18 (dk_at dksX3_failed_0 7 rfl rfl)
theorem dX3_failed_10 : decode cX3_failed 10 = .ok (.lload_n 1, 1) := dk_31 (dk_at dksX3_failed_0 10 rfl rfl)
theorem dX3_failed_11 : decode cX3_failed 11 = .ok (.aload_n 0, 1) := dk_42 (dk_at dksX3_failed_0 11 rfl rfl)
theorem dX3_failed_12 : decode cX3_failed 12 = .ok (.getfield 15, 3) := dk_180 0 15 (dk_at dksX3_failed_0 12 rfl rfl)
theorem dX3_failed_15 : decode cX3_failed 15 = .ok (.iload_n 3, 1) := dk_29 (dk_at dksX3_failed_0 15 rfl rfl)
theorem dX3_failed_16 : decode cX3_failed 16 = .ok (.laload, 1) := dk_47 (dk_at dksX3_failed_0 16 rfl rfl)
theorem dX3_failed_17 : decode cX3_failed 17 = .ok (.ladd, 1) := dk_97 (dk_at dksX3_failed_0 17 rfl rfl)
theorem dX3_failed_18 : decode cX3_failed 18 = .ok (.lstore_n 1, 1) := dk_64 (dk_at dksX3_failed_0 18 rfl rfl)
theorem dX3_failed_19 : decode cX3_failed 19 = .ok (.iinc 3 1, 3) := dk_132 3 1 (dk_at dksX3_failed_0 19 rfl rfl)
theorem dX3_failed_22 : decode cX3_failed 22 = .ok (.goto (-18), 3) := dk_167 255 238 (dk_at dksX3_failed_1 0 rfl rfl)
theorem dX3_failed_25 : decode cX3_failed 25 = .ok (.lload_n 1, 1) := dk_31 (dk_at dksX3_failed_1 3 rfl rfl)
theorem dX3_failed_26 : decode cX3_failed 26 = .ok (.lreturn, 1) := dk_173 (dk_at dksX3_failed_1 4 rfl rfl)
theorem q61 : (Jvm.Cond.initialized "TickShare$Table") ∈ lw_all := lw_g (lw_at lw_m1 12 rfl) rfl
theorem q312 : (Jvm.Cond.instantiable "TickShare$Table" (3 : Nat)) ∈ lw_all := lw_g (lw_at lw_m2 23 rfl) rfl
theorem q314 : (Jvm.Cond.instanceMethod ({ cls := "TickShare$Table", name := "<init>", desc := "()V" } : Jvm.MethodName)) ∈ lw_all := lw_g (lw_at lw_m2 25 rfl) rfl
theorem q315 : (Jvm.Cond.code ({ cls := "TickShare$Table", name := "<init>", desc := "()V" } : Jvm.MethodName) prog_9_method_1_code (1 : Nat) (Option.none : Option Jvm.ClassFile.FieldType)) ∈ lw_all := lw_g (lw_at lw_m2 26 rfl) rfl
theorem q316 : (Jvm.Cond.methodLink "TickShare$Table" (3 : Nat) ({ cls := "java/lang/Object", name := "<init>", desc := "()V" } : Jvm.MethodName)) ∈ lw_all := lw_g (lw_at lw_m2 27 rfl) rfl
theorem q317 : (Jvm.Cond.fieldLink "TickShare$Table" (9 : Nat) "TickShare$Table" "ok" "[J") ∈ lw_all := lw_g (lw_at lw_m2 28 rfl) rfl
theorem q323 : (Jvm.Cond.fieldLink "TickShare$Table" (15 : Nat) "TickShare$Table" "fail" "[J") ∈ lw_all := lw_g (lw_at lw_m2 34 rfl) rfl
theorem q330 : (Jvm.Cond.fieldLink "TickShare$Table" (21 : Nat) "TickShare$Table" "whole" "J") ∈ lw_all := lw_g (lw_at lw_m2 41 rfl) rfl
theorem q337 : (Jvm.Cond.laysFinal "TickShare$Table" "TickShare$Table" "ok" "[J") ∈ lw_all := lw_g (lw_at lw_m2 48 rfl) rfl
theorem q338 : (Jvm.Cond.soleField "TickShare$Table" "ok") ∈ lw_all := lw_g (lw_at lw_m2 49 rfl) rfl
theorem q339 : (Jvm.Cond.laysFinal "TickShare$Table" "TickShare$Table" "fail" "[J") ∈ lw_all := lw_g (lw_at lw_m2 50 rfl) rfl
theorem q340 : (Jvm.Cond.soleField "TickShare$Table" "fail") ∈ lw_all := lw_g (lw_at lw_m2 51 rfl) rfl
theorem q341 : (Jvm.Cond.lays "TickShare$Table" "TickShare$Table" "whole" "J") ∈ lw_all := lw_g (lw_at lw_m2 52 rfl) rfl
theorem q342 : (Jvm.Cond.soleField "TickShare$Table" "whole") ∈ lw_all := lw_g (lw_at lw_m2 53 rfl) rfl
theorem q343 : (Jvm.Cond.superclass "TickShare$Table" "java/lang/Object") ∈ lw_all := lw_g (lw_at lw_m2 54 rfl) rfl
theorem q346 : (Jvm.Cond.instanceMethod ({ cls := "TickShare$Table", name := "less", desc := "()LTickShare$Table;" } : Jvm.MethodName)) ∈ lw_all := lw_g (lw_at lw_m2 57 rfl) rfl
theorem q347 : (Jvm.Cond.selects "TickShare$Table" ({ cls := "TickShare$Table", name := "less", desc := "()LTickShare$Table;" } : Jvm.MethodName) ({ cls := "TickShare$Table", name := "less", desc := "()LTickShare$Table;" } : Jvm.MethodName)) ∈ lw_all := lw_g (lw_at lw_m2 58 rfl) rfl
theorem q348 : (Jvm.Cond.code ({ cls := "TickShare$Table", name := "less", desc := "()LTickShare$Table;" } : Jvm.MethodName) prog_9_method_4_code (4 : Nat) (Option.some (Jvm.ClassFile.FieldType.object "TickShare$Table"))) ∈ lw_all := lw_g (lw_at lw_m2 59 rfl) rfl
theorem q349 : (Jvm.Cond.methodLinkNest "TickShare$Table" (25 : Nat) ({ cls := "TickShare", name := "common", desc := "(JJ)J" } : Jvm.MethodName) "TickShare") ∈ lw_tbl := lw_at lw_m2 60 rfl
theorem q642 : (Jvm.Cond.instanceMethod ({ cls := "TickShare$Table", name := "anew", desc := "(J)LTickShare$Table;" } : Jvm.MethodName)) ∈ lw_all := lw_g (lw_at lw_m3 113 rfl) rfl
theorem q643 : (Jvm.Cond.selects "TickShare$Table" ({ cls := "TickShare$Table", name := "anew", desc := "(J)LTickShare$Table;" } : Jvm.MethodName) ({ cls := "TickShare$Table", name := "anew", desc := "(J)LTickShare$Table;" } : Jvm.MethodName)) ∈ lw_all := lw_g (lw_at lw_m3 114 rfl) rfl
theorem q644 : (Jvm.Cond.code ({ cls := "TickShare$Table", name := "anew", desc := "(J)LTickShare$Table;" } : Jvm.MethodName) prog_9_method_3_code (4 : Nat) (Option.some (Jvm.ClassFile.FieldType.object "TickShare$Table"))) ∈ lw_all := lw_g (lw_at lw_m3 115 rfl) rfl
theorem q683 : (Jvm.Cond.instanceMethod ({ cls := "TickShare$Table", name := "add", desc := "(ZIJ)V" } : Jvm.MethodName)) ∈ lw_all := lw_g (lw_at lw_m3 154 rfl) rfl
theorem q684 : (Jvm.Cond.selects "TickShare$Table" ({ cls := "TickShare$Table", name := "add", desc := "(ZIJ)V" } : Jvm.MethodName) ({ cls := "TickShare$Table", name := "add", desc := "(ZIJ)V" } : Jvm.MethodName)) ∈ lw_all := lw_g (lw_at lw_m3 155 rfl) rfl
theorem q685 : (Jvm.Cond.code ({ cls := "TickShare$Table", name := "add", desc := "(ZIJ)V" } : Jvm.MethodName) prog_9_method_2_code (5 : Nat) (Option.none : Option Jvm.ClassFile.FieldType)) ∈ lw_all := lw_g (lw_at lw_m3 156 rfl) rfl
theorem q686 : (Jvm.Cond.classLink "TickShare$Table" (18 : Nat) "TickShare$TooGreat") ∈ lw_all := lw_g (lw_at lw_m3 157 rfl) rfl
theorem q687 : (Jvm.Cond.methodLink "TickShare$Table" (20 : Nat) ({ cls := "TickShare$TooGreat", name := "<init>", desc := "()V" } : Jvm.MethodName)) ∈ lw_all := lw_g (lw_at lw_m3 158 rfl) rfl
theorem q726 : (Jvm.Cond.instanceMethod ({ cls := "TickShare$Table", name := "last", desc := "()I" } : Jvm.MethodName)) ∈ lw_all := lw_g (lw_at lw_m3 197 rfl) rfl
theorem q727 : (Jvm.Cond.selects "TickShare$Table" ({ cls := "TickShare$Table", name := "last", desc := "()I" } : Jvm.MethodName) ({ cls := "TickShare$Table", name := "last", desc := "()I" } : Jvm.MethodName)) ∈ lw_all := lw_g (lw_at lw_m3 198 rfl) rfl
theorem q728 : (Jvm.Cond.code ({ cls := "TickShare$Table", name := "last", desc := "()I" } : Jvm.MethodName) prog_9_method_7_code (2 : Nat) (Option.some Jvm.ClassFile.FieldType.int)) ∈ lw_all := lw_g (lw_at lw_m3 199 rfl) rfl
theorem q746 : (Jvm.Cond.instanceMethod ({ cls := "TickShare$Table", name := "by", desc := "(I)J" } : Jvm.MethodName)) ∈ lw_all := lw_g (lw_at lw_m3 217 rfl) rfl
theorem q747 : (Jvm.Cond.selects "TickShare$Table" ({ cls := "TickShare$Table", name := "by", desc := "(I)J" } : Jvm.MethodName) ({ cls := "TickShare$Table", name := "by", desc := "(I)J" } : Jvm.MethodName)) ∈ lw_all := lw_g (lw_at lw_m3 218 rfl) rfl
theorem q748 : (Jvm.Cond.code ({ cls := "TickShare$Table", name := "by", desc := "(I)J" } : Jvm.MethodName) prog_9_method_5_code (5 : Nat) (Option.some Jvm.ClassFile.FieldType.long)) ∈ lw_all := lw_g (lw_at lw_m3 219 rfl) rfl
theorem q759 : (Jvm.Cond.instanceMethod ({ cls := "TickShare$Table", name := "failed", desc := "()J" } : Jvm.MethodName)) ∈ lw_all := lw_g (lw_at lw_m3 230 rfl) rfl
theorem q760 : (Jvm.Cond.selects "TickShare$Table" ({ cls := "TickShare$Table", name := "failed", desc := "()J" } : Jvm.MethodName) ({ cls := "TickShare$Table", name := "failed", desc := "()J" } : Jvm.MethodName)) ∈ lw_all := lw_g (lw_at lw_m3 231 rfl) rfl
theorem q761 : (Jvm.Cond.code ({ cls := "TickShare$Table", name := "failed", desc := "()J" } : Jvm.MethodName) prog_9_method_6_code (4 : Nat) (Option.some Jvm.ClassFile.FieldType.long)) ∈ lw_all := lw_g (lw_at lw_m3 232 rfl) rfl
theorem q1298 : (Jvm.Cond.castable "TickShare$Table" "java/lang/Object") ∈ lw_tbl := lw_at lw_m6 49 rfl
theorem in_X3 : ∀ w ∈ wsX30, w ∈ lw_all := lw_in wsX30 [337, 339, 341] (by decide +kernel) (by decide +kernel)

/-! TickShare$Thing -/
set_option maxRecDepth 100000
def RX4 : String := "TickShare$Thing"
abbrev cX4_init : ByteArray := prog_10_method_1_code
def yX4_init : MethodName := ⟨RX4, "<init>", "([LTickShare$Thing;)V"⟩
def dkwX4_init_2 : List UInt8 := [21, 4, 50, 58, 5, 25, 5, 42, 181, 0, 25, 132, 4, 1, 167, 255, 235, 177]
abbrev dktX4_init_2 : List UInt8 := dkwX4_init_2 ++ []
def dkwX4_init_1 : List UInt8 := [181, 0, 18, 42, 43, 181, 0, 21, 43, 77, 44, 190, 62, 3, 54, 4, 21, 4, 29, 162, 0, 21, 44]
abbrev dktX4_init_1 : List UInt8 := dkwX4_init_1 ++ dktX4_init_2
def dkwX4_init_0 : List UInt8 := [42, 183, 0, 3, 42, 187, 0, 9, 89, 183, 0, 11, 181, 0, 12, 42, 187, 0, 9, 89, 183, 0, 11]
abbrev dktX4_init_0 : List UInt8 := dkwX4_init_0 ++ dktX4_init_1
theorem dksX4_init_0 : cX4_init.data.toList.drop 0 = dktX4_init_0 := by decide +kernel
theorem dksX4_init_1 : cX4_init.data.toList.drop 23 = dktX4_init_1 := dk_seg dksX4_init_0 23 rfl rfl
theorem dksX4_init_2 : cX4_init.data.toList.drop 46 = dktX4_init_2 := dk_seg dksX4_init_1 23 rfl rfl
theorem dX4_init_0 : decode cX4_init 0 = .ok (.aload_n 0, 1) := dk_42 (dk_at dksX4_init_0 0 rfl rfl)
theorem dX4_init_1 : decode cX4_init 1 = .ok (.invokespecial 3, 3) := dk_183 0 3 (dk_at dksX4_init_0 1 rfl rfl)
theorem dX4_init_4 : decode cX4_init 4 = .ok (.aload_n 0, 1) := dk_42 (dk_at dksX4_init_0 4 rfl rfl)
theorem dX4_init_5 : decode cX4_init 5 = .ok (.new 9, 3) := dk_187 0 9 (dk_at dksX4_init_0 5 rfl rfl)
theorem dX4_init_8 : decode cX4_init 8 = .ok (.dup, 1) := dk_89 (dk_at dksX4_init_0 8 rfl rfl)
theorem dX4_init_9 : decode cX4_init 9 = .ok (.invokespecial 11, 3) := dk_183 0 11 (dk_at dksX4_init_0 9 rfl rfl)
theorem dX4_init_12 : decode cX4_init 12 = .ok (.putfield 12, 3) := dk_181 0 12 (dk_at dksX4_init_0 12 rfl rfl)
theorem dX4_init_15 : decode cX4_init 15 = .ok (.aload_n 0, 1) := dk_42 (dk_at dksX4_init_0 15 rfl rfl)
theorem dX4_init_16 : decode cX4_init 16 = .ok (.new 9, 3) := dk_187 0 9 (dk_at dksX4_init_0 16 rfl rfl)
theorem dX4_init_19 : decode cX4_init 19 = .ok (.dup, 1) := dk_89 (dk_at dksX4_init_0 19 rfl rfl)
theorem dX4_init_20 : decode cX4_init 20 = .ok (.invokespecial 11, 3) := dk_183 0 11 (dk_at dksX4_init_0 20 rfl rfl)
theorem dX4_init_23 : decode cX4_init 23 = .ok (.putfield 18, 3) := dk_181 0 18 (dk_at dksX4_init_1 0 rfl rfl)
theorem dX4_init_26 : decode cX4_init 26 = .ok (.aload_n 0, 1) := dk_42 (dk_at dksX4_init_1 3 rfl rfl)
theorem dX4_init_27 : decode cX4_init 27 = .ok (.aload_n 1, 1) := dk_43 (dk_at dksX4_init_1 4 rfl rfl)
theorem dX4_init_28 : decode cX4_init 28 = .ok (.putfield 21, 3) := dk_181 0 21 (dk_at dksX4_init_1 5 rfl rfl)
theorem dX4_init_31 : decode cX4_init 31 = .ok (.aload_n 1, 1) := dk_43 (dk_at dksX4_init_1 8 rfl rfl)
theorem dX4_init_32 : decode cX4_init 32 = .ok (.astore_n 2, 1) := dk_77 (dk_at dksX4_init_1 9 rfl rfl)
theorem dX4_init_33 : decode cX4_init 33 = .ok (.aload_n 2, 1) := dk_44 (dk_at dksX4_init_1 10 rfl rfl)
theorem dX4_init_34 : decode cX4_init 34 = .ok (.arraylength, 1) := dk_190 (dk_at dksX4_init_1 11 rfl rfl)
theorem dX4_init_35 : decode cX4_init 35 = .ok (.istore_n 3, 1) := dk_62 (dk_at dksX4_init_1 12 rfl rfl)
theorem dX4_init_36 : decode cX4_init 36 = .ok (.iconst 0, 1) := dk_3 (dk_at dksX4_init_1 13 rfl rfl)
theorem dX4_init_37 : decode cX4_init 37 = .ok (.istore 4, 2) := dk_54 4 (dk_at dksX4_init_1 14 rfl rfl)
theorem dX4_init_39 : decode cX4_init 39 = .ok (.iload 4, 2) := dk_21 4 (dk_at dksX4_init_1 16 rfl rfl)
theorem dX4_init_41 : decode cX4_init 41 = .ok (.iload_n 3, 1) := dk_29 (dk_at dksX4_init_1 18 rfl rfl)
theorem dX4_init_42 : decode cX4_init 42 = .ok (.if_icmp .ge 21, 3) := dk_162 0 21 (dk_at dksX4_init_1 19 rfl rfl)
theorem dX4_init_45 : decode cX4_init 45 = .ok (.aload_n 2, 1) := dk_44 (dk_at dksX4_init_1 22 rfl rfl)
theorem dX4_init_46 : decode cX4_init 46 = .ok (.iload 4, 2) := dk_21 4 (dk_at dksX4_init_2 0 rfl rfl)
theorem dX4_init_48 : decode cX4_init 48 = .ok (.aaload, 1) := dk_50 (dk_at dksX4_init_2 2 rfl rfl)
theorem dX4_init_49 : decode cX4_init 49 = .ok (.astore 5, 2) := dk_58 5 (dk_at dksX4_init_2 3 rfl rfl)
theorem dX4_init_51 : decode cX4_init 51 = .ok (.aload 5, 2) := dk_25 5 (dk_at dksX4_init_2 5 rfl rfl)
theorem dX4_init_53 : decode cX4_init 53 = .ok (.aload_n 0, 1) := dk_42 (dk_at dksX4_init_2 7 rfl rfl)
theorem dX4_init_54 : decode cX4_init 54 = .ok (.putfield 25, 3) := dk_181 0 25 (dk_at dksX4_init_2 8 rfl rfl)
theorem dX4_init_57 : decode cX4_init 57 = .ok (.iinc 4 1, 3) := dk_132 4 1 (dk_at dksX4_init_2 11 rfl rfl)
theorem dX4_init_60 : decode cX4_init 60 = .ok (.goto (-21), 3) := dk_167 255 235 (dk_at dksX4_init_2 14 rfl rfl)
theorem dX4_init_63 : decode cX4_init 63 = .ok (.return_, 1) := dk_177 (dk_at dksX4_init_2 17 rfl rfl)
abbrev cX4_leaves : ByteArray := prog_10_method_5_code
def yX4_leaves : MethodName := ⟨RX4, "leaves", "()I"⟩
def dkwX4_leaves_1 : List UInt8 := [58, 5, 27, 25, 5, 182, 0, 29, 96, 60, 132, 4, 1, 167, 255, 233, 27, 172]
abbrev dktX4_leaves_1 : List UInt8 := dkwX4_leaves_1 ++ []
def dkwX4_leaves_0 : List UInt8 := [3, 60, 42, 180, 0, 21, 77, 44, 190, 62, 3, 54, 4, 21, 4, 29, 162, 0, 23, 44, 21, 4, 50]
abbrev dktX4_leaves_0 : List UInt8 := dkwX4_leaves_0 ++ dktX4_leaves_1
theorem dksX4_leaves_0 : cX4_leaves.data.toList.drop 0 = dktX4_leaves_0 := by decide +kernel
theorem dksX4_leaves_1 : cX4_leaves.data.toList.drop 23 = dktX4_leaves_1 := dk_seg dksX4_leaves_0 23 rfl rfl
theorem dX4_leaves_0 : decode cX4_leaves 0 = .ok (.iconst 0, 1) := dk_3 (dk_at dksX4_leaves_0 0 rfl rfl)
theorem dX4_leaves_1 : decode cX4_leaves 1 = .ok (.istore_n 1, 1) := dk_60 (dk_at dksX4_leaves_0 1 rfl rfl)
theorem dX4_leaves_2 : decode cX4_leaves 2 = .ok (.aload_n 0, 1) := dk_42 (dk_at dksX4_leaves_0 2 rfl rfl)
theorem dX4_leaves_3 : decode cX4_leaves 3 = .ok (.getfield 21, 3) := dk_180 0 21 (dk_at dksX4_leaves_0 3 rfl rfl)
theorem dX4_leaves_6 : decode cX4_leaves 6 = .ok (.astore_n 2, 1) := dk_77 (dk_at dksX4_leaves_0 6 rfl rfl)
theorem dX4_leaves_7 : decode cX4_leaves 7 = .ok (.aload_n 2, 1) := dk_44 (dk_at dksX4_leaves_0 7 rfl rfl)
theorem dX4_leaves_8 : decode cX4_leaves 8 = .ok (.arraylength, 1) := dk_190 (dk_at dksX4_leaves_0 8 rfl rfl)
theorem dX4_leaves_9 : decode cX4_leaves 9 = .ok (.istore_n 3, 1) := dk_62 (dk_at dksX4_leaves_0 9 rfl rfl)
theorem dX4_leaves_10 : decode cX4_leaves 10 = .ok (.iconst 0, 1) := dk_3 (dk_at dksX4_leaves_0 10 rfl rfl)
theorem dX4_leaves_11 : decode cX4_leaves 11 = .ok (.istore 4, 2) := dk_54 4 (dk_at dksX4_leaves_0 11 rfl rfl)
theorem dX4_leaves_13 : decode cX4_leaves 13 = .ok (.iload 4, 2) := dk_21 4 (dk_at dksX4_leaves_0 13 rfl rfl)
theorem dX4_leaves_15 : decode cX4_leaves 15 = .ok (.iload_n 3, 1) := dk_29 (dk_at dksX4_leaves_0 15 rfl rfl)
theorem dX4_leaves_16 : decode cX4_leaves 16 = .ok (.if_icmp .ge 23, 3) := dk_162 0 23 (dk_at dksX4_leaves_0 16 rfl rfl)
theorem dX4_leaves_19 : decode cX4_leaves 19 = .ok (.aload_n 2, 1) := dk_44 (dk_at dksX4_leaves_0 19 rfl rfl)
theorem dX4_leaves_20 : decode cX4_leaves 20 = .ok (.iload 4, 2) := dk_21 4 (dk_at dksX4_leaves_0 20 rfl rfl)
theorem dX4_leaves_22 : decode cX4_leaves 22 = .ok (.aaload, 1) := dk_50 (dk_at dksX4_leaves_0 22 rfl rfl)
theorem dX4_leaves_23 : decode cX4_leaves 23 = .ok (.astore 5, 2) := dk_58 5 (dk_at dksX4_leaves_1 0 rfl rfl)
theorem dX4_leaves_25 : decode cX4_leaves 25 = .ok (.iload_n 1, 1) := dk_27 (dk_at dksX4_leaves_1 2 rfl rfl)
theorem dX4_leaves_26 : decode cX4_leaves 26 = .ok (.aload 5, 2) := dk_25 5 (dk_at dksX4_leaves_1 3 rfl rfl)
theorem dX4_leaves_28 : decode cX4_leaves 28 = .ok (.invokevirtual 29, 3) := dk_182 0 29 (dk_at dksX4_leaves_1 5 rfl rfl)
theorem dX4_leaves_31 : decode cX4_leaves 31 = .ok (.iadd, 1) := dk_96 (dk_at dksX4_leaves_1 8 rfl rfl)
theorem dX4_leaves_32 : decode cX4_leaves 32 = .ok (.istore_n 1, 1) := dk_60 (dk_at dksX4_leaves_1 9 rfl rfl)
theorem dX4_leaves_33 : decode cX4_leaves 33 = .ok (.iinc 4 1, 3) := dk_132 4 1 (dk_at dksX4_leaves_1 10 rfl rfl)
theorem dX4_leaves_36 : decode cX4_leaves 36 = .ok (.goto (-23), 3) := dk_167 255 233 (dk_at dksX4_leaves_1 13 rfl rfl)
theorem dX4_leaves_39 : decode cX4_leaves 39 = .ok (.iload_n 1, 1) := dk_27 (dk_at dksX4_leaves_1 16 rfl rfl)
theorem dX4_leaves_40 : decode cX4_leaves 40 = .ok (.ireturn, 1) := dk_172 (dk_at dksX4_leaves_1 17 rfl rfl)
abbrev cX4_bounds : ByteArray := prog_10_method_6_code
def yX4_bounds : MethodName := ⟨RX4, "bounds", "([J)J"⟩
def dkwX4_bounds_1 : List UInt8 := [101, 80, 132, 3, 1, 167, 255, 234, 44, 180, 0, 37, 184, 0, 45, 173]
abbrev dktX4_bounds_1 : List UInt8 := dkwX4_bounds_1 ++ []
def dkwX4_bounds_0 : List UInt8 := [42, 182, 0, 33, 77, 3, 62, 29, 16, 120, 163, 0, 22, 43, 29, 44, 180, 0, 37, 44, 29, 182, 0, 41]
abbrev dktX4_bounds_0 : List UInt8 := dkwX4_bounds_0 ++ dktX4_bounds_1
theorem dksX4_bounds_0 : cX4_bounds.data.toList.drop 0 = dktX4_bounds_0 := by decide +kernel
theorem dksX4_bounds_1 : cX4_bounds.data.toList.drop 24 = dktX4_bounds_1 := dk_seg dksX4_bounds_0 24 rfl rfl
theorem dX4_bounds_0 : decode cX4_bounds 0 = .ok (.aload_n 0, 1) := dk_42 (dk_at dksX4_bounds_0 0 rfl rfl)
theorem dX4_bounds_1 : decode cX4_bounds 1 = .ok (.invokevirtual 33, 3) := dk_182 0 33 (dk_at dksX4_bounds_0 1 rfl rfl)
theorem dX4_bounds_4 : decode cX4_bounds 4 = .ok (.astore_n 2, 1) := dk_77 (dk_at dksX4_bounds_0 4 rfl rfl)
theorem dX4_bounds_5 : decode cX4_bounds 5 = .ok (.iconst 0, 1) := dk_3 (dk_at dksX4_bounds_0 5 rfl rfl)
theorem dX4_bounds_6 : decode cX4_bounds 6 = .ok (.istore_n 3, 1) := dk_62 (dk_at dksX4_bounds_0 6 rfl rfl)
theorem dX4_bounds_7 : decode cX4_bounds 7 = .ok (.iload_n 3, 1) := dk_29 (dk_at dksX4_bounds_0 7 rfl rfl)
theorem dX4_bounds_8 : decode cX4_bounds 8 = .ok (.bipush 120, 2) := dk_16 120 (dk_at dksX4_bounds_0 8 rfl rfl)
theorem dX4_bounds_10 : decode cX4_bounds 10 = .ok (.if_icmp .gt 22, 3) := dk_163 0 22 (dk_at dksX4_bounds_0 10 rfl rfl)
theorem dX4_bounds_13 : decode cX4_bounds 13 = .ok (.aload_n 1, 1) := dk_43 (dk_at dksX4_bounds_0 13 rfl rfl)
theorem dX4_bounds_14 : decode cX4_bounds 14 = .ok (.iload_n 3, 1) := dk_29 (dk_at dksX4_bounds_0 14 rfl rfl)
theorem dX4_bounds_15 : decode cX4_bounds 15 = .ok (.aload_n 2, 1) := dk_44 (dk_at dksX4_bounds_0 15 rfl rfl)
theorem dX4_bounds_16 : decode cX4_bounds 16 = .ok (.getfield 37, 3) := dk_180 0 37 (dk_at dksX4_bounds_0 16 rfl rfl)
theorem dX4_bounds_19 : decode cX4_bounds 19 = .ok (.aload_n 2, 1) := dk_44 (dk_at dksX4_bounds_0 19 rfl rfl)
theorem dX4_bounds_20 : decode cX4_bounds 20 = .ok (.iload_n 3, 1) := dk_29 (dk_at dksX4_bounds_0 20 rfl rfl)
theorem dX4_bounds_21 : decode cX4_bounds 21 = .ok (.invokevirtual 41, 3) := dk_182 0 41 (dk_at dksX4_bounds_0 21 rfl rfl)
theorem dX4_bounds_24 : decode cX4_bounds 24 = .ok (.lsub, 1) := dk_101 (dk_at dksX4_bounds_1 0 rfl rfl)
theorem dX4_bounds_25 : decode cX4_bounds 25 = .ok (.lastore, 1) := dk_80 (dk_at dksX4_bounds_1 1 rfl rfl)
theorem dX4_bounds_26 : decode cX4_bounds 26 = .ok (.iinc 3 1, 3) := dk_132 3 1 (dk_at dksX4_bounds_1 2 rfl rfl)
theorem dX4_bounds_29 : decode cX4_bounds 29 = .ok (.goto (-22), 3) := dk_167 255 234 (dk_at dksX4_bounds_1 5 rfl rfl)
theorem dX4_bounds_32 : decode cX4_bounds 32 = .ok (.aload_n 2, 1) := dk_44 (dk_at dksX4_bounds_1 8 rfl rfl)
theorem dX4_bounds_33 : decode cX4_bounds 33 = .ok (.getfield 37, 3) := dk_180 0 37 (dk_at dksX4_bounds_1 9 rfl rfl)
theorem dX4_bounds_36 : decode cX4_bounds 36 = .ok (.invokestatic 45, 3) := dk_184 0 45 (dk_at dksX4_bounds_1 12 rfl rfl)
theorem dX4_bounds_39 : decode cX4_bounds 39 = .ok (.lreturn, 1) := dk_173 (dk_at dksX4_bounds_1 15 rfl rfl)
abbrev cX4_asks : ByteArray := prog_10_method_4_code
def yX4_asks : MethodName := ⟨RX4, "asks", "()I"⟩
theorem dX4_asks_0 : decode cX4_asks 0 = .ok (.iconst 1, 1) := by decide +kernel
theorem dX4_asks_1 : decode cX4_asks 1 = .ok (.ireturn, 1) := by decide +kernel
theorem q63 : (Jvm.Cond.initialized "TickShare$Thing") ∈ lw_all := lw_g (lw_at lw_m1 14 rfl) rfl
theorem q335 : (Jvm.Cond.fieldLinkNest "TickShare$Thing" (37 : Nat) "TickShare$Table" "whole" "J" "TickShare") ∈ lw_tbl := lw_at lw_m2 46 rfl
theorem q362 : (Jvm.Cond.instanceMethod ({ cls := "TickShare$Thing", name := "<init>", desc := "([LTickShare$Thing;)V" } : Jvm.MethodName)) ∈ lw_all := lw_g (lw_at lw_m2 73 rfl) rfl
theorem q363 : (Jvm.Cond.code ({ cls := "TickShare$Thing", name := "<init>", desc := "([LTickShare$Thing;)V" } : Jvm.MethodName) prog_10_method_1_code (6 : Nat) (Option.none : Option Jvm.ClassFile.FieldType)) ∈ lw_all := lw_g (lw_at lw_m2 74 rfl) rfl
theorem q364 : (Jvm.Cond.methodLink "TickShare$Thing" (3 : Nat) ({ cls := "java/lang/Object", name := "<init>", desc := "()V" } : Jvm.MethodName)) ∈ lw_all := lw_g (lw_at lw_m2 75 rfl) rfl
theorem q365 : (Jvm.Cond.classLink "TickShare$Thing" (9 : Nat) "TickShare$Table") ∈ lw_all := lw_g (lw_at lw_m2 76 rfl) rfl
theorem q366 : (Jvm.Cond.methodLinkNest "TickShare$Thing" (11 : Nat) ({ cls := "TickShare$Table", name := "<init>", desc := "()V" } : Jvm.MethodName) "TickShare") ∈ lw_tbl := lw_at lw_m2 77 rfl
theorem q382 : (Jvm.Cond.fieldLink "TickShare$Thing" (21 : Nat) "TickShare$Thing" "parts" "[LTickShare$Thing;") ∈ lw_all := lw_g (lw_at lw_m2 93 rfl) rfl
theorem q394 : (Jvm.Cond.fieldLink "TickShare$Thing" (12 : Nat) "TickShare$Thing" "made" "LTickShare$Table;") ∈ lw_all := lw_g (lw_at lw_m2 105 rfl) rfl
theorem q405 : (Jvm.Cond.fieldLink "TickShare$Thing" (18 : Nat) "TickShare$Thing" "other" "LTickShare$Table;") ∈ lw_all := lw_g (lw_at lw_m2 116 rfl) rfl
theorem q410 : (Jvm.Cond.fieldLink "TickShare$Thing" (25 : Nat) "TickShare$Thing" "in" "LTickShare$Thing;") ∈ lw_all := lw_g (lw_at lw_m2 121 rfl) rfl
theorem q429 : (Jvm.Cond.soleField "TickShare$Thing" "parts") ∈ lw_all := lw_g (lw_at lw_m2 140 rfl) rfl
theorem q431 : (Jvm.Cond.soleField "TickShare$Thing" "made") ∈ lw_all := lw_g (lw_at lw_m2 142 rfl) rfl
theorem q433 : (Jvm.Cond.soleField "TickShare$Thing" "other") ∈ lw_all := lw_g (lw_at lw_m2 144 rfl) rfl
theorem q435 : (Jvm.Cond.soleField "TickShare$Thing" "in") ∈ lw_all := lw_g (lw_at lw_m2 146 rfl) rfl
theorem q437 : (Jvm.Cond.soleField "TickShare$Thing" "traces") ∈ lw_all := lw_g (lw_at lw_m2 148 rfl) rfl
theorem q439 : (Jvm.Cond.soleField "TickShare$Thing" "slow") ∈ lw_all := lw_g (lw_at lw_m2 150 rfl) rfl
theorem q595 : (Jvm.Cond.declares ({ cls := "TickShare$Thing", name := "kind", desc := "()I" } : Jvm.MethodName)) ∈ lw_tbl := lw_at lw_m3 66 rfl
theorem q596 : (Jvm.Cond.sameMethod "TickShare$Thing" "TickShare$Thing" "kind" "()I") ∈ lw_all := lw_g (lw_at lw_m3 67 rfl) rfl
theorem q620 : (Jvm.Cond.instanceMethod ({ cls := "TickShare$Thing", name := "leaves", desc := "()I" } : Jvm.MethodName)) ∈ lw_all := lw_g (lw_at lw_m3 91 rfl) rfl
theorem q621 : (Jvm.Cond.sameMethod "TickShare$Thing" "TickShare$Thing" "leaves" "()I") ∈ lw_all := lw_g (lw_at lw_m3 92 rfl) rfl
theorem q630 : (Jvm.Cond.code ({ cls := "TickShare$Thing", name := "leaves", desc := "()I" } : Jvm.MethodName) prog_10_method_5_code (6 : Nat) (Option.some Jvm.ClassFile.FieldType.int)) ∈ lw_all := lw_g (lw_at lw_m3 101 rfl) rfl
theorem q631 : (Jvm.Cond.methodLink "TickShare$Thing" (29 : Nat) ({ cls := "TickShare$Thing", name := "leaves", desc := "()I" } : Jvm.MethodName)) ∈ lw_all := lw_g (lw_at lw_m3 102 rfl) rfl
theorem q633 : (Jvm.Cond.declares ({ cls := "TickShare$Thing", name := "table", desc := "()LTickShare$Table;" } : Jvm.MethodName)) ∈ lw_tbl := lw_at lw_m3 104 rfl
theorem q634 : (Jvm.Cond.sameMethod "TickShare$Thing" "TickShare$Thing" "table" "()LTickShare$Table;") ∈ lw_all := lw_g (lw_at lw_m3 105 rfl) rfl
theorem q778 : (Jvm.Cond.instanceMethod ({ cls := "TickShare$Thing", name := "bounds", desc := "([J)J" } : Jvm.MethodName)) ∈ lw_all := lw_g (lw_at lw_m4 9 rfl) rfl
theorem q779 : (Jvm.Cond.sameMethod "TickShare$Thing" "TickShare$Thing" "bounds" "([J)J") ∈ lw_all := lw_g (lw_at lw_m4 10 rfl) rfl
theorem q809 : (Jvm.Cond.code ({ cls := "TickShare$Thing", name := "bounds", desc := "([J)J" } : Jvm.MethodName) prog_10_method_6_code (4 : Nat) (Option.some Jvm.ClassFile.FieldType.long)) ∈ lw_all := lw_g (lw_at lw_m4 40 rfl) rfl
theorem q810 : (Jvm.Cond.methodLink "TickShare$Thing" (33 : Nat) ({ cls := "TickShare$Thing", name := "table", desc := "()LTickShare$Table;" } : Jvm.MethodName)) ∈ lw_all := lw_g (lw_at lw_m4 41 rfl) rfl
theorem q811 : (Jvm.Cond.methodLink "TickShare$Thing" (41 : Nat) ({ cls := "TickShare$Table", name := "by", desc := "(I)J" } : Jvm.MethodName)) ∈ lw_all := lw_g (lw_at lw_m4 42 rfl) rfl
theorem q812 : (Jvm.Cond.methodLinkNest "TickShare$Thing" (45 : Nat) ({ cls := "TickShare", name := "bounded", desc := "(J)J" } : Jvm.MethodName) "TickShare") ∈ lw_tbl := lw_at lw_m4 43 rfl
theorem q825 : (Jvm.Cond.instanceMethod ({ cls := "TickShare$Thing", name := "asks", desc := "()I" } : Jvm.MethodName)) ∈ lw_all := lw_g (lw_at lw_m4 56 rfl) rfl
theorem q826 : (Jvm.Cond.sameMethod "TickShare$Thing" "TickShare$Thing" "asks" "()I") ∈ lw_all := lw_g (lw_at lw_m4 57 rfl) rfl
theorem q837 : (Jvm.Cond.code ({ cls := "TickShare$Thing", name := "asks", desc := "()I" } : Jvm.MethodName) prog_10_method_4_code (1 : Nat) (Option.some Jvm.ClassFile.FieldType.int)) ∈ lw_all := lw_g (lw_at lw_m4 68 rfl) rfl

/-! TickShare$Leaf -/
set_option maxRecDepth 100000
def RX5 : String := "TickShare$Leaf"
def TX5 : u_T := fun k => match k with
  | 0 => ("TickShare$Thing", "parts", "[LTickShare$Thing;", true)
  | 1 => ("TickShare$Thing", "made", "LTickShare$Table;", true)
  | 2 => ("TickShare$Thing", "other", "LTickShare$Table;", true)
  | 3 => ("TickShare$Thing", "in", "LTickShare$Thing;", false)
  | 4 => ("TickShare$Thing", "traces", "I", false)
  | 5 => ("TickShare$Thing", "slow", "I", false)
  | 6 => ("TickShare$Leaf", "grades", "[LTickShare$Table;", true)
  | 7 => ("TickShare$Leaf", "prices", "[I", true)
  | 8 => ("TickShare$Leaf", "many", "I", false)
  | 9 => ("TickShare$Leaf", "now", "I", false)
  | 10 => ("TickShare$Leaf", "best", "I", false)
  | 11 => ("TickShare$Leaf", "part", "I", false)
  | _ => ("TickShare$Leaf", "over", "I", false)
def tyX5 : Nat → FieldType := fun k => match k with
  | 0 => .array (.object "TickShare$Thing")
  | 1 => .object "TickShare$Table"
  | 2 => .object "TickShare$Table"
  | 3 => .object "TickShare$Thing"
  | 4 => .int
  | 5 => .int
  | 6 => .array (.object "TickShare$Table")
  | 7 => .array .int
  | 8 => .int
  | 9 => .int
  | 10 => .int
  | 11 => .int
  | _ => .int
abbrev wsX50 : List Cond := u_ws RX5 TX5 13
set_option maxRecDepth 100000 in
theorem nmX5 : ∀ a, a < 13 → ∀ b, b < 13 → a ≠ b → (TX5 a).2.1 ≠ (TX5 b).2.1 := by decide +kernel
set_option maxRecDepth 100000 in
theorem tyX5_ok : ∀ k, k < 13 → parseFieldDescriptor (TX5 k).2.2.1 = some (tyX5 k) := by decide +kernel
abbrev cX5_init : ByteArray := prog_5_method_1_code
def yX5_init : MethodName := ⟨RX5, "<init>", "(LTickShare$Table;)V"⟩
def dkwX5_init_1 : List UInt8 := [4, 181, 0, 21, 42, 2, 181, 0, 25, 42, 2, 181, 0, 28, 42, 180, 0, 11, 3, 43, 83, 177]
abbrev dktX5_init_1 : List UInt8 := dkwX5_init_1 ++ []
def dkwX5_init_0 : List UInt8 := [42, 3, 189, 0, 3, 183, 0, 5, 42, 6, 189, 0, 9, 181, 0, 11, 42, 6, 188, 10, 181, 0, 17, 42]
abbrev dktX5_init_0 : List UInt8 := dkwX5_init_0 ++ dktX5_init_1
theorem dksX5_init_0 : cX5_init.data.toList.drop 0 = dktX5_init_0 := by decide +kernel
theorem dksX5_init_1 : cX5_init.data.toList.drop 24 = dktX5_init_1 := dk_seg dksX5_init_0 24 rfl rfl
theorem dX5_init_0 : decode cX5_init 0 = .ok (.aload_n 0, 1) := dk_42 (dk_at dksX5_init_0 0 rfl rfl)
theorem dX5_init_1 : decode cX5_init 1 = .ok (.iconst 0, 1) := dk_3 (dk_at dksX5_init_0 1 rfl rfl)
theorem dX5_init_2 : decode cX5_init 2 = .ok (.anewarray 3, 3) := dk_189 0 3 (dk_at dksX5_init_0 2 rfl rfl)
theorem dX5_init_5 : decode cX5_init 5 = .ok (.invokespecial 5, 3) := dk_183 0 5 (dk_at dksX5_init_0 5 rfl rfl)
theorem dX5_init_8 : decode cX5_init 8 = .ok (.aload_n 0, 1) := dk_42 (dk_at dksX5_init_0 8 rfl rfl)
theorem dX5_init_9 : decode cX5_init 9 = .ok (.iconst 3, 1) := dk_6 (dk_at dksX5_init_0 9 rfl rfl)
theorem dX5_init_10 : decode cX5_init 10 = .ok (.anewarray 9, 3) := dk_189 0 9 (dk_at dksX5_init_0 10 rfl rfl)
theorem dX5_init_13 : decode cX5_init 13 = .ok (.putfield 11, 3) := dk_181 0 11 (dk_at dksX5_init_0 13 rfl rfl)
theorem dX5_init_16 : decode cX5_init 16 = .ok (.aload_n 0, 1) := dk_42 (dk_at dksX5_init_0 16 rfl rfl)
theorem dX5_init_17 : decode cX5_init 17 = .ok (.iconst 3, 1) := dk_6 (dk_at dksX5_init_0 17 rfl rfl)
theorem dX5_init_18 : decode cX5_init 18 = .ok (.newarray .int, 2) := dk_188_10 (dk_at dksX5_init_0 18 rfl rfl)
theorem dX5_init_20 : decode cX5_init 20 = .ok (.putfield 17, 3) := dk_181 0 17 (dk_at dksX5_init_0 20 rfl rfl)
theorem dX5_init_23 : decode cX5_init 23 = .ok (.aload_n 0, 1) := dk_42 (dk_at dksX5_init_0 23 rfl rfl)
theorem dX5_init_24 : decode cX5_init 24 = .ok (.iconst 1, 1) := dk_4 (dk_at dksX5_init_1 0 rfl rfl)
theorem dX5_init_25 : decode cX5_init 25 = .ok (.putfield 21, 3) := dk_181 0 21 (dk_at dksX5_init_1 1 rfl rfl)
theorem dX5_init_28 : decode cX5_init 28 = .ok (.aload_n 0, 1) := dk_42 (dk_at dksX5_init_1 4 rfl rfl)
theorem dX5_init_29 : decode cX5_init 29 = .ok (.iconst (-1), 1) := dk_2 (dk_at dksX5_init_1 5 rfl rfl)
theorem dX5_init_30 : decode cX5_init 30 = .ok (.putfield 25, 3) := dk_181 0 25 (dk_at dksX5_init_1 6 rfl rfl)
theorem dX5_init_33 : decode cX5_init 33 = .ok (.aload_n 0, 1) := dk_42 (dk_at dksX5_init_1 9 rfl rfl)
theorem dX5_init_34 : decode cX5_init 34 = .ok (.iconst (-1), 1) := dk_2 (dk_at dksX5_init_1 10 rfl rfl)
theorem dX5_init_35 : decode cX5_init 35 = .ok (.putfield 28, 3) := dk_181 0 28 (dk_at dksX5_init_1 11 rfl rfl)
theorem dX5_init_38 : decode cX5_init 38 = .ok (.aload_n 0, 1) := dk_42 (dk_at dksX5_init_1 14 rfl rfl)
theorem dX5_init_39 : decode cX5_init 39 = .ok (.getfield 11, 3) := dk_180 0 11 (dk_at dksX5_init_1 15 rfl rfl)
theorem dX5_init_42 : decode cX5_init 42 = .ok (.iconst 0, 1) := dk_3 (dk_at dksX5_init_1 18 rfl rfl)
theorem dX5_init_43 : decode cX5_init 43 = .ok (.aload_n 1, 1) := dk_43 (dk_at dksX5_init_1 19 rfl rfl)
theorem dX5_init_44 : decode cX5_init 44 = .ok (.aastore, 1) := dk_83 (dk_at dksX5_init_1 20 rfl rfl)
theorem dX5_init_45 : decode cX5_init 45 = .ok (.return_, 1) := dk_177 (dk_at dksX5_init_1 21 rfl rfl)
abbrev cX5_kind : ByteArray := prog_5_method_2_code
def yX5_kind : MethodName := ⟨RX5, "kind", "()I"⟩
theorem dX5_kind_0 : decode cX5_kind 0 = .ok (.iconst 0, 1) := by decide +kernel
theorem dX5_kind_1 : decode cX5_kind 1 = .ok (.ireturn, 1) := by decide +kernel
abbrev cX5_leaves : ByteArray := prog_5_method_4_code
def yX5_leaves : MethodName := ⟨RX5, "leaves", "()I"⟩
theorem dX5_leaves_0 : decode cX5_leaves 0 = .ok (.iconst 1, 1) := by decide +kernel
theorem dX5_leaves_1 : decode cX5_leaves 1 = .ok (.ireturn, 1) := by decide +kernel
abbrev cX5_table : ByteArray := prog_5_method_3_code
def yX5_table : MethodName := ⟨RX5, "table", "()LTickShare$Table;"⟩
def dkwX5_table_0 : List UInt8 := [42, 180, 0, 11, 42, 180, 0, 31, 50, 176]
abbrev dktX5_table_0 : List UInt8 := dkwX5_table_0 ++ []
theorem dksX5_table_0 : cX5_table.data.toList.drop 0 = dktX5_table_0 := by decide +kernel
theorem dX5_table_0 : decode cX5_table 0 = .ok (.aload_n 0, 1) := dk_42 (dk_at dksX5_table_0 0 rfl rfl)
theorem dX5_table_1 : decode cX5_table 1 = .ok (.getfield 11, 3) := dk_180 0 11 (dk_at dksX5_table_0 1 rfl rfl)
theorem dX5_table_4 : decode cX5_table 4 = .ok (.aload_n 0, 1) := dk_42 (dk_at dksX5_table_0 4 rfl rfl)
theorem dX5_table_5 : decode cX5_table 5 = .ok (.getfield 31, 3) := dk_180 0 31 (dk_at dksX5_table_0 5 rfl rfl)
theorem dX5_table_8 : decode cX5_table 8 = .ok (.aaload, 1) := dk_50 (dk_at dksX5_table_0 8 rfl rfl)
theorem dX5_table_9 : decode cX5_table 9 = .ok (.areturn, 1) := dk_176 (dk_at dksX5_table_0 9 rfl rfl)
theorem q64 : (Jvm.Cond.initialized "TickShare$Leaf") ∈ lw_all := lw_g (lw_at lw_m1 15 rfl) rfl
theorem q356 : (Jvm.Cond.instantiable "TickShare$Leaf" (13 : Nat)) ∈ lw_all := lw_g (lw_at lw_m2 67 rfl) rfl
theorem q358 : (Jvm.Cond.instanceMethod ({ cls := "TickShare$Leaf", name := "<init>", desc := "(LTickShare$Table;)V" } : Jvm.MethodName)) ∈ lw_all := lw_g (lw_at lw_m2 69 rfl) rfl
theorem q359 : (Jvm.Cond.code ({ cls := "TickShare$Leaf", name := "<init>", desc := "(LTickShare$Table;)V" } : Jvm.MethodName) prog_5_method_1_code (2 : Nat) (Option.none : Option Jvm.ClassFile.FieldType)) ∈ lw_all := lw_g (lw_at lw_m2 70 rfl) rfl
theorem q360 : (Jvm.Cond.classLink "TickShare$Leaf" (3 : Nat) "TickShare$Thing") ∈ lw_all := lw_g (lw_at lw_m2 71 rfl) rfl
theorem q361 : (Jvm.Cond.methodLink "TickShare$Leaf" (5 : Nat) ({ cls := "TickShare$Thing", name := "<init>", desc := "([LTickShare$Thing;)V" } : Jvm.MethodName)) ∈ lw_all := lw_g (lw_at lw_m2 72 rfl) rfl
theorem q367 : (Jvm.Cond.classLink "TickShare$Leaf" (9 : Nat) "TickShare$Table") ∈ lw_all := lw_g (lw_at lw_m2 78 rfl) rfl
theorem q369 : (Jvm.Cond.fieldLink "TickShare$Leaf" (11 : Nat) "TickShare$Leaf" "grades" "[LTickShare$Table;") ∈ lw_all := lw_g (lw_at lw_m2 80 rfl) rfl
theorem q371 : (Jvm.Cond.fieldLink "TickShare$Leaf" (17 : Nat) "TickShare$Leaf" "prices" "[I") ∈ lw_all := lw_g (lw_at lw_m2 82 rfl) rfl
theorem q373 : (Jvm.Cond.fieldLink "TickShare$Leaf" (21 : Nat) "TickShare$Leaf" "many" "I") ∈ lw_all := lw_g (lw_at lw_m2 84 rfl) rfl
theorem q375 : (Jvm.Cond.fieldLink "TickShare$Leaf" (31 : Nat) "TickShare$Leaf" "now" "I") ∈ lw_all := lw_g (lw_at lw_m2 86 rfl) rfl
theorem q377 : (Jvm.Cond.fieldLink "TickShare$Leaf" (25 : Nat) "TickShare$Leaf" "best" "I") ∈ lw_all := lw_g (lw_at lw_m2 88 rfl) rfl
theorem q379 : (Jvm.Cond.fieldLink "TickShare$Leaf" (28 : Nat) "TickShare$Leaf" "part" "I") ∈ lw_all := lw_g (lw_at lw_m2 90 rfl) rfl
theorem q414 : (Jvm.Cond.laysFinal "TickShare$Leaf" "TickShare$Leaf" "grades" "[LTickShare$Table;") ∈ lw_all := lw_g (lw_at lw_m2 125 rfl) rfl
theorem q415 : (Jvm.Cond.soleField "TickShare$Leaf" "grades") ∈ lw_all := lw_g (lw_at lw_m2 126 rfl) rfl
theorem q416 : (Jvm.Cond.laysFinal "TickShare$Leaf" "TickShare$Leaf" "prices" "[I") ∈ lw_all := lw_g (lw_at lw_m2 127 rfl) rfl
theorem q417 : (Jvm.Cond.soleField "TickShare$Leaf" "prices") ∈ lw_all := lw_g (lw_at lw_m2 128 rfl) rfl
theorem q418 : (Jvm.Cond.lays "TickShare$Leaf" "TickShare$Leaf" "many" "I") ∈ lw_all := lw_g (lw_at lw_m2 129 rfl) rfl
theorem q419 : (Jvm.Cond.soleField "TickShare$Leaf" "many") ∈ lw_all := lw_g (lw_at lw_m2 130 rfl) rfl
theorem q420 : (Jvm.Cond.lays "TickShare$Leaf" "TickShare$Leaf" "now" "I") ∈ lw_all := lw_g (lw_at lw_m2 131 rfl) rfl
theorem q421 : (Jvm.Cond.soleField "TickShare$Leaf" "now") ∈ lw_all := lw_g (lw_at lw_m2 132 rfl) rfl
theorem q422 : (Jvm.Cond.lays "TickShare$Leaf" "TickShare$Leaf" "best" "I") ∈ lw_all := lw_g (lw_at lw_m2 133 rfl) rfl
theorem q423 : (Jvm.Cond.soleField "TickShare$Leaf" "best") ∈ lw_all := lw_g (lw_at lw_m2 134 rfl) rfl
theorem q424 : (Jvm.Cond.lays "TickShare$Leaf" "TickShare$Leaf" "part" "I") ∈ lw_all := lw_g (lw_at lw_m2 135 rfl) rfl
theorem q425 : (Jvm.Cond.soleField "TickShare$Leaf" "part") ∈ lw_all := lw_g (lw_at lw_m2 136 rfl) rfl
theorem q426 : (Jvm.Cond.lays "TickShare$Leaf" "TickShare$Leaf" "over" "I") ∈ lw_all := lw_g (lw_at lw_m2 137 rfl) rfl
theorem q427 : (Jvm.Cond.soleField "TickShare$Leaf" "over") ∈ lw_all := lw_g (lw_at lw_m2 138 rfl) rfl
theorem q428 : (Jvm.Cond.laysFinal "TickShare$Leaf" "TickShare$Thing" "parts" "[LTickShare$Thing;") ∈ lw_all := lw_g (lw_at lw_m2 139 rfl) rfl
theorem q430 : (Jvm.Cond.laysFinal "TickShare$Leaf" "TickShare$Thing" "made" "LTickShare$Table;") ∈ lw_all := lw_g (lw_at lw_m2 141 rfl) rfl
theorem q432 : (Jvm.Cond.laysFinal "TickShare$Leaf" "TickShare$Thing" "other" "LTickShare$Table;") ∈ lw_all := lw_g (lw_at lw_m2 143 rfl) rfl
theorem q434 : (Jvm.Cond.lays "TickShare$Leaf" "TickShare$Thing" "in" "LTickShare$Thing;") ∈ lw_all := lw_g (lw_at lw_m2 145 rfl) rfl
theorem q436 : (Jvm.Cond.lays "TickShare$Leaf" "TickShare$Thing" "traces" "I") ∈ lw_all := lw_g (lw_at lw_m2 147 rfl) rfl
theorem q438 : (Jvm.Cond.lays "TickShare$Leaf" "TickShare$Thing" "slow" "I") ∈ lw_all := lw_g (lw_at lw_m2 149 rfl) rfl
theorem q440 : (Jvm.Cond.superclass "TickShare$Leaf" "TickShare$Thing") ∈ lw_all := lw_g (lw_at lw_m2 151 rfl) rfl
theorem q606 : (Jvm.Cond.selects "TickShare$Leaf" ({ cls := "TickShare$Thing", name := "kind", desc := "()I" } : Jvm.MethodName) ({ cls := "TickShare$Leaf", name := "kind", desc := "()I" } : Jvm.MethodName)) ∈ lw_all := lw_g (lw_at lw_m3 77 rfl) rfl
theorem q607 : (Jvm.Cond.instanceMethod ({ cls := "TickShare$Leaf", name := "kind", desc := "()I" } : Jvm.MethodName)) ∈ lw_all := lw_g (lw_at lw_m3 78 rfl) rfl
theorem q608 : (Jvm.Cond.code ({ cls := "TickShare$Leaf", name := "kind", desc := "()I" } : Jvm.MethodName) prog_5_method_2_code (1 : Nat) (Option.some Jvm.ClassFile.FieldType.int)) ∈ lw_all := lw_g (lw_at lw_m3 79 rfl) rfl
theorem q625 : (Jvm.Cond.selects "TickShare$Leaf" ({ cls := "TickShare$Thing", name := "leaves", desc := "()I" } : Jvm.MethodName) ({ cls := "TickShare$Leaf", name := "leaves", desc := "()I" } : Jvm.MethodName)) ∈ lw_all := lw_g (lw_at lw_m3 96 rfl) rfl
theorem q626 : (Jvm.Cond.instanceMethod ({ cls := "TickShare$Leaf", name := "leaves", desc := "()I" } : Jvm.MethodName)) ∈ lw_all := lw_g (lw_at lw_m3 97 rfl) rfl
theorem q627 : (Jvm.Cond.code ({ cls := "TickShare$Leaf", name := "leaves", desc := "()I" } : Jvm.MethodName) prog_5_method_4_code (1 : Nat) (Option.some Jvm.ClassFile.FieldType.int)) ∈ lw_all := lw_g (lw_at lw_m3 98 rfl) rfl
theorem q649 : (Jvm.Cond.instanceMethod ({ cls := "TickShare$Leaf", name := "table", desc := "()LTickShare$Table;" } : Jvm.MethodName)) ∈ lw_all := lw_g (lw_at lw_m3 120 rfl) rfl
theorem q650 : (Jvm.Cond.code ({ cls := "TickShare$Leaf", name := "table", desc := "()LTickShare$Table;" } : Jvm.MethodName) prog_5_method_3_code (1 : Nat) (Option.some (Jvm.ClassFile.FieldType.object "TickShare$Table"))) ∈ lw_all := lw_g (lw_at lw_m3 121 rfl) rfl
theorem q722 : (Jvm.Cond.selects "TickShare$Leaf" ({ cls := "TickShare$Thing", name := "table", desc := "()LTickShare$Table;" } : Jvm.MethodName) ({ cls := "TickShare$Leaf", name := "table", desc := "()LTickShare$Table;" } : Jvm.MethodName)) ∈ lw_all := lw_g (lw_at lw_m3 193 rfl) rfl
theorem q806 : (Jvm.Cond.selects "TickShare$Leaf" ({ cls := "TickShare$Thing", name := "bounds", desc := "([J)J" } : Jvm.MethodName) ({ cls := "TickShare$Thing", name := "bounds", desc := "([J)J" } : Jvm.MethodName)) ∈ lw_all := lw_g (lw_at lw_m4 37 rfl) rfl
theorem q832 : (Jvm.Cond.selects "TickShare$Leaf" ({ cls := "TickShare$Thing", name := "asks", desc := "()I" } : Jvm.MethodName) ({ cls := "TickShare$Thing", name := "asks", desc := "()I" } : Jvm.MethodName)) ∈ lw_all := lw_g (lw_at lw_m4 63 rfl) rfl
theorem q1299 : (Jvm.Cond.castable "TickShare$Leaf" "java/lang/Object") ∈ lw_tbl := lw_at lw_m6 50 rfl
theorem q1308 : (Jvm.Cond.castable "TickShare$Leaf" "TickShare$Thing") ∈ lw_tbl := lw_at lw_m6 59 rfl
theorem in_X5 : ∀ w ∈ wsX50, w ∈ lw_all := lw_in wsX50 [428, 430, 432, 434, 436, 438, 414, 416, 418, 420, 422, 424, 426] (by decide +kernel) (by decide +kernel)

/-! TickShare$Row -/
set_option maxRecDepth 100000
def RX6 : String := "TickShare$Row"
def TX6 : u_T := fun k => match k with
  | 0 => ("TickShare$Thing", "parts", "[LTickShare$Thing;", true)
  | 1 => ("TickShare$Thing", "made", "LTickShare$Table;", true)
  | 2 => ("TickShare$Thing", "other", "LTickShare$Table;", true)
  | 3 => ("TickShare$Thing", "in", "LTickShare$Thing;", false)
  | 4 => ("TickShare$Thing", "traces", "I", false)
  | 5 => ("TickShare$Thing", "slow", "I", false)
  | 6 => ("TickShare$Row", "rows", "[[J", true)
  | _ => ("TickShare$Row", "bottoms", "[J", true)
def tyX6 : Nat → FieldType := fun k => match k with
  | 0 => .array (.object "TickShare$Thing")
  | 1 => .object "TickShare$Table"
  | 2 => .object "TickShare$Table"
  | 3 => .object "TickShare$Thing"
  | 4 => .int
  | 5 => .int
  | 6 => .array (.array .long)
  | _ => .array .long
abbrev wsX60 : List Cond := u_ws RX6 TX6 8
theorem nmX6 : ∀ a, a < 8 → ∀ b, b < 8 → a ≠ b → (TX6 a).2.1 ≠ (TX6 b).2.1 := by decide +kernel
theorem tyX6_ok : ∀ k, k < 8 → parseFieldDescriptor (TX6 k).2.2.1 = some (tyX6 k) := by decide +kernel
abbrev cX6_init : ByteArray := prog_8_method_1_code
def yX6_init : MethodName := ⟨RX6, "<init>", "([LTickShare$Thing;)V"⟩
def dkwX6_init_1 : List UInt8 := [181, 0, 16, 177]
abbrev dktX6_init_1 : List UInt8 := dkwX6_init_1 ++ []
def dkwX6_init_0 : List UInt8 := [42, 43, 183, 0, 3, 42, 43, 190, 4, 96, 16, 121, 197, 0, 9, 2, 181, 0, 11, 42, 43, 190, 188, 11]
abbrev dktX6_init_0 : List UInt8 := dkwX6_init_0 ++ dktX6_init_1
theorem dksX6_init_0 : cX6_init.data.toList.drop 0 = dktX6_init_0 := by decide +kernel
theorem dksX6_init_1 : cX6_init.data.toList.drop 24 = dktX6_init_1 := dk_seg dksX6_init_0 24 rfl rfl
theorem dX6_init_0 : decode cX6_init 0 = .ok (.aload_n 0, 1) := dk_42 (dk_at dksX6_init_0 0 rfl rfl)
theorem dX6_init_1 : decode cX6_init 1 = .ok (.aload_n 1, 1) := dk_43 (dk_at dksX6_init_0 1 rfl rfl)
theorem dX6_init_2 : decode cX6_init 2 = .ok (.invokespecial 3, 3) := dk_183 0 3 (dk_at dksX6_init_0 2 rfl rfl)
theorem dX6_init_5 : decode cX6_init 5 = .ok (.aload_n 0, 1) := dk_42 (dk_at dksX6_init_0 5 rfl rfl)
theorem dX6_init_6 : decode cX6_init 6 = .ok (.aload_n 1, 1) := dk_43 (dk_at dksX6_init_0 6 rfl rfl)
theorem dX6_init_7 : decode cX6_init 7 = .ok (.arraylength, 1) := dk_190 (dk_at dksX6_init_0 7 rfl rfl)
theorem dX6_init_8 : decode cX6_init 8 = .ok (.iconst 1, 1) := dk_4 (dk_at dksX6_init_0 8 rfl rfl)
theorem dX6_init_9 : decode cX6_init 9 = .ok (.iadd, 1) := dk_96 (dk_at dksX6_init_0 9 rfl rfl)
theorem dX6_init_10 : decode cX6_init 10 = .ok (.bipush 121, 2) := dk_16 121 (dk_at dksX6_init_0 10 rfl rfl)
theorem dX6_init_12 : decode cX6_init 12 = .ok (.multianewarray 9 2, 4) := by decide +kernel
theorem dX6_init_16 : decode cX6_init 16 = .ok (.putfield 11, 3) := dk_181 0 11 (dk_at dksX6_init_0 16 rfl rfl)
theorem dX6_init_19 : decode cX6_init 19 = .ok (.aload_n 0, 1) := dk_42 (dk_at dksX6_init_0 19 rfl rfl)
theorem dX6_init_20 : decode cX6_init 20 = .ok (.aload_n 1, 1) := dk_43 (dk_at dksX6_init_0 20 rfl rfl)
theorem dX6_init_21 : decode cX6_init 21 = .ok (.arraylength, 1) := dk_190 (dk_at dksX6_init_0 21 rfl rfl)
theorem dX6_init_22 : decode cX6_init 22 = .ok (.newarray .long, 2) := dk_188_11 (dk_at dksX6_init_0 22 rfl rfl)
theorem dX6_init_24 : decode cX6_init 24 = .ok (.putfield 16, 3) := dk_181 0 16 (dk_at dksX6_init_1 0 rfl rfl)
theorem dX6_init_27 : decode cX6_init 27 = .ok (.return_, 1) := dk_177 (dk_at dksX6_init_1 3 rfl rfl)
abbrev cX6_kind : ByteArray := prog_8_method_2_code
def yX6_kind : MethodName := ⟨RX6, "kind", "()I"⟩
theorem dX6_kind_0 : decode cX6_kind 0 = .ok (.iconst 1, 1) := by decide +kernel
theorem dX6_kind_1 : decode cX6_kind 1 = .ok (.ireturn, 1) := by decide +kernel
abbrev cX6_table : ByteArray := prog_8_method_3_code
def yX6_table : MethodName := ⟨RX6, "table", "()LTickShare$Table;"⟩
def dkwX6_table_3 : List UInt8 := [184, 0, 49, 25, 4, 76, 132, 2, 1, 167, 255, 190, 43, 182, 0, 53, 176]
abbrev dktX6_table_3 : List UInt8 := dkwX6_table_3 ++ []
def dkwX6_table_2 : List UInt8 := [180, 0, 32, 43, 180, 0, 35, 45, 180, 0, 35, 184, 0, 41, 182, 0, 45, 58, 4, 43, 45, 10, 25, 4]
abbrev dktX6_table_2 : List UInt8 := dkwX6_table_2 ++ dktX6_table_3
def dkwX6_table_1 : List UInt8 := [180, 0, 20, 28, 50, 182, 0, 24, 78, 28, 5, 112, 154, 0, 10, 42, 180, 0, 28, 167, 0, 7, 42]
abbrev dktX6_table_1 : List UInt8 := dkwX6_table_1 ++ dktX6_table_2
def dkwX6_table_0 : List UInt8 := [42, 180, 0, 20, 3, 50, 182, 0, 24, 76, 4, 61, 28, 42, 180, 0, 20, 190, 162, 0, 63, 42]
abbrev dktX6_table_0 : List UInt8 := dkwX6_table_0 ++ dktX6_table_1
theorem dksX6_table_0 : cX6_table.data.toList.drop 0 = dktX6_table_0 := by decide +kernel
theorem dksX6_table_1 : cX6_table.data.toList.drop 22 = dktX6_table_1 := dk_seg dksX6_table_0 22 rfl rfl
theorem dksX6_table_2 : cX6_table.data.toList.drop 45 = dktX6_table_2 := dk_seg dksX6_table_1 23 rfl rfl
theorem dksX6_table_3 : cX6_table.data.toList.drop 69 = dktX6_table_3 := dk_seg dksX6_table_2 24 rfl rfl
theorem dX6_table_0 : decode cX6_table 0 = .ok (.aload_n 0, 1) := dk_42 (dk_at dksX6_table_0 0 rfl rfl)
theorem dX6_table_1 : decode cX6_table 1 = .ok (.getfield 20, 3) := dk_180 0 20 (dk_at dksX6_table_0 1 rfl rfl)
theorem dX6_table_4 : decode cX6_table 4 = .ok (.iconst 0, 1) := dk_3 (dk_at dksX6_table_0 4 rfl rfl)
theorem dX6_table_5 : decode cX6_table 5 = .ok (.aaload, 1) := dk_50 (dk_at dksX6_table_0 5 rfl rfl)
theorem dX6_table_6 : decode cX6_table 6 = .ok (.invokevirtual 24, 3) := dk_182 0 24 (dk_at dksX6_table_0 6 rfl rfl)
theorem dX6_table_9 : decode cX6_table 9 = .ok (.astore_n 1, 1) := dk_76 (dk_at dksX6_table_0 9 rfl rfl)
theorem dX6_table_10 : decode cX6_table 10 = .ok (.iconst 1, 1) := dk_4 (dk_at dksX6_table_0 10 rfl rfl)
theorem dX6_table_11 : decode cX6_table 11 = .ok (.istore_n 2, 1) := dk_61 (dk_at dksX6_table_0 11 rfl rfl)
theorem dX6_table_12 : decode cX6_table 12 = .ok (.iload_n 2, 1) := dk_28 (dk_at dksX6_table_0 12 rfl rfl)
theorem dX6_table_13 : decode cX6_table 13 = .ok (.aload_n 0, 1) := dk_42 (dk_at dksX6_table_0 13 rfl rfl)
theorem dX6_table_14 : decode cX6_table 14 = .ok (.getfield 20, 3) := dk_180 0 20 (dk_at dksX6_table_0 14 rfl rfl)
theorem dX6_table_17 : decode cX6_table 17 = .ok (.arraylength, 1) := dk_190 (dk_at dksX6_table_0 17 rfl rfl)
theorem dX6_table_18 : decode cX6_table 18 = .ok (.if_icmp .ge 63, 3) := dk_162 0 63 (dk_at dksX6_table_0 18 rfl rfl)
theorem dX6_table_21 : decode cX6_table 21 = .ok (.aload_n 0, 1) := dk_42 (dk_at dksX6_table_0 21 rfl rfl)
theorem dX6_table_22 : decode cX6_table 22 = .ok (.getfield 20, 3) := dk_180 0 20 (dk_at dksX6_table_1 0 rfl rfl)
theorem dX6_table_25 : decode cX6_table 25 = .ok (.iload_n 2, 1) := dk_28 (dk_at dksX6_table_1 3 rfl rfl)
theorem dX6_table_26 : decode cX6_table 26 = .ok (.aaload, 1) := dk_50 (dk_at dksX6_table_1 4 rfl rfl)
theorem dX6_table_27 : decode cX6_table 27 = .ok (.invokevirtual 24, 3) := dk_182 0 24 (dk_at dksX6_table_1 5 rfl rfl)
theorem dX6_table_30 : decode cX6_table 30 = .ok (.astore_n 3, 1) := dk_78 (dk_at dksX6_table_1 8 rfl rfl)
theorem dX6_table_31 : decode cX6_table 31 = .ok (.iload_n 2, 1) := dk_28 (dk_at dksX6_table_1 9 rfl rfl)
theorem dX6_table_32 : decode cX6_table 32 = .ok (.iconst 2, 1) := dk_5 (dk_at dksX6_table_1 10 rfl rfl)
theorem dX6_table_33 : decode cX6_table 33 = .ok (.irem, 1) := dk_112 (dk_at dksX6_table_1 11 rfl rfl)
theorem dX6_table_34 : decode cX6_table 34 = .ok (.ifCond .ne 10, 3) := dk_154 0 10 (dk_at dksX6_table_1 12 rfl rfl)
theorem dX6_table_37 : decode cX6_table 37 = .ok (.aload_n 0, 1) := dk_42 (dk_at dksX6_table_1 15 rfl rfl)
theorem dX6_table_38 : decode cX6_table 38 = .ok (.getfield 28, 3) := dk_180 0 28 (dk_at dksX6_table_1 16 rfl rfl)
theorem dX6_table_41 : decode cX6_table 41 = .ok (.goto 7, 3) := dk_167 0 7 (dk_at dksX6_table_1 19 rfl rfl)
theorem dX6_table_44 : decode cX6_table 44 = .ok (.aload_n 0, 1) := dk_42 (dk_at dksX6_table_1 22 rfl rfl)
theorem dX6_table_45 : decode cX6_table 45 = .ok (.getfield 32, 3) := dk_180 0 32 (dk_at dksX6_table_2 0 rfl rfl)
theorem dX6_table_48 : decode cX6_table 48 = .ok (.aload_n 1, 1) := dk_43 (dk_at dksX6_table_2 3 rfl rfl)
theorem dX6_table_49 : decode cX6_table 49 = .ok (.getfield 35, 3) := dk_180 0 35 (dk_at dksX6_table_2 4 rfl rfl)
theorem dX6_table_52 : decode cX6_table 52 = .ok (.aload_n 3, 1) := dk_45 (dk_at dksX6_table_2 7 rfl rfl)
theorem dX6_table_53 : decode cX6_table 53 = .ok (.getfield 35, 3) := dk_180 0 35 (dk_at dksX6_table_2 8 rfl rfl)
theorem dX6_table_56 : decode cX6_table 56 = .ok (.invokestatic 41, 3) := dk_184 0 41 (dk_at dksX6_table_2 11 rfl rfl)
theorem dX6_table_59 : decode cX6_table 59 = .ok (.invokevirtual 45, 3) := dk_182 0 45 (dk_at dksX6_table_2 14 rfl rfl)
theorem dX6_table_62 : decode cX6_table 62 = .ok (.astore 4, 2) := dk_58 4 (dk_at dksX6_table_2 17 rfl rfl)
theorem dX6_table_64 : decode cX6_table 64 = .ok (.aload_n 1, 1) := dk_43 (dk_at dksX6_table_2 19 rfl rfl)
theorem dX6_table_65 : decode cX6_table 65 = .ok (.aload_n 3, 1) := dk_45 (dk_at dksX6_table_2 20 rfl rfl)
theorem dX6_table_66 : decode cX6_table 66 = .ok (.lconst 1, 1) := dk_10 (dk_at dksX6_table_2 21 rfl rfl)
theorem dX6_table_67 : decode cX6_table 67 = .ok (.aload 4, 2) := dk_25 4 (dk_at dksX6_table_2 22 rfl rfl)
theorem dX6_table_69 : decode cX6_table 69 = .ok (.invokestatic 49, 3) := dk_184 0 49 (dk_at dksX6_table_3 0 rfl rfl)
theorem dX6_table_72 : decode cX6_table 72 = .ok (.aload 4, 2) := dk_25 4 (dk_at dksX6_table_3 3 rfl rfl)
theorem dX6_table_74 : decode cX6_table 74 = .ok (.astore_n 1, 1) := dk_76 (dk_at dksX6_table_3 5 rfl rfl)
theorem dX6_table_75 : decode cX6_table 75 = .ok (.iinc 2 1, 3) := dk_132 2 1 (dk_at dksX6_table_3 6 rfl rfl)
theorem dX6_table_78 : decode cX6_table 78 = .ok (.goto (-66), 3) := dk_167 255 190 (dk_at dksX6_table_3 9 rfl rfl)
theorem dX6_table_81 : decode cX6_table 81 = .ok (.aload_n 1, 1) := dk_43 (dk_at dksX6_table_3 12 rfl rfl)
theorem dX6_table_82 : decode cX6_table 82 = .ok (.invokevirtual 53, 3) := dk_182 0 53 (dk_at dksX6_table_3 13 rfl rfl)
theorem dX6_table_85 : decode cX6_table 85 = .ok (.areturn, 1) := dk_176 (dk_at dksX6_table_3 16 rfl rfl)
abbrev cX6_tops : ByteArray := prog_8_method_4_code
def yX6_tops : MethodName := ⟨RX6, "tops", "()[[J"⟩
def dkwX6_tops_5 : List UInt8 := [80, 42, 180, 0, 11, 176]
abbrev dktX6_tops_5 : List UInt8 := dkwX6_tops_5 ++ []
def dkwX6_tops_4 : List UInt8 := [132, 4, 1, 167, 255, 226, 132, 3, 1, 167, 255, 208, 42, 180, 0, 11, 42, 180, 0, 20, 190, 50, 3, 31]
abbrev dktX6_tops_4 : List UInt8 := dkwX6_tops_4 ++ dktX6_tops_5
def dkwX6_tops_3 : List UInt8 := [163, 0, 29, 42, 180, 0, 11, 29, 50, 21, 4, 92, 47, 31, 42, 180, 0, 16, 29, 47, 109, 105, 80]
abbrev dktX6_tops_3 : List UInt8 := dkwX6_tops_3 ++ dktX6_tops_4
def dkwX6_tops_2 : List UInt8 := [132, 3, 1, 167, 255, 209, 3, 62, 29, 42, 180, 0, 20, 190, 162, 0, 45, 3, 54, 4, 21, 4, 16, 120]
abbrev dktX6_tops_2 : List UInt8 := dkwX6_tops_2 ++ dktX6_tops_3
def dkwX6_tops_1 : List UInt8 := [42, 180, 0, 11, 29, 50, 182, 0, 56, 80, 31, 42, 180, 0, 16, 29, 47, 184, 0, 41, 184, 0, 60, 64]
abbrev dktX6_tops_1 : List UInt8 := dkwX6_tops_1 ++ dktX6_tops_2
def dkwX6_tops_0 : List UInt8 := [10, 64, 3, 62, 29, 42, 180, 0, 20, 190, 162, 0, 44, 42, 180, 0, 16, 29, 42, 180, 0, 20, 29, 50]
abbrev dktX6_tops_0 : List UInt8 := dkwX6_tops_0 ++ dktX6_tops_1
theorem dksX6_tops_0 : cX6_tops.data.toList.drop 0 = dktX6_tops_0 := by decide +kernel
theorem dksX6_tops_1 : cX6_tops.data.toList.drop 24 = dktX6_tops_1 := dk_seg dksX6_tops_0 24 rfl rfl
theorem dksX6_tops_2 : cX6_tops.data.toList.drop 48 = dktX6_tops_2 := dk_seg dksX6_tops_1 24 rfl rfl
theorem dksX6_tops_3 : cX6_tops.data.toList.drop 72 = dktX6_tops_3 := dk_seg dksX6_tops_2 24 rfl rfl
theorem dksX6_tops_4 : cX6_tops.data.toList.drop 95 = dktX6_tops_4 := dk_seg dksX6_tops_3 23 rfl rfl
theorem dksX6_tops_5 : cX6_tops.data.toList.drop 119 = dktX6_tops_5 := dk_seg dksX6_tops_4 24 rfl rfl
theorem dX6_tops_0 : decode cX6_tops 0 = .ok (.lconst 1, 1) := dk_10 (dk_at dksX6_tops_0 0 rfl rfl)
theorem dX6_tops_1 : decode cX6_tops 1 = .ok (.lstore_n 1, 1) := dk_64 (dk_at dksX6_tops_0 1 rfl rfl)
theorem dX6_tops_2 : decode cX6_tops 2 = .ok (.iconst 0, 1) := dk_3 (dk_at dksX6_tops_0 2 rfl rfl)
theorem dX6_tops_3 : decode cX6_tops 3 = .ok (.istore_n 3, 1) := dk_62 (dk_at dksX6_tops_0 3 rfl rfl)
theorem dX6_tops_4 : decode cX6_tops 4 = .ok (.iload_n 3, 1) := dk_29 (dk_at dksX6_tops_0 4 rfl rfl)
theorem dX6_tops_5 : decode cX6_tops 5 = .ok (.aload_n 0, 1) := dk_42 (dk_at dksX6_tops_0 5 rfl rfl)
theorem dX6_tops_6 : decode cX6_tops 6 = .ok (.getfield 20, 3) := dk_180 0 20 (dk_at dksX6_tops_0 6 rfl rfl)
theorem dX6_tops_9 : decode cX6_tops 9 = .ok (.arraylength, 1) := dk_190 (dk_at dksX6_tops_0 9 rfl rfl)
theorem dX6_tops_10 : decode cX6_tops 10 = .ok (.if_icmp .ge 44, 3) := dk_162 0 44 (dk_at dksX6_tops_0 10 rfl rfl)
theorem dX6_tops_13 : decode cX6_tops 13 = .ok (.aload_n 0, 1) := dk_42 (dk_at dksX6_tops_0 13 rfl rfl)
theorem dX6_tops_14 : decode cX6_tops 14 = .ok (.getfield 16, 3) := dk_180 0 16 (dk_at dksX6_tops_0 14 rfl rfl)
theorem dX6_tops_17 : decode cX6_tops 17 = .ok (.iload_n 3, 1) := dk_29 (dk_at dksX6_tops_0 17 rfl rfl)
theorem dX6_tops_18 : decode cX6_tops 18 = .ok (.aload_n 0, 1) := dk_42 (dk_at dksX6_tops_0 18 rfl rfl)
theorem dX6_tops_19 : decode cX6_tops 19 = .ok (.getfield 20, 3) := dk_180 0 20 (dk_at dksX6_tops_0 19 rfl rfl)
theorem dX6_tops_22 : decode cX6_tops 22 = .ok (.iload_n 3, 1) := dk_29 (dk_at dksX6_tops_0 22 rfl rfl)
theorem dX6_tops_23 : decode cX6_tops 23 = .ok (.aaload, 1) := dk_50 (dk_at dksX6_tops_0 23 rfl rfl)
theorem dX6_tops_24 : decode cX6_tops 24 = .ok (.aload_n 0, 1) := dk_42 (dk_at dksX6_tops_1 0 rfl rfl)
theorem dX6_tops_25 : decode cX6_tops 25 = .ok (.getfield 11, 3) := dk_180 0 11 (dk_at dksX6_tops_1 1 rfl rfl)
theorem dX6_tops_28 : decode cX6_tops 28 = .ok (.iload_n 3, 1) := dk_29 (dk_at dksX6_tops_1 4 rfl rfl)
theorem dX6_tops_29 : decode cX6_tops 29 = .ok (.aaload, 1) := dk_50 (dk_at dksX6_tops_1 5 rfl rfl)
theorem dX6_tops_30 : decode cX6_tops 30 = .ok (.invokevirtual 56, 3) := dk_182 0 56 (dk_at dksX6_tops_1 6 rfl rfl)
theorem dX6_tops_33 : decode cX6_tops 33 = .ok (.lastore, 1) := dk_80 (dk_at dksX6_tops_1 9 rfl rfl)
theorem dX6_tops_34 : decode cX6_tops 34 = .ok (.lload_n 1, 1) := dk_31 (dk_at dksX6_tops_1 10 rfl rfl)
theorem dX6_tops_35 : decode cX6_tops 35 = .ok (.aload_n 0, 1) := dk_42 (dk_at dksX6_tops_1 11 rfl rfl)
theorem dX6_tops_36 : decode cX6_tops 36 = .ok (.getfield 16, 3) := dk_180 0 16 (dk_at dksX6_tops_1 12 rfl rfl)
theorem dX6_tops_39 : decode cX6_tops 39 = .ok (.iload_n 3, 1) := dk_29 (dk_at dksX6_tops_1 15 rfl rfl)
theorem dX6_tops_40 : decode cX6_tops 40 = .ok (.laload, 1) := dk_47 (dk_at dksX6_tops_1 16 rfl rfl)
theorem dX6_tops_41 : decode cX6_tops 41 = .ok (.invokestatic 41, 3) := dk_184 0 41 (dk_at dksX6_tops_1 17 rfl rfl)
theorem dX6_tops_44 : decode cX6_tops 44 = .ok (.invokestatic 60, 3) := dk_184 0 60 (dk_at dksX6_tops_1 20 rfl rfl)
theorem dX6_tops_47 : decode cX6_tops 47 = .ok (.lstore_n 1, 1) := dk_64 (dk_at dksX6_tops_1 23 rfl rfl)
theorem dX6_tops_48 : decode cX6_tops 48 = .ok (.iinc 3 1, 3) := dk_132 3 1 (dk_at dksX6_tops_2 0 rfl rfl)
theorem dX6_tops_51 : decode cX6_tops 51 = .ok (.goto (-47), 3) := dk_167 255 209 (dk_at dksX6_tops_2 3 rfl rfl)
theorem dX6_tops_54 : decode cX6_tops 54 = .ok (.iconst 0, 1) := dk_3 (dk_at dksX6_tops_2 6 rfl rfl)
theorem dX6_tops_55 : decode cX6_tops 55 = .ok (.istore_n 3, 1) := dk_62 (dk_at dksX6_tops_2 7 rfl rfl)
theorem dX6_tops_56 : decode cX6_tops 56 = .ok (.iload_n 3, 1) := dk_29 (dk_at dksX6_tops_2 8 rfl rfl)
theorem dX6_tops_57 : decode cX6_tops 57 = .ok (.aload_n 0, 1) := dk_42 (dk_at dksX6_tops_2 9 rfl rfl)
theorem dX6_tops_58 : decode cX6_tops 58 = .ok (.getfield 20, 3) := dk_180 0 20 (dk_at dksX6_tops_2 10 rfl rfl)
theorem dX6_tops_61 : decode cX6_tops 61 = .ok (.arraylength, 1) := dk_190 (dk_at dksX6_tops_2 13 rfl rfl)
theorem dX6_tops_62 : decode cX6_tops 62 = .ok (.if_icmp .ge 45, 3) := dk_162 0 45 (dk_at dksX6_tops_2 14 rfl rfl)
theorem dX6_tops_65 : decode cX6_tops 65 = .ok (.iconst 0, 1) := dk_3 (dk_at dksX6_tops_2 17 rfl rfl)
theorem dX6_tops_66 : decode cX6_tops 66 = .ok (.istore 4, 2) := dk_54 4 (dk_at dksX6_tops_2 18 rfl rfl)
theorem dX6_tops_68 : decode cX6_tops 68 = .ok (.iload 4, 2) := dk_21 4 (dk_at dksX6_tops_2 20 rfl rfl)
theorem dX6_tops_70 : decode cX6_tops 70 = .ok (.bipush 120, 2) := dk_16 120 (dk_at dksX6_tops_2 22 rfl rfl)
theorem dX6_tops_72 : decode cX6_tops 72 = .ok (.if_icmp .gt 29, 3) := dk_163 0 29 (dk_at dksX6_tops_3 0 rfl rfl)
theorem dX6_tops_75 : decode cX6_tops 75 = .ok (.aload_n 0, 1) := dk_42 (dk_at dksX6_tops_3 3 rfl rfl)
theorem dX6_tops_76 : decode cX6_tops 76 = .ok (.getfield 11, 3) := dk_180 0 11 (dk_at dksX6_tops_3 4 rfl rfl)
theorem dX6_tops_79 : decode cX6_tops 79 = .ok (.iload_n 3, 1) := dk_29 (dk_at dksX6_tops_3 7 rfl rfl)
theorem dX6_tops_80 : decode cX6_tops 80 = .ok (.aaload, 1) := dk_50 (dk_at dksX6_tops_3 8 rfl rfl)
theorem dX6_tops_81 : decode cX6_tops 81 = .ok (.iload 4, 2) := dk_21 4 (dk_at dksX6_tops_3 9 rfl rfl)
theorem dX6_tops_83 : decode cX6_tops 83 = .ok (.dup2, 1) := dk_92 (dk_at dksX6_tops_3 11 rfl rfl)
theorem dX6_tops_84 : decode cX6_tops 84 = .ok (.laload, 1) := dk_47 (dk_at dksX6_tops_3 12 rfl rfl)
theorem dX6_tops_85 : decode cX6_tops 85 = .ok (.lload_n 1, 1) := dk_31 (dk_at dksX6_tops_3 13 rfl rfl)
theorem dX6_tops_86 : decode cX6_tops 86 = .ok (.aload_n 0, 1) := dk_42 (dk_at dksX6_tops_3 14 rfl rfl)
theorem dX6_tops_87 : decode cX6_tops 87 = .ok (.getfield 16, 3) := dk_180 0 16 (dk_at dksX6_tops_3 15 rfl rfl)
theorem dX6_tops_90 : decode cX6_tops 90 = .ok (.iload_n 3, 1) := dk_29 (dk_at dksX6_tops_3 18 rfl rfl)
theorem dX6_tops_91 : decode cX6_tops 91 = .ok (.laload, 1) := dk_47 (dk_at dksX6_tops_3 19 rfl rfl)
theorem dX6_tops_92 : decode cX6_tops 92 = .ok (.ldiv, 1) := dk_109 (dk_at dksX6_tops_3 20 rfl rfl)
theorem dX6_tops_93 : decode cX6_tops 93 = .ok (.lmul, 1) := dk_105 (dk_at dksX6_tops_3 21 rfl rfl)
theorem dX6_tops_94 : decode cX6_tops 94 = .ok (.lastore, 1) := dk_80 (dk_at dksX6_tops_3 22 rfl rfl)
theorem dX6_tops_95 : decode cX6_tops 95 = .ok (.iinc 4 1, 3) := dk_132 4 1 (dk_at dksX6_tops_4 0 rfl rfl)
theorem dX6_tops_98 : decode cX6_tops 98 = .ok (.goto (-30), 3) := dk_167 255 226 (dk_at dksX6_tops_4 3 rfl rfl)
theorem dX6_tops_101 : decode cX6_tops 101 = .ok (.iinc 3 1, 3) := dk_132 3 1 (dk_at dksX6_tops_4 6 rfl rfl)
theorem dX6_tops_104 : decode cX6_tops 104 = .ok (.goto (-48), 3) := dk_167 255 208 (dk_at dksX6_tops_4 9 rfl rfl)
theorem dX6_tops_107 : decode cX6_tops 107 = .ok (.aload_n 0, 1) := dk_42 (dk_at dksX6_tops_4 12 rfl rfl)
theorem dX6_tops_108 : decode cX6_tops 108 = .ok (.getfield 11, 3) := dk_180 0 11 (dk_at dksX6_tops_4 13 rfl rfl)
theorem dX6_tops_111 : decode cX6_tops 111 = .ok (.aload_n 0, 1) := dk_42 (dk_at dksX6_tops_4 16 rfl rfl)
theorem dX6_tops_112 : decode cX6_tops 112 = .ok (.getfield 20, 3) := dk_180 0 20 (dk_at dksX6_tops_4 17 rfl rfl)
theorem dX6_tops_115 : decode cX6_tops 115 = .ok (.arraylength, 1) := dk_190 (dk_at dksX6_tops_4 20 rfl rfl)
theorem dX6_tops_116 : decode cX6_tops 116 = .ok (.aaload, 1) := dk_50 (dk_at dksX6_tops_4 21 rfl rfl)
theorem dX6_tops_117 : decode cX6_tops 117 = .ok (.iconst 0, 1) := dk_3 (dk_at dksX6_tops_4 22 rfl rfl)
theorem dX6_tops_118 : decode cX6_tops 118 = .ok (.lload_n 1, 1) := dk_31 (dk_at dksX6_tops_4 23 rfl rfl)
theorem dX6_tops_119 : decode cX6_tops 119 = .ok (.lastore, 1) := dk_80 (dk_at dksX6_tops_5 0 rfl rfl)
theorem dX6_tops_120 : decode cX6_tops 120 = .ok (.aload_n 0, 1) := dk_42 (dk_at dksX6_tops_5 1 rfl rfl)
theorem dX6_tops_121 : decode cX6_tops 121 = .ok (.getfield 11, 3) := dk_180 0 11 (dk_at dksX6_tops_5 2 rfl rfl)
theorem dX6_tops_124 : decode cX6_tops 124 = .ok (.areturn, 1) := dk_176 (dk_at dksX6_tops_5 5 rfl rfl)
abbrev cX6_bounds : ByteArray := prog_8_method_5_code
def yX6_bounds : MethodName := ⟨RX6, "bounds", "([J)J"⟩
def dkwX6_bounds_5 : List UInt8 := [163, 0, 21, 43, 21, 5, 33, 43, 21, 5, 47, 184, 0, 78, 80, 132, 5, 1, 167, 255, 234, 33, 173]
abbrev dktX6_bounds_5 : List UInt8 := dkwX6_bounds_5 ++ []
def dkwX6_bounds_4 : List UInt8 := [21, 6, 22, 7, 80, 132, 6, 255, 167, 255, 199, 132, 5, 1, 167, 255, 179, 3, 54, 5, 21, 5, 16, 120]
abbrev dktX6_bounds_4 : List UInt8 := dkwX6_bounds_4 ++ dktX6_bounds_5
def dkwX6_bounds_3 : List UInt8 := [44, 21, 5, 50, 21, 6, 21, 9, 100, 47, 97, 184, 0, 78, 55, 7, 132, 9, 1, 167, 255, 224, 43]
abbrev dktX6_bounds_3 : List UInt8 := dkwX6_bounds_3 ++ dktX6_bounds_4
def dkwX6_bounds_2 : List UInt8 := [155, 0, 58, 20, 0, 76, 55, 7, 3, 54, 9, 21, 9, 21, 6, 163, 0, 31, 22, 7, 43, 21, 9, 47]
abbrev dktX6_bounds_2 : List UInt8 := dkwX6_bounds_2 ++ dktX6_bounds_3
def dkwX6_bounds_1 : List UInt8 := [184, 0, 68, 4, 54, 5, 21, 5, 42, 180, 0, 20, 190, 162, 0, 73, 16, 120, 54, 6, 21, 6]
abbrev dktX6_bounds_1 : List UInt8 := dkwX6_bounds_1 ++ dktX6_bounds_2
def dkwX6_bounds_0 : List UInt8 := [42, 182, 0, 64, 77, 44, 42, 180, 0, 20, 190, 50, 3, 47, 66, 44, 3, 50, 3, 43, 3, 16, 121]
abbrev dktX6_bounds_0 : List UInt8 := dkwX6_bounds_0 ++ dktX6_bounds_1
theorem dksX6_bounds_0 : cX6_bounds.data.toList.drop 0 = dktX6_bounds_0 := by decide +kernel
theorem dksX6_bounds_1 : cX6_bounds.data.toList.drop 23 = dktX6_bounds_1 := dk_seg dksX6_bounds_0 23 rfl rfl
theorem dksX6_bounds_2 : cX6_bounds.data.toList.drop 45 = dktX6_bounds_2 := dk_seg dksX6_bounds_1 22 rfl rfl
theorem dksX6_bounds_3 : cX6_bounds.data.toList.drop 69 = dktX6_bounds_3 := dk_seg dksX6_bounds_2 24 rfl rfl
theorem dksX6_bounds_4 : cX6_bounds.data.toList.drop 92 = dktX6_bounds_4 := dk_seg dksX6_bounds_3 23 rfl rfl
theorem dksX6_bounds_5 : cX6_bounds.data.toList.drop 116 = dktX6_bounds_5 := dk_seg dksX6_bounds_4 24 rfl rfl
theorem dX6_bounds_0 : decode cX6_bounds 0 = .ok (.aload_n 0, 1) := dk_42 (dk_at dksX6_bounds_0 0 rfl rfl)
theorem dX6_bounds_1 : decode cX6_bounds 1 = .ok (.invokevirtual 64, 3) := dk_182 0 64 (dk_at dksX6_bounds_0 1 rfl rfl)
theorem dX6_bounds_4 : decode cX6_bounds 4 = .ok (.astore_n 2, 1) := dk_77 (dk_at dksX6_bounds_0 4 rfl rfl)
theorem dX6_bounds_5 : decode cX6_bounds 5 = .ok (.aload_n 2, 1) := dk_44 (dk_at dksX6_bounds_0 5 rfl rfl)
theorem dX6_bounds_6 : decode cX6_bounds 6 = .ok (.aload_n 0, 1) := dk_42 (dk_at dksX6_bounds_0 6 rfl rfl)
theorem dX6_bounds_7 : decode cX6_bounds 7 = .ok (.getfield 20, 3) := dk_180 0 20 (dk_at dksX6_bounds_0 7 rfl rfl)
theorem dX6_bounds_10 : decode cX6_bounds 10 = .ok (.arraylength, 1) := dk_190 (dk_at dksX6_bounds_0 10 rfl rfl)
theorem dX6_bounds_11 : decode cX6_bounds 11 = .ok (.aaload, 1) := dk_50 (dk_at dksX6_bounds_0 11 rfl rfl)
theorem dX6_bounds_12 : decode cX6_bounds 12 = .ok (.iconst 0, 1) := dk_3 (dk_at dksX6_bounds_0 12 rfl rfl)
theorem dX6_bounds_13 : decode cX6_bounds 13 = .ok (.laload, 1) := dk_47 (dk_at dksX6_bounds_0 13 rfl rfl)
theorem dX6_bounds_14 : decode cX6_bounds 14 = .ok (.lstore_n 3, 1) := dk_66 (dk_at dksX6_bounds_0 14 rfl rfl)
theorem dX6_bounds_15 : decode cX6_bounds 15 = .ok (.aload_n 2, 1) := dk_44 (dk_at dksX6_bounds_0 15 rfl rfl)
theorem dX6_bounds_16 : decode cX6_bounds 16 = .ok (.iconst 0, 1) := dk_3 (dk_at dksX6_bounds_0 16 rfl rfl)
theorem dX6_bounds_17 : decode cX6_bounds 17 = .ok (.aaload, 1) := dk_50 (dk_at dksX6_bounds_0 17 rfl rfl)
theorem dX6_bounds_18 : decode cX6_bounds 18 = .ok (.iconst 0, 1) := dk_3 (dk_at dksX6_bounds_0 18 rfl rfl)
theorem dX6_bounds_19 : decode cX6_bounds 19 = .ok (.aload_n 1, 1) := dk_43 (dk_at dksX6_bounds_0 19 rfl rfl)
theorem dX6_bounds_20 : decode cX6_bounds 20 = .ok (.iconst 0, 1) := dk_3 (dk_at dksX6_bounds_0 20 rfl rfl)
theorem dX6_bounds_21 : decode cX6_bounds 21 = .ok (.bipush 121, 2) := dk_16 121 (dk_at dksX6_bounds_0 21 rfl rfl)
theorem dX6_bounds_23 : decode cX6_bounds 23 = .ok (.invokestatic 68, 3) := dk_184 0 68 (dk_at dksX6_bounds_1 0 rfl rfl)
theorem dX6_bounds_26 : decode cX6_bounds 26 = .ok (.iconst 1, 1) := dk_4 (dk_at dksX6_bounds_1 3 rfl rfl)
theorem dX6_bounds_27 : decode cX6_bounds 27 = .ok (.istore 5, 2) := dk_54 5 (dk_at dksX6_bounds_1 4 rfl rfl)
theorem dX6_bounds_29 : decode cX6_bounds 29 = .ok (.iload 5, 2) := dk_21 5 (dk_at dksX6_bounds_1 6 rfl rfl)
theorem dX6_bounds_31 : decode cX6_bounds 31 = .ok (.aload_n 0, 1) := dk_42 (dk_at dksX6_bounds_1 8 rfl rfl)
theorem dX6_bounds_32 : decode cX6_bounds 32 = .ok (.getfield 20, 3) := dk_180 0 20 (dk_at dksX6_bounds_1 9 rfl rfl)
theorem dX6_bounds_35 : decode cX6_bounds 35 = .ok (.arraylength, 1) := dk_190 (dk_at dksX6_bounds_1 12 rfl rfl)
theorem dX6_bounds_36 : decode cX6_bounds 36 = .ok (.if_icmp .ge 73, 3) := dk_162 0 73 (dk_at dksX6_bounds_1 13 rfl rfl)
theorem dX6_bounds_39 : decode cX6_bounds 39 = .ok (.bipush 120, 2) := dk_16 120 (dk_at dksX6_bounds_1 16 rfl rfl)
theorem dX6_bounds_41 : decode cX6_bounds 41 = .ok (.istore 6, 2) := dk_54 6 (dk_at dksX6_bounds_1 18 rfl rfl)
theorem dX6_bounds_43 : decode cX6_bounds 43 = .ok (.iload 6, 2) := dk_21 6 (dk_at dksX6_bounds_1 20 rfl rfl)
theorem dX6_bounds_45 : decode cX6_bounds 45 = .ok (.ifCond .lt 58, 3) := dk_155 0 58 (dk_at dksX6_bounds_2 0 rfl rfl)
theorem dX6_bounds_48 : decode cX6_bounds 48 = .ok (.ldc2_w 76, 3) := dk_20 0 76 (dk_at dksX6_bounds_2 3 rfl rfl)
theorem dX6_bounds_51 : decode cX6_bounds 51 = .ok (.lstore 7, 2) := dk_55 7 (dk_at dksX6_bounds_2 6 rfl rfl)
theorem dX6_bounds_53 : decode cX6_bounds 53 = .ok (.iconst 0, 1) := dk_3 (dk_at dksX6_bounds_2 8 rfl rfl)
theorem dX6_bounds_54 : decode cX6_bounds 54 = .ok (.istore 9, 2) := dk_54 9 (dk_at dksX6_bounds_2 9 rfl rfl)
theorem dX6_bounds_56 : decode cX6_bounds 56 = .ok (.iload 9, 2) := dk_21 9 (dk_at dksX6_bounds_2 11 rfl rfl)
theorem dX6_bounds_58 : decode cX6_bounds 58 = .ok (.iload 6, 2) := dk_21 6 (dk_at dksX6_bounds_2 13 rfl rfl)
theorem dX6_bounds_60 : decode cX6_bounds 60 = .ok (.if_icmp .gt 31, 3) := dk_163 0 31 (dk_at dksX6_bounds_2 15 rfl rfl)
theorem dX6_bounds_63 : decode cX6_bounds 63 = .ok (.lload 7, 2) := dk_22 7 (dk_at dksX6_bounds_2 18 rfl rfl)
theorem dX6_bounds_65 : decode cX6_bounds 65 = .ok (.aload_n 1, 1) := dk_43 (dk_at dksX6_bounds_2 20 rfl rfl)
theorem dX6_bounds_66 : decode cX6_bounds 66 = .ok (.iload 9, 2) := dk_21 9 (dk_at dksX6_bounds_2 21 rfl rfl)
theorem dX6_bounds_68 : decode cX6_bounds 68 = .ok (.laload, 1) := dk_47 (dk_at dksX6_bounds_2 23 rfl rfl)
theorem dX6_bounds_69 : decode cX6_bounds 69 = .ok (.aload_n 2, 1) := dk_44 (dk_at dksX6_bounds_3 0 rfl rfl)
theorem dX6_bounds_70 : decode cX6_bounds 70 = .ok (.iload 5, 2) := dk_21 5 (dk_at dksX6_bounds_3 1 rfl rfl)
theorem dX6_bounds_72 : decode cX6_bounds 72 = .ok (.aaload, 1) := dk_50 (dk_at dksX6_bounds_3 3 rfl rfl)
theorem dX6_bounds_73 : decode cX6_bounds 73 = .ok (.iload 6, 2) := dk_21 6 (dk_at dksX6_bounds_3 4 rfl rfl)
theorem dX6_bounds_75 : decode cX6_bounds 75 = .ok (.iload 9, 2) := dk_21 9 (dk_at dksX6_bounds_3 6 rfl rfl)
theorem dX6_bounds_77 : decode cX6_bounds 77 = .ok (.isub, 1) := dk_100 (dk_at dksX6_bounds_3 8 rfl rfl)
theorem dX6_bounds_78 : decode cX6_bounds 78 = .ok (.laload, 1) := dk_47 (dk_at dksX6_bounds_3 9 rfl rfl)
theorem dX6_bounds_79 : decode cX6_bounds 79 = .ok (.ladd, 1) := dk_97 (dk_at dksX6_bounds_3 10 rfl rfl)
theorem dX6_bounds_80 : decode cX6_bounds 80 = .ok (.invokestatic 78, 3) := dk_184 0 78 (dk_at dksX6_bounds_3 11 rfl rfl)
theorem dX6_bounds_83 : decode cX6_bounds 83 = .ok (.lstore 7, 2) := dk_55 7 (dk_at dksX6_bounds_3 14 rfl rfl)
theorem dX6_bounds_85 : decode cX6_bounds 85 = .ok (.iinc 9 1, 3) := dk_132 9 1 (dk_at dksX6_bounds_3 16 rfl rfl)
theorem dX6_bounds_88 : decode cX6_bounds 88 = .ok (.goto (-32), 3) := dk_167 255 224 (dk_at dksX6_bounds_3 19 rfl rfl)
theorem dX6_bounds_91 : decode cX6_bounds 91 = .ok (.aload_n 1, 1) := dk_43 (dk_at dksX6_bounds_3 22 rfl rfl)
theorem dX6_bounds_92 : decode cX6_bounds 92 = .ok (.iload 6, 2) := dk_21 6 (dk_at dksX6_bounds_4 0 rfl rfl)
theorem dX6_bounds_94 : decode cX6_bounds 94 = .ok (.lload 7, 2) := dk_22 7 (dk_at dksX6_bounds_4 2 rfl rfl)
theorem dX6_bounds_96 : decode cX6_bounds 96 = .ok (.lastore, 1) := dk_80 (dk_at dksX6_bounds_4 4 rfl rfl)
theorem dX6_bounds_97 : decode cX6_bounds 97 = .ok (.iinc 6 (-1), 3) := dk_132 6 255 (dk_at dksX6_bounds_4 5 rfl rfl)
theorem dX6_bounds_100 : decode cX6_bounds 100 = .ok (.goto (-57), 3) := dk_167 255 199 (dk_at dksX6_bounds_4 8 rfl rfl)
theorem dX6_bounds_103 : decode cX6_bounds 103 = .ok (.iinc 5 1, 3) := dk_132 5 1 (dk_at dksX6_bounds_4 11 rfl rfl)
theorem dX6_bounds_106 : decode cX6_bounds 106 = .ok (.goto (-77), 3) := dk_167 255 179 (dk_at dksX6_bounds_4 14 rfl rfl)
theorem dX6_bounds_109 : decode cX6_bounds 109 = .ok (.iconst 0, 1) := dk_3 (dk_at dksX6_bounds_4 17 rfl rfl)
theorem dX6_bounds_110 : decode cX6_bounds 110 = .ok (.istore 5, 2) := dk_54 5 (dk_at dksX6_bounds_4 18 rfl rfl)
theorem dX6_bounds_112 : decode cX6_bounds 112 = .ok (.iload 5, 2) := dk_21 5 (dk_at dksX6_bounds_4 20 rfl rfl)
theorem dX6_bounds_114 : decode cX6_bounds 114 = .ok (.bipush 120, 2) := dk_16 120 (dk_at dksX6_bounds_4 22 rfl rfl)
theorem dX6_bounds_116 : decode cX6_bounds 116 = .ok (.if_icmp .gt 21, 3) := dk_163 0 21 (dk_at dksX6_bounds_5 0 rfl rfl)
theorem dX6_bounds_119 : decode cX6_bounds 119 = .ok (.aload_n 1, 1) := dk_43 (dk_at dksX6_bounds_5 3 rfl rfl)
theorem dX6_bounds_120 : decode cX6_bounds 120 = .ok (.iload 5, 2) := dk_21 5 (dk_at dksX6_bounds_5 4 rfl rfl)
theorem dX6_bounds_122 : decode cX6_bounds 122 = .ok (.lload_n 3, 1) := dk_33 (dk_at dksX6_bounds_5 6 rfl rfl)
theorem dX6_bounds_123 : decode cX6_bounds 123 = .ok (.aload_n 1, 1) := dk_43 (dk_at dksX6_bounds_5 7 rfl rfl)
theorem dX6_bounds_124 : decode cX6_bounds 124 = .ok (.iload 5, 2) := dk_21 5 (dk_at dksX6_bounds_5 8 rfl rfl)
theorem dX6_bounds_126 : decode cX6_bounds 126 = .ok (.laload, 1) := dk_47 (dk_at dksX6_bounds_5 10 rfl rfl)
theorem dX6_bounds_127 : decode cX6_bounds 127 = .ok (.invokestatic 78, 3) := dk_184 0 78 (dk_at dksX6_bounds_5 11 rfl rfl)
theorem dX6_bounds_130 : decode cX6_bounds 130 = .ok (.lastore, 1) := dk_80 (dk_at dksX6_bounds_5 14 rfl rfl)
theorem dX6_bounds_131 : decode cX6_bounds 131 = .ok (.iinc 5 1, 3) := dk_132 5 1 (dk_at dksX6_bounds_5 15 rfl rfl)
theorem dX6_bounds_134 : decode cX6_bounds 134 = .ok (.goto (-22), 3) := dk_167 255 234 (dk_at dksX6_bounds_5 18 rfl rfl)
theorem dX6_bounds_137 : decode cX6_bounds 137 = .ok (.lload_n 3, 1) := dk_33 (dk_at dksX6_bounds_5 21 rfl rfl)
theorem dX6_bounds_138 : decode cX6_bounds 138 = .ok (.lreturn, 1) := dk_173 (dk_at dksX6_bounds_5 22 rfl rfl)
theorem q65 : (Jvm.Cond.initialized "TickShare$Row") ∈ lw_all := lw_g (lw_at lw_m1 16 rfl) rfl
theorem q332 : (Jvm.Cond.fieldLinkNest "TickShare$Row" (35 : Nat) "TickShare$Table" "whole" "J" "TickShare") ∈ lw_tbl := lw_at lw_m2 43 rfl
theorem q387 : (Jvm.Cond.fieldLink "TickShare$Row" (20 : Nat) "TickShare$Row" "parts" "[LTickShare$Thing;") ∈ lw_all := lw_g (lw_at lw_m2 98 rfl) rfl
theorem q388 : (Jvm.Cond.sameField "TickShare$Row" "TickShare$Thing" "parts" "[LTickShare$Thing;") ∈ lw_all := lw_g (lw_at lw_m2 99 rfl) rfl
theorem q399 : (Jvm.Cond.fieldLink "TickShare$Row" (32 : Nat) "TickShare$Row" "made" "LTickShare$Table;") ∈ lw_all := lw_g (lw_at lw_m2 110 rfl) rfl
theorem q400 : (Jvm.Cond.sameField "TickShare$Row" "TickShare$Thing" "made" "LTickShare$Table;") ∈ lw_all := lw_g (lw_at lw_m2 111 rfl) rfl
theorem q406 : (Jvm.Cond.fieldLink "TickShare$Row" (28 : Nat) "TickShare$Row" "other" "LTickShare$Table;") ∈ lw_all := lw_g (lw_at lw_m2 117 rfl) rfl
theorem q407 : (Jvm.Cond.sameField "TickShare$Row" "TickShare$Thing" "other" "LTickShare$Table;") ∈ lw_all := lw_g (lw_at lw_m2 118 rfl) rfl
theorem q462 : (Jvm.Cond.instantiable "TickShare$Row" (8 : Nat)) ∈ lw_all := lw_g (lw_at lw_m2 173 rfl) rfl
theorem q464 : (Jvm.Cond.instanceMethod ({ cls := "TickShare$Row", name := "<init>", desc := "([LTickShare$Thing;)V" } : Jvm.MethodName)) ∈ lw_all := lw_g (lw_at lw_m2 175 rfl) rfl
theorem q465 : (Jvm.Cond.code ({ cls := "TickShare$Row", name := "<init>", desc := "([LTickShare$Thing;)V" } : Jvm.MethodName) prog_8_method_1_code (2 : Nat) (Option.none : Option Jvm.ClassFile.FieldType)) ∈ lw_all := lw_g (lw_at lw_m2 176 rfl) rfl
theorem q466 : (Jvm.Cond.methodLink "TickShare$Row" (3 : Nat) ({ cls := "TickShare$Thing", name := "<init>", desc := "([LTickShare$Thing;)V" } : Jvm.MethodName)) ∈ lw_all := lw_g (lw_at lw_m2 177 rfl) rfl
theorem q467 : (Jvm.Cond.classLink "TickShare$Row" (9 : Nat) "[[J") ∈ lw_all := lw_g (lw_at lw_m2 178 rfl) rfl
theorem q469 : (Jvm.Cond.fieldLink "TickShare$Row" (11 : Nat) "TickShare$Row" "rows" "[[J") ∈ lw_all := lw_g (lw_at lw_m2 180 rfl) rfl
theorem q470 : (Jvm.Cond.fieldLink "TickShare$Row" (16 : Nat) "TickShare$Row" "bottoms" "[J") ∈ lw_all := lw_g (lw_at lw_m2 181 rfl) rfl
theorem q471 : (Jvm.Cond.laysFinal "TickShare$Row" "TickShare$Row" "rows" "[[J") ∈ lw_all := lw_g (lw_at lw_m2 182 rfl) rfl
theorem q472 : (Jvm.Cond.soleField "TickShare$Row" "rows") ∈ lw_all := lw_g (lw_at lw_m2 183 rfl) rfl
theorem q473 : (Jvm.Cond.laysFinal "TickShare$Row" "TickShare$Row" "bottoms" "[J") ∈ lw_all := lw_g (lw_at lw_m2 184 rfl) rfl
theorem q474 : (Jvm.Cond.soleField "TickShare$Row" "bottoms") ∈ lw_all := lw_g (lw_at lw_m2 185 rfl) rfl
theorem q475 : (Jvm.Cond.laysFinal "TickShare$Row" "TickShare$Thing" "parts" "[LTickShare$Thing;") ∈ lw_all := lw_g (lw_at lw_m2 186 rfl) rfl
theorem q476 : (Jvm.Cond.laysFinal "TickShare$Row" "TickShare$Thing" "made" "LTickShare$Table;") ∈ lw_all := lw_g (lw_at lw_m2 187 rfl) rfl
theorem q477 : (Jvm.Cond.laysFinal "TickShare$Row" "TickShare$Thing" "other" "LTickShare$Table;") ∈ lw_all := lw_g (lw_at lw_m2 188 rfl) rfl
theorem q478 : (Jvm.Cond.lays "TickShare$Row" "TickShare$Thing" "in" "LTickShare$Thing;") ∈ lw_all := lw_g (lw_at lw_m2 189 rfl) rfl
theorem q479 : (Jvm.Cond.lays "TickShare$Row" "TickShare$Thing" "traces" "I") ∈ lw_all := lw_g (lw_at lw_m2 190 rfl) rfl
theorem q480 : (Jvm.Cond.lays "TickShare$Row" "TickShare$Thing" "slow" "I") ∈ lw_all := lw_g (lw_at lw_m2 191 rfl) rfl
theorem q481 : (Jvm.Cond.superclass "TickShare$Row" "TickShare$Thing") ∈ lw_all := lw_g (lw_at lw_m2 192 rfl) rfl
theorem q612 : (Jvm.Cond.selects "TickShare$Row" ({ cls := "TickShare$Thing", name := "kind", desc := "()I" } : Jvm.MethodName) ({ cls := "TickShare$Row", name := "kind", desc := "()I" } : Jvm.MethodName)) ∈ lw_all := lw_g (lw_at lw_m3 83 rfl) rfl
theorem q613 : (Jvm.Cond.instanceMethod ({ cls := "TickShare$Row", name := "kind", desc := "()I" } : Jvm.MethodName)) ∈ lw_all := lw_g (lw_at lw_m3 84 rfl) rfl
theorem q614 : (Jvm.Cond.code ({ cls := "TickShare$Row", name := "kind", desc := "()I" } : Jvm.MethodName) prog_8_method_2_code (1 : Nat) (Option.some Jvm.ClassFile.FieldType.int)) ∈ lw_all := lw_g (lw_at lw_m3 85 rfl) rfl
theorem q629 : (Jvm.Cond.selects "TickShare$Row" ({ cls := "TickShare$Thing", name := "leaves", desc := "()I" } : Jvm.MethodName) ({ cls := "TickShare$Thing", name := "leaves", desc := "()I" } : Jvm.MethodName)) ∈ lw_all := lw_g (lw_at lw_m3 100 rfl) rfl
theorem q654 : (Jvm.Cond.instanceMethod ({ cls := "TickShare$Row", name := "table", desc := "()LTickShare$Table;" } : Jvm.MethodName)) ∈ lw_all := lw_g (lw_at lw_m3 125 rfl) rfl
theorem q655 : (Jvm.Cond.code ({ cls := "TickShare$Row", name := "table", desc := "()LTickShare$Table;" } : Jvm.MethodName) prog_8_method_3_code (5 : Nat) (Option.some (Jvm.ClassFile.FieldType.object "TickShare$Table"))) ∈ lw_all := lw_g (lw_at lw_m3 126 rfl) rfl
theorem q656 : (Jvm.Cond.methodLink "TickShare$Row" (24 : Nat) ({ cls := "TickShare$Thing", name := "table", desc := "()LTickShare$Table;" } : Jvm.MethodName)) ∈ lw_all := lw_g (lw_at lw_m3 127 rfl) rfl
theorem q657 : (Jvm.Cond.methodLinkNest "TickShare$Row" (41 : Nat) ({ cls := "TickShare", name := "times", desc := "(JJ)J" } : Jvm.MethodName) "TickShare") ∈ lw_tbl := lw_at lw_m3 128 rfl
theorem q678 : (Jvm.Cond.methodLink "TickShare$Row" (45 : Nat) ({ cls := "TickShare$Table", name := "anew", desc := "(J)LTickShare$Table;" } : Jvm.MethodName)) ∈ lw_all := lw_g (lw_at lw_m3 149 rfl) rfl
theorem q679 : (Jvm.Cond.methodLinkNest "TickShare$Row" (49 : Nat) ({ cls := "TickShare", name := "fold", desc := "(LTickShare$Table;LTickShare$Table;JLTickShare$Table;)V" } : Jvm.MethodName) "TickShare") ∈ lw_tbl := lw_at lw_m3 150 rfl
theorem q688 : (Jvm.Cond.methodLink "TickShare$Row" (53 : Nat) ({ cls := "TickShare$Table", name := "less", desc := "()LTickShare$Table;" } : Jvm.MethodName)) ∈ lw_all := lw_g (lw_at lw_m3 159 rfl) rfl
theorem q724 : (Jvm.Cond.selects "TickShare$Row" ({ cls := "TickShare$Thing", name := "table", desc := "()LTickShare$Table;" } : Jvm.MethodName) ({ cls := "TickShare$Row", name := "table", desc := "()LTickShare$Table;" } : Jvm.MethodName)) ∈ lw_all := lw_g (lw_at lw_m3 195 rfl) rfl
theorem q786 : (Jvm.Cond.declares ({ cls := "TickShare$Row", name := "tops", desc := "()[[J" } : Jvm.MethodName)) ∈ lw_tbl := lw_at lw_m4 17 rfl
theorem q788 : (Jvm.Cond.instanceMethod ({ cls := "TickShare$Row", name := "tops", desc := "()[[J" } : Jvm.MethodName)) ∈ lw_all := lw_g (lw_at lw_m4 19 rfl) rfl
theorem q789 : (Jvm.Cond.code ({ cls := "TickShare$Row", name := "tops", desc := "()[[J" } : Jvm.MethodName) prog_8_method_4_code (5 : Nat) (Option.some (Jvm.ClassFile.FieldType.array (Jvm.ClassFile.FieldType.array Jvm.ClassFile.FieldType.long)))) ∈ lw_all := lw_g (lw_at lw_m4 20 rfl) rfl
theorem q790 : (Jvm.Cond.methodLink "TickShare$Row" (56 : Nat) ({ cls := "TickShare$Thing", name := "bounds", desc := "([J)J" } : Jvm.MethodName)) ∈ lw_all := lw_g (lw_at lw_m4 21 rfl) rfl
theorem q791 : (Jvm.Cond.instanceMethod ({ cls := "TickShare$Row", name := "bounds", desc := "([J)J" } : Jvm.MethodName)) ∈ lw_all := lw_g (lw_at lw_m4 22 rfl) rfl
theorem q792 : (Jvm.Cond.code ({ cls := "TickShare$Row", name := "bounds", desc := "([J)J" } : Jvm.MethodName) prog_8_method_5_code (10 : Nat) (Option.some Jvm.ClassFile.FieldType.long)) ∈ lw_all := lw_g (lw_at lw_m4 23 rfl) rfl
theorem q793 : (Jvm.Cond.methodLink "TickShare$Row" (64 : Nat) ({ cls := "TickShare$Row", name := "tops", desc := "()[[J" } : Jvm.MethodName)) ∈ lw_all := lw_g (lw_at lw_m4 24 rfl) rfl
theorem q794 : (Jvm.Cond.methodLink "TickShare$Row" (68 : Nat) ({ cls := "java/lang/System", name := "arraycopy", desc := "(Ljava/lang/Object;ILjava/lang/Object;II)V" } : Jvm.MethodName)) ∈ lw_all := lw_g (lw_at lw_m4 25 rfl) rfl
theorem q795 : (Jvm.Cond.constantLong "TickShare$Row" (76 : Nat) (9223372036854775807 : Int64)) ∈ lw_all := lw_g (lw_at lw_m4 26 rfl) rfl
theorem q796 : (Jvm.Cond.methodLink "TickShare$Row" (78 : Nat) ({ cls := "java/lang/Math", name := "min", desc := "(JJ)J" } : Jvm.MethodName)) ∈ lw_all := lw_g (lw_at lw_m4 27 rfl) rfl
theorem q799 : (Jvm.Cond.methodLinkNest "TickShare$Row" (60 : Nat) ({ cls := "TickShare", name := "bounded", desc := "(J)J" } : Jvm.MethodName) "TickShare") ∈ lw_tbl := lw_at lw_m4 30 rfl
theorem q808 : (Jvm.Cond.selects "TickShare$Row" ({ cls := "TickShare$Thing", name := "bounds", desc := "([J)J" } : Jvm.MethodName) ({ cls := "TickShare$Row", name := "bounds", desc := "([J)J" } : Jvm.MethodName)) ∈ lw_all := lw_g (lw_at lw_m4 39 rfl) rfl
theorem q836 : (Jvm.Cond.selects "TickShare$Row" ({ cls := "TickShare$Thing", name := "asks", desc := "()I" } : Jvm.MethodName) ({ cls := "TickShare$Thing", name := "asks", desc := "()I" } : Jvm.MethodName)) ∈ lw_all := lw_g (lw_at lw_m4 67 rfl) rfl
theorem q1289 : (Jvm.Cond.sameMethod "TickShare$Row" "TickShare$Row" "tops" "()[[J") ∈ lw_all := lw_g (lw_at lw_m6 40 rfl) rfl
theorem q1291 : (Jvm.Cond.selects "TickShare$Row" ({ cls := "TickShare$Row", name := "tops", desc := "()[[J" } : Jvm.MethodName) ({ cls := "TickShare$Row", name := "tops", desc := "()[[J" } : Jvm.MethodName)) ∈ lw_all := lw_g (lw_at lw_m6 42 rfl) rfl
theorem q1300 : (Jvm.Cond.castable "TickShare$Row" "java/lang/Object") ∈ lw_tbl := lw_at lw_m6 51 rfl
theorem q1309 : (Jvm.Cond.castable "TickShare$Row" "TickShare$Thing") ∈ lw_tbl := lw_at lw_m6 60 rfl
theorem in_X6 : ∀ w ∈ wsX60, w ∈ lw_all := lw_in wsX60 [475, 476, 477, 478, 479, 480, 471, 473] (by decide +kernel) (by decide +kernel)

/-! TickShare$Fan -/
set_option maxRecDepth 100000
def RX7 : String := "TickShare$Fan"
def TX7 : u_T := fun k => match k with
  | 0 => ("TickShare$Thing", "parts", "[LTickShare$Thing;", true)
  | 1 => ("TickShare$Thing", "made", "LTickShare$Table;", true)
  | 2 => ("TickShare$Thing", "other", "LTickShare$Table;", true)
  | 3 => ("TickShare$Thing", "in", "LTickShare$Thing;", false)
  | 4 => ("TickShare$Thing", "traces", "I", false)
  | 5 => ("TickShare$Thing", "slow", "I", false)
  | 6 => ("TickShare$Row", "rows", "[[J", true)
  | 7 => ("TickShare$Row", "bottoms", "[J", true)
  | 8 => ("TickShare$Fan", "wanted", "I", true)
  | 9 => ("TickShare$Fan", "of", "[LTickShare$Table;", true)
  | 10 => ("TickShare$Fan", "well", "[J", true)
  | _ => ("TickShare$Fan", "ill", "[J", true)
def tyX7 : Nat → FieldType := fun k => match k with
  | 0 => .array (.object "TickShare$Thing")
  | 1 => .object "TickShare$Table"
  | 2 => .object "TickShare$Table"
  | 3 => .object "TickShare$Thing"
  | 4 => .int
  | 5 => .int
  | 6 => .array (.array .long)
  | 7 => .array .long
  | 8 => .int
  | 9 => .array (.object "TickShare$Table")
  | 10 => .array .long
  | _ => .array .long
abbrev wsX70 : List Cond := u_ws RX7 TX7 12
theorem nmX7 : ∀ a, a < 12 → ∀ b, b < 12 → a ≠ b → (TX7 a).2.1 ≠ (TX7 b).2.1 := by decide +kernel
theorem tyX7_ok : ∀ k, k < 12 → parseFieldDescriptor (TX7 k).2.2.1 = some (tyX7 k) := by decide +kernel
abbrev cX7_init : ByteArray := prog_3_method_1_code
def yX7_init : MethodName := ⟨RX7, "<init>", "(I[LTickShare$Thing;)V"⟩
def dkwX7_init_1 : List UInt8 := [181, 0, 21, 42, 44, 190, 188, 11, 181, 0, 25, 177]
abbrev dktX7_init_1 : List UInt8 := dkwX7_init_1 ++ []
def dkwX7_init_0 : List UInt8 := [42, 44, 183, 0, 3, 42, 27, 181, 0, 9, 42, 44, 190, 189, 0, 15, 181, 0, 17, 42, 44, 190, 188, 11]
abbrev dktX7_init_0 : List UInt8 := dkwX7_init_0 ++ dktX7_init_1
theorem dksX7_init_0 : cX7_init.data.toList.drop 0 = dktX7_init_0 := by decide +kernel
theorem dksX7_init_1 : cX7_init.data.toList.drop 24 = dktX7_init_1 := dk_seg dksX7_init_0 24 rfl rfl
theorem dX7_init_0 : decode cX7_init 0 = .ok (.aload_n 0, 1) := dk_42 (dk_at dksX7_init_0 0 rfl rfl)
theorem dX7_init_1 : decode cX7_init 1 = .ok (.aload_n 2, 1) := dk_44 (dk_at dksX7_init_0 1 rfl rfl)
theorem dX7_init_2 : decode cX7_init 2 = .ok (.invokespecial 3, 3) := dk_183 0 3 (dk_at dksX7_init_0 2 rfl rfl)
theorem dX7_init_5 : decode cX7_init 5 = .ok (.aload_n 0, 1) := dk_42 (dk_at dksX7_init_0 5 rfl rfl)
theorem dX7_init_6 : decode cX7_init 6 = .ok (.iload_n 1, 1) := dk_27 (dk_at dksX7_init_0 6 rfl rfl)
theorem dX7_init_7 : decode cX7_init 7 = .ok (.putfield 9, 3) := dk_181 0 9 (dk_at dksX7_init_0 7 rfl rfl)
theorem dX7_init_10 : decode cX7_init 10 = .ok (.aload_n 0, 1) := dk_42 (dk_at dksX7_init_0 10 rfl rfl)
theorem dX7_init_11 : decode cX7_init 11 = .ok (.aload_n 2, 1) := dk_44 (dk_at dksX7_init_0 11 rfl rfl)
theorem dX7_init_12 : decode cX7_init 12 = .ok (.arraylength, 1) := dk_190 (dk_at dksX7_init_0 12 rfl rfl)
theorem dX7_init_13 : decode cX7_init 13 = .ok (.anewarray 15, 3) := dk_189 0 15 (dk_at dksX7_init_0 13 rfl rfl)
theorem dX7_init_16 : decode cX7_init 16 = .ok (.putfield 17, 3) := dk_181 0 17 (dk_at dksX7_init_0 16 rfl rfl)
theorem dX7_init_19 : decode cX7_init 19 = .ok (.aload_n 0, 1) := dk_42 (dk_at dksX7_init_0 19 rfl rfl)
theorem dX7_init_20 : decode cX7_init 20 = .ok (.aload_n 2, 1) := dk_44 (dk_at dksX7_init_0 20 rfl rfl)
theorem dX7_init_21 : decode cX7_init 21 = .ok (.arraylength, 1) := dk_190 (dk_at dksX7_init_0 21 rfl rfl)
theorem dX7_init_22 : decode cX7_init 22 = .ok (.newarray .long, 2) := dk_188_11 (dk_at dksX7_init_0 22 rfl rfl)
theorem dX7_init_24 : decode cX7_init 24 = .ok (.putfield 21, 3) := dk_181 0 21 (dk_at dksX7_init_1 0 rfl rfl)
theorem dX7_init_27 : decode cX7_init 27 = .ok (.aload_n 0, 1) := dk_42 (dk_at dksX7_init_1 3 rfl rfl)
theorem dX7_init_28 : decode cX7_init 28 = .ok (.aload_n 2, 1) := dk_44 (dk_at dksX7_init_1 4 rfl rfl)
theorem dX7_init_29 : decode cX7_init 29 = .ok (.arraylength, 1) := dk_190 (dk_at dksX7_init_1 5 rfl rfl)
theorem dX7_init_30 : decode cX7_init 30 = .ok (.newarray .long, 2) := dk_188_11 (dk_at dksX7_init_1 6 rfl rfl)
theorem dX7_init_32 : decode cX7_init 32 = .ok (.putfield 25, 3) := dk_181 0 25 (dk_at dksX7_init_1 8 rfl rfl)
theorem dX7_init_35 : decode cX7_init 35 = .ok (.return_, 1) := dk_177 (dk_at dksX7_init_1 11 rfl rfl)
abbrev cX7_kind : ByteArray := prog_3_method_2_code
def yX7_kind : MethodName := ⟨RX7, "kind", "()I"⟩
theorem dX7_kind_0 : decode cX7_kind 0 = .ok (.iconst 2, 1) := by decide +kernel
theorem dX7_kind_1 : decode cX7_kind 1 = .ok (.ireturn, 1) := by decide +kernel
abbrev cX7_table : ByteArray := prog_3_method_3_code
def yX7_table : MethodName := ⟨RX7, "table", "()LTickShare$Table;"⟩
def dkwX7_table_14 : List UInt8 := [66, 22, 10, 55, 5, 132, 7, 1, 167, 254, 255, 44, 182, 0, 66, 176]
abbrev dktX7_table_14 : List UInt8 := dkwX7_table_14 ++ []
def dkwX7_table_13 : List UInt8 := [180, 0, 54, 21, 7, 22, 8, 33, 101, 80, 44, 180, 0, 57, 21, 7, 22, 10, 22, 5, 101, 80, 22, 8]
abbrev dktX7_table_13 : List UInt8 := dkwX7_table_13 ++ dktX7_table_14
def dkwX7_table_12 : List UInt8 := [22, 8, 22, 13, 97, 55, 8, 167, 0, 10, 22, 10, 22, 15, 97, 55, 10, 132, 12, 1, 167, 255, 112, 44]
abbrev dktX7_table_12 : List UInt8 := dkwX7_table_12 ++ dktX7_table_13
def dkwX7_table_11 : List UInt8 := [21, 17, 47, 105, 55, 15, 132, 17, 1, 167, 255, 164, 21, 12, 184, 0, 60, 42, 180, 0, 9, 161, 0, 13]
abbrev dktX7_table_11 : List UInt8 := dkwX7_table_11 ++ dktX7_table_12
def dkwX7_table_10 : List UInt8 := [105, 55, 13, 22, 15, 21, 18, 153, 0, 13, 42, 180, 0, 21, 21, 17, 47, 167, 0, 10, 42, 180, 0, 25]
abbrev dktX7_table_10 : List UInt8 := dkwX7_table_10 ++ dktX7_table_11
def dkwX7_table_9 : List UInt8 := [21, 17, 47, 167, 0, 21, 42, 180, 0, 17, 21, 17, 50, 180, 0, 46, 42, 180, 0, 21, 21, 17, 47, 101]
abbrev dktX7_table_9 : List UInt8 := dkwX7_table_9 ++ dktX7_table_10
def dkwX7_table_8 : List UInt8 := [4, 126, 4, 160, 0, 7, 4, 167, 0, 4, 3, 54, 18, 22, 13, 21, 18, 153, 0, 13, 42, 180, 0, 21]
abbrev dktX7_table_8 : List UInt8 := dkwX7_table_8 ++ dktX7_table_9
def dkwX7_table_7 : List UInt8 := [120, 162, 0, 142, 10, 55, 13, 10, 55, 15, 3, 54, 17, 21, 17, 27, 162, 0, 92, 21, 12, 21, 17, 122]
abbrev dktX7_table_7 : List UInt8 := dkwX7_table_7 ++ dktX7_table_8
def dkwX7_table_6 : List UInt8 := [21, 7, 47, 97, 80, 132, 8, 1, 167, 255, 201, 9, 55, 8, 9, 55, 10, 3, 54, 12, 21, 12, 4, 27]
abbrev dktX7_table_6 : List UInt8 := dkwX7_table_6 ++ dktX7_table_7
def dkwX7_table_5 : List UInt8 := [21, 7, 47, 97, 80, 42, 180, 0, 25, 21, 8, 92, 47, 42, 180, 0, 17, 21, 8, 50, 180, 0, 57]
abbrev dktX7_table_5 : List UInt8 := dkwX7_table_5 ++ dktX7_table_6
def dkwX7_table_4 : List UInt8 := [21, 8, 27, 162, 0, 55, 42, 180, 0, 21, 21, 8, 92, 47, 42, 180, 0, 17, 21, 8, 50, 180, 0, 54]
abbrev dktX7_table_4 : List UInt8 := dkwX7_table_4 ++ dktX7_table_5
def dkwX7_table_3 : List UInt8 := [132, 3, 1, 167, 255, 199, 9, 66, 9, 55, 5, 3, 54, 7, 21, 7, 16, 120, 163, 1, 0, 3, 54, 8]
abbrev dktX7_table_3 : List UInt8 := dkwX7_table_3 ++ dktX7_table_4
def dkwX7_table_2 : List UInt8 := [50, 180, 0, 46, 184, 0, 50, 181, 0, 46, 42, 180, 0, 21, 29, 9, 80, 42, 180, 0, 25, 29, 9, 80]
abbrev dktX7_table_2 : List UInt8 := dkwX7_table_2 ++ dktX7_table_3
def dkwX7_table_1 : List UInt8 := [180, 0, 17, 29, 42, 180, 0, 28, 29, 50, 182, 0, 40, 83, 44, 44, 180, 0, 46, 42, 180, 0, 17, 29]
abbrev dktX7_table_1 : List UInt8 := dkwX7_table_1 ++ dktX7_table_2
def dkwX7_table_0 : List UInt8 := [42, 180, 0, 28, 190, 60, 42, 180, 0, 32, 10, 182, 0, 36, 77, 3, 62, 29, 27, 162, 0, 58, 42]
abbrev dktX7_table_0 : List UInt8 := dkwX7_table_0 ++ dktX7_table_1
theorem dksX7_table_0 : cX7_table.data.toList.drop 0 = dktX7_table_0 := by decide +kernel
theorem dksX7_table_1 : cX7_table.data.toList.drop 23 = dktX7_table_1 := dk_seg dksX7_table_0 23 rfl rfl
theorem dksX7_table_2 : cX7_table.data.toList.drop 47 = dktX7_table_2 := dk_seg dksX7_table_1 24 rfl rfl
theorem dksX7_table_3 : cX7_table.data.toList.drop 71 = dktX7_table_3 := dk_seg dksX7_table_2 24 rfl rfl
theorem dksX7_table_4 : cX7_table.data.toList.drop 95 = dktX7_table_4 := dk_seg dksX7_table_3 24 rfl rfl
theorem dksX7_table_5 : cX7_table.data.toList.drop 119 = dktX7_table_5 := dk_seg dksX7_table_4 24 rfl rfl
theorem dksX7_table_6 : cX7_table.data.toList.drop 142 = dktX7_table_6 := dk_seg dksX7_table_5 23 rfl rfl
theorem dksX7_table_7 : cX7_table.data.toList.drop 166 = dktX7_table_7 := dk_seg dksX7_table_6 24 rfl rfl
theorem dksX7_table_8 : cX7_table.data.toList.drop 190 = dktX7_table_8 := dk_seg dksX7_table_7 24 rfl rfl
theorem dksX7_table_9 : cX7_table.data.toList.drop 214 = dktX7_table_9 := dk_seg dksX7_table_8 24 rfl rfl
theorem dksX7_table_10 : cX7_table.data.toList.drop 238 = dktX7_table_10 := dk_seg dksX7_table_9 24 rfl rfl
theorem dksX7_table_11 : cX7_table.data.toList.drop 262 = dktX7_table_11 := dk_seg dksX7_table_10 24 rfl rfl
theorem dksX7_table_12 : cX7_table.data.toList.drop 286 = dktX7_table_12 := dk_seg dksX7_table_11 24 rfl rfl
theorem dksX7_table_13 : cX7_table.data.toList.drop 310 = dktX7_table_13 := dk_seg dksX7_table_12 24 rfl rfl
theorem dksX7_table_14 : cX7_table.data.toList.drop 334 = dktX7_table_14 := dk_seg dksX7_table_13 24 rfl rfl
theorem dX7_table_0 : decode cX7_table 0 = .ok (.aload_n 0, 1) := dk_42 (dk_at dksX7_table_0 0 rfl rfl)
theorem dX7_table_1 : decode cX7_table 1 = .ok (.getfield 28, 3) := dk_180 0 28 (dk_at dksX7_table_0 1 rfl rfl)
theorem dX7_table_4 : decode cX7_table 4 = .ok (.arraylength, 1) := dk_190 (dk_at dksX7_table_0 4 rfl rfl)
theorem dX7_table_5 : decode cX7_table 5 = .ok (.istore_n 1, 1) := dk_60 (dk_at dksX7_table_0 5 rfl rfl)
theorem dX7_table_6 : decode cX7_table 6 = .ok (.aload_n 0, 1) := dk_42 (dk_at dksX7_table_0 6 rfl rfl)
theorem dX7_table_7 : decode cX7_table 7 = .ok (.getfield 32, 3) := dk_180 0 32 (dk_at dksX7_table_0 7 rfl rfl)
theorem dX7_table_10 : decode cX7_table 10 = .ok (.lconst 1, 1) := dk_10 (dk_at dksX7_table_0 10 rfl rfl)
theorem dX7_table_11 : decode cX7_table 11 = .ok (.invokevirtual 36, 3) := dk_182 0 36 (dk_at dksX7_table_0 11 rfl rfl)
theorem dX7_table_14 : decode cX7_table 14 = .ok (.astore_n 2, 1) := dk_77 (dk_at dksX7_table_0 14 rfl rfl)
theorem dX7_table_15 : decode cX7_table 15 = .ok (.iconst 0, 1) := dk_3 (dk_at dksX7_table_0 15 rfl rfl)
theorem dX7_table_16 : decode cX7_table 16 = .ok (.istore_n 3, 1) := dk_62 (dk_at dksX7_table_0 16 rfl rfl)
theorem dX7_table_17 : decode cX7_table 17 = .ok (.iload_n 3, 1) := dk_29 (dk_at dksX7_table_0 17 rfl rfl)
theorem dX7_table_18 : decode cX7_table 18 = .ok (.iload_n 1, 1) := dk_27 (dk_at dksX7_table_0 18 rfl rfl)
theorem dX7_table_19 : decode cX7_table 19 = .ok (.if_icmp .ge 58, 3) := dk_162 0 58 (dk_at dksX7_table_0 19 rfl rfl)
theorem dX7_table_22 : decode cX7_table 22 = .ok (.aload_n 0, 1) := dk_42 (dk_at dksX7_table_0 22 rfl rfl)
theorem dX7_table_23 : decode cX7_table 23 = .ok (.getfield 17, 3) := dk_180 0 17 (dk_at dksX7_table_1 0 rfl rfl)
theorem dX7_table_26 : decode cX7_table 26 = .ok (.iload_n 3, 1) := dk_29 (dk_at dksX7_table_1 3 rfl rfl)
theorem dX7_table_27 : decode cX7_table 27 = .ok (.aload_n 0, 1) := dk_42 (dk_at dksX7_table_1 4 rfl rfl)
theorem dX7_table_28 : decode cX7_table 28 = .ok (.getfield 28, 3) := dk_180 0 28 (dk_at dksX7_table_1 5 rfl rfl)
theorem dX7_table_31 : decode cX7_table 31 = .ok (.iload_n 3, 1) := dk_29 (dk_at dksX7_table_1 8 rfl rfl)
theorem dX7_table_32 : decode cX7_table 32 = .ok (.aaload, 1) := dk_50 (dk_at dksX7_table_1 9 rfl rfl)
theorem dX7_table_33 : decode cX7_table 33 = .ok (.invokevirtual 40, 3) := dk_182 0 40 (dk_at dksX7_table_1 10 rfl rfl)
theorem dX7_table_36 : decode cX7_table 36 = .ok (.aastore, 1) := dk_83 (dk_at dksX7_table_1 13 rfl rfl)
theorem dX7_table_37 : decode cX7_table 37 = .ok (.aload_n 2, 1) := dk_44 (dk_at dksX7_table_1 14 rfl rfl)
theorem dX7_table_38 : decode cX7_table 38 = .ok (.aload_n 2, 1) := dk_44 (dk_at dksX7_table_1 15 rfl rfl)
theorem dX7_table_39 : decode cX7_table 39 = .ok (.getfield 46, 3) := dk_180 0 46 (dk_at dksX7_table_1 16 rfl rfl)
theorem dX7_table_42 : decode cX7_table 42 = .ok (.aload_n 0, 1) := dk_42 (dk_at dksX7_table_1 19 rfl rfl)
theorem dX7_table_43 : decode cX7_table 43 = .ok (.getfield 17, 3) := dk_180 0 17 (dk_at dksX7_table_1 20 rfl rfl)
theorem dX7_table_46 : decode cX7_table 46 = .ok (.iload_n 3, 1) := dk_29 (dk_at dksX7_table_1 23 rfl rfl)
theorem dX7_table_47 : decode cX7_table 47 = .ok (.aaload, 1) := dk_50 (dk_at dksX7_table_2 0 rfl rfl)
theorem dX7_table_48 : decode cX7_table 48 = .ok (.getfield 46, 3) := dk_180 0 46 (dk_at dksX7_table_2 1 rfl rfl)
theorem dX7_table_51 : decode cX7_table 51 = .ok (.invokestatic 50, 3) := dk_184 0 50 (dk_at dksX7_table_2 4 rfl rfl)
theorem dX7_table_54 : decode cX7_table 54 = .ok (.putfield 46, 3) := dk_181 0 46 (dk_at dksX7_table_2 7 rfl rfl)
theorem dX7_table_57 : decode cX7_table 57 = .ok (.aload_n 0, 1) := dk_42 (dk_at dksX7_table_2 10 rfl rfl)
theorem dX7_table_58 : decode cX7_table 58 = .ok (.getfield 21, 3) := dk_180 0 21 (dk_at dksX7_table_2 11 rfl rfl)
theorem dX7_table_61 : decode cX7_table 61 = .ok (.iload_n 3, 1) := dk_29 (dk_at dksX7_table_2 14 rfl rfl)
theorem dX7_table_62 : decode cX7_table 62 = .ok (.lconst 0, 1) := dk_9 (dk_at dksX7_table_2 15 rfl rfl)
theorem dX7_table_63 : decode cX7_table 63 = .ok (.lastore, 1) := dk_80 (dk_at dksX7_table_2 16 rfl rfl)
theorem dX7_table_64 : decode cX7_table 64 = .ok (.aload_n 0, 1) := dk_42 (dk_at dksX7_table_2 17 rfl rfl)
theorem dX7_table_65 : decode cX7_table 65 = .ok (.getfield 25, 3) := dk_180 0 25 (dk_at dksX7_table_2 18 rfl rfl)
theorem dX7_table_68 : decode cX7_table 68 = .ok (.iload_n 3, 1) := dk_29 (dk_at dksX7_table_2 21 rfl rfl)
theorem dX7_table_69 : decode cX7_table 69 = .ok (.lconst 0, 1) := dk_9 (dk_at dksX7_table_2 22 rfl rfl)
theorem dX7_table_70 : decode cX7_table 70 = .ok (.lastore, 1) := dk_80 (dk_at dksX7_table_2 23 rfl rfl)
theorem dX7_table_71 : decode cX7_table 71 = .ok (.iinc 3 1, 3) := dk_132 3 1 (dk_at dksX7_table_3 0 rfl rfl)
theorem dX7_table_74 : decode cX7_table 74 = .ok (.goto (-57), 3) := dk_167 255 199 (dk_at dksX7_table_3 3 rfl rfl)
theorem dX7_table_77 : decode cX7_table 77 = .ok (.lconst 0, 1) := dk_9 (dk_at dksX7_table_3 6 rfl rfl)
theorem dX7_table_78 : decode cX7_table 78 = .ok (.lstore_n 3, 1) := dk_66 (dk_at dksX7_table_3 7 rfl rfl)
theorem dX7_table_79 : decode cX7_table 79 = .ok (.lconst 0, 1) := dk_9 (dk_at dksX7_table_3 8 rfl rfl)
theorem dX7_table_80 : decode cX7_table 80 = .ok (.lstore 5, 2) := dk_55 5 (dk_at dksX7_table_3 9 rfl rfl)
theorem dX7_table_82 : decode cX7_table 82 = .ok (.iconst 0, 1) := dk_3 (dk_at dksX7_table_3 11 rfl rfl)
theorem dX7_table_83 : decode cX7_table 83 = .ok (.istore 7, 2) := dk_54 7 (dk_at dksX7_table_3 12 rfl rfl)
theorem dX7_table_85 : decode cX7_table 85 = .ok (.iload 7, 2) := dk_21 7 (dk_at dksX7_table_3 14 rfl rfl)
theorem dX7_table_87 : decode cX7_table 87 = .ok (.bipush 120, 2) := dk_16 120 (dk_at dksX7_table_3 16 rfl rfl)
theorem dX7_table_89 : decode cX7_table 89 = .ok (.if_icmp .gt 256, 3) := dk_163 1 0 (dk_at dksX7_table_3 18 rfl rfl)
theorem dX7_table_92 : decode cX7_table 92 = .ok (.iconst 0, 1) := dk_3 (dk_at dksX7_table_3 21 rfl rfl)
theorem dX7_table_93 : decode cX7_table 93 = .ok (.istore 8, 2) := dk_54 8 (dk_at dksX7_table_3 22 rfl rfl)
theorem dX7_table_95 : decode cX7_table 95 = .ok (.iload 8, 2) := dk_21 8 (dk_at dksX7_table_4 0 rfl rfl)
theorem dX7_table_97 : decode cX7_table 97 = .ok (.iload_n 1, 1) := dk_27 (dk_at dksX7_table_4 2 rfl rfl)
theorem dX7_table_98 : decode cX7_table 98 = .ok (.if_icmp .ge 55, 3) := dk_162 0 55 (dk_at dksX7_table_4 3 rfl rfl)
theorem dX7_table_101 : decode cX7_table 101 = .ok (.aload_n 0, 1) := dk_42 (dk_at dksX7_table_4 6 rfl rfl)
theorem dX7_table_102 : decode cX7_table 102 = .ok (.getfield 21, 3) := dk_180 0 21 (dk_at dksX7_table_4 7 rfl rfl)
theorem dX7_table_105 : decode cX7_table 105 = .ok (.iload 8, 2) := dk_21 8 (dk_at dksX7_table_4 10 rfl rfl)
theorem dX7_table_107 : decode cX7_table 107 = .ok (.dup2, 1) := dk_92 (dk_at dksX7_table_4 12 rfl rfl)
theorem dX7_table_108 : decode cX7_table 108 = .ok (.laload, 1) := dk_47 (dk_at dksX7_table_4 13 rfl rfl)
theorem dX7_table_109 : decode cX7_table 109 = .ok (.aload_n 0, 1) := dk_42 (dk_at dksX7_table_4 14 rfl rfl)
theorem dX7_table_110 : decode cX7_table 110 = .ok (.getfield 17, 3) := dk_180 0 17 (dk_at dksX7_table_4 15 rfl rfl)
theorem dX7_table_113 : decode cX7_table 113 = .ok (.iload 8, 2) := dk_21 8 (dk_at dksX7_table_4 18 rfl rfl)
theorem dX7_table_115 : decode cX7_table 115 = .ok (.aaload, 1) := dk_50 (dk_at dksX7_table_4 20 rfl rfl)
theorem dX7_table_116 : decode cX7_table 116 = .ok (.getfield 54, 3) := dk_180 0 54 (dk_at dksX7_table_4 21 rfl rfl)
theorem dX7_table_119 : decode cX7_table 119 = .ok (.iload 7, 2) := dk_21 7 (dk_at dksX7_table_5 0 rfl rfl)
theorem dX7_table_121 : decode cX7_table 121 = .ok (.laload, 1) := dk_47 (dk_at dksX7_table_5 2 rfl rfl)
theorem dX7_table_122 : decode cX7_table 122 = .ok (.ladd, 1) := dk_97 (dk_at dksX7_table_5 3 rfl rfl)
theorem dX7_table_123 : decode cX7_table 123 = .ok (.lastore, 1) := dk_80 (dk_at dksX7_table_5 4 rfl rfl)
theorem dX7_table_124 : decode cX7_table 124 = .ok (.aload_n 0, 1) := dk_42 (dk_at dksX7_table_5 5 rfl rfl)
theorem dX7_table_125 : decode cX7_table 125 = .ok (.getfield 25, 3) := dk_180 0 25 (dk_at dksX7_table_5 6 rfl rfl)
theorem dX7_table_128 : decode cX7_table 128 = .ok (.iload 8, 2) := dk_21 8 (dk_at dksX7_table_5 9 rfl rfl)
theorem dX7_table_130 : decode cX7_table 130 = .ok (.dup2, 1) := dk_92 (dk_at dksX7_table_5 11 rfl rfl)
theorem dX7_table_131 : decode cX7_table 131 = .ok (.laload, 1) := dk_47 (dk_at dksX7_table_5 12 rfl rfl)
theorem dX7_table_132 : decode cX7_table 132 = .ok (.aload_n 0, 1) := dk_42 (dk_at dksX7_table_5 13 rfl rfl)
theorem dX7_table_133 : decode cX7_table 133 = .ok (.getfield 17, 3) := dk_180 0 17 (dk_at dksX7_table_5 14 rfl rfl)
theorem dX7_table_136 : decode cX7_table 136 = .ok (.iload 8, 2) := dk_21 8 (dk_at dksX7_table_5 17 rfl rfl)
theorem dX7_table_138 : decode cX7_table 138 = .ok (.aaload, 1) := dk_50 (dk_at dksX7_table_5 19 rfl rfl)
theorem dX7_table_139 : decode cX7_table 139 = .ok (.getfield 57, 3) := dk_180 0 57 (dk_at dksX7_table_5 20 rfl rfl)
theorem dX7_table_142 : decode cX7_table 142 = .ok (.iload 7, 2) := dk_21 7 (dk_at dksX7_table_6 0 rfl rfl)
theorem dX7_table_144 : decode cX7_table 144 = .ok (.laload, 1) := dk_47 (dk_at dksX7_table_6 2 rfl rfl)
theorem dX7_table_145 : decode cX7_table 145 = .ok (.ladd, 1) := dk_97 (dk_at dksX7_table_6 3 rfl rfl)
theorem dX7_table_146 : decode cX7_table 146 = .ok (.lastore, 1) := dk_80 (dk_at dksX7_table_6 4 rfl rfl)
theorem dX7_table_147 : decode cX7_table 147 = .ok (.iinc 8 1, 3) := dk_132 8 1 (dk_at dksX7_table_6 5 rfl rfl)
theorem dX7_table_150 : decode cX7_table 150 = .ok (.goto (-55), 3) := dk_167 255 201 (dk_at dksX7_table_6 8 rfl rfl)
theorem dX7_table_153 : decode cX7_table 153 = .ok (.lconst 0, 1) := dk_9 (dk_at dksX7_table_6 11 rfl rfl)
theorem dX7_table_154 : decode cX7_table 154 = .ok (.lstore 8, 2) := dk_55 8 (dk_at dksX7_table_6 12 rfl rfl)
theorem dX7_table_156 : decode cX7_table 156 = .ok (.lconst 0, 1) := dk_9 (dk_at dksX7_table_6 14 rfl rfl)
theorem dX7_table_157 : decode cX7_table 157 = .ok (.lstore 10, 2) := dk_55 10 (dk_at dksX7_table_6 15 rfl rfl)
theorem dX7_table_159 : decode cX7_table 159 = .ok (.iconst 0, 1) := dk_3 (dk_at dksX7_table_6 17 rfl rfl)
theorem dX7_table_160 : decode cX7_table 160 = .ok (.istore 12, 2) := dk_54 12 (dk_at dksX7_table_6 18 rfl rfl)
theorem dX7_table_162 : decode cX7_table 162 = .ok (.iload 12, 2) := dk_21 12 (dk_at dksX7_table_6 20 rfl rfl)
theorem dX7_table_164 : decode cX7_table 164 = .ok (.iconst 1, 1) := dk_4 (dk_at dksX7_table_6 22 rfl rfl)
theorem dX7_table_165 : decode cX7_table 165 = .ok (.iload_n 1, 1) := dk_27 (dk_at dksX7_table_6 23 rfl rfl)
theorem dX7_table_166 : decode cX7_table 166 = .ok (.ishl, 1) := dk_120 (dk_at dksX7_table_7 0 rfl rfl)
theorem dX7_table_167 : decode cX7_table 167 = .ok (.if_icmp .ge 142, 3) := dk_162 0 142 (dk_at dksX7_table_7 1 rfl rfl)
theorem dX7_table_170 : decode cX7_table 170 = .ok (.lconst 1, 1) := dk_10 (dk_at dksX7_table_7 4 rfl rfl)
theorem dX7_table_171 : decode cX7_table 171 = .ok (.lstore 13, 2) := dk_55 13 (dk_at dksX7_table_7 5 rfl rfl)
theorem dX7_table_173 : decode cX7_table 173 = .ok (.lconst 1, 1) := dk_10 (dk_at dksX7_table_7 7 rfl rfl)
theorem dX7_table_174 : decode cX7_table 174 = .ok (.lstore 15, 2) := dk_55 15 (dk_at dksX7_table_7 8 rfl rfl)
theorem dX7_table_176 : decode cX7_table 176 = .ok (.iconst 0, 1) := dk_3 (dk_at dksX7_table_7 10 rfl rfl)
theorem dX7_table_177 : decode cX7_table 177 = .ok (.istore 17, 2) := dk_54 17 (dk_at dksX7_table_7 11 rfl rfl)
theorem dX7_table_179 : decode cX7_table 179 = .ok (.iload 17, 2) := dk_21 17 (dk_at dksX7_table_7 13 rfl rfl)
theorem dX7_table_181 : decode cX7_table 181 = .ok (.iload_n 1, 1) := dk_27 (dk_at dksX7_table_7 15 rfl rfl)
theorem dX7_table_182 : decode cX7_table 182 = .ok (.if_icmp .ge 92, 3) := dk_162 0 92 (dk_at dksX7_table_7 16 rfl rfl)
theorem dX7_table_185 : decode cX7_table 185 = .ok (.iload 12, 2) := dk_21 12 (dk_at dksX7_table_7 19 rfl rfl)
theorem dX7_table_187 : decode cX7_table 187 = .ok (.iload 17, 2) := dk_21 17 (dk_at dksX7_table_7 21 rfl rfl)
theorem dX7_table_189 : decode cX7_table 189 = .ok (.ishr, 1) := dk_122 (dk_at dksX7_table_7 23 rfl rfl)
theorem dX7_table_190 : decode cX7_table 190 = .ok (.iconst 1, 1) := dk_4 (dk_at dksX7_table_8 0 rfl rfl)
theorem dX7_table_191 : decode cX7_table 191 = .ok (.iand, 1) := dk_126 (dk_at dksX7_table_8 1 rfl rfl)
theorem dX7_table_192 : decode cX7_table 192 = .ok (.iconst 1, 1) := dk_4 (dk_at dksX7_table_8 2 rfl rfl)
theorem dX7_table_193 : decode cX7_table 193 = .ok (.if_icmp .ne 7, 3) := dk_160 0 7 (dk_at dksX7_table_8 3 rfl rfl)
theorem dX7_table_196 : decode cX7_table 196 = .ok (.iconst 1, 1) := dk_4 (dk_at dksX7_table_8 6 rfl rfl)
theorem dX7_table_197 : decode cX7_table 197 = .ok (.goto 4, 3) := dk_167 0 4 (dk_at dksX7_table_8 7 rfl rfl)
theorem dX7_table_200 : decode cX7_table 200 = .ok (.iconst 0, 1) := dk_3 (dk_at dksX7_table_8 10 rfl rfl)
theorem dX7_table_201 : decode cX7_table 201 = .ok (.istore 18, 2) := dk_54 18 (dk_at dksX7_table_8 11 rfl rfl)
theorem dX7_table_203 : decode cX7_table 203 = .ok (.lload 13, 2) := dk_22 13 (dk_at dksX7_table_8 13 rfl rfl)
theorem dX7_table_205 : decode cX7_table 205 = .ok (.iload 18, 2) := dk_21 18 (dk_at dksX7_table_8 15 rfl rfl)
theorem dX7_table_207 : decode cX7_table 207 = .ok (.ifCond .eq 13, 3) := dk_153 0 13 (dk_at dksX7_table_8 17 rfl rfl)
theorem dX7_table_210 : decode cX7_table 210 = .ok (.aload_n 0, 1) := dk_42 (dk_at dksX7_table_8 20 rfl rfl)
theorem dX7_table_211 : decode cX7_table 211 = .ok (.getfield 21, 3) := dk_180 0 21 (dk_at dksX7_table_8 21 rfl rfl)
theorem dX7_table_214 : decode cX7_table 214 = .ok (.iload 17, 2) := dk_21 17 (dk_at dksX7_table_9 0 rfl rfl)
theorem dX7_table_216 : decode cX7_table 216 = .ok (.laload, 1) := dk_47 (dk_at dksX7_table_9 2 rfl rfl)
theorem dX7_table_217 : decode cX7_table 217 = .ok (.goto 21, 3) := dk_167 0 21 (dk_at dksX7_table_9 3 rfl rfl)
theorem dX7_table_220 : decode cX7_table 220 = .ok (.aload_n 0, 1) := dk_42 (dk_at dksX7_table_9 6 rfl rfl)
theorem dX7_table_221 : decode cX7_table 221 = .ok (.getfield 17, 3) := dk_180 0 17 (dk_at dksX7_table_9 7 rfl rfl)
theorem dX7_table_224 : decode cX7_table 224 = .ok (.iload 17, 2) := dk_21 17 (dk_at dksX7_table_9 10 rfl rfl)
theorem dX7_table_226 : decode cX7_table 226 = .ok (.aaload, 1) := dk_50 (dk_at dksX7_table_9 12 rfl rfl)
theorem dX7_table_227 : decode cX7_table 227 = .ok (.getfield 46, 3) := dk_180 0 46 (dk_at dksX7_table_9 13 rfl rfl)
theorem dX7_table_230 : decode cX7_table 230 = .ok (.aload_n 0, 1) := dk_42 (dk_at dksX7_table_9 16 rfl rfl)
theorem dX7_table_231 : decode cX7_table 231 = .ok (.getfield 21, 3) := dk_180 0 21 (dk_at dksX7_table_9 17 rfl rfl)
theorem dX7_table_234 : decode cX7_table 234 = .ok (.iload 17, 2) := dk_21 17 (dk_at dksX7_table_9 20 rfl rfl)
theorem dX7_table_236 : decode cX7_table 236 = .ok (.laload, 1) := dk_47 (dk_at dksX7_table_9 22 rfl rfl)
theorem dX7_table_237 : decode cX7_table 237 = .ok (.lsub, 1) := dk_101 (dk_at dksX7_table_9 23 rfl rfl)
theorem dX7_table_238 : decode cX7_table 238 = .ok (.lmul, 1) := dk_105 (dk_at dksX7_table_10 0 rfl rfl)
theorem dX7_table_239 : decode cX7_table 239 = .ok (.lstore 13, 2) := dk_55 13 (dk_at dksX7_table_10 1 rfl rfl)
theorem dX7_table_241 : decode cX7_table 241 = .ok (.lload 15, 2) := dk_22 15 (dk_at dksX7_table_10 3 rfl rfl)
theorem dX7_table_243 : decode cX7_table 243 = .ok (.iload 18, 2) := dk_21 18 (dk_at dksX7_table_10 5 rfl rfl)
theorem dX7_table_245 : decode cX7_table 245 = .ok (.ifCond .eq 13, 3) := dk_153 0 13 (dk_at dksX7_table_10 7 rfl rfl)
theorem dX7_table_248 : decode cX7_table 248 = .ok (.aload_n 0, 1) := dk_42 (dk_at dksX7_table_10 10 rfl rfl)
theorem dX7_table_249 : decode cX7_table 249 = .ok (.getfield 21, 3) := dk_180 0 21 (dk_at dksX7_table_10 11 rfl rfl)
theorem dX7_table_252 : decode cX7_table 252 = .ok (.iload 17, 2) := dk_21 17 (dk_at dksX7_table_10 14 rfl rfl)
theorem dX7_table_254 : decode cX7_table 254 = .ok (.laload, 1) := dk_47 (dk_at dksX7_table_10 16 rfl rfl)
theorem dX7_table_255 : decode cX7_table 255 = .ok (.goto 10, 3) := dk_167 0 10 (dk_at dksX7_table_10 17 rfl rfl)
theorem dX7_table_258 : decode cX7_table 258 = .ok (.aload_n 0, 1) := dk_42 (dk_at dksX7_table_10 20 rfl rfl)
theorem dX7_table_259 : decode cX7_table 259 = .ok (.getfield 25, 3) := dk_180 0 25 (dk_at dksX7_table_10 21 rfl rfl)
theorem dX7_table_262 : decode cX7_table 262 = .ok (.iload 17, 2) := dk_21 17 (dk_at dksX7_table_11 0 rfl rfl)
theorem dX7_table_264 : decode cX7_table 264 = .ok (.laload, 1) := dk_47 (dk_at dksX7_table_11 2 rfl rfl)
theorem dX7_table_265 : decode cX7_table 265 = .ok (.lmul, 1) := dk_105 (dk_at dksX7_table_11 3 rfl rfl)
theorem dX7_table_266 : decode cX7_table 266 = .ok (.lstore 15, 2) := dk_55 15 (dk_at dksX7_table_11 4 rfl rfl)
theorem dX7_table_268 : decode cX7_table 268 = .ok (.iinc 17 1, 3) := dk_132 17 1 (dk_at dksX7_table_11 6 rfl rfl)
theorem dX7_table_271 : decode cX7_table 271 = .ok (.goto (-92), 3) := dk_167 255 164 (dk_at dksX7_table_11 9 rfl rfl)
theorem dX7_table_274 : decode cX7_table 274 = .ok (.iload 12, 2) := dk_21 12 (dk_at dksX7_table_11 12 rfl rfl)
theorem dX7_table_276 : decode cX7_table 276 = .ok (.invokestatic 60, 3) := dk_184 0 60 (dk_at dksX7_table_11 14 rfl rfl)
theorem dX7_table_279 : decode cX7_table 279 = .ok (.aload_n 0, 1) := dk_42 (dk_at dksX7_table_11 17 rfl rfl)
theorem dX7_table_280 : decode cX7_table 280 = .ok (.getfield 9, 3) := dk_180 0 9 (dk_at dksX7_table_11 18 rfl rfl)
theorem dX7_table_283 : decode cX7_table 283 = .ok (.if_icmp .lt 13, 3) := dk_161 0 13 (dk_at dksX7_table_11 21 rfl rfl)
theorem dX7_table_286 : decode cX7_table 286 = .ok (.lload 8, 2) := dk_22 8 (dk_at dksX7_table_12 0 rfl rfl)
theorem dX7_table_288 : decode cX7_table 288 = .ok (.lload 13, 2) := dk_22 13 (dk_at dksX7_table_12 2 rfl rfl)
theorem dX7_table_290 : decode cX7_table 290 = .ok (.ladd, 1) := dk_97 (dk_at dksX7_table_12 4 rfl rfl)
theorem dX7_table_291 : decode cX7_table 291 = .ok (.lstore 8, 2) := dk_55 8 (dk_at dksX7_table_12 5 rfl rfl)
theorem dX7_table_293 : decode cX7_table 293 = .ok (.goto 10, 3) := dk_167 0 10 (dk_at dksX7_table_12 7 rfl rfl)
theorem dX7_table_296 : decode cX7_table 296 = .ok (.lload 10, 2) := dk_22 10 (dk_at dksX7_table_12 10 rfl rfl)
theorem dX7_table_298 : decode cX7_table 298 = .ok (.lload 15, 2) := dk_22 15 (dk_at dksX7_table_12 12 rfl rfl)
theorem dX7_table_300 : decode cX7_table 300 = .ok (.ladd, 1) := dk_97 (dk_at dksX7_table_12 14 rfl rfl)
theorem dX7_table_301 : decode cX7_table 301 = .ok (.lstore 10, 2) := dk_55 10 (dk_at dksX7_table_12 15 rfl rfl)
theorem dX7_table_303 : decode cX7_table 303 = .ok (.iinc 12 1, 3) := dk_132 12 1 (dk_at dksX7_table_12 17 rfl rfl)
theorem dX7_table_306 : decode cX7_table 306 = .ok (.goto (-144), 3) := dk_167 255 112 (dk_at dksX7_table_12 20 rfl rfl)
theorem dX7_table_309 : decode cX7_table 309 = .ok (.aload_n 2, 1) := dk_44 (dk_at dksX7_table_12 23 rfl rfl)
theorem dX7_table_310 : decode cX7_table 310 = .ok (.getfield 54, 3) := dk_180 0 54 (dk_at dksX7_table_13 0 rfl rfl)
theorem dX7_table_313 : decode cX7_table 313 = .ok (.iload 7, 2) := dk_21 7 (dk_at dksX7_table_13 3 rfl rfl)
theorem dX7_table_315 : decode cX7_table 315 = .ok (.lload 8, 2) := dk_22 8 (dk_at dksX7_table_13 5 rfl rfl)
theorem dX7_table_317 : decode cX7_table 317 = .ok (.lload_n 3, 1) := dk_33 (dk_at dksX7_table_13 7 rfl rfl)
theorem dX7_table_318 : decode cX7_table 318 = .ok (.lsub, 1) := dk_101 (dk_at dksX7_table_13 8 rfl rfl)
theorem dX7_table_319 : decode cX7_table 319 = .ok (.lastore, 1) := dk_80 (dk_at dksX7_table_13 9 rfl rfl)
theorem dX7_table_320 : decode cX7_table 320 = .ok (.aload_n 2, 1) := dk_44 (dk_at dksX7_table_13 10 rfl rfl)
theorem dX7_table_321 : decode cX7_table 321 = .ok (.getfield 57, 3) := dk_180 0 57 (dk_at dksX7_table_13 11 rfl rfl)
theorem dX7_table_324 : decode cX7_table 324 = .ok (.iload 7, 2) := dk_21 7 (dk_at dksX7_table_13 14 rfl rfl)
theorem dX7_table_326 : decode cX7_table 326 = .ok (.lload 10, 2) := dk_22 10 (dk_at dksX7_table_13 16 rfl rfl)
theorem dX7_table_328 : decode cX7_table 328 = .ok (.lload 5, 2) := dk_22 5 (dk_at dksX7_table_13 18 rfl rfl)
theorem dX7_table_330 : decode cX7_table 330 = .ok (.lsub, 1) := dk_101 (dk_at dksX7_table_13 20 rfl rfl)
theorem dX7_table_331 : decode cX7_table 331 = .ok (.lastore, 1) := dk_80 (dk_at dksX7_table_13 21 rfl rfl)
theorem dX7_table_332 : decode cX7_table 332 = .ok (.lload 8, 2) := dk_22 8 (dk_at dksX7_table_13 22 rfl rfl)
theorem dX7_table_334 : decode cX7_table 334 = .ok (.lstore_n 3, 1) := dk_66 (dk_at dksX7_table_14 0 rfl rfl)
theorem dX7_table_335 : decode cX7_table 335 = .ok (.lload 10, 2) := dk_22 10 (dk_at dksX7_table_14 1 rfl rfl)
theorem dX7_table_337 : decode cX7_table 337 = .ok (.lstore 5, 2) := dk_55 5 (dk_at dksX7_table_14 3 rfl rfl)
theorem dX7_table_339 : decode cX7_table 339 = .ok (.iinc 7 1, 3) := dk_132 7 1 (dk_at dksX7_table_14 5 rfl rfl)
theorem dX7_table_342 : decode cX7_table 342 = .ok (.goto (-257), 3) := dk_167 254 255 (dk_at dksX7_table_14 8 rfl rfl)
theorem dX7_table_345 : decode cX7_table 345 = .ok (.aload_n 2, 1) := dk_44 (dk_at dksX7_table_14 11 rfl rfl)
theorem dX7_table_346 : decode cX7_table 346 = .ok (.invokevirtual 66, 3) := dk_182 0 66 (dk_at dksX7_table_14 12 rfl rfl)
theorem dX7_table_349 : decode cX7_table 349 = .ok (.areturn, 1) := dk_176 (dk_at dksX7_table_14 15 rfl rfl)
abbrev cX7_bounds : ByteArray := prog_3_method_4_code
def yX7_bounds : MethodName := ⟨RX7, "bounds", "([J)J"⟩
def dkwX7_bounds_4 : List UInt8 := [167, 255, 201, 22, 4, 173]
abbrev dktX7_bounds_4 : List UInt8 := dkwX7_bounds_4 ++ []
def dkwX7_bounds_3 : List UInt8 := [97, 55, 7, 132, 9, 1, 167, 255, 231, 43, 21, 6, 22, 4, 22, 7, 184, 0, 77, 80, 132, 6, 1]
abbrev dktX7_bounds_3 : List UInt8 := dkwX7_bounds_3 ++ dktX7_bounds_4
def dkwX7_bounds_2 : List UInt8 := [55, 7, 3, 54, 9, 21, 9, 42, 180, 0, 28, 190, 162, 0, 21, 22, 7, 44, 21, 9, 50, 21, 6, 47]
abbrev dktX7_bounds_2 : List UInt8 := dkwX7_bounds_2 ++ dktX7_bounds_3
def dkwX7_bounds_1 : List UInt8 := [50, 3, 47, 29, 133, 184, 0, 50, 184, 0, 73, 55, 4, 3, 54, 6, 21, 6, 16, 120, 163, 0, 54, 9]
abbrev dktX7_bounds_1 : List UInt8 := dkwX7_bounds_1 ++ dktX7_bounds_2
def dkwX7_bounds_0 : List UInt8 := [42, 182, 0, 69, 77, 42, 180, 0, 28, 190, 42, 180, 0, 9, 100, 4, 96, 62, 44, 42, 180, 0, 28, 190]
abbrev dktX7_bounds_0 : List UInt8 := dkwX7_bounds_0 ++ dktX7_bounds_1
theorem dksX7_bounds_0 : cX7_bounds.data.toList.drop 0 = dktX7_bounds_0 := by decide +kernel
theorem dksX7_bounds_1 : cX7_bounds.data.toList.drop 24 = dktX7_bounds_1 := dk_seg dksX7_bounds_0 24 rfl rfl
theorem dksX7_bounds_2 : cX7_bounds.data.toList.drop 48 = dktX7_bounds_2 := dk_seg dksX7_bounds_1 24 rfl rfl
theorem dksX7_bounds_3 : cX7_bounds.data.toList.drop 72 = dktX7_bounds_3 := dk_seg dksX7_bounds_2 24 rfl rfl
theorem dksX7_bounds_4 : cX7_bounds.data.toList.drop 95 = dktX7_bounds_4 := dk_seg dksX7_bounds_3 23 rfl rfl
theorem dX7_bounds_0 : decode cX7_bounds 0 = .ok (.aload_n 0, 1) := dk_42 (dk_at dksX7_bounds_0 0 rfl rfl)
theorem dX7_bounds_1 : decode cX7_bounds 1 = .ok (.invokevirtual 69, 3) := dk_182 0 69 (dk_at dksX7_bounds_0 1 rfl rfl)
theorem dX7_bounds_4 : decode cX7_bounds 4 = .ok (.astore_n 2, 1) := dk_77 (dk_at dksX7_bounds_0 4 rfl rfl)
theorem dX7_bounds_5 : decode cX7_bounds 5 = .ok (.aload_n 0, 1) := dk_42 (dk_at dksX7_bounds_0 5 rfl rfl)
theorem dX7_bounds_6 : decode cX7_bounds 6 = .ok (.getfield 28, 3) := dk_180 0 28 (dk_at dksX7_bounds_0 6 rfl rfl)
theorem dX7_bounds_9 : decode cX7_bounds 9 = .ok (.arraylength, 1) := dk_190 (dk_at dksX7_bounds_0 9 rfl rfl)
theorem dX7_bounds_10 : decode cX7_bounds 10 = .ok (.aload_n 0, 1) := dk_42 (dk_at dksX7_bounds_0 10 rfl rfl)
theorem dX7_bounds_11 : decode cX7_bounds 11 = .ok (.getfield 9, 3) := dk_180 0 9 (dk_at dksX7_bounds_0 11 rfl rfl)
theorem dX7_bounds_14 : decode cX7_bounds 14 = .ok (.isub, 1) := dk_100 (dk_at dksX7_bounds_0 14 rfl rfl)
theorem dX7_bounds_15 : decode cX7_bounds 15 = .ok (.iconst 1, 1) := dk_4 (dk_at dksX7_bounds_0 15 rfl rfl)
theorem dX7_bounds_16 : decode cX7_bounds 16 = .ok (.iadd, 1) := dk_96 (dk_at dksX7_bounds_0 16 rfl rfl)
theorem dX7_bounds_17 : decode cX7_bounds 17 = .ok (.istore_n 3, 1) := dk_62 (dk_at dksX7_bounds_0 17 rfl rfl)
theorem dX7_bounds_18 : decode cX7_bounds 18 = .ok (.aload_n 2, 1) := dk_44 (dk_at dksX7_bounds_0 18 rfl rfl)
theorem dX7_bounds_19 : decode cX7_bounds 19 = .ok (.aload_n 0, 1) := dk_42 (dk_at dksX7_bounds_0 19 rfl rfl)
theorem dX7_bounds_20 : decode cX7_bounds 20 = .ok (.getfield 28, 3) := dk_180 0 28 (dk_at dksX7_bounds_0 20 rfl rfl)
theorem dX7_bounds_23 : decode cX7_bounds 23 = .ok (.arraylength, 1) := dk_190 (dk_at dksX7_bounds_0 23 rfl rfl)
theorem dX7_bounds_24 : decode cX7_bounds 24 = .ok (.aaload, 1) := dk_50 (dk_at dksX7_bounds_1 0 rfl rfl)
theorem dX7_bounds_25 : decode cX7_bounds 25 = .ok (.iconst 0, 1) := dk_3 (dk_at dksX7_bounds_1 1 rfl rfl)
theorem dX7_bounds_26 : decode cX7_bounds 26 = .ok (.laload, 1) := dk_47 (dk_at dksX7_bounds_1 2 rfl rfl)
theorem dX7_bounds_27 : decode cX7_bounds 27 = .ok (.iload_n 3, 1) := dk_29 (dk_at dksX7_bounds_1 3 rfl rfl)
theorem dX7_bounds_28 : decode cX7_bounds 28 = .ok (.i2l, 1) := dk_133 (dk_at dksX7_bounds_1 4 rfl rfl)
theorem dX7_bounds_29 : decode cX7_bounds 29 = .ok (.invokestatic 50, 3) := dk_184 0 50 (dk_at dksX7_bounds_1 5 rfl rfl)
theorem dX7_bounds_32 : decode cX7_bounds 32 = .ok (.invokestatic 73, 3) := dk_184 0 73 (dk_at dksX7_bounds_1 8 rfl rfl)
theorem dX7_bounds_35 : decode cX7_bounds 35 = .ok (.lstore 4, 2) := dk_55 4 (dk_at dksX7_bounds_1 11 rfl rfl)
theorem dX7_bounds_37 : decode cX7_bounds 37 = .ok (.iconst 0, 1) := dk_3 (dk_at dksX7_bounds_1 13 rfl rfl)
theorem dX7_bounds_38 : decode cX7_bounds 38 = .ok (.istore 6, 2) := dk_54 6 (dk_at dksX7_bounds_1 14 rfl rfl)
theorem dX7_bounds_40 : decode cX7_bounds 40 = .ok (.iload 6, 2) := dk_21 6 (dk_at dksX7_bounds_1 16 rfl rfl)
theorem dX7_bounds_42 : decode cX7_bounds 42 = .ok (.bipush 120, 2) := dk_16 120 (dk_at dksX7_bounds_1 18 rfl rfl)
theorem dX7_bounds_44 : decode cX7_bounds 44 = .ok (.if_icmp .gt 54, 3) := dk_163 0 54 (dk_at dksX7_bounds_1 20 rfl rfl)
theorem dX7_bounds_47 : decode cX7_bounds 47 = .ok (.lconst 0, 1) := dk_9 (dk_at dksX7_bounds_1 23 rfl rfl)
theorem dX7_bounds_48 : decode cX7_bounds 48 = .ok (.lstore 7, 2) := dk_55 7 (dk_at dksX7_bounds_2 0 rfl rfl)
theorem dX7_bounds_50 : decode cX7_bounds 50 = .ok (.iconst 0, 1) := dk_3 (dk_at dksX7_bounds_2 2 rfl rfl)
theorem dX7_bounds_51 : decode cX7_bounds 51 = .ok (.istore 9, 2) := dk_54 9 (dk_at dksX7_bounds_2 3 rfl rfl)
theorem dX7_bounds_53 : decode cX7_bounds 53 = .ok (.iload 9, 2) := dk_21 9 (dk_at dksX7_bounds_2 5 rfl rfl)
theorem dX7_bounds_55 : decode cX7_bounds 55 = .ok (.aload_n 0, 1) := dk_42 (dk_at dksX7_bounds_2 7 rfl rfl)
theorem dX7_bounds_56 : decode cX7_bounds 56 = .ok (.getfield 28, 3) := dk_180 0 28 (dk_at dksX7_bounds_2 8 rfl rfl)
theorem dX7_bounds_59 : decode cX7_bounds 59 = .ok (.arraylength, 1) := dk_190 (dk_at dksX7_bounds_2 11 rfl rfl)
theorem dX7_bounds_60 : decode cX7_bounds 60 = .ok (.if_icmp .ge 21, 3) := dk_162 0 21 (dk_at dksX7_bounds_2 12 rfl rfl)
theorem dX7_bounds_63 : decode cX7_bounds 63 = .ok (.lload 7, 2) := dk_22 7 (dk_at dksX7_bounds_2 15 rfl rfl)
theorem dX7_bounds_65 : decode cX7_bounds 65 = .ok (.aload_n 2, 1) := dk_44 (dk_at dksX7_bounds_2 17 rfl rfl)
theorem dX7_bounds_66 : decode cX7_bounds 66 = .ok (.iload 9, 2) := dk_21 9 (dk_at dksX7_bounds_2 18 rfl rfl)
theorem dX7_bounds_68 : decode cX7_bounds 68 = .ok (.aaload, 1) := dk_50 (dk_at dksX7_bounds_2 20 rfl rfl)
theorem dX7_bounds_69 : decode cX7_bounds 69 = .ok (.iload 6, 2) := dk_21 6 (dk_at dksX7_bounds_2 21 rfl rfl)
theorem dX7_bounds_71 : decode cX7_bounds 71 = .ok (.laload, 1) := dk_47 (dk_at dksX7_bounds_2 23 rfl rfl)
theorem dX7_bounds_72 : decode cX7_bounds 72 = .ok (.ladd, 1) := dk_97 (dk_at dksX7_bounds_3 0 rfl rfl)
theorem dX7_bounds_73 : decode cX7_bounds 73 = .ok (.lstore 7, 2) := dk_55 7 (dk_at dksX7_bounds_3 1 rfl rfl)
theorem dX7_bounds_75 : decode cX7_bounds 75 = .ok (.iinc 9 1, 3) := dk_132 9 1 (dk_at dksX7_bounds_3 3 rfl rfl)
theorem dX7_bounds_78 : decode cX7_bounds 78 = .ok (.goto (-25), 3) := dk_167 255 231 (dk_at dksX7_bounds_3 6 rfl rfl)
theorem dX7_bounds_81 : decode cX7_bounds 81 = .ok (.aload_n 1, 1) := dk_43 (dk_at dksX7_bounds_3 9 rfl rfl)
theorem dX7_bounds_82 : decode cX7_bounds 82 = .ok (.iload 6, 2) := dk_21 6 (dk_at dksX7_bounds_3 10 rfl rfl)
theorem dX7_bounds_84 : decode cX7_bounds 84 = .ok (.lload 4, 2) := dk_22 4 (dk_at dksX7_bounds_3 12 rfl rfl)
theorem dX7_bounds_86 : decode cX7_bounds 86 = .ok (.lload 7, 2) := dk_22 7 (dk_at dksX7_bounds_3 14 rfl rfl)
theorem dX7_bounds_88 : decode cX7_bounds 88 = .ok (.invokestatic 77, 3) := dk_184 0 77 (dk_at dksX7_bounds_3 16 rfl rfl)
theorem dX7_bounds_91 : decode cX7_bounds 91 = .ok (.lastore, 1) := dk_80 (dk_at dksX7_bounds_3 19 rfl rfl)
theorem dX7_bounds_92 : decode cX7_bounds 92 = .ok (.iinc 6 1, 3) := dk_132 6 1 (dk_at dksX7_bounds_3 20 rfl rfl)
theorem dX7_bounds_95 : decode cX7_bounds 95 = .ok (.goto (-55), 3) := dk_167 255 201 (dk_at dksX7_bounds_4 0 rfl rfl)
theorem dX7_bounds_98 : decode cX7_bounds 98 = .ok (.lload 4, 2) := dk_22 4 (dk_at dksX7_bounds_4 3 rfl rfl)
theorem dX7_bounds_100 : decode cX7_bounds 100 = .ok (.lreturn, 1) := dk_173 (dk_at dksX7_bounds_4 5 rfl rfl)
theorem q66 : (Jvm.Cond.initialized "TickShare$Fan") ∈ lw_all := lw_g (lw_at lw_m1 17 rfl) rfl
theorem q319 : (Jvm.Cond.fieldLinkNest "TickShare$Fan" (54 : Nat) "TickShare$Table" "ok" "[J" "TickShare") ∈ lw_tbl := lw_at lw_m2 30 rfl
theorem q325 : (Jvm.Cond.fieldLinkNest "TickShare$Fan" (57 : Nat) "TickShare$Table" "fail" "[J" "TickShare") ∈ lw_tbl := lw_at lw_m2 36 rfl
theorem q331 : (Jvm.Cond.fieldLinkNest "TickShare$Fan" (46 : Nat) "TickShare$Table" "whole" "J" "TickShare") ∈ lw_tbl := lw_at lw_m2 42 rfl
theorem q385 : (Jvm.Cond.fieldLink "TickShare$Fan" (28 : Nat) "TickShare$Fan" "parts" "[LTickShare$Thing;") ∈ lw_all := lw_g (lw_at lw_m2 96 rfl) rfl
theorem q386 : (Jvm.Cond.sameField "TickShare$Fan" "TickShare$Thing" "parts" "[LTickShare$Thing;") ∈ lw_all := lw_g (lw_at lw_m2 97 rfl) rfl
theorem q395 : (Jvm.Cond.fieldLink "TickShare$Fan" (32 : Nat) "TickShare$Fan" "made" "LTickShare$Table;") ∈ lw_all := lw_g (lw_at lw_m2 106 rfl) rfl
theorem q396 : (Jvm.Cond.sameField "TickShare$Fan" "TickShare$Thing" "made" "LTickShare$Table;") ∈ lw_all := lw_g (lw_at lw_m2 107 rfl) rfl
theorem q487 : (Jvm.Cond.instantiable "TickShare$Fan" (12 : Nat)) ∈ lw_all := lw_g (lw_at lw_m2 198 rfl) rfl
theorem q489 : (Jvm.Cond.instanceMethod ({ cls := "TickShare$Fan", name := "<init>", desc := "(I[LTickShare$Thing;)V" } : Jvm.MethodName)) ∈ lw_all := lw_g (lw_at lw_m2 200 rfl) rfl
theorem q490 : (Jvm.Cond.code ({ cls := "TickShare$Fan", name := "<init>", desc := "(I[LTickShare$Thing;)V" } : Jvm.MethodName) prog_3_method_1_code (3 : Nat) (Option.none : Option Jvm.ClassFile.FieldType)) ∈ lw_all := lw_g (lw_at lw_m2 201 rfl) rfl
theorem q491 : (Jvm.Cond.methodLink "TickShare$Fan" (3 : Nat) ({ cls := "TickShare$Row", name := "<init>", desc := "([LTickShare$Thing;)V" } : Jvm.MethodName)) ∈ lw_all := lw_g (lw_at lw_m2 202 rfl) rfl
theorem q492 : (Jvm.Cond.classLink "TickShare$Fan" (15 : Nat) "TickShare$Table") ∈ lw_all := lw_g (lw_at lw_m2 203 rfl) rfl
theorem q493 : (Jvm.Cond.fieldLink "TickShare$Fan" (9 : Nat) "TickShare$Fan" "wanted" "I") ∈ lw_all := lw_g (lw_at lw_m2 204 rfl) rfl
theorem q494 : (Jvm.Cond.fieldLink "TickShare$Fan" (17 : Nat) "TickShare$Fan" "of" "[LTickShare$Table;") ∈ lw_all := lw_g (lw_at lw_m2 205 rfl) rfl
theorem q495 : (Jvm.Cond.fieldLink "TickShare$Fan" (21 : Nat) "TickShare$Fan" "well" "[J") ∈ lw_all := lw_g (lw_at lw_m2 206 rfl) rfl
theorem q496 : (Jvm.Cond.fieldLink "TickShare$Fan" (25 : Nat) "TickShare$Fan" "ill" "[J") ∈ lw_all := lw_g (lw_at lw_m2 207 rfl) rfl
theorem q497 : (Jvm.Cond.laysFinal "TickShare$Fan" "TickShare$Fan" "wanted" "I") ∈ lw_all := lw_g (lw_at lw_m2 208 rfl) rfl
theorem q498 : (Jvm.Cond.soleField "TickShare$Fan" "wanted") ∈ lw_all := lw_g (lw_at lw_m2 209 rfl) rfl
theorem q499 : (Jvm.Cond.laysFinal "TickShare$Fan" "TickShare$Fan" "of" "[LTickShare$Table;") ∈ lw_all := lw_g (lw_at lw_m2 210 rfl) rfl
theorem q500 : (Jvm.Cond.soleField "TickShare$Fan" "of") ∈ lw_all := lw_g (lw_at lw_m2 211 rfl) rfl
theorem q501 : (Jvm.Cond.laysFinal "TickShare$Fan" "TickShare$Fan" "well" "[J") ∈ lw_all := lw_g (lw_at lw_m2 212 rfl) rfl
theorem q502 : (Jvm.Cond.soleField "TickShare$Fan" "well") ∈ lw_all := lw_g (lw_at lw_m2 213 rfl) rfl
theorem q503 : (Jvm.Cond.laysFinal "TickShare$Fan" "TickShare$Fan" "ill" "[J") ∈ lw_all := lw_g (lw_at lw_m2 214 rfl) rfl
theorem q504 : (Jvm.Cond.soleField "TickShare$Fan" "ill") ∈ lw_all := lw_g (lw_at lw_m2 215 rfl) rfl
theorem q505 : (Jvm.Cond.laysFinal "TickShare$Fan" "TickShare$Row" "rows" "[[J") ∈ lw_all := lw_g (lw_at lw_m2 216 rfl) rfl
theorem q506 : (Jvm.Cond.laysFinal "TickShare$Fan" "TickShare$Row" "bottoms" "[J") ∈ lw_all := lw_g (lw_at lw_m2 217 rfl) rfl
theorem q507 : (Jvm.Cond.laysFinal "TickShare$Fan" "TickShare$Thing" "parts" "[LTickShare$Thing;") ∈ lw_all := lw_g (lw_at lw_m2 218 rfl) rfl
theorem q508 : (Jvm.Cond.laysFinal "TickShare$Fan" "TickShare$Thing" "made" "LTickShare$Table;") ∈ lw_all := lw_g (lw_at lw_m2 219 rfl) rfl
theorem q509 : (Jvm.Cond.laysFinal "TickShare$Fan" "TickShare$Thing" "other" "LTickShare$Table;") ∈ lw_all := lw_g (lw_at lw_m2 220 rfl) rfl
theorem q510 : (Jvm.Cond.lays "TickShare$Fan" "TickShare$Thing" "in" "LTickShare$Thing;") ∈ lw_all := lw_g (lw_at lw_m2 221 rfl) rfl
theorem q511 : (Jvm.Cond.lays "TickShare$Fan" "TickShare$Thing" "traces" "I") ∈ lw_all := lw_g (lw_at lw_m2 222 rfl) rfl
theorem q512 : (Jvm.Cond.lays "TickShare$Fan" "TickShare$Thing" "slow" "I") ∈ lw_all := lw_g (lw_at lw_m2 223 rfl) rfl
theorem q513 : (Jvm.Cond.superclass "TickShare$Fan" "TickShare$Row") ∈ lw_all := lw_g (lw_at lw_m2 224 rfl) rfl
theorem q600 : (Jvm.Cond.selects "TickShare$Fan" ({ cls := "TickShare$Thing", name := "kind", desc := "()I" } : Jvm.MethodName) ({ cls := "TickShare$Fan", name := "kind", desc := "()I" } : Jvm.MethodName)) ∈ lw_all := lw_g (lw_at lw_m3 71 rfl) rfl
theorem q601 : (Jvm.Cond.instanceMethod ({ cls := "TickShare$Fan", name := "kind", desc := "()I" } : Jvm.MethodName)) ∈ lw_all := lw_g (lw_at lw_m3 72 rfl) rfl
theorem q602 : (Jvm.Cond.code ({ cls := "TickShare$Fan", name := "kind", desc := "()I" } : Jvm.MethodName) prog_3_method_2_code (1 : Nat) (Option.some Jvm.ClassFile.FieldType.int)) ∈ lw_all := lw_g (lw_at lw_m3 73 rfl) rfl
theorem q623 : (Jvm.Cond.selects "TickShare$Fan" ({ cls := "TickShare$Thing", name := "leaves", desc := "()I" } : Jvm.MethodName) ({ cls := "TickShare$Thing", name := "leaves", desc := "()I" } : Jvm.MethodName)) ∈ lw_all := lw_g (lw_at lw_m3 94 rfl) rfl
theorem q639 : (Jvm.Cond.instanceMethod ({ cls := "TickShare$Fan", name := "table", desc := "()LTickShare$Table;" } : Jvm.MethodName)) ∈ lw_all := lw_g (lw_at lw_m3 110 rfl) rfl
theorem q640 : (Jvm.Cond.code ({ cls := "TickShare$Fan", name := "table", desc := "()LTickShare$Table;" } : Jvm.MethodName) prog_3_method_3_code (19 : Nat) (Option.some (Jvm.ClassFile.FieldType.object "TickShare$Table"))) ∈ lw_all := lw_g (lw_at lw_m3 111 rfl) rfl
theorem q641 : (Jvm.Cond.methodLink "TickShare$Fan" (36 : Nat) ({ cls := "TickShare$Table", name := "anew", desc := "(J)LTickShare$Table;" } : Jvm.MethodName)) ∈ lw_all := lw_g (lw_at lw_m3 112 rfl) rfl
theorem q645 : (Jvm.Cond.methodLink "TickShare$Fan" (40 : Nat) ({ cls := "TickShare$Thing", name := "table", desc := "()LTickShare$Table;" } : Jvm.MethodName)) ∈ lw_all := lw_g (lw_at lw_m3 116 rfl) rfl
theorem q707 : (Jvm.Cond.methodLinkNest "TickShare$Fan" (50 : Nat) ({ cls := "TickShare", name := "times", desc := "(JJ)J" } : Jvm.MethodName) "TickShare") ∈ lw_tbl := lw_at lw_m3 178 rfl
theorem q708 : (Jvm.Cond.methodLink "TickShare$Fan" (60 : Nat) ({ cls := "java/lang/Integer", name := "bitCount", desc := "(I)I" } : Jvm.MethodName)) ∈ lw_all := lw_g (lw_at lw_m3 179 rfl) rfl
theorem q714 : (Jvm.Cond.methodLink "TickShare$Fan" (66 : Nat) ({ cls := "TickShare$Table", name := "less", desc := "()LTickShare$Table;" } : Jvm.MethodName)) ∈ lw_all := lw_g (lw_at lw_m3 185 rfl) rfl
theorem q720 : (Jvm.Cond.selects "TickShare$Fan" ({ cls := "TickShare$Thing", name := "table", desc := "()LTickShare$Table;" } : Jvm.MethodName) ({ cls := "TickShare$Fan", name := "table", desc := "()LTickShare$Table;" } : Jvm.MethodName)) ∈ lw_all := lw_g (lw_at lw_m3 191 rfl) rfl
theorem q781 : (Jvm.Cond.selects "TickShare$Fan" ({ cls := "TickShare$Thing", name := "bounds", desc := "([J)J" } : Jvm.MethodName) ({ cls := "TickShare$Fan", name := "bounds", desc := "([J)J" } : Jvm.MethodName)) ∈ lw_all := lw_g (lw_at lw_m4 12 rfl) rfl
theorem q782 : (Jvm.Cond.instanceMethod ({ cls := "TickShare$Fan", name := "bounds", desc := "([J)J" } : Jvm.MethodName)) ∈ lw_all := lw_g (lw_at lw_m4 13 rfl) rfl
theorem q783 : (Jvm.Cond.code ({ cls := "TickShare$Fan", name := "bounds", desc := "([J)J" } : Jvm.MethodName) prog_3_method_4_code (10 : Nat) (Option.some Jvm.ClassFile.FieldType.long)) ∈ lw_all := lw_g (lw_at lw_m4 14 rfl) rfl
theorem q784 : (Jvm.Cond.methodLink "TickShare$Fan" (69 : Nat) ({ cls := "TickShare$Fan", name := "tops", desc := "()[[J" } : Jvm.MethodName)) ∈ lw_all := lw_g (lw_at lw_m4 15 rfl) rfl
theorem q785 : (Jvm.Cond.sameMethod "TickShare$Fan" "TickShare$Row" "tops" "()[[J") ∈ lw_all := lw_g (lw_at lw_m4 16 rfl) rfl
theorem q787 : (Jvm.Cond.selects "TickShare$Fan" ({ cls := "TickShare$Fan", name := "tops", desc := "()[[J" } : Jvm.MethodName) ({ cls := "TickShare$Row", name := "tops", desc := "()[[J" } : Jvm.MethodName)) ∈ lw_all := lw_g (lw_at lw_m4 18 rfl) rfl
theorem q803 : (Jvm.Cond.methodLinkNest "TickShare$Fan" (73 : Nat) ({ cls := "TickShare", name := "bounded", desc := "(J)J" } : Jvm.MethodName) "TickShare") ∈ lw_tbl := lw_at lw_m4 34 rfl
theorem q804 : (Jvm.Cond.methodLink "TickShare$Fan" (77 : Nat) ({ cls := "java/lang/Math", name := "min", desc := "(JJ)J" } : Jvm.MethodName)) ∈ lw_all := lw_g (lw_at lw_m4 35 rfl) rfl
theorem q828 : (Jvm.Cond.selects "TickShare$Fan" ({ cls := "TickShare$Thing", name := "asks", desc := "()I" } : Jvm.MethodName) ({ cls := "TickShare$Thing", name := "asks", desc := "()I" } : Jvm.MethodName)) ∈ lw_all := lw_g (lw_at lw_m4 59 rfl) rfl
theorem q1290 : (Jvm.Cond.selects "TickShare$Fan" ({ cls := "TickShare$Row", name := "tops", desc := "()[[J" } : Jvm.MethodName) ({ cls := "TickShare$Row", name := "tops", desc := "()[[J" } : Jvm.MethodName)) ∈ lw_all := lw_g (lw_at lw_m6 41 rfl) rfl
theorem q1301 : (Jvm.Cond.castable "TickShare$Fan" "java/lang/Object") ∈ lw_tbl := lw_at lw_m6 52 rfl
theorem q1310 : (Jvm.Cond.castable "TickShare$Fan" "TickShare$Thing") ∈ lw_tbl := lw_at lw_m6 61 rfl
theorem in_X7 : ∀ w ∈ wsX70, w ∈ lw_all := lw_in wsX70 [507, 508, 509, 510, 511, 512, 505, 506, 497, 499, 501, 503] (by decide +kernel) (by decide +kernel)

/-! TickShare$Cache -/
set_option maxRecDepth 100000
def RX8 : String := "TickShare$Cache"
def TX8 : u_T := fun k => match k with
  | 0 => ("TickShare$Thing", "parts", "[LTickShare$Thing;", true)
  | 1 => ("TickShare$Thing", "made", "LTickShare$Table;", true)
  | 2 => ("TickShare$Thing", "other", "LTickShare$Table;", true)
  | 3 => ("TickShare$Thing", "in", "LTickShare$Thing;", false)
  | 4 => ("TickShare$Thing", "traces", "I", false)
  | 5 => ("TickShare$Thing", "slow", "I", false)
  | 6 => ("TickShare$Cache", "n", "I", true)
  | _ => ("TickShare$Cache", "d", "I", true)
def tyX8 : Nat → FieldType := fun k => match k with
  | 0 => .array (.object "TickShare$Thing")
  | 1 => .object "TickShare$Table"
  | 2 => .object "TickShare$Table"
  | 3 => .object "TickShare$Thing"
  | 4 => .int
  | 5 => .int
  | 6 => .int
  | _ => .int
abbrev wsX80 : List Cond := u_ws RX8 TX8 8
theorem nmX8 : ∀ a, a < 8 → ∀ b, b < 8 → a ≠ b → (TX8 a).2.1 ≠ (TX8 b).2.1 := by decide +kernel
theorem tyX8_ok : ∀ k, k < 8 → parseFieldDescriptor (TX8 k).2.2.1 = some (tyX8 k) := by decide +kernel
abbrev cX8_init : ByteArray := prog_2_method_1_code
def yX8_init : MethodName := ⟨RX8, "<init>", "(LTickShare$Thing;LTickShare$Thing;II)V"⟩
def dkwX8_init_1 : List UInt8 := [181, 0, 15, 177]
abbrev dktX8_init_1 : List UInt8 := dkwX8_init_1 ++ []
def dkwX8_init_0 : List UInt8 := [42, 5, 189, 0, 3, 89, 3, 43, 83, 89, 4, 44, 83, 183, 0, 5, 42, 29, 181, 0, 9, 42, 21, 4]
abbrev dktX8_init_0 : List UInt8 := dkwX8_init_0 ++ dktX8_init_1
theorem dksX8_init_0 : cX8_init.data.toList.drop 0 = dktX8_init_0 := by decide +kernel
theorem dksX8_init_1 : cX8_init.data.toList.drop 24 = dktX8_init_1 := dk_seg dksX8_init_0 24 rfl rfl
theorem dX8_init_0 : decode cX8_init 0 = .ok (.aload_n 0, 1) := dk_42 (dk_at dksX8_init_0 0 rfl rfl)
theorem dX8_init_1 : decode cX8_init 1 = .ok (.iconst 2, 1) := dk_5 (dk_at dksX8_init_0 1 rfl rfl)
theorem dX8_init_2 : decode cX8_init 2 = .ok (.anewarray 3, 3) := dk_189 0 3 (dk_at dksX8_init_0 2 rfl rfl)
theorem dX8_init_5 : decode cX8_init 5 = .ok (.dup, 1) := dk_89 (dk_at dksX8_init_0 5 rfl rfl)
theorem dX8_init_6 : decode cX8_init 6 = .ok (.iconst 0, 1) := dk_3 (dk_at dksX8_init_0 6 rfl rfl)
theorem dX8_init_7 : decode cX8_init 7 = .ok (.aload_n 1, 1) := dk_43 (dk_at dksX8_init_0 7 rfl rfl)
theorem dX8_init_8 : decode cX8_init 8 = .ok (.aastore, 1) := dk_83 (dk_at dksX8_init_0 8 rfl rfl)
theorem dX8_init_9 : decode cX8_init 9 = .ok (.dup, 1) := dk_89 (dk_at dksX8_init_0 9 rfl rfl)
theorem dX8_init_10 : decode cX8_init 10 = .ok (.iconst 1, 1) := dk_4 (dk_at dksX8_init_0 10 rfl rfl)
theorem dX8_init_11 : decode cX8_init 11 = .ok (.aload_n 2, 1) := dk_44 (dk_at dksX8_init_0 11 rfl rfl)
theorem dX8_init_12 : decode cX8_init 12 = .ok (.aastore, 1) := dk_83 (dk_at dksX8_init_0 12 rfl rfl)
theorem dX8_init_13 : decode cX8_init 13 = .ok (.invokespecial 5, 3) := dk_183 0 5 (dk_at dksX8_init_0 13 rfl rfl)
theorem dX8_init_16 : decode cX8_init 16 = .ok (.aload_n 0, 1) := dk_42 (dk_at dksX8_init_0 16 rfl rfl)
theorem dX8_init_17 : decode cX8_init 17 = .ok (.iload_n 3, 1) := dk_29 (dk_at dksX8_init_0 17 rfl rfl)
theorem dX8_init_18 : decode cX8_init 18 = .ok (.putfield 9, 3) := dk_181 0 9 (dk_at dksX8_init_0 18 rfl rfl)
theorem dX8_init_21 : decode cX8_init 21 = .ok (.aload_n 0, 1) := dk_42 (dk_at dksX8_init_0 21 rfl rfl)
theorem dX8_init_22 : decode cX8_init 22 = .ok (.iload 4, 2) := dk_21 4 (dk_at dksX8_init_0 22 rfl rfl)
theorem dX8_init_24 : decode cX8_init 24 = .ok (.putfield 15, 3) := dk_181 0 15 (dk_at dksX8_init_1 0 rfl rfl)
theorem dX8_init_27 : decode cX8_init 27 = .ok (.return_, 1) := dk_177 (dk_at dksX8_init_1 3 rfl rfl)
abbrev cX8_kind : ByteArray := prog_2_method_2_code
def yX8_kind : MethodName := ⟨RX8, "kind", "()I"⟩
theorem dX8_kind_0 : decode cX8_kind 0 = .ok (.iconst 3, 1) := by decide +kernel
theorem dX8_kind_1 : decode cX8_kind 1 = .ok (.ireturn, 1) := by decide +kernel
abbrev cX8_table : ByteArray := prog_2_method_3_code
def yX8_table : MethodName := ⟨RX8, "table", "()LTickShare$Table;"⟩
def dkwX8_table_5 : List UInt8 := [180, 0, 15, 42, 180, 0, 9, 100, 133, 45, 184, 0, 55, 45, 182, 0, 59, 176]
abbrev dktX8_table_5 : List UInt8 := dkwX8_table_5 ++ []
def dkwX8_table_4 : List UInt8 := [180, 0, 30, 105, 42, 180, 0, 9, 133, 105, 182, 0, 48, 132, 4, 1, 167, 255, 196, 43, 44, 42]
abbrev dktX8_table_4 : List UInt8 := dkwX8_table_4 ++ dktX8_table_5
def dkwX8_table_3 : List UInt8 := [105, 42, 180, 0, 9, 133, 105, 182, 0, 48, 45, 3, 21, 4, 43, 180, 0, 52, 21, 4, 47, 44]
abbrev dktX8_table_3 : List UInt8 := dkwX8_table_3 ++ dktX8_table_4
def dkwX8_table_2 : List UInt8 := [54, 4, 21, 4, 16, 120, 163, 0, 59, 45, 4, 21, 4, 43, 180, 0, 44, 21, 4, 47, 44, 180, 0, 30]
abbrev dktX8_table_2 : List UInt8 := dkwX8_table_2 ++ dktX8_table_3
def dkwX8_table_1 : List UInt8 := [43, 180, 0, 30, 44, 180, 0, 30, 184, 0, 36, 42, 180, 0, 15, 133, 184, 0, 36, 182, 0, 40, 78, 3]
abbrev dktX8_table_1 : List UInt8 := dkwX8_table_1 ++ dktX8_table_2
def dkwX8_table_0 : List UInt8 := [42, 180, 0, 18, 3, 50, 182, 0, 22, 76, 42, 180, 0, 18, 4, 50, 182, 0, 22, 77, 42, 180, 0, 26]
abbrev dktX8_table_0 : List UInt8 := dkwX8_table_0 ++ dktX8_table_1
theorem dksX8_table_0 : cX8_table.data.toList.drop 0 = dktX8_table_0 := by decide +kernel
theorem dksX8_table_1 : cX8_table.data.toList.drop 24 = dktX8_table_1 := dk_seg dksX8_table_0 24 rfl rfl
theorem dksX8_table_2 : cX8_table.data.toList.drop 48 = dktX8_table_2 := dk_seg dksX8_table_1 24 rfl rfl
theorem dksX8_table_3 : cX8_table.data.toList.drop 72 = dktX8_table_3 := dk_seg dksX8_table_2 24 rfl rfl
theorem dksX8_table_4 : cX8_table.data.toList.drop 94 = dktX8_table_4 := dk_seg dksX8_table_3 22 rfl rfl
theorem dksX8_table_5 : cX8_table.data.toList.drop 116 = dktX8_table_5 := dk_seg dksX8_table_4 22 rfl rfl
theorem dX8_table_0 : decode cX8_table 0 = .ok (.aload_n 0, 1) := dk_42 (dk_at dksX8_table_0 0 rfl rfl)
theorem dX8_table_1 : decode cX8_table 1 = .ok (.getfield 18, 3) := dk_180 0 18 (dk_at dksX8_table_0 1 rfl rfl)
theorem dX8_table_4 : decode cX8_table 4 = .ok (.iconst 0, 1) := dk_3 (dk_at dksX8_table_0 4 rfl rfl)
theorem dX8_table_5 : decode cX8_table 5 = .ok (.aaload, 1) := dk_50 (dk_at dksX8_table_0 5 rfl rfl)
theorem dX8_table_6 : decode cX8_table 6 = .ok (.invokevirtual 22, 3) := dk_182 0 22 (dk_at dksX8_table_0 6 rfl rfl)
theorem dX8_table_9 : decode cX8_table 9 = .ok (.astore_n 1, 1) := dk_76 (dk_at dksX8_table_0 9 rfl rfl)
theorem dX8_table_10 : decode cX8_table 10 = .ok (.aload_n 0, 1) := dk_42 (dk_at dksX8_table_0 10 rfl rfl)
theorem dX8_table_11 : decode cX8_table 11 = .ok (.getfield 18, 3) := dk_180 0 18 (dk_at dksX8_table_0 11 rfl rfl)
theorem dX8_table_14 : decode cX8_table 14 = .ok (.iconst 1, 1) := dk_4 (dk_at dksX8_table_0 14 rfl rfl)
theorem dX8_table_15 : decode cX8_table 15 = .ok (.aaload, 1) := dk_50 (dk_at dksX8_table_0 15 rfl rfl)
theorem dX8_table_16 : decode cX8_table 16 = .ok (.invokevirtual 22, 3) := dk_182 0 22 (dk_at dksX8_table_0 16 rfl rfl)
theorem dX8_table_19 : decode cX8_table 19 = .ok (.astore_n 2, 1) := dk_77 (dk_at dksX8_table_0 19 rfl rfl)
theorem dX8_table_20 : decode cX8_table 20 = .ok (.aload_n 0, 1) := dk_42 (dk_at dksX8_table_0 20 rfl rfl)
theorem dX8_table_21 : decode cX8_table 21 = .ok (.getfield 26, 3) := dk_180 0 26 (dk_at dksX8_table_0 21 rfl rfl)
theorem dX8_table_24 : decode cX8_table 24 = .ok (.aload_n 1, 1) := dk_43 (dk_at dksX8_table_1 0 rfl rfl)
theorem dX8_table_25 : decode cX8_table 25 = .ok (.getfield 30, 3) := dk_180 0 30 (dk_at dksX8_table_1 1 rfl rfl)
theorem dX8_table_28 : decode cX8_table 28 = .ok (.aload_n 2, 1) := dk_44 (dk_at dksX8_table_1 4 rfl rfl)
theorem dX8_table_29 : decode cX8_table 29 = .ok (.getfield 30, 3) := dk_180 0 30 (dk_at dksX8_table_1 5 rfl rfl)
theorem dX8_table_32 : decode cX8_table 32 = .ok (.invokestatic 36, 3) := dk_184 0 36 (dk_at dksX8_table_1 8 rfl rfl)
theorem dX8_table_35 : decode cX8_table 35 = .ok (.aload_n 0, 1) := dk_42 (dk_at dksX8_table_1 11 rfl rfl)
theorem dX8_table_36 : decode cX8_table 36 = .ok (.getfield 15, 3) := dk_180 0 15 (dk_at dksX8_table_1 12 rfl rfl)
theorem dX8_table_39 : decode cX8_table 39 = .ok (.i2l, 1) := dk_133 (dk_at dksX8_table_1 15 rfl rfl)
theorem dX8_table_40 : decode cX8_table 40 = .ok (.invokestatic 36, 3) := dk_184 0 36 (dk_at dksX8_table_1 16 rfl rfl)
theorem dX8_table_43 : decode cX8_table 43 = .ok (.invokevirtual 40, 3) := dk_182 0 40 (dk_at dksX8_table_1 19 rfl rfl)
theorem dX8_table_46 : decode cX8_table 46 = .ok (.astore_n 3, 1) := dk_78 (dk_at dksX8_table_1 22 rfl rfl)
theorem dX8_table_47 : decode cX8_table 47 = .ok (.iconst 0, 1) := dk_3 (dk_at dksX8_table_1 23 rfl rfl)
theorem dX8_table_48 : decode cX8_table 48 = .ok (.istore 4, 2) := dk_54 4 (dk_at dksX8_table_2 0 rfl rfl)
theorem dX8_table_50 : decode cX8_table 50 = .ok (.iload 4, 2) := dk_21 4 (dk_at dksX8_table_2 2 rfl rfl)
theorem dX8_table_52 : decode cX8_table 52 = .ok (.bipush 120, 2) := dk_16 120 (dk_at dksX8_table_2 4 rfl rfl)
theorem dX8_table_54 : decode cX8_table 54 = .ok (.if_icmp .gt 59, 3) := dk_163 0 59 (dk_at dksX8_table_2 6 rfl rfl)
theorem dX8_table_57 : decode cX8_table 57 = .ok (.aload_n 3, 1) := dk_45 (dk_at dksX8_table_2 9 rfl rfl)
theorem dX8_table_58 : decode cX8_table 58 = .ok (.iconst 1, 1) := dk_4 (dk_at dksX8_table_2 10 rfl rfl)
theorem dX8_table_59 : decode cX8_table 59 = .ok (.iload 4, 2) := dk_21 4 (dk_at dksX8_table_2 11 rfl rfl)
theorem dX8_table_61 : decode cX8_table 61 = .ok (.aload_n 1, 1) := dk_43 (dk_at dksX8_table_2 13 rfl rfl)
theorem dX8_table_62 : decode cX8_table 62 = .ok (.getfield 44, 3) := dk_180 0 44 (dk_at dksX8_table_2 14 rfl rfl)
theorem dX8_table_65 : decode cX8_table 65 = .ok (.iload 4, 2) := dk_21 4 (dk_at dksX8_table_2 17 rfl rfl)
theorem dX8_table_67 : decode cX8_table 67 = .ok (.laload, 1) := dk_47 (dk_at dksX8_table_2 19 rfl rfl)
theorem dX8_table_68 : decode cX8_table 68 = .ok (.aload_n 2, 1) := dk_44 (dk_at dksX8_table_2 20 rfl rfl)
theorem dX8_table_69 : decode cX8_table 69 = .ok (.getfield 30, 3) := dk_180 0 30 (dk_at dksX8_table_2 21 rfl rfl)
theorem dX8_table_72 : decode cX8_table 72 = .ok (.lmul, 1) := dk_105 (dk_at dksX8_table_3 0 rfl rfl)
theorem dX8_table_73 : decode cX8_table 73 = .ok (.aload_n 0, 1) := dk_42 (dk_at dksX8_table_3 1 rfl rfl)
theorem dX8_table_74 : decode cX8_table 74 = .ok (.getfield 9, 3) := dk_180 0 9 (dk_at dksX8_table_3 2 rfl rfl)
theorem dX8_table_77 : decode cX8_table 77 = .ok (.i2l, 1) := dk_133 (dk_at dksX8_table_3 5 rfl rfl)
theorem dX8_table_78 : decode cX8_table 78 = .ok (.lmul, 1) := dk_105 (dk_at dksX8_table_3 6 rfl rfl)
theorem dX8_table_79 : decode cX8_table 79 = .ok (.invokevirtual 48, 3) := dk_182 0 48 (dk_at dksX8_table_3 7 rfl rfl)
theorem dX8_table_82 : decode cX8_table 82 = .ok (.aload_n 3, 1) := dk_45 (dk_at dksX8_table_3 10 rfl rfl)
theorem dX8_table_83 : decode cX8_table 83 = .ok (.iconst 0, 1) := dk_3 (dk_at dksX8_table_3 11 rfl rfl)
theorem dX8_table_84 : decode cX8_table 84 = .ok (.iload 4, 2) := dk_21 4 (dk_at dksX8_table_3 12 rfl rfl)
theorem dX8_table_86 : decode cX8_table 86 = .ok (.aload_n 1, 1) := dk_43 (dk_at dksX8_table_3 14 rfl rfl)
theorem dX8_table_87 : decode cX8_table 87 = .ok (.getfield 52, 3) := dk_180 0 52 (dk_at dksX8_table_3 15 rfl rfl)
theorem dX8_table_90 : decode cX8_table 90 = .ok (.iload 4, 2) := dk_21 4 (dk_at dksX8_table_3 18 rfl rfl)
theorem dX8_table_92 : decode cX8_table 92 = .ok (.laload, 1) := dk_47 (dk_at dksX8_table_3 20 rfl rfl)
theorem dX8_table_93 : decode cX8_table 93 = .ok (.aload_n 2, 1) := dk_44 (dk_at dksX8_table_3 21 rfl rfl)
theorem dX8_table_94 : decode cX8_table 94 = .ok (.getfield 30, 3) := dk_180 0 30 (dk_at dksX8_table_4 0 rfl rfl)
theorem dX8_table_97 : decode cX8_table 97 = .ok (.lmul, 1) := dk_105 (dk_at dksX8_table_4 3 rfl rfl)
theorem dX8_table_98 : decode cX8_table 98 = .ok (.aload_n 0, 1) := dk_42 (dk_at dksX8_table_4 4 rfl rfl)
theorem dX8_table_99 : decode cX8_table 99 = .ok (.getfield 9, 3) := dk_180 0 9 (dk_at dksX8_table_4 5 rfl rfl)
theorem dX8_table_102 : decode cX8_table 102 = .ok (.i2l, 1) := dk_133 (dk_at dksX8_table_4 8 rfl rfl)
theorem dX8_table_103 : decode cX8_table 103 = .ok (.lmul, 1) := dk_105 (dk_at dksX8_table_4 9 rfl rfl)
theorem dX8_table_104 : decode cX8_table 104 = .ok (.invokevirtual 48, 3) := dk_182 0 48 (dk_at dksX8_table_4 10 rfl rfl)
theorem dX8_table_107 : decode cX8_table 107 = .ok (.iinc 4 1, 3) := dk_132 4 1 (dk_at dksX8_table_4 13 rfl rfl)
theorem dX8_table_110 : decode cX8_table 110 = .ok (.goto (-60), 3) := dk_167 255 196 (dk_at dksX8_table_4 16 rfl rfl)
theorem dX8_table_113 : decode cX8_table 113 = .ok (.aload_n 1, 1) := dk_43 (dk_at dksX8_table_4 19 rfl rfl)
theorem dX8_table_114 : decode cX8_table 114 = .ok (.aload_n 2, 1) := dk_44 (dk_at dksX8_table_4 20 rfl rfl)
theorem dX8_table_115 : decode cX8_table 115 = .ok (.aload_n 0, 1) := dk_42 (dk_at dksX8_table_4 21 rfl rfl)
theorem dX8_table_116 : decode cX8_table 116 = .ok (.getfield 15, 3) := dk_180 0 15 (dk_at dksX8_table_5 0 rfl rfl)
theorem dX8_table_119 : decode cX8_table 119 = .ok (.aload_n 0, 1) := dk_42 (dk_at dksX8_table_5 3 rfl rfl)
theorem dX8_table_120 : decode cX8_table 120 = .ok (.getfield 9, 3) := dk_180 0 9 (dk_at dksX8_table_5 4 rfl rfl)
theorem dX8_table_123 : decode cX8_table 123 = .ok (.isub, 1) := dk_100 (dk_at dksX8_table_5 7 rfl rfl)
theorem dX8_table_124 : decode cX8_table 124 = .ok (.i2l, 1) := dk_133 (dk_at dksX8_table_5 8 rfl rfl)
theorem dX8_table_125 : decode cX8_table 125 = .ok (.aload_n 3, 1) := dk_45 (dk_at dksX8_table_5 9 rfl rfl)
theorem dX8_table_126 : decode cX8_table 126 = .ok (.invokestatic 55, 3) := dk_184 0 55 (dk_at dksX8_table_5 10 rfl rfl)
theorem dX8_table_129 : decode cX8_table 129 = .ok (.aload_n 3, 1) := dk_45 (dk_at dksX8_table_5 13 rfl rfl)
theorem dX8_table_130 : decode cX8_table 130 = .ok (.invokevirtual 59, 3) := dk_182 0 59 (dk_at dksX8_table_5 14 rfl rfl)
theorem dX8_table_133 : decode cX8_table 133 = .ok (.areturn, 1) := dk_176 (dk_at dksX8_table_5 17 rfl rfl)
theorem q67 : (Jvm.Cond.initialized "TickShare$Cache") ∈ lw_all := lw_g (lw_at lw_m1 18 rfl) rfl
theorem q318 : (Jvm.Cond.fieldLinkNest "TickShare$Cache" (44 : Nat) "TickShare$Table" "ok" "[J" "TickShare") ∈ lw_tbl := lw_at lw_m2 29 rfl
theorem q324 : (Jvm.Cond.fieldLinkNest "TickShare$Cache" (52 : Nat) "TickShare$Table" "fail" "[J" "TickShare") ∈ lw_tbl := lw_at lw_m2 35 rfl
theorem q329 : (Jvm.Cond.fieldLinkNest "TickShare$Cache" (30 : Nat) "TickShare$Table" "whole" "J" "TickShare") ∈ lw_tbl := lw_at lw_m2 40 rfl
theorem q383 : (Jvm.Cond.fieldLink "TickShare$Cache" (18 : Nat) "TickShare$Cache" "parts" "[LTickShare$Thing;") ∈ lw_all := lw_g (lw_at lw_m2 94 rfl) rfl
theorem q384 : (Jvm.Cond.sameField "TickShare$Cache" "TickShare$Thing" "parts" "[LTickShare$Thing;") ∈ lw_all := lw_g (lw_at lw_m2 95 rfl) rfl
theorem q397 : (Jvm.Cond.fieldLink "TickShare$Cache" (26 : Nat) "TickShare$Cache" "made" "LTickShare$Table;") ∈ lw_all := lw_g (lw_at lw_m2 108 rfl) rfl
theorem q398 : (Jvm.Cond.sameField "TickShare$Cache" "TickShare$Thing" "made" "LTickShare$Table;") ∈ lw_all := lw_g (lw_at lw_m2 109 rfl) rfl
theorem q519 : (Jvm.Cond.instantiable "TickShare$Cache" (8 : Nat)) ∈ lw_all := lw_g (lw_at lw_m2 230 rfl) rfl
theorem q521 : (Jvm.Cond.instanceMethod ({ cls := "TickShare$Cache", name := "<init>", desc := "(LTickShare$Thing;LTickShare$Thing;II)V" } : Jvm.MethodName)) ∈ lw_all := lw_g (lw_at lw_m2 232 rfl) rfl
theorem q522 : (Jvm.Cond.code ({ cls := "TickShare$Cache", name := "<init>", desc := "(LTickShare$Thing;LTickShare$Thing;II)V" } : Jvm.MethodName) prog_2_method_1_code (5 : Nat) (Option.none : Option Jvm.ClassFile.FieldType)) ∈ lw_all := lw_g (lw_at lw_m2 233 rfl) rfl
theorem q523 : (Jvm.Cond.classLink "TickShare$Cache" (3 : Nat) "TickShare$Thing") ∈ lw_all := lw_g (lw_at lw_m2 234 rfl) rfl
theorem q524 : (Jvm.Cond.methodLink "TickShare$Cache" (5 : Nat) ({ cls := "TickShare$Thing", name := "<init>", desc := "([LTickShare$Thing;)V" } : Jvm.MethodName)) ∈ lw_all := lw_g (lw_at lw_m2 235 rfl) rfl
theorem q525 : (Jvm.Cond.fieldLink "TickShare$Cache" (9 : Nat) "TickShare$Cache" "n" "I") ∈ lw_all := lw_g (lw_at lw_m2 236 rfl) rfl
theorem q526 : (Jvm.Cond.fieldLink "TickShare$Cache" (15 : Nat) "TickShare$Cache" "d" "I") ∈ lw_all := lw_g (lw_at lw_m2 237 rfl) rfl
theorem q527 : (Jvm.Cond.laysFinal "TickShare$Cache" "TickShare$Cache" "n" "I") ∈ lw_all := lw_g (lw_at lw_m2 238 rfl) rfl
theorem q528 : (Jvm.Cond.soleField "TickShare$Cache" "n") ∈ lw_all := lw_g (lw_at lw_m2 239 rfl) rfl
theorem q529 : (Jvm.Cond.laysFinal "TickShare$Cache" "TickShare$Cache" "d" "I") ∈ lw_all := lw_g (lw_at lw_m3 0 rfl) rfl
theorem q530 : (Jvm.Cond.soleField "TickShare$Cache" "d") ∈ lw_all := lw_g (lw_at lw_m3 1 rfl) rfl
theorem q531 : (Jvm.Cond.laysFinal "TickShare$Cache" "TickShare$Thing" "parts" "[LTickShare$Thing;") ∈ lw_all := lw_g (lw_at lw_m3 2 rfl) rfl
theorem q532 : (Jvm.Cond.laysFinal "TickShare$Cache" "TickShare$Thing" "made" "LTickShare$Table;") ∈ lw_all := lw_g (lw_at lw_m3 3 rfl) rfl
theorem q533 : (Jvm.Cond.laysFinal "TickShare$Cache" "TickShare$Thing" "other" "LTickShare$Table;") ∈ lw_all := lw_g (lw_at lw_m3 4 rfl) rfl
theorem q534 : (Jvm.Cond.lays "TickShare$Cache" "TickShare$Thing" "in" "LTickShare$Thing;") ∈ lw_all := lw_g (lw_at lw_m3 5 rfl) rfl
theorem q535 : (Jvm.Cond.lays "TickShare$Cache" "TickShare$Thing" "traces" "I") ∈ lw_all := lw_g (lw_at lw_m3 6 rfl) rfl
theorem q536 : (Jvm.Cond.lays "TickShare$Cache" "TickShare$Thing" "slow" "I") ∈ lw_all := lw_g (lw_at lw_m3 7 rfl) rfl
theorem q537 : (Jvm.Cond.superclass "TickShare$Cache" "TickShare$Thing") ∈ lw_all := lw_g (lw_at lw_m3 8 rfl) rfl
theorem q597 : (Jvm.Cond.selects "TickShare$Cache" ({ cls := "TickShare$Thing", name := "kind", desc := "()I" } : Jvm.MethodName) ({ cls := "TickShare$Cache", name := "kind", desc := "()I" } : Jvm.MethodName)) ∈ lw_all := lw_g (lw_at lw_m3 68 rfl) rfl
theorem q598 : (Jvm.Cond.instanceMethod ({ cls := "TickShare$Cache", name := "kind", desc := "()I" } : Jvm.MethodName)) ∈ lw_all := lw_g (lw_at lw_m3 69 rfl) rfl
theorem q599 : (Jvm.Cond.code ({ cls := "TickShare$Cache", name := "kind", desc := "()I" } : Jvm.MethodName) prog_2_method_2_code (1 : Nat) (Option.some Jvm.ClassFile.FieldType.int)) ∈ lw_all := lw_g (lw_at lw_m3 70 rfl) rfl
theorem q622 : (Jvm.Cond.selects "TickShare$Cache" ({ cls := "TickShare$Thing", name := "leaves", desc := "()I" } : Jvm.MethodName) ({ cls := "TickShare$Thing", name := "leaves", desc := "()I" } : Jvm.MethodName)) ∈ lw_all := lw_g (lw_at lw_m3 93 rfl) rfl
theorem q635 : (Jvm.Cond.selects "TickShare$Cache" ({ cls := "TickShare$Thing", name := "table", desc := "()LTickShare$Table;" } : Jvm.MethodName) ({ cls := "TickShare$Cache", name := "table", desc := "()LTickShare$Table;" } : Jvm.MethodName)) ∈ lw_all := lw_g (lw_at lw_m3 106 rfl) rfl
theorem q636 : (Jvm.Cond.instanceMethod ({ cls := "TickShare$Cache", name := "table", desc := "()LTickShare$Table;" } : Jvm.MethodName)) ∈ lw_all := lw_g (lw_at lw_m3 107 rfl) rfl
theorem q637 : (Jvm.Cond.code ({ cls := "TickShare$Cache", name := "table", desc := "()LTickShare$Table;" } : Jvm.MethodName) prog_2_method_3_code (5 : Nat) (Option.some (Jvm.ClassFile.FieldType.object "TickShare$Table"))) ∈ lw_all := lw_g (lw_at lw_m3 108 rfl) rfl
theorem q638 : (Jvm.Cond.methodLink "TickShare$Cache" (22 : Nat) ({ cls := "TickShare$Thing", name := "table", desc := "()LTickShare$Table;" } : Jvm.MethodName)) ∈ lw_all := lw_g (lw_at lw_m3 109 rfl) rfl
theorem q715 : (Jvm.Cond.methodLinkNest "TickShare$Cache" (36 : Nat) ({ cls := "TickShare", name := "times", desc := "(JJ)J" } : Jvm.MethodName) "TickShare") ∈ lw_tbl := lw_at lw_m3 186 rfl
theorem q716 : (Jvm.Cond.methodLink "TickShare$Cache" (40 : Nat) ({ cls := "TickShare$Table", name := "anew", desc := "(J)LTickShare$Table;" } : Jvm.MethodName)) ∈ lw_all := lw_g (lw_at lw_m3 187 rfl) rfl
theorem q717 : (Jvm.Cond.methodLink "TickShare$Cache" (48 : Nat) ({ cls := "TickShare$Table", name := "add", desc := "(ZIJ)V" } : Jvm.MethodName)) ∈ lw_all := lw_g (lw_at lw_m3 188 rfl) rfl
theorem q718 : (Jvm.Cond.methodLinkNest "TickShare$Cache" (55 : Nat) ({ cls := "TickShare", name := "fold", desc := "(LTickShare$Table;LTickShare$Table;JLTickShare$Table;)V" } : Jvm.MethodName) "TickShare") ∈ lw_tbl := lw_at lw_m3 189 rfl
theorem q719 : (Jvm.Cond.methodLink "TickShare$Cache" (59 : Nat) ({ cls := "TickShare$Table", name := "less", desc := "()LTickShare$Table;" } : Jvm.MethodName)) ∈ lw_all := lw_g (lw_at lw_m3 190 rfl) rfl
theorem q780 : (Jvm.Cond.selects "TickShare$Cache" ({ cls := "TickShare$Thing", name := "bounds", desc := "([J)J" } : Jvm.MethodName) ({ cls := "TickShare$Thing", name := "bounds", desc := "([J)J" } : Jvm.MethodName)) ∈ lw_all := lw_g (lw_at lw_m4 11 rfl) rfl
theorem q827 : (Jvm.Cond.selects "TickShare$Cache" ({ cls := "TickShare$Thing", name := "asks", desc := "()I" } : Jvm.MethodName) ({ cls := "TickShare$Thing", name := "asks", desc := "()I" } : Jvm.MethodName)) ∈ lw_all := lw_g (lw_at lw_m4 58 rfl) rfl
theorem q1302 : (Jvm.Cond.castable "TickShare$Cache" "java/lang/Object") ∈ lw_tbl := lw_at lw_m6 53 rfl
theorem q1311 : (Jvm.Cond.castable "TickShare$Cache" "TickShare$Thing") ∈ lw_tbl := lw_at lw_m6 62 rfl
theorem in_X8 : ∀ w ∈ wsX80, w ∈ lw_all := lw_in wsX80 [531, 532, 533, 534, 535, 536, 527, 529] (by decide +kernel) (by decide +kernel)

/-! TickShare$Retry -/
set_option maxRecDepth 100000
def RX9 : String := "TickShare$Retry"
def TX9 : u_T := fun k => match k with
  | 0 => ("TickShare$Thing", "parts", "[LTickShare$Thing;", true)
  | 1 => ("TickShare$Thing", "made", "LTickShare$Table;", true)
  | 2 => ("TickShare$Thing", "other", "LTickShare$Table;", true)
  | 3 => ("TickShare$Thing", "in", "LTickShare$Thing;", false)
  | 4 => ("TickShare$Thing", "traces", "I", false)
  | 5 => ("TickShare$Thing", "slow", "I", false)
  | 6 => ("TickShare$Retry", "limit", "I", true)
  | 7 => ("TickShare$Retry", "more", "I", true)
  | 8 => ("TickShare$Retry", "ill", "[J", true)
  | _ => ("TickShare$Retry", "next", "[J", true)
def tyX9 : Nat → FieldType := fun k => match k with
  | 0 => .array (.object "TickShare$Thing")
  | 1 => .object "TickShare$Table"
  | 2 => .object "TickShare$Table"
  | 3 => .object "TickShare$Thing"
  | 4 => .int
  | 5 => .int
  | 6 => .int
  | 7 => .int
  | 8 => .array .long
  | _ => .array .long
abbrev wsX90 : List Cond := u_ws RX9 TX9 10
theorem nmX9 : ∀ a, a < 10 → ∀ b, b < 10 → a ≠ b → (TX9 a).2.1 ≠ (TX9 b).2.1 := by decide +kernel
theorem tyX9_ok : ∀ k, k < 10 → parseFieldDescriptor (TX9 k).2.2.1 = some (tyX9 k) := by decide +kernel
abbrev cX9_init : ByteArray := prog_7_method_1_code
def yX9_init : MethodName := ⟨RX9, "<init>", "(LTickShare$Thing;II)V"⟩
def dkwX9_init_1 : List UInt8 := [188, 11, 181, 0, 15, 42, 28, 181, 0, 18, 42, 29, 181, 0, 22, 177]
abbrev dktX9_init_1 : List UInt8 := dkwX9_init_1 ++ []
def dkwX9_init_0 : List UInt8 := [42, 4, 189, 0, 3, 89, 3, 43, 83, 183, 0, 5, 42, 16, 121, 188, 11, 181, 0, 9, 42, 16, 121]
abbrev dktX9_init_0 : List UInt8 := dkwX9_init_0 ++ dktX9_init_1
theorem dksX9_init_0 : cX9_init.data.toList.drop 0 = dktX9_init_0 := by decide +kernel
theorem dksX9_init_1 : cX9_init.data.toList.drop 23 = dktX9_init_1 := dk_seg dksX9_init_0 23 rfl rfl
theorem dX9_init_0 : decode cX9_init 0 = .ok (.aload_n 0, 1) := dk_42 (dk_at dksX9_init_0 0 rfl rfl)
theorem dX9_init_1 : decode cX9_init 1 = .ok (.iconst 1, 1) := dk_4 (dk_at dksX9_init_0 1 rfl rfl)
theorem dX9_init_2 : decode cX9_init 2 = .ok (.anewarray 3, 3) := dk_189 0 3 (dk_at dksX9_init_0 2 rfl rfl)
theorem dX9_init_5 : decode cX9_init 5 = .ok (.dup, 1) := dk_89 (dk_at dksX9_init_0 5 rfl rfl)
theorem dX9_init_6 : decode cX9_init 6 = .ok (.iconst 0, 1) := dk_3 (dk_at dksX9_init_0 6 rfl rfl)
theorem dX9_init_7 : decode cX9_init 7 = .ok (.aload_n 1, 1) := dk_43 (dk_at dksX9_init_0 7 rfl rfl)
theorem dX9_init_8 : decode cX9_init 8 = .ok (.aastore, 1) := dk_83 (dk_at dksX9_init_0 8 rfl rfl)
theorem dX9_init_9 : decode cX9_init 9 = .ok (.invokespecial 5, 3) := dk_183 0 5 (dk_at dksX9_init_0 9 rfl rfl)
theorem dX9_init_12 : decode cX9_init 12 = .ok (.aload_n 0, 1) := dk_42 (dk_at dksX9_init_0 12 rfl rfl)
theorem dX9_init_13 : decode cX9_init 13 = .ok (.bipush 121, 2) := dk_16 121 (dk_at dksX9_init_0 13 rfl rfl)
theorem dX9_init_15 : decode cX9_init 15 = .ok (.newarray .long, 2) := dk_188_11 (dk_at dksX9_init_0 15 rfl rfl)
theorem dX9_init_17 : decode cX9_init 17 = .ok (.putfield 9, 3) := dk_181 0 9 (dk_at dksX9_init_0 17 rfl rfl)
theorem dX9_init_20 : decode cX9_init 20 = .ok (.aload_n 0, 1) := dk_42 (dk_at dksX9_init_0 20 rfl rfl)
theorem dX9_init_21 : decode cX9_init 21 = .ok (.bipush 121, 2) := dk_16 121 (dk_at dksX9_init_0 21 rfl rfl)
theorem dX9_init_23 : decode cX9_init 23 = .ok (.newarray .long, 2) := dk_188_11 (dk_at dksX9_init_1 0 rfl rfl)
theorem dX9_init_25 : decode cX9_init 25 = .ok (.putfield 15, 3) := dk_181 0 15 (dk_at dksX9_init_1 2 rfl rfl)
theorem dX9_init_28 : decode cX9_init 28 = .ok (.aload_n 0, 1) := dk_42 (dk_at dksX9_init_1 5 rfl rfl)
theorem dX9_init_29 : decode cX9_init 29 = .ok (.iload_n 2, 1) := dk_28 (dk_at dksX9_init_1 6 rfl rfl)
theorem dX9_init_30 : decode cX9_init 30 = .ok (.putfield 18, 3) := dk_181 0 18 (dk_at dksX9_init_1 7 rfl rfl)
theorem dX9_init_33 : decode cX9_init 33 = .ok (.aload_n 0, 1) := dk_42 (dk_at dksX9_init_1 10 rfl rfl)
theorem dX9_init_34 : decode cX9_init 34 = .ok (.iload_n 3, 1) := dk_29 (dk_at dksX9_init_1 11 rfl rfl)
theorem dX9_init_35 : decode cX9_init 35 = .ok (.putfield 22, 3) := dk_181 0 22 (dk_at dksX9_init_1 12 rfl rfl)
theorem dX9_init_38 : decode cX9_init 38 = .ok (.return_, 1) := dk_177 (dk_at dksX9_init_1 15 rfl rfl)
abbrev cX9_kind : ByteArray := prog_7_method_2_code
def yX9_kind : MethodName := ⟨RX9, "kind", "()I"⟩
theorem dX9_kind_0 : decode cX9_kind 0 = .ok (.iconst 4, 1) := by decide +kernel
theorem dX9_kind_1 : decode cX9_kind 1 = .ok (.ireturn, 1) := by decide +kernel
abbrev cX9_table : ByteArray := prog_7_method_4_code
def yX9_table : MethodName := ⟨RX9, "table", "()LTickShare$Table;"⟩
def dkwX9_table_17 : List UInt8 := [182, 0, 66, 132, 6, 1, 167, 255, 232, 45, 182, 0, 81, 176]
abbrev dktX9_table_17 : List UInt8 := dkwX9_table_17 ++ []
def dkwX9_table_16 : List UInt8 := [167, 255, 61, 3, 54, 6, 21, 6, 16, 120, 163, 0, 23, 45, 3, 21, 6, 42, 180, 0, 9, 21, 6, 47]
abbrev dktX9_table_16 : List UInt8 := dkwX9_table_16 ++ dktX9_table_17
def dkwX9_table_15 : List UInt8 := [132, 7, 1, 167, 255, 127, 42, 180, 0, 15, 3, 42, 180, 0, 9, 3, 16, 121, 184, 0, 75, 132, 6, 1]
abbrev dktX9_table_15 : List UInt8 := dkwX9_table_15 ++ dktX9_table_16
def dkwX9_table_14 : List UInt8 := [42, 180, 0, 9, 21, 7, 47, 44, 180, 0, 50, 21, 8, 47, 105, 97, 80, 132, 8, 1, 167, 255, 143]
abbrev dktX9_table_14 : List UInt8 := dkwX9_table_14 ++ dktX9_table_15
def dkwX9_table_13 : List UInt8 := [16, 120, 164, 0, 11, 187, 0, 70, 89, 183, 0, 72, 191, 42, 180, 0, 15, 21, 7, 21, 8, 96, 92, 47]
abbrev dktX9_table_13 : List UInt8 := dkwX9_table_13 ++ dktX9_table_14
def dkwX9_table_12 : List UInt8 := [182, 0, 66, 44, 180, 0, 50, 21, 8, 47, 9, 148, 154, 0, 6, 167, 0, 49, 21, 7, 21, 8, 96]
abbrev dktX9_table_12 : List UInt8 := dkwX9_table_12 ++ dktX9_table_13
def dkwX9_table_11 : List UInt8 := [21, 7, 21, 8, 96, 42, 180, 0, 9, 21, 7, 47, 44, 180, 0, 47, 21, 8, 47, 105, 22, 4, 105]
abbrev dktX9_table_11 : List UInt8 := dkwX9_table_11 ++ dktX9_table_12
def dkwX9_table_10 : List UInt8 := [21, 8, 42, 180, 0, 18, 163, 0, 110, 42, 180, 0, 9, 21, 7, 47, 9, 148, 158, 0, 98, 45, 4]
abbrev dktX9_table_10 : List UInt8 := dkwX9_table_10 ++ dktX9_table_11
def dkwX9_table_9 : List UInt8 := [21, 7, 9, 80, 132, 7, 1, 167, 255, 238, 3, 54, 7, 21, 7, 16, 120, 163, 0, 128, 3, 54, 8]
abbrev dktX9_table_9 : List UInt8 := dkwX9_table_9 ++ dktX9_table_10
def dkwX9_table_8 : List UInt8 := [22, 4, 43, 180, 0, 37, 109, 55, 4, 3, 54, 7, 21, 7, 16, 120, 163, 0, 17, 42, 180, 0, 15]
abbrev dktX9_table_8 : List UInt8 := dkwX9_table_8 ++ dktX9_table_9
def dkwX9_table_7 : List UInt8 := [132, 4, 1, 167, 255, 229, 45, 180, 0, 37, 55, 4, 3, 54, 6, 21, 6, 42, 180, 0, 22, 163, 0, 192]
abbrev dktX9_table_7 : List UInt8 := dkwX9_table_7 ++ dktX9_table_8
def dkwX9_table_6 : List UInt8 := [21, 4, 16, 120, 163, 0, 26, 42, 180, 0, 9, 21, 4, 21, 4, 154, 0, 7, 10, 167, 0, 4, 9, 80]
abbrev dktX9_table_6 : List UInt8 := dkwX9_table_6 ++ dktX9_table_7
def dkwX9_table_5 : List UInt8 := [45, 45, 180, 0, 37, 43, 180, 0, 37, 184, 0, 62, 181, 0, 37, 132, 4, 1, 167, 255, 229, 3, 54, 4]
abbrev dktX9_table_5 : List UInt8 := dkwX9_table_5 ++ dktX9_table_6
def dkwX9_table_4 : List UInt8 := [167, 255, 184, 42, 180, 0, 59, 10, 182, 0, 43, 78, 3, 54, 4, 21, 4, 42, 180, 0, 22, 163, 0, 24]
abbrev dktX9_table_4 : List UInt8 := dkwX9_table_4 ++ dktX9_table_5
def dkwX9_table_3 : List UInt8 := [180, 0, 50, 29, 42, 180, 0, 18, 184, 0, 53, 92, 47, 43, 180, 0, 50, 29, 47, 97, 80, 132, 3, 1]
abbrev dktX9_table_3 : List UInt8 := dkwX9_table_3 ++ dktX9_table_4
def dkwX9_table_2 : List UInt8 := [47, 80, 167, 0, 21, 44, 180, 0, 50, 42, 180, 0, 18, 92, 47, 43, 180, 0, 47, 29, 47, 97, 80, 44]
abbrev dktX9_table_2 : List UInt8 := dkwX9_table_2 ++ dktX9_table_3
def dkwX9_table_1 : List UInt8 := [29, 16, 120, 163, 0, 72, 29, 42, 180, 0, 18, 163, 0, 18, 44, 180, 0, 47, 29, 43, 180, 0, 47, 29]
abbrev dktX9_table_1 : List UInt8 := dkwX9_table_1 ++ dktX9_table_2
def dkwX9_table_0 : List UInt8 := [42, 180, 0, 25, 3, 50, 182, 0, 29, 76, 42, 180, 0, 33, 43, 180, 0, 37, 182, 0, 43, 77, 3, 62]
abbrev dktX9_table_0 : List UInt8 := dkwX9_table_0 ++ dktX9_table_1
theorem dksX9_table_0 : cX9_table.data.toList.drop 0 = dktX9_table_0 := by decide +kernel
theorem dksX9_table_1 : cX9_table.data.toList.drop 24 = dktX9_table_1 := dk_seg dksX9_table_0 24 rfl rfl
theorem dksX9_table_2 : cX9_table.data.toList.drop 48 = dktX9_table_2 := dk_seg dksX9_table_1 24 rfl rfl
theorem dksX9_table_3 : cX9_table.data.toList.drop 72 = dktX9_table_3 := dk_seg dksX9_table_2 24 rfl rfl
theorem dksX9_table_4 : cX9_table.data.toList.drop 96 = dktX9_table_4 := dk_seg dksX9_table_3 24 rfl rfl
theorem dksX9_table_5 : cX9_table.data.toList.drop 120 = dktX9_table_5 := dk_seg dksX9_table_4 24 rfl rfl
theorem dksX9_table_6 : cX9_table.data.toList.drop 144 = dktX9_table_6 := dk_seg dksX9_table_5 24 rfl rfl
theorem dksX9_table_7 : cX9_table.data.toList.drop 168 = dktX9_table_7 := dk_seg dksX9_table_6 24 rfl rfl
theorem dksX9_table_8 : cX9_table.data.toList.drop 192 = dktX9_table_8 := dk_seg dksX9_table_7 24 rfl rfl
theorem dksX9_table_9 : cX9_table.data.toList.drop 215 = dktX9_table_9 := dk_seg dksX9_table_8 23 rfl rfl
theorem dksX9_table_10 : cX9_table.data.toList.drop 238 = dktX9_table_10 := dk_seg dksX9_table_9 23 rfl rfl
theorem dksX9_table_11 : cX9_table.data.toList.drop 261 = dktX9_table_11 := dk_seg dksX9_table_10 23 rfl rfl
theorem dksX9_table_12 : cX9_table.data.toList.drop 284 = dktX9_table_12 := dk_seg dksX9_table_11 23 rfl rfl
theorem dksX9_table_13 : cX9_table.data.toList.drop 307 = dktX9_table_13 := dk_seg dksX9_table_12 23 rfl rfl
theorem dksX9_table_14 : cX9_table.data.toList.drop 331 = dktX9_table_14 := dk_seg dksX9_table_13 24 rfl rfl
theorem dksX9_table_15 : cX9_table.data.toList.drop 354 = dktX9_table_15 := dk_seg dksX9_table_14 23 rfl rfl
theorem dksX9_table_16 : cX9_table.data.toList.drop 378 = dktX9_table_16 := dk_seg dksX9_table_15 24 rfl rfl
theorem dksX9_table_17 : cX9_table.data.toList.drop 402 = dktX9_table_17 := dk_seg dksX9_table_16 24 rfl rfl
theorem dX9_table_0 : decode cX9_table 0 = .ok (.aload_n 0, 1) := dk_42 (dk_at dksX9_table_0 0 rfl rfl)
theorem dX9_table_1 : decode cX9_table 1 = .ok (.getfield 25, 3) := dk_180 0 25 (dk_at dksX9_table_0 1 rfl rfl)
theorem dX9_table_4 : decode cX9_table 4 = .ok (.iconst 0, 1) := dk_3 (dk_at dksX9_table_0 4 rfl rfl)
theorem dX9_table_5 : decode cX9_table 5 = .ok (.aaload, 1) := dk_50 (dk_at dksX9_table_0 5 rfl rfl)
theorem dX9_table_6 : decode cX9_table 6 = .ok (.invokevirtual 29, 3) := dk_182 0 29 (dk_at dksX9_table_0 6 rfl rfl)
theorem dX9_table_9 : decode cX9_table 9 = .ok (.astore_n 1, 1) := dk_76 (dk_at dksX9_table_0 9 rfl rfl)
theorem dX9_table_10 : decode cX9_table 10 = .ok (.aload_n 0, 1) := dk_42 (dk_at dksX9_table_0 10 rfl rfl)
theorem dX9_table_11 : decode cX9_table 11 = .ok (.getfield 33, 3) := dk_180 0 33 (dk_at dksX9_table_0 11 rfl rfl)
theorem dX9_table_14 : decode cX9_table 14 = .ok (.aload_n 1, 1) := dk_43 (dk_at dksX9_table_0 14 rfl rfl)
theorem dX9_table_15 : decode cX9_table 15 = .ok (.getfield 37, 3) := dk_180 0 37 (dk_at dksX9_table_0 15 rfl rfl)
theorem dX9_table_18 : decode cX9_table 18 = .ok (.invokevirtual 43, 3) := dk_182 0 43 (dk_at dksX9_table_0 18 rfl rfl)
theorem dX9_table_21 : decode cX9_table 21 = .ok (.astore_n 2, 1) := dk_77 (dk_at dksX9_table_0 21 rfl rfl)
theorem dX9_table_22 : decode cX9_table 22 = .ok (.iconst 0, 1) := dk_3 (dk_at dksX9_table_0 22 rfl rfl)
theorem dX9_table_23 : decode cX9_table 23 = .ok (.istore_n 3, 1) := dk_62 (dk_at dksX9_table_0 23 rfl rfl)
theorem dX9_table_24 : decode cX9_table 24 = .ok (.iload_n 3, 1) := dk_29 (dk_at dksX9_table_1 0 rfl rfl)
theorem dX9_table_25 : decode cX9_table 25 = .ok (.bipush 120, 2) := dk_16 120 (dk_at dksX9_table_1 1 rfl rfl)
theorem dX9_table_27 : decode cX9_table 27 = .ok (.if_icmp .gt 72, 3) := dk_163 0 72 (dk_at dksX9_table_1 3 rfl rfl)
theorem dX9_table_30 : decode cX9_table 30 = .ok (.iload_n 3, 1) := dk_29 (dk_at dksX9_table_1 6 rfl rfl)
theorem dX9_table_31 : decode cX9_table 31 = .ok (.aload_n 0, 1) := dk_42 (dk_at dksX9_table_1 7 rfl rfl)
theorem dX9_table_32 : decode cX9_table 32 = .ok (.getfield 18, 3) := dk_180 0 18 (dk_at dksX9_table_1 8 rfl rfl)
theorem dX9_table_35 : decode cX9_table 35 = .ok (.if_icmp .gt 18, 3) := dk_163 0 18 (dk_at dksX9_table_1 11 rfl rfl)
theorem dX9_table_38 : decode cX9_table 38 = .ok (.aload_n 2, 1) := dk_44 (dk_at dksX9_table_1 14 rfl rfl)
theorem dX9_table_39 : decode cX9_table 39 = .ok (.getfield 47, 3) := dk_180 0 47 (dk_at dksX9_table_1 15 rfl rfl)
theorem dX9_table_42 : decode cX9_table 42 = .ok (.iload_n 3, 1) := dk_29 (dk_at dksX9_table_1 18 rfl rfl)
theorem dX9_table_43 : decode cX9_table 43 = .ok (.aload_n 1, 1) := dk_43 (dk_at dksX9_table_1 19 rfl rfl)
theorem dX9_table_44 : decode cX9_table 44 = .ok (.getfield 47, 3) := dk_180 0 47 (dk_at dksX9_table_1 20 rfl rfl)
theorem dX9_table_47 : decode cX9_table 47 = .ok (.iload_n 3, 1) := dk_29 (dk_at dksX9_table_1 23 rfl rfl)
theorem dX9_table_48 : decode cX9_table 48 = .ok (.laload, 1) := dk_47 (dk_at dksX9_table_2 0 rfl rfl)
theorem dX9_table_49 : decode cX9_table 49 = .ok (.lastore, 1) := dk_80 (dk_at dksX9_table_2 1 rfl rfl)
theorem dX9_table_50 : decode cX9_table 50 = .ok (.goto 21, 3) := dk_167 0 21 (dk_at dksX9_table_2 2 rfl rfl)
theorem dX9_table_53 : decode cX9_table 53 = .ok (.aload_n 2, 1) := dk_44 (dk_at dksX9_table_2 5 rfl rfl)
theorem dX9_table_54 : decode cX9_table 54 = .ok (.getfield 50, 3) := dk_180 0 50 (dk_at dksX9_table_2 6 rfl rfl)
theorem dX9_table_57 : decode cX9_table 57 = .ok (.aload_n 0, 1) := dk_42 (dk_at dksX9_table_2 9 rfl rfl)
theorem dX9_table_58 : decode cX9_table 58 = .ok (.getfield 18, 3) := dk_180 0 18 (dk_at dksX9_table_2 10 rfl rfl)
theorem dX9_table_61 : decode cX9_table 61 = .ok (.dup2, 1) := dk_92 (dk_at dksX9_table_2 13 rfl rfl)
theorem dX9_table_62 : decode cX9_table 62 = .ok (.laload, 1) := dk_47 (dk_at dksX9_table_2 14 rfl rfl)
theorem dX9_table_63 : decode cX9_table 63 = .ok (.aload_n 1, 1) := dk_43 (dk_at dksX9_table_2 15 rfl rfl)
theorem dX9_table_64 : decode cX9_table 64 = .ok (.getfield 47, 3) := dk_180 0 47 (dk_at dksX9_table_2 16 rfl rfl)
theorem dX9_table_67 : decode cX9_table 67 = .ok (.iload_n 3, 1) := dk_29 (dk_at dksX9_table_2 19 rfl rfl)
theorem dX9_table_68 : decode cX9_table 68 = .ok (.laload, 1) := dk_47 (dk_at dksX9_table_2 20 rfl rfl)
theorem dX9_table_69 : decode cX9_table 69 = .ok (.ladd, 1) := dk_97 (dk_at dksX9_table_2 21 rfl rfl)
theorem dX9_table_70 : decode cX9_table 70 = .ok (.lastore, 1) := dk_80 (dk_at dksX9_table_2 22 rfl rfl)
theorem dX9_table_71 : decode cX9_table 71 = .ok (.aload_n 2, 1) := dk_44 (dk_at dksX9_table_2 23 rfl rfl)
theorem dX9_table_72 : decode cX9_table 72 = .ok (.getfield 50, 3) := dk_180 0 50 (dk_at dksX9_table_3 0 rfl rfl)
theorem dX9_table_75 : decode cX9_table 75 = .ok (.iload_n 3, 1) := dk_29 (dk_at dksX9_table_3 3 rfl rfl)
theorem dX9_table_76 : decode cX9_table 76 = .ok (.aload_n 0, 1) := dk_42 (dk_at dksX9_table_3 4 rfl rfl)
theorem dX9_table_77 : decode cX9_table 77 = .ok (.getfield 18, 3) := dk_180 0 18 (dk_at dksX9_table_3 5 rfl rfl)
theorem dX9_table_80 : decode cX9_table 80 = .ok (.invokestatic 53, 3) := dk_184 0 53 (dk_at dksX9_table_3 8 rfl rfl)
theorem dX9_table_83 : decode cX9_table 83 = .ok (.dup2, 1) := dk_92 (dk_at dksX9_table_3 11 rfl rfl)
theorem dX9_table_84 : decode cX9_table 84 = .ok (.laload, 1) := dk_47 (dk_at dksX9_table_3 12 rfl rfl)
theorem dX9_table_85 : decode cX9_table 85 = .ok (.aload_n 1, 1) := dk_43 (dk_at dksX9_table_3 13 rfl rfl)
theorem dX9_table_86 : decode cX9_table 86 = .ok (.getfield 50, 3) := dk_180 0 50 (dk_at dksX9_table_3 14 rfl rfl)
theorem dX9_table_89 : decode cX9_table 89 = .ok (.iload_n 3, 1) := dk_29 (dk_at dksX9_table_3 17 rfl rfl)
theorem dX9_table_90 : decode cX9_table 90 = .ok (.laload, 1) := dk_47 (dk_at dksX9_table_3 18 rfl rfl)
theorem dX9_table_91 : decode cX9_table 91 = .ok (.ladd, 1) := dk_97 (dk_at dksX9_table_3 19 rfl rfl)
theorem dX9_table_92 : decode cX9_table 92 = .ok (.lastore, 1) := dk_80 (dk_at dksX9_table_3 20 rfl rfl)
theorem dX9_table_93 : decode cX9_table 93 = .ok (.iinc 3 1, 3) := dk_132 3 1 (dk_at dksX9_table_3 21 rfl rfl)
theorem dX9_table_96 : decode cX9_table 96 = .ok (.goto (-72), 3) := dk_167 255 184 (dk_at dksX9_table_4 0 rfl rfl)
theorem dX9_table_99 : decode cX9_table 99 = .ok (.aload_n 0, 1) := dk_42 (dk_at dksX9_table_4 3 rfl rfl)
theorem dX9_table_100 : decode cX9_table 100 = .ok (.getfield 59, 3) := dk_180 0 59 (dk_at dksX9_table_4 4 rfl rfl)
theorem dX9_table_103 : decode cX9_table 103 = .ok (.lconst 1, 1) := dk_10 (dk_at dksX9_table_4 7 rfl rfl)
theorem dX9_table_104 : decode cX9_table 104 = .ok (.invokevirtual 43, 3) := dk_182 0 43 (dk_at dksX9_table_4 8 rfl rfl)
theorem dX9_table_107 : decode cX9_table 107 = .ok (.astore_n 3, 1) := dk_78 (dk_at dksX9_table_4 11 rfl rfl)
theorem dX9_table_108 : decode cX9_table 108 = .ok (.iconst 0, 1) := dk_3 (dk_at dksX9_table_4 12 rfl rfl)
theorem dX9_table_109 : decode cX9_table 109 = .ok (.istore 4, 2) := dk_54 4 (dk_at dksX9_table_4 13 rfl rfl)
theorem dX9_table_111 : decode cX9_table 111 = .ok (.iload 4, 2) := dk_21 4 (dk_at dksX9_table_4 15 rfl rfl)
theorem dX9_table_113 : decode cX9_table 113 = .ok (.aload_n 0, 1) := dk_42 (dk_at dksX9_table_4 17 rfl rfl)
theorem dX9_table_114 : decode cX9_table 114 = .ok (.getfield 22, 3) := dk_180 0 22 (dk_at dksX9_table_4 18 rfl rfl)
theorem dX9_table_117 : decode cX9_table 117 = .ok (.if_icmp .gt 24, 3) := dk_163 0 24 (dk_at dksX9_table_4 21 rfl rfl)
theorem dX9_table_120 : decode cX9_table 120 = .ok (.aload_n 3, 1) := dk_45 (dk_at dksX9_table_5 0 rfl rfl)
theorem dX9_table_121 : decode cX9_table 121 = .ok (.aload_n 3, 1) := dk_45 (dk_at dksX9_table_5 1 rfl rfl)
theorem dX9_table_122 : decode cX9_table 122 = .ok (.getfield 37, 3) := dk_180 0 37 (dk_at dksX9_table_5 2 rfl rfl)
theorem dX9_table_125 : decode cX9_table 125 = .ok (.aload_n 1, 1) := dk_43 (dk_at dksX9_table_5 5 rfl rfl)
theorem dX9_table_126 : decode cX9_table 126 = .ok (.getfield 37, 3) := dk_180 0 37 (dk_at dksX9_table_5 6 rfl rfl)
theorem dX9_table_129 : decode cX9_table 129 = .ok (.invokestatic 62, 3) := dk_184 0 62 (dk_at dksX9_table_5 9 rfl rfl)
theorem dX9_table_132 : decode cX9_table 132 = .ok (.putfield 37, 3) := dk_181 0 37 (dk_at dksX9_table_5 12 rfl rfl)
theorem dX9_table_135 : decode cX9_table 135 = .ok (.iinc 4 1, 3) := dk_132 4 1 (dk_at dksX9_table_5 15 rfl rfl)
theorem dX9_table_138 : decode cX9_table 138 = .ok (.goto (-27), 3) := dk_167 255 229 (dk_at dksX9_table_5 18 rfl rfl)
theorem dX9_table_141 : decode cX9_table 141 = .ok (.iconst 0, 1) := dk_3 (dk_at dksX9_table_5 21 rfl rfl)
theorem dX9_table_142 : decode cX9_table 142 = .ok (.istore 4, 2) := dk_54 4 (dk_at dksX9_table_5 22 rfl rfl)
theorem dX9_table_144 : decode cX9_table 144 = .ok (.iload 4, 2) := dk_21 4 (dk_at dksX9_table_6 0 rfl rfl)
theorem dX9_table_146 : decode cX9_table 146 = .ok (.bipush 120, 2) := dk_16 120 (dk_at dksX9_table_6 2 rfl rfl)
theorem dX9_table_148 : decode cX9_table 148 = .ok (.if_icmp .gt 26, 3) := dk_163 0 26 (dk_at dksX9_table_6 4 rfl rfl)
theorem dX9_table_151 : decode cX9_table 151 = .ok (.aload_n 0, 1) := dk_42 (dk_at dksX9_table_6 7 rfl rfl)
theorem dX9_table_152 : decode cX9_table 152 = .ok (.getfield 9, 3) := dk_180 0 9 (dk_at dksX9_table_6 8 rfl rfl)
theorem dX9_table_155 : decode cX9_table 155 = .ok (.iload 4, 2) := dk_21 4 (dk_at dksX9_table_6 11 rfl rfl)
theorem dX9_table_157 : decode cX9_table 157 = .ok (.iload 4, 2) := dk_21 4 (dk_at dksX9_table_6 13 rfl rfl)
theorem dX9_table_159 : decode cX9_table 159 = .ok (.ifCond .ne 7, 3) := dk_154 0 7 (dk_at dksX9_table_6 15 rfl rfl)
theorem dX9_table_162 : decode cX9_table 162 = .ok (.lconst 1, 1) := dk_10 (dk_at dksX9_table_6 18 rfl rfl)
theorem dX9_table_163 : decode cX9_table 163 = .ok (.goto 4, 3) := dk_167 0 4 (dk_at dksX9_table_6 19 rfl rfl)
theorem dX9_table_166 : decode cX9_table 166 = .ok (.lconst 0, 1) := dk_9 (dk_at dksX9_table_6 22 rfl rfl)
theorem dX9_table_167 : decode cX9_table 167 = .ok (.lastore, 1) := dk_80 (dk_at dksX9_table_6 23 rfl rfl)
theorem dX9_table_168 : decode cX9_table 168 = .ok (.iinc 4 1, 3) := dk_132 4 1 (dk_at dksX9_table_7 0 rfl rfl)
theorem dX9_table_171 : decode cX9_table 171 = .ok (.goto (-27), 3) := dk_167 255 229 (dk_at dksX9_table_7 3 rfl rfl)
theorem dX9_table_174 : decode cX9_table 174 = .ok (.aload_n 3, 1) := dk_45 (dk_at dksX9_table_7 6 rfl rfl)
theorem dX9_table_175 : decode cX9_table 175 = .ok (.getfield 37, 3) := dk_180 0 37 (dk_at dksX9_table_7 7 rfl rfl)
theorem dX9_table_178 : decode cX9_table 178 = .ok (.lstore 4, 2) := dk_55 4 (dk_at dksX9_table_7 10 rfl rfl)
theorem dX9_table_180 : decode cX9_table 180 = .ok (.iconst 0, 1) := dk_3 (dk_at dksX9_table_7 12 rfl rfl)
theorem dX9_table_181 : decode cX9_table 181 = .ok (.istore 6, 2) := dk_54 6 (dk_at dksX9_table_7 13 rfl rfl)
theorem dX9_table_183 : decode cX9_table 183 = .ok (.iload 6, 2) := dk_21 6 (dk_at dksX9_table_7 15 rfl rfl)
theorem dX9_table_185 : decode cX9_table 185 = .ok (.aload_n 0, 1) := dk_42 (dk_at dksX9_table_7 17 rfl rfl)
theorem dX9_table_186 : decode cX9_table 186 = .ok (.getfield 22, 3) := dk_180 0 22 (dk_at dksX9_table_7 18 rfl rfl)
theorem dX9_table_189 : decode cX9_table 189 = .ok (.if_icmp .gt 192, 3) := dk_163 0 192 (dk_at dksX9_table_7 21 rfl rfl)
theorem dX9_table_192 : decode cX9_table 192 = .ok (.lload 4, 2) := dk_22 4 (dk_at dksX9_table_8 0 rfl rfl)
theorem dX9_table_194 : decode cX9_table 194 = .ok (.aload_n 1, 1) := dk_43 (dk_at dksX9_table_8 2 rfl rfl)
theorem dX9_table_195 : decode cX9_table 195 = .ok (.getfield 37, 3) := dk_180 0 37 (dk_at dksX9_table_8 3 rfl rfl)
theorem dX9_table_198 : decode cX9_table 198 = .ok (.ldiv, 1) := dk_109 (dk_at dksX9_table_8 6 rfl rfl)
theorem dX9_table_199 : decode cX9_table 199 = .ok (.lstore 4, 2) := dk_55 4 (dk_at dksX9_table_8 7 rfl rfl)
theorem dX9_table_201 : decode cX9_table 201 = .ok (.iconst 0, 1) := dk_3 (dk_at dksX9_table_8 9 rfl rfl)
theorem dX9_table_202 : decode cX9_table 202 = .ok (.istore 7, 2) := dk_54 7 (dk_at dksX9_table_8 10 rfl rfl)
theorem dX9_table_204 : decode cX9_table 204 = .ok (.iload 7, 2) := dk_21 7 (dk_at dksX9_table_8 12 rfl rfl)
theorem dX9_table_206 : decode cX9_table 206 = .ok (.bipush 120, 2) := dk_16 120 (dk_at dksX9_table_8 14 rfl rfl)
theorem dX9_table_208 : decode cX9_table 208 = .ok (.if_icmp .gt 17, 3) := dk_163 0 17 (dk_at dksX9_table_8 16 rfl rfl)
theorem dX9_table_211 : decode cX9_table 211 = .ok (.aload_n 0, 1) := dk_42 (dk_at dksX9_table_8 19 rfl rfl)
theorem dX9_table_212 : decode cX9_table 212 = .ok (.getfield 15, 3) := dk_180 0 15 (dk_at dksX9_table_8 20 rfl rfl)
theorem dX9_table_215 : decode cX9_table 215 = .ok (.iload 7, 2) := dk_21 7 (dk_at dksX9_table_9 0 rfl rfl)
theorem dX9_table_217 : decode cX9_table 217 = .ok (.lconst 0, 1) := dk_9 (dk_at dksX9_table_9 2 rfl rfl)
theorem dX9_table_218 : decode cX9_table 218 = .ok (.lastore, 1) := dk_80 (dk_at dksX9_table_9 3 rfl rfl)
theorem dX9_table_219 : decode cX9_table 219 = .ok (.iinc 7 1, 3) := dk_132 7 1 (dk_at dksX9_table_9 4 rfl rfl)
theorem dX9_table_222 : decode cX9_table 222 = .ok (.goto (-18), 3) := dk_167 255 238 (dk_at dksX9_table_9 7 rfl rfl)
theorem dX9_table_225 : decode cX9_table 225 = .ok (.iconst 0, 1) := dk_3 (dk_at dksX9_table_9 10 rfl rfl)
theorem dX9_table_226 : decode cX9_table 226 = .ok (.istore 7, 2) := dk_54 7 (dk_at dksX9_table_9 11 rfl rfl)
theorem dX9_table_228 : decode cX9_table 228 = .ok (.iload 7, 2) := dk_21 7 (dk_at dksX9_table_9 13 rfl rfl)
theorem dX9_table_230 : decode cX9_table 230 = .ok (.bipush 120, 2) := dk_16 120 (dk_at dksX9_table_9 15 rfl rfl)
theorem dX9_table_232 : decode cX9_table 232 = .ok (.if_icmp .gt 128, 3) := dk_163 0 128 (dk_at dksX9_table_9 17 rfl rfl)
theorem dX9_table_235 : decode cX9_table 235 = .ok (.iconst 0, 1) := dk_3 (dk_at dksX9_table_9 20 rfl rfl)
theorem dX9_table_236 : decode cX9_table 236 = .ok (.istore 8, 2) := dk_54 8 (dk_at dksX9_table_9 21 rfl rfl)
theorem dX9_table_238 : decode cX9_table 238 = .ok (.iload 8, 2) := dk_21 8 (dk_at dksX9_table_10 0 rfl rfl)
theorem dX9_table_240 : decode cX9_table 240 = .ok (.aload_n 0, 1) := dk_42 (dk_at dksX9_table_10 2 rfl rfl)
theorem dX9_table_241 : decode cX9_table 241 = .ok (.getfield 18, 3) := dk_180 0 18 (dk_at dksX9_table_10 3 rfl rfl)
theorem dX9_table_244 : decode cX9_table 244 = .ok (.if_icmp .gt 110, 3) := dk_163 0 110 (dk_at dksX9_table_10 6 rfl rfl)
theorem dX9_table_247 : decode cX9_table 247 = .ok (.aload_n 0, 1) := dk_42 (dk_at dksX9_table_10 9 rfl rfl)
theorem dX9_table_248 : decode cX9_table 248 = .ok (.getfield 9, 3) := dk_180 0 9 (dk_at dksX9_table_10 10 rfl rfl)
theorem dX9_table_251 : decode cX9_table 251 = .ok (.iload 7, 2) := dk_21 7 (dk_at dksX9_table_10 13 rfl rfl)
theorem dX9_table_253 : decode cX9_table 253 = .ok (.laload, 1) := dk_47 (dk_at dksX9_table_10 15 rfl rfl)
theorem dX9_table_254 : decode cX9_table 254 = .ok (.lconst 0, 1) := dk_9 (dk_at dksX9_table_10 16 rfl rfl)
theorem dX9_table_255 : decode cX9_table 255 = .ok (.lcmp, 1) := dk_148 (dk_at dksX9_table_10 17 rfl rfl)
theorem dX9_table_256 : decode cX9_table 256 = .ok (.ifCond .le 98, 3) := dk_158 0 98 (dk_at dksX9_table_10 18 rfl rfl)
theorem dX9_table_259 : decode cX9_table 259 = .ok (.aload_n 3, 1) := dk_45 (dk_at dksX9_table_10 21 rfl rfl)
theorem dX9_table_260 : decode cX9_table 260 = .ok (.iconst 1, 1) := dk_4 (dk_at dksX9_table_10 22 rfl rfl)
theorem dX9_table_261 : decode cX9_table 261 = .ok (.iload 7, 2) := dk_21 7 (dk_at dksX9_table_11 0 rfl rfl)
theorem dX9_table_263 : decode cX9_table 263 = .ok (.iload 8, 2) := dk_21 8 (dk_at dksX9_table_11 2 rfl rfl)
theorem dX9_table_265 : decode cX9_table 265 = .ok (.iadd, 1) := dk_96 (dk_at dksX9_table_11 4 rfl rfl)
theorem dX9_table_266 : decode cX9_table 266 = .ok (.aload_n 0, 1) := dk_42 (dk_at dksX9_table_11 5 rfl rfl)
theorem dX9_table_267 : decode cX9_table 267 = .ok (.getfield 9, 3) := dk_180 0 9 (dk_at dksX9_table_11 6 rfl rfl)
theorem dX9_table_270 : decode cX9_table 270 = .ok (.iload 7, 2) := dk_21 7 (dk_at dksX9_table_11 9 rfl rfl)
theorem dX9_table_272 : decode cX9_table 272 = .ok (.laload, 1) := dk_47 (dk_at dksX9_table_11 11 rfl rfl)
theorem dX9_table_273 : decode cX9_table 273 = .ok (.aload_n 2, 1) := dk_44 (dk_at dksX9_table_11 12 rfl rfl)
theorem dX9_table_274 : decode cX9_table 274 = .ok (.getfield 47, 3) := dk_180 0 47 (dk_at dksX9_table_11 13 rfl rfl)
theorem dX9_table_277 : decode cX9_table 277 = .ok (.iload 8, 2) := dk_21 8 (dk_at dksX9_table_11 16 rfl rfl)
theorem dX9_table_279 : decode cX9_table 279 = .ok (.laload, 1) := dk_47 (dk_at dksX9_table_11 18 rfl rfl)
theorem dX9_table_280 : decode cX9_table 280 = .ok (.lmul, 1) := dk_105 (dk_at dksX9_table_11 19 rfl rfl)
theorem dX9_table_281 : decode cX9_table 281 = .ok (.lload 4, 2) := dk_22 4 (dk_at dksX9_table_11 20 rfl rfl)
theorem dX9_table_283 : decode cX9_table 283 = .ok (.lmul, 1) := dk_105 (dk_at dksX9_table_11 22 rfl rfl)
theorem dX9_table_284 : decode cX9_table 284 = .ok (.invokevirtual 66, 3) := dk_182 0 66 (dk_at dksX9_table_12 0 rfl rfl)
theorem dX9_table_287 : decode cX9_table 287 = .ok (.aload_n 2, 1) := dk_44 (dk_at dksX9_table_12 3 rfl rfl)
theorem dX9_table_288 : decode cX9_table 288 = .ok (.getfield 50, 3) := dk_180 0 50 (dk_at dksX9_table_12 4 rfl rfl)
theorem dX9_table_291 : decode cX9_table 291 = .ok (.iload 8, 2) := dk_21 8 (dk_at dksX9_table_12 7 rfl rfl)
theorem dX9_table_293 : decode cX9_table 293 = .ok (.laload, 1) := dk_47 (dk_at dksX9_table_12 9 rfl rfl)
theorem dX9_table_294 : decode cX9_table 294 = .ok (.lconst 0, 1) := dk_9 (dk_at dksX9_table_12 10 rfl rfl)
theorem dX9_table_295 : decode cX9_table 295 = .ok (.lcmp, 1) := dk_148 (dk_at dksX9_table_12 11 rfl rfl)
theorem dX9_table_296 : decode cX9_table 296 = .ok (.ifCond .ne 6, 3) := dk_154 0 6 (dk_at dksX9_table_12 12 rfl rfl)
theorem dX9_table_299 : decode cX9_table 299 = .ok (.goto 49, 3) := dk_167 0 49 (dk_at dksX9_table_12 15 rfl rfl)
theorem dX9_table_302 : decode cX9_table 302 = .ok (.iload 7, 2) := dk_21 7 (dk_at dksX9_table_12 18 rfl rfl)
theorem dX9_table_304 : decode cX9_table 304 = .ok (.iload 8, 2) := dk_21 8 (dk_at dksX9_table_12 20 rfl rfl)
theorem dX9_table_306 : decode cX9_table 306 = .ok (.iadd, 1) := dk_96 (dk_at dksX9_table_12 22 rfl rfl)
theorem dX9_table_307 : decode cX9_table 307 = .ok (.bipush 120, 2) := dk_16 120 (dk_at dksX9_table_13 0 rfl rfl)
theorem dX9_table_309 : decode cX9_table 309 = .ok (.if_icmp .le 11, 3) := dk_164 0 11 (dk_at dksX9_table_13 2 rfl rfl)
theorem dX9_table_312 : decode cX9_table 312 = .ok (.new 70, 3) := dk_187 0 70 (dk_at dksX9_table_13 5 rfl rfl)
theorem dX9_table_315 : decode cX9_table 315 = .ok (.dup, 1) := dk_89 (dk_at dksX9_table_13 8 rfl rfl)
theorem dX9_table_316 : decode cX9_table 316 = .ok (.invokespecial 72, 3) := dk_183 0 72 (dk_at dksX9_table_13 9 rfl rfl)
theorem dX9_table_319 : decode cX9_table 319 = .ok (.athrow, 1) := dk_191 (dk_at dksX9_table_13 12 rfl rfl)
theorem dX9_table_320 : decode cX9_table 320 = .ok (.aload_n 0, 1) := dk_42 (dk_at dksX9_table_13 13 rfl rfl)
theorem dX9_table_321 : decode cX9_table 321 = .ok (.getfield 15, 3) := dk_180 0 15 (dk_at dksX9_table_13 14 rfl rfl)
theorem dX9_table_324 : decode cX9_table 324 = .ok (.iload 7, 2) := dk_21 7 (dk_at dksX9_table_13 17 rfl rfl)
theorem dX9_table_326 : decode cX9_table 326 = .ok (.iload 8, 2) := dk_21 8 (dk_at dksX9_table_13 19 rfl rfl)
theorem dX9_table_328 : decode cX9_table 328 = .ok (.iadd, 1) := dk_96 (dk_at dksX9_table_13 21 rfl rfl)
theorem dX9_table_329 : decode cX9_table 329 = .ok (.dup2, 1) := dk_92 (dk_at dksX9_table_13 22 rfl rfl)
theorem dX9_table_330 : decode cX9_table 330 = .ok (.laload, 1) := dk_47 (dk_at dksX9_table_13 23 rfl rfl)
theorem dX9_table_331 : decode cX9_table 331 = .ok (.aload_n 0, 1) := dk_42 (dk_at dksX9_table_14 0 rfl rfl)
theorem dX9_table_332 : decode cX9_table 332 = .ok (.getfield 9, 3) := dk_180 0 9 (dk_at dksX9_table_14 1 rfl rfl)
theorem dX9_table_335 : decode cX9_table 335 = .ok (.iload 7, 2) := dk_21 7 (dk_at dksX9_table_14 4 rfl rfl)
theorem dX9_table_337 : decode cX9_table 337 = .ok (.laload, 1) := dk_47 (dk_at dksX9_table_14 6 rfl rfl)
theorem dX9_table_338 : decode cX9_table 338 = .ok (.aload_n 2, 1) := dk_44 (dk_at dksX9_table_14 7 rfl rfl)
theorem dX9_table_339 : decode cX9_table 339 = .ok (.getfield 50, 3) := dk_180 0 50 (dk_at dksX9_table_14 8 rfl rfl)
theorem dX9_table_342 : decode cX9_table 342 = .ok (.iload 8, 2) := dk_21 8 (dk_at dksX9_table_14 11 rfl rfl)
theorem dX9_table_344 : decode cX9_table 344 = .ok (.laload, 1) := dk_47 (dk_at dksX9_table_14 13 rfl rfl)
theorem dX9_table_345 : decode cX9_table 345 = .ok (.lmul, 1) := dk_105 (dk_at dksX9_table_14 14 rfl rfl)
theorem dX9_table_346 : decode cX9_table 346 = .ok (.ladd, 1) := dk_97 (dk_at dksX9_table_14 15 rfl rfl)
theorem dX9_table_347 : decode cX9_table 347 = .ok (.lastore, 1) := dk_80 (dk_at dksX9_table_14 16 rfl rfl)
theorem dX9_table_348 : decode cX9_table 348 = .ok (.iinc 8 1, 3) := dk_132 8 1 (dk_at dksX9_table_14 17 rfl rfl)
theorem dX9_table_351 : decode cX9_table 351 = .ok (.goto (-113), 3) := dk_167 255 143 (dk_at dksX9_table_14 20 rfl rfl)
theorem dX9_table_354 : decode cX9_table 354 = .ok (.iinc 7 1, 3) := dk_132 7 1 (dk_at dksX9_table_15 0 rfl rfl)
theorem dX9_table_357 : decode cX9_table 357 = .ok (.goto (-129), 3) := dk_167 255 127 (dk_at dksX9_table_15 3 rfl rfl)
theorem dX9_table_360 : decode cX9_table 360 = .ok (.aload_n 0, 1) := dk_42 (dk_at dksX9_table_15 6 rfl rfl)
theorem dX9_table_361 : decode cX9_table 361 = .ok (.getfield 15, 3) := dk_180 0 15 (dk_at dksX9_table_15 7 rfl rfl)
theorem dX9_table_364 : decode cX9_table 364 = .ok (.iconst 0, 1) := dk_3 (dk_at dksX9_table_15 10 rfl rfl)
theorem dX9_table_365 : decode cX9_table 365 = .ok (.aload_n 0, 1) := dk_42 (dk_at dksX9_table_15 11 rfl rfl)
theorem dX9_table_366 : decode cX9_table 366 = .ok (.getfield 9, 3) := dk_180 0 9 (dk_at dksX9_table_15 12 rfl rfl)
theorem dX9_table_369 : decode cX9_table 369 = .ok (.iconst 0, 1) := dk_3 (dk_at dksX9_table_15 15 rfl rfl)
theorem dX9_table_370 : decode cX9_table 370 = .ok (.bipush 121, 2) := dk_16 121 (dk_at dksX9_table_15 16 rfl rfl)
theorem dX9_table_372 : decode cX9_table 372 = .ok (.invokestatic 75, 3) := dk_184 0 75 (dk_at dksX9_table_15 18 rfl rfl)
theorem dX9_table_375 : decode cX9_table 375 = .ok (.iinc 6 1, 3) := dk_132 6 1 (dk_at dksX9_table_15 21 rfl rfl)
theorem dX9_table_378 : decode cX9_table 378 = .ok (.goto (-195), 3) := dk_167 255 61 (dk_at dksX9_table_16 0 rfl rfl)
theorem dX9_table_381 : decode cX9_table 381 = .ok (.iconst 0, 1) := dk_3 (dk_at dksX9_table_16 3 rfl rfl)
theorem dX9_table_382 : decode cX9_table 382 = .ok (.istore 6, 2) := dk_54 6 (dk_at dksX9_table_16 4 rfl rfl)
theorem dX9_table_384 : decode cX9_table 384 = .ok (.iload 6, 2) := dk_21 6 (dk_at dksX9_table_16 6 rfl rfl)
theorem dX9_table_386 : decode cX9_table 386 = .ok (.bipush 120, 2) := dk_16 120 (dk_at dksX9_table_16 8 rfl rfl)
theorem dX9_table_388 : decode cX9_table 388 = .ok (.if_icmp .gt 23, 3) := dk_163 0 23 (dk_at dksX9_table_16 10 rfl rfl)
theorem dX9_table_391 : decode cX9_table 391 = .ok (.aload_n 3, 1) := dk_45 (dk_at dksX9_table_16 13 rfl rfl)
theorem dX9_table_392 : decode cX9_table 392 = .ok (.iconst 0, 1) := dk_3 (dk_at dksX9_table_16 14 rfl rfl)
theorem dX9_table_393 : decode cX9_table 393 = .ok (.iload 6, 2) := dk_21 6 (dk_at dksX9_table_16 15 rfl rfl)
theorem dX9_table_395 : decode cX9_table 395 = .ok (.aload_n 0, 1) := dk_42 (dk_at dksX9_table_16 17 rfl rfl)
theorem dX9_table_396 : decode cX9_table 396 = .ok (.getfield 9, 3) := dk_180 0 9 (dk_at dksX9_table_16 18 rfl rfl)
theorem dX9_table_399 : decode cX9_table 399 = .ok (.iload 6, 2) := dk_21 6 (dk_at dksX9_table_16 21 rfl rfl)
theorem dX9_table_401 : decode cX9_table 401 = .ok (.laload, 1) := dk_47 (dk_at dksX9_table_16 23 rfl rfl)
theorem dX9_table_402 : decode cX9_table 402 = .ok (.invokevirtual 66, 3) := dk_182 0 66 (dk_at dksX9_table_17 0 rfl rfl)
theorem dX9_table_405 : decode cX9_table 405 = .ok (.iinc 6 1, 3) := dk_132 6 1 (dk_at dksX9_table_17 3 rfl rfl)
theorem dX9_table_408 : decode cX9_table 408 = .ok (.goto (-24), 3) := dk_167 255 232 (dk_at dksX9_table_17 6 rfl rfl)
theorem dX9_table_411 : decode cX9_table 411 = .ok (.aload_n 3, 1) := dk_45 (dk_at dksX9_table_17 9 rfl rfl)
theorem dX9_table_412 : decode cX9_table 412 = .ok (.invokevirtual 81, 3) := dk_182 0 81 (dk_at dksX9_table_17 10 rfl rfl)
theorem dX9_table_415 : decode cX9_table 415 = .ok (.areturn, 1) := dk_176 (dk_at dksX9_table_17 13 rfl rfl)
abbrev cX9_asks : ByteArray := prog_7_method_3_code
def yX9_asks : MethodName := ⟨RX9, "asks", "()I"⟩
def dkwX9_asks_0 : List UInt8 := [42, 180, 0, 22, 4, 96, 172]
abbrev dktX9_asks_0 : List UInt8 := dkwX9_asks_0 ++ []
theorem dksX9_asks_0 : cX9_asks.data.toList.drop 0 = dktX9_asks_0 := by decide +kernel
theorem dX9_asks_0 : decode cX9_asks 0 = .ok (.aload_n 0, 1) := dk_42 (dk_at dksX9_asks_0 0 rfl rfl)
theorem dX9_asks_1 : decode cX9_asks 1 = .ok (.getfield 22, 3) := dk_180 0 22 (dk_at dksX9_asks_0 1 rfl rfl)
theorem dX9_asks_4 : decode cX9_asks 4 = .ok (.iconst 1, 1) := dk_4 (dk_at dksX9_asks_0 4 rfl rfl)
theorem dX9_asks_5 : decode cX9_asks 5 = .ok (.iadd, 1) := dk_96 (dk_at dksX9_asks_0 5 rfl rfl)
theorem dX9_asks_6 : decode cX9_asks 6 = .ok (.ireturn, 1) := dk_172 (dk_at dksX9_asks_0 6 rfl rfl)
theorem q68 : (Jvm.Cond.initialized "TickShare$Retry") ∈ lw_all := lw_g (lw_at lw_m1 19 rfl) rfl
theorem q320 : (Jvm.Cond.fieldLinkNest "TickShare$Retry" (47 : Nat) "TickShare$Table" "ok" "[J" "TickShare") ∈ lw_tbl := lw_at lw_m2 31 rfl
theorem q326 : (Jvm.Cond.fieldLinkNest "TickShare$Retry" (50 : Nat) "TickShare$Table" "fail" "[J" "TickShare") ∈ lw_tbl := lw_at lw_m2 37 rfl
theorem q333 : (Jvm.Cond.fieldLinkNest "TickShare$Retry" (37 : Nat) "TickShare$Table" "whole" "J" "TickShare") ∈ lw_tbl := lw_at lw_m2 44 rfl
theorem q391 : (Jvm.Cond.fieldLink "TickShare$Retry" (25 : Nat) "TickShare$Retry" "parts" "[LTickShare$Thing;") ∈ lw_all := lw_g (lw_at lw_m2 102 rfl) rfl
theorem q392 : (Jvm.Cond.sameField "TickShare$Retry" "TickShare$Thing" "parts" "[LTickShare$Thing;") ∈ lw_all := lw_g (lw_at lw_m2 103 rfl) rfl
theorem q403 : (Jvm.Cond.fieldLink "TickShare$Retry" (59 : Nat) "TickShare$Retry" "made" "LTickShare$Table;") ∈ lw_all := lw_g (lw_at lw_m2 114 rfl) rfl
theorem q404 : (Jvm.Cond.sameField "TickShare$Retry" "TickShare$Thing" "made" "LTickShare$Table;") ∈ lw_all := lw_g (lw_at lw_m2 115 rfl) rfl
theorem q408 : (Jvm.Cond.fieldLink "TickShare$Retry" (33 : Nat) "TickShare$Retry" "other" "LTickShare$Table;") ∈ lw_all := lw_g (lw_at lw_m2 119 rfl) rfl
theorem q409 : (Jvm.Cond.sameField "TickShare$Retry" "TickShare$Thing" "other" "LTickShare$Table;") ∈ lw_all := lw_g (lw_at lw_m2 120 rfl) rfl
theorem q543 : (Jvm.Cond.instantiable "TickShare$Retry" (10 : Nat)) ∈ lw_all := lw_g (lw_at lw_m3 14 rfl) rfl
theorem q545 : (Jvm.Cond.instanceMethod ({ cls := "TickShare$Retry", name := "<init>", desc := "(LTickShare$Thing;II)V" } : Jvm.MethodName)) ∈ lw_all := lw_g (lw_at lw_m3 16 rfl) rfl
theorem q546 : (Jvm.Cond.code ({ cls := "TickShare$Retry", name := "<init>", desc := "(LTickShare$Thing;II)V" } : Jvm.MethodName) prog_7_method_1_code (4 : Nat) (Option.none : Option Jvm.ClassFile.FieldType)) ∈ lw_all := lw_g (lw_at lw_m3 17 rfl) rfl
theorem q547 : (Jvm.Cond.classLink "TickShare$Retry" (3 : Nat) "TickShare$Thing") ∈ lw_all := lw_g (lw_at lw_m3 18 rfl) rfl
theorem q548 : (Jvm.Cond.methodLink "TickShare$Retry" (5 : Nat) ({ cls := "TickShare$Thing", name := "<init>", desc := "([LTickShare$Thing;)V" } : Jvm.MethodName)) ∈ lw_all := lw_g (lw_at lw_m3 19 rfl) rfl
theorem q549 : (Jvm.Cond.fieldLink "TickShare$Retry" (18 : Nat) "TickShare$Retry" "limit" "I") ∈ lw_all := lw_g (lw_at lw_m3 20 rfl) rfl
theorem q550 : (Jvm.Cond.fieldLink "TickShare$Retry" (22 : Nat) "TickShare$Retry" "more" "I") ∈ lw_all := lw_g (lw_at lw_m3 21 rfl) rfl
theorem q551 : (Jvm.Cond.fieldLink "TickShare$Retry" (9 : Nat) "TickShare$Retry" "ill" "[J") ∈ lw_all := lw_g (lw_at lw_m3 22 rfl) rfl
theorem q552 : (Jvm.Cond.fieldLink "TickShare$Retry" (15 : Nat) "TickShare$Retry" "next" "[J") ∈ lw_all := lw_g (lw_at lw_m3 23 rfl) rfl
theorem q553 : (Jvm.Cond.laysFinal "TickShare$Retry" "TickShare$Retry" "limit" "I") ∈ lw_all := lw_g (lw_at lw_m3 24 rfl) rfl
theorem q554 : (Jvm.Cond.soleField "TickShare$Retry" "limit") ∈ lw_all := lw_g (lw_at lw_m3 25 rfl) rfl
theorem q555 : (Jvm.Cond.laysFinal "TickShare$Retry" "TickShare$Retry" "more" "I") ∈ lw_all := lw_g (lw_at lw_m3 26 rfl) rfl
theorem q556 : (Jvm.Cond.soleField "TickShare$Retry" "more") ∈ lw_all := lw_g (lw_at lw_m3 27 rfl) rfl
theorem q557 : (Jvm.Cond.laysFinal "TickShare$Retry" "TickShare$Retry" "ill" "[J") ∈ lw_all := lw_g (lw_at lw_m3 28 rfl) rfl
theorem q558 : (Jvm.Cond.soleField "TickShare$Retry" "ill") ∈ lw_all := lw_g (lw_at lw_m3 29 rfl) rfl
theorem q559 : (Jvm.Cond.laysFinal "TickShare$Retry" "TickShare$Retry" "next" "[J") ∈ lw_all := lw_g (lw_at lw_m3 30 rfl) rfl
theorem q560 : (Jvm.Cond.soleField "TickShare$Retry" "next") ∈ lw_all := lw_g (lw_at lw_m3 31 rfl) rfl
theorem q561 : (Jvm.Cond.laysFinal "TickShare$Retry" "TickShare$Thing" "parts" "[LTickShare$Thing;") ∈ lw_all := lw_g (lw_at lw_m3 32 rfl) rfl
theorem q562 : (Jvm.Cond.laysFinal "TickShare$Retry" "TickShare$Thing" "made" "LTickShare$Table;") ∈ lw_all := lw_g (lw_at lw_m3 33 rfl) rfl
theorem q563 : (Jvm.Cond.laysFinal "TickShare$Retry" "TickShare$Thing" "other" "LTickShare$Table;") ∈ lw_all := lw_g (lw_at lw_m3 34 rfl) rfl
theorem q564 : (Jvm.Cond.lays "TickShare$Retry" "TickShare$Thing" "in" "LTickShare$Thing;") ∈ lw_all := lw_g (lw_at lw_m3 35 rfl) rfl
theorem q565 : (Jvm.Cond.lays "TickShare$Retry" "TickShare$Thing" "traces" "I") ∈ lw_all := lw_g (lw_at lw_m3 36 rfl) rfl
theorem q566 : (Jvm.Cond.lays "TickShare$Retry" "TickShare$Thing" "slow" "I") ∈ lw_all := lw_g (lw_at lw_m3 37 rfl) rfl
theorem q567 : (Jvm.Cond.superclass "TickShare$Retry" "TickShare$Thing") ∈ lw_all := lw_g (lw_at lw_m3 38 rfl) rfl
theorem q609 : (Jvm.Cond.selects "TickShare$Retry" ({ cls := "TickShare$Thing", name := "kind", desc := "()I" } : Jvm.MethodName) ({ cls := "TickShare$Retry", name := "kind", desc := "()I" } : Jvm.MethodName)) ∈ lw_all := lw_g (lw_at lw_m3 80 rfl) rfl
theorem q610 : (Jvm.Cond.instanceMethod ({ cls := "TickShare$Retry", name := "kind", desc := "()I" } : Jvm.MethodName)) ∈ lw_all := lw_g (lw_at lw_m3 81 rfl) rfl
theorem q611 : (Jvm.Cond.code ({ cls := "TickShare$Retry", name := "kind", desc := "()I" } : Jvm.MethodName) prog_7_method_2_code (1 : Nat) (Option.some Jvm.ClassFile.FieldType.int)) ∈ lw_all := lw_g (lw_at lw_m3 82 rfl) rfl
theorem q628 : (Jvm.Cond.selects "TickShare$Retry" ({ cls := "TickShare$Thing", name := "leaves", desc := "()I" } : Jvm.MethodName) ({ cls := "TickShare$Thing", name := "leaves", desc := "()I" } : Jvm.MethodName)) ∈ lw_all := lw_g (lw_at lw_m3 99 rfl) rfl
theorem q651 : (Jvm.Cond.instanceMethod ({ cls := "TickShare$Retry", name := "table", desc := "()LTickShare$Table;" } : Jvm.MethodName)) ∈ lw_all := lw_g (lw_at lw_m3 122 rfl) rfl
theorem q652 : (Jvm.Cond.code ({ cls := "TickShare$Retry", name := "table", desc := "()LTickShare$Table;" } : Jvm.MethodName) prog_7_method_4_code (9 : Nat) (Option.some (Jvm.ClassFile.FieldType.object "TickShare$Table"))) ∈ lw_all := lw_g (lw_at lw_m3 123 rfl) rfl
theorem q653 : (Jvm.Cond.methodLink "TickShare$Retry" (29 : Nat) ({ cls := "TickShare$Thing", name := "table", desc := "()LTickShare$Table;" } : Jvm.MethodName)) ∈ lw_all := lw_g (lw_at lw_m3 124 rfl) rfl
theorem q689 : (Jvm.Cond.methodLink "TickShare$Retry" (43 : Nat) ({ cls := "TickShare$Table", name := "anew", desc := "(J)LTickShare$Table;" } : Jvm.MethodName)) ∈ lw_all := lw_g (lw_at lw_m3 160 rfl) rfl
theorem q690 : (Jvm.Cond.methodLink "TickShare$Retry" (53 : Nat) ({ cls := "java/lang/Math", name := "min", desc := "(II)I" } : Jvm.MethodName)) ∈ lw_all := lw_g (lw_at lw_m3 161 rfl) rfl
theorem q693 : (Jvm.Cond.methodLinkNest "TickShare$Retry" (62 : Nat) ({ cls := "TickShare", name := "times", desc := "(JJ)J" } : Jvm.MethodName) "TickShare") ∈ lw_tbl := lw_at lw_m3 164 rfl
theorem q694 : (Jvm.Cond.methodLink "TickShare$Retry" (66 : Nat) ({ cls := "TickShare$Table", name := "add", desc := "(ZIJ)V" } : Jvm.MethodName)) ∈ lw_all := lw_g (lw_at lw_m3 165 rfl) rfl
theorem q695 : (Jvm.Cond.classLink "TickShare$Retry" (70 : Nat) "TickShare$TooGreat") ∈ lw_all := lw_g (lw_at lw_m3 166 rfl) rfl
theorem q696 : (Jvm.Cond.methodLink "TickShare$Retry" (72 : Nat) ({ cls := "TickShare$TooGreat", name := "<init>", desc := "()V" } : Jvm.MethodName)) ∈ lw_all := lw_g (lw_at lw_m3 167 rfl) rfl
theorem q697 : (Jvm.Cond.methodLink "TickShare$Retry" (75 : Nat) ({ cls := "java/lang/System", name := "arraycopy", desc := "(Ljava/lang/Object;ILjava/lang/Object;II)V" } : Jvm.MethodName)) ∈ lw_all := lw_g (lw_at lw_m3 168 rfl) rfl
theorem q698 : (Jvm.Cond.methodLink "TickShare$Retry" (81 : Nat) ({ cls := "TickShare$Table", name := "less", desc := "()LTickShare$Table;" } : Jvm.MethodName)) ∈ lw_all := lw_g (lw_at lw_m3 169 rfl) rfl
theorem q723 : (Jvm.Cond.selects "TickShare$Retry" ({ cls := "TickShare$Thing", name := "table", desc := "()LTickShare$Table;" } : Jvm.MethodName) ({ cls := "TickShare$Retry", name := "table", desc := "()LTickShare$Table;" } : Jvm.MethodName)) ∈ lw_all := lw_g (lw_at lw_m3 194 rfl) rfl
theorem q807 : (Jvm.Cond.selects "TickShare$Retry" ({ cls := "TickShare$Thing", name := "bounds", desc := "([J)J" } : Jvm.MethodName) ({ cls := "TickShare$Thing", name := "bounds", desc := "([J)J" } : Jvm.MethodName)) ∈ lw_all := lw_g (lw_at lw_m4 38 rfl) rfl
theorem q833 : (Jvm.Cond.selects "TickShare$Retry" ({ cls := "TickShare$Thing", name := "asks", desc := "()I" } : Jvm.MethodName) ({ cls := "TickShare$Retry", name := "asks", desc := "()I" } : Jvm.MethodName)) ∈ lw_all := lw_g (lw_at lw_m4 64 rfl) rfl
theorem q834 : (Jvm.Cond.instanceMethod ({ cls := "TickShare$Retry", name := "asks", desc := "()I" } : Jvm.MethodName)) ∈ lw_all := lw_g (lw_at lw_m4 65 rfl) rfl
theorem q835 : (Jvm.Cond.code ({ cls := "TickShare$Retry", name := "asks", desc := "()I" } : Jvm.MethodName) prog_7_method_3_code (1 : Nat) (Option.some Jvm.ClassFile.FieldType.int)) ∈ lw_all := lw_g (lw_at lw_m4 66 rfl) rfl
theorem q1303 : (Jvm.Cond.castable "TickShare$Retry" "java/lang/Object") ∈ lw_tbl := lw_at lw_m6 54 rfl
theorem q1312 : (Jvm.Cond.castable "TickShare$Retry" "TickShare$Thing") ∈ lw_tbl := lw_at lw_m6 63 rfl
theorem in_X9 : ∀ w ∈ wsX90, w ∈ lw_all := lw_in wsX90 [561, 562, 563, 564, 565, 566, 553, 555, 557, 559] (by decide +kernel) (by decide +kernel)

/-! TickShare$Hedge -/
set_option maxRecDepth 100000
def RX10 : String := "TickShare$Hedge"
def TX10 : u_T := fun k => match k with
  | 0 => ("TickShare$Thing", "parts", "[LTickShare$Thing;", true)
  | 1 => ("TickShare$Thing", "made", "LTickShare$Table;", true)
  | 2 => ("TickShare$Thing", "other", "LTickShare$Table;", true)
  | 3 => ("TickShare$Thing", "in", "LTickShare$Thing;", false)
  | 4 => ("TickShare$Thing", "traces", "I", false)
  | 5 => ("TickShare$Thing", "slow", "I", false)
  | _ => ("TickShare$Hedge", "behind", "I", true)
def tyX10 : Nat → FieldType := fun k => match k with
  | 0 => .array (.object "TickShare$Thing")
  | 1 => .object "TickShare$Table"
  | 2 => .object "TickShare$Table"
  | 3 => .object "TickShare$Thing"
  | 4 => .int
  | 5 => .int
  | _ => .int
abbrev wsX100 : List Cond := u_ws RX10 TX10 7
theorem nmX10 : ∀ a, a < 7 → ∀ b, b < 7 → a ≠ b → (TX10 a).2.1 ≠ (TX10 b).2.1 := by decide +kernel
theorem tyX10_ok : ∀ k, k < 7 → parseFieldDescriptor (TX10 k).2.2.1 = some (tyX10 k) := by decide +kernel
abbrev cX10_init : ByteArray := prog_4_method_1_code
def yX10_init : MethodName := ⟨RX10, "<init>", "(LTickShare$Thing;I)V"⟩
def dkwX10_init_0 : List UInt8 := [42, 4, 189, 0, 3, 89, 3, 43, 83, 183, 0, 5, 42, 28, 181, 0, 9, 177]
abbrev dktX10_init_0 : List UInt8 := dkwX10_init_0 ++ []
theorem dksX10_init_0 : cX10_init.data.toList.drop 0 = dktX10_init_0 := by decide +kernel
theorem dX10_init_0 : decode cX10_init 0 = .ok (.aload_n 0, 1) := dk_42 (dk_at dksX10_init_0 0 rfl rfl)
theorem dX10_init_1 : decode cX10_init 1 = .ok (.iconst 1, 1) := dk_4 (dk_at dksX10_init_0 1 rfl rfl)
theorem dX10_init_2 : decode cX10_init 2 = .ok (.anewarray 3, 3) := dk_189 0 3 (dk_at dksX10_init_0 2 rfl rfl)
theorem dX10_init_5 : decode cX10_init 5 = .ok (.dup, 1) := dk_89 (dk_at dksX10_init_0 5 rfl rfl)
theorem dX10_init_6 : decode cX10_init 6 = .ok (.iconst 0, 1) := dk_3 (dk_at dksX10_init_0 6 rfl rfl)
theorem dX10_init_7 : decode cX10_init 7 = .ok (.aload_n 1, 1) := dk_43 (dk_at dksX10_init_0 7 rfl rfl)
theorem dX10_init_8 : decode cX10_init 8 = .ok (.aastore, 1) := dk_83 (dk_at dksX10_init_0 8 rfl rfl)
theorem dX10_init_9 : decode cX10_init 9 = .ok (.invokespecial 5, 3) := dk_183 0 5 (dk_at dksX10_init_0 9 rfl rfl)
theorem dX10_init_12 : decode cX10_init 12 = .ok (.aload_n 0, 1) := dk_42 (dk_at dksX10_init_0 12 rfl rfl)
theorem dX10_init_13 : decode cX10_init 13 = .ok (.iload_n 2, 1) := dk_28 (dk_at dksX10_init_0 13 rfl rfl)
theorem dX10_init_14 : decode cX10_init 14 = .ok (.putfield 9, 3) := dk_181 0 9 (dk_at dksX10_init_0 14 rfl rfl)
theorem dX10_init_17 : decode cX10_init 17 = .ok (.return_, 1) := dk_177 (dk_at dksX10_init_0 17 rfl rfl)
abbrev cX10_kind : ByteArray := prog_4_method_2_code
def yX10_kind : MethodName := ⟨RX10, "kind", "()I"⟩
theorem dX10_kind_0 : decode cX10_kind 0 = .ok (.iconst 5, 1) := by decide +kernel
theorem dX10_kind_1 : decode cX10_kind 1 = .ok (.ireturn, 1) := by decide +kernel
abbrev cX10_table : ByteArray := prog_4_method_4_code
def yX10_table : MethodName := ⟨RX10, "table", "()LTickShare$Table;"⟩
def dkwX10_table_8 : List UInt8 := [47, 105, 182, 0, 45, 132, 4, 1, 167, 255, 146, 132, 3, 1, 167, 255, 86, 44, 182, 0, 61, 176]
abbrev dktX10_table_8 : List UInt8 := dkwX10_table_8 ++ []
def dkwX10_table_7 : List UInt8 := [105, 182, 0, 45, 44, 3, 29, 21, 5, 184, 0, 58, 43, 180, 0, 49, 29, 47, 43, 180, 0, 49, 21, 4]
abbrev dktX10_table_7 : List UInt8 := dkwX10_table_7 ++ dktX10_table_8
def dkwX10_table_6 : List UInt8 := [21, 4, 47, 105, 182, 0, 45, 44, 4, 21, 5, 43, 180, 0, 49, 29, 47, 43, 180, 0, 41, 21, 4, 47]
abbrev dktX10_table_6 : List UInt8 := dkwX10_table_6 ++ dktX10_table_7
def dkwX10_table_5 : List UInt8 := [180, 0, 41, 21, 4, 47, 105, 182, 0, 45, 44, 4, 29, 43, 180, 0, 41, 29, 47, 43, 180, 0, 49]
abbrev dktX10_table_5 : List UInt8 := dkwX10_table_5 ++ dktX10_table_6
def dkwX10_table_4 : List UInt8 := [180, 0, 9, 21, 4, 96, 54, 5, 44, 4, 29, 21, 5, 184, 0, 52, 43, 180, 0, 41, 29, 47, 43]
abbrev dktX10_table_4 : List UInt8 := dkwX10_table_4 ++ dktX10_table_5
def dkwX10_table_3 : List UInt8 := [47, 43, 180, 0, 27, 105, 182, 0, 45, 167, 0, 119, 3, 54, 4, 21, 4, 16, 120, 163, 0, 109, 42]
abbrev dktX10_table_3 : List UInt8 := dkwX10_table_3 ++ dktX10_table_4
def dkwX10_table_2 : List UInt8 := [4, 29, 43, 180, 0, 41, 29, 47, 43, 180, 0, 27, 105, 182, 0, 45, 44, 3, 29, 43, 180, 0, 49, 29]
abbrev dktX10_table_2 : List UInt8 := dkwX10_table_2 ++ dktX10_table_3
def dkwX10_table_1 : List UInt8 := [184, 0, 33, 182, 0, 37, 77, 3, 62, 29, 16, 120, 163, 0, 170, 29, 42, 180, 0, 9, 163, 0, 40, 44]
abbrev dktX10_table_1 : List UInt8 := dkwX10_table_1 ++ dktX10_table_2
def dkwX10_table_0 : List UInt8 := [42, 180, 0, 15, 3, 50, 182, 0, 19, 76, 42, 180, 0, 23, 43, 180, 0, 27, 43, 180, 0, 27]
abbrev dktX10_table_0 : List UInt8 := dkwX10_table_0 ++ dktX10_table_1
theorem dksX10_table_0 : cX10_table.data.toList.drop 0 = dktX10_table_0 := by decide +kernel
theorem dksX10_table_1 : cX10_table.data.toList.drop 22 = dktX10_table_1 := dk_seg dksX10_table_0 22 rfl rfl
theorem dksX10_table_2 : cX10_table.data.toList.drop 46 = dktX10_table_2 := dk_seg dksX10_table_1 24 rfl rfl
theorem dksX10_table_3 : cX10_table.data.toList.drop 70 = dktX10_table_3 := dk_seg dksX10_table_2 24 rfl rfl
theorem dksX10_table_4 : cX10_table.data.toList.drop 93 = dktX10_table_4 := dk_seg dksX10_table_3 23 rfl rfl
theorem dksX10_table_5 : cX10_table.data.toList.drop 116 = dktX10_table_5 := dk_seg dksX10_table_4 23 rfl rfl
theorem dksX10_table_6 : cX10_table.data.toList.drop 139 = dktX10_table_6 := dk_seg dksX10_table_5 23 rfl rfl
theorem dksX10_table_7 : cX10_table.data.toList.drop 163 = dktX10_table_7 := dk_seg dksX10_table_6 24 rfl rfl
theorem dksX10_table_8 : cX10_table.data.toList.drop 187 = dktX10_table_8 := dk_seg dksX10_table_7 24 rfl rfl
theorem dX10_table_0 : decode cX10_table 0 = .ok (.aload_n 0, 1) := dk_42 (dk_at dksX10_table_0 0 rfl rfl)
theorem dX10_table_1 : decode cX10_table 1 = .ok (.getfield 15, 3) := dk_180 0 15 (dk_at dksX10_table_0 1 rfl rfl)
theorem dX10_table_4 : decode cX10_table 4 = .ok (.iconst 0, 1) := dk_3 (dk_at dksX10_table_0 4 rfl rfl)
theorem dX10_table_5 : decode cX10_table 5 = .ok (.aaload, 1) := dk_50 (dk_at dksX10_table_0 5 rfl rfl)
theorem dX10_table_6 : decode cX10_table 6 = .ok (.invokevirtual 19, 3) := dk_182 0 19 (dk_at dksX10_table_0 6 rfl rfl)
theorem dX10_table_9 : decode cX10_table 9 = .ok (.astore_n 1, 1) := dk_76 (dk_at dksX10_table_0 9 rfl rfl)
theorem dX10_table_10 : decode cX10_table 10 = .ok (.aload_n 0, 1) := dk_42 (dk_at dksX10_table_0 10 rfl rfl)
theorem dX10_table_11 : decode cX10_table 11 = .ok (.getfield 23, 3) := dk_180 0 23 (dk_at dksX10_table_0 11 rfl rfl)
theorem dX10_table_14 : decode cX10_table 14 = .ok (.aload_n 1, 1) := dk_43 (dk_at dksX10_table_0 14 rfl rfl)
theorem dX10_table_15 : decode cX10_table 15 = .ok (.getfield 27, 3) := dk_180 0 27 (dk_at dksX10_table_0 15 rfl rfl)
theorem dX10_table_18 : decode cX10_table 18 = .ok (.aload_n 1, 1) := dk_43 (dk_at dksX10_table_0 18 rfl rfl)
theorem dX10_table_19 : decode cX10_table 19 = .ok (.getfield 27, 3) := dk_180 0 27 (dk_at dksX10_table_0 19 rfl rfl)
theorem dX10_table_22 : decode cX10_table 22 = .ok (.invokestatic 33, 3) := dk_184 0 33 (dk_at dksX10_table_1 0 rfl rfl)
theorem dX10_table_25 : decode cX10_table 25 = .ok (.invokevirtual 37, 3) := dk_182 0 37 (dk_at dksX10_table_1 3 rfl rfl)
theorem dX10_table_28 : decode cX10_table 28 = .ok (.astore_n 2, 1) := dk_77 (dk_at dksX10_table_1 6 rfl rfl)
theorem dX10_table_29 : decode cX10_table 29 = .ok (.iconst 0, 1) := dk_3 (dk_at dksX10_table_1 7 rfl rfl)
theorem dX10_table_30 : decode cX10_table 30 = .ok (.istore_n 3, 1) := dk_62 (dk_at dksX10_table_1 8 rfl rfl)
theorem dX10_table_31 : decode cX10_table 31 = .ok (.iload_n 3, 1) := dk_29 (dk_at dksX10_table_1 9 rfl rfl)
theorem dX10_table_32 : decode cX10_table 32 = .ok (.bipush 120, 2) := dk_16 120 (dk_at dksX10_table_1 10 rfl rfl)
theorem dX10_table_34 : decode cX10_table 34 = .ok (.if_icmp .gt 170, 3) := dk_163 0 170 (dk_at dksX10_table_1 12 rfl rfl)
theorem dX10_table_37 : decode cX10_table 37 = .ok (.iload_n 3, 1) := dk_29 (dk_at dksX10_table_1 15 rfl rfl)
theorem dX10_table_38 : decode cX10_table 38 = .ok (.aload_n 0, 1) := dk_42 (dk_at dksX10_table_1 16 rfl rfl)
theorem dX10_table_39 : decode cX10_table 39 = .ok (.getfield 9, 3) := dk_180 0 9 (dk_at dksX10_table_1 17 rfl rfl)
theorem dX10_table_42 : decode cX10_table 42 = .ok (.if_icmp .gt 40, 3) := dk_163 0 40 (dk_at dksX10_table_1 20 rfl rfl)
theorem dX10_table_45 : decode cX10_table 45 = .ok (.aload_n 2, 1) := dk_44 (dk_at dksX10_table_1 23 rfl rfl)
theorem dX10_table_46 : decode cX10_table 46 = .ok (.iconst 1, 1) := dk_4 (dk_at dksX10_table_2 0 rfl rfl)
theorem dX10_table_47 : decode cX10_table 47 = .ok (.iload_n 3, 1) := dk_29 (dk_at dksX10_table_2 1 rfl rfl)
theorem dX10_table_48 : decode cX10_table 48 = .ok (.aload_n 1, 1) := dk_43 (dk_at dksX10_table_2 2 rfl rfl)
theorem dX10_table_49 : decode cX10_table 49 = .ok (.getfield 41, 3) := dk_180 0 41 (dk_at dksX10_table_2 3 rfl rfl)
theorem dX10_table_52 : decode cX10_table 52 = .ok (.iload_n 3, 1) := dk_29 (dk_at dksX10_table_2 6 rfl rfl)
theorem dX10_table_53 : decode cX10_table 53 = .ok (.laload, 1) := dk_47 (dk_at dksX10_table_2 7 rfl rfl)
theorem dX10_table_54 : decode cX10_table 54 = .ok (.aload_n 1, 1) := dk_43 (dk_at dksX10_table_2 8 rfl rfl)
theorem dX10_table_55 : decode cX10_table 55 = .ok (.getfield 27, 3) := dk_180 0 27 (dk_at dksX10_table_2 9 rfl rfl)
theorem dX10_table_58 : decode cX10_table 58 = .ok (.lmul, 1) := dk_105 (dk_at dksX10_table_2 12 rfl rfl)
theorem dX10_table_59 : decode cX10_table 59 = .ok (.invokevirtual 45, 3) := dk_182 0 45 (dk_at dksX10_table_2 13 rfl rfl)
theorem dX10_table_62 : decode cX10_table 62 = .ok (.aload_n 2, 1) := dk_44 (dk_at dksX10_table_2 16 rfl rfl)
theorem dX10_table_63 : decode cX10_table 63 = .ok (.iconst 0, 1) := dk_3 (dk_at dksX10_table_2 17 rfl rfl)
theorem dX10_table_64 : decode cX10_table 64 = .ok (.iload_n 3, 1) := dk_29 (dk_at dksX10_table_2 18 rfl rfl)
theorem dX10_table_65 : decode cX10_table 65 = .ok (.aload_n 1, 1) := dk_43 (dk_at dksX10_table_2 19 rfl rfl)
theorem dX10_table_66 : decode cX10_table 66 = .ok (.getfield 49, 3) := dk_180 0 49 (dk_at dksX10_table_2 20 rfl rfl)
theorem dX10_table_69 : decode cX10_table 69 = .ok (.iload_n 3, 1) := dk_29 (dk_at dksX10_table_2 23 rfl rfl)
theorem dX10_table_70 : decode cX10_table 70 = .ok (.laload, 1) := dk_47 (dk_at dksX10_table_3 0 rfl rfl)
theorem dX10_table_71 : decode cX10_table 71 = .ok (.aload_n 1, 1) := dk_43 (dk_at dksX10_table_3 1 rfl rfl)
theorem dX10_table_72 : decode cX10_table 72 = .ok (.getfield 27, 3) := dk_180 0 27 (dk_at dksX10_table_3 2 rfl rfl)
theorem dX10_table_75 : decode cX10_table 75 = .ok (.lmul, 1) := dk_105 (dk_at dksX10_table_3 5 rfl rfl)
theorem dX10_table_76 : decode cX10_table 76 = .ok (.invokevirtual 45, 3) := dk_182 0 45 (dk_at dksX10_table_3 6 rfl rfl)
theorem dX10_table_79 : decode cX10_table 79 = .ok (.goto 119, 3) := dk_167 0 119 (dk_at dksX10_table_3 9 rfl rfl)
theorem dX10_table_82 : decode cX10_table 82 = .ok (.iconst 0, 1) := dk_3 (dk_at dksX10_table_3 12 rfl rfl)
theorem dX10_table_83 : decode cX10_table 83 = .ok (.istore 4, 2) := dk_54 4 (dk_at dksX10_table_3 13 rfl rfl)
theorem dX10_table_85 : decode cX10_table 85 = .ok (.iload 4, 2) := dk_21 4 (dk_at dksX10_table_3 15 rfl rfl)
theorem dX10_table_87 : decode cX10_table 87 = .ok (.bipush 120, 2) := dk_16 120 (dk_at dksX10_table_3 17 rfl rfl)
theorem dX10_table_89 : decode cX10_table 89 = .ok (.if_icmp .gt 109, 3) := dk_163 0 109 (dk_at dksX10_table_3 19 rfl rfl)
theorem dX10_table_92 : decode cX10_table 92 = .ok (.aload_n 0, 1) := dk_42 (dk_at dksX10_table_3 22 rfl rfl)
theorem dX10_table_93 : decode cX10_table 93 = .ok (.getfield 9, 3) := dk_180 0 9 (dk_at dksX10_table_4 0 rfl rfl)
theorem dX10_table_96 : decode cX10_table 96 = .ok (.iload 4, 2) := dk_21 4 (dk_at dksX10_table_4 3 rfl rfl)
theorem dX10_table_98 : decode cX10_table 98 = .ok (.iadd, 1) := dk_96 (dk_at dksX10_table_4 5 rfl rfl)
theorem dX10_table_99 : decode cX10_table 99 = .ok (.istore 5, 2) := dk_54 5 (dk_at dksX10_table_4 6 rfl rfl)
theorem dX10_table_101 : decode cX10_table 101 = .ok (.aload_n 2, 1) := dk_44 (dk_at dksX10_table_4 8 rfl rfl)
theorem dX10_table_102 : decode cX10_table 102 = .ok (.iconst 1, 1) := dk_4 (dk_at dksX10_table_4 9 rfl rfl)
theorem dX10_table_103 : decode cX10_table 103 = .ok (.iload_n 3, 1) := dk_29 (dk_at dksX10_table_4 10 rfl rfl)
theorem dX10_table_104 : decode cX10_table 104 = .ok (.iload 5, 2) := dk_21 5 (dk_at dksX10_table_4 11 rfl rfl)
theorem dX10_table_106 : decode cX10_table 106 = .ok (.invokestatic 52, 3) := dk_184 0 52 (dk_at dksX10_table_4 13 rfl rfl)
theorem dX10_table_109 : decode cX10_table 109 = .ok (.aload_n 1, 1) := dk_43 (dk_at dksX10_table_4 16 rfl rfl)
theorem dX10_table_110 : decode cX10_table 110 = .ok (.getfield 41, 3) := dk_180 0 41 (dk_at dksX10_table_4 17 rfl rfl)
theorem dX10_table_113 : decode cX10_table 113 = .ok (.iload_n 3, 1) := dk_29 (dk_at dksX10_table_4 20 rfl rfl)
theorem dX10_table_114 : decode cX10_table 114 = .ok (.laload, 1) := dk_47 (dk_at dksX10_table_4 21 rfl rfl)
theorem dX10_table_115 : decode cX10_table 115 = .ok (.aload_n 1, 1) := dk_43 (dk_at dksX10_table_4 22 rfl rfl)
theorem dX10_table_116 : decode cX10_table 116 = .ok (.getfield 41, 3) := dk_180 0 41 (dk_at dksX10_table_5 0 rfl rfl)
theorem dX10_table_119 : decode cX10_table 119 = .ok (.iload 4, 2) := dk_21 4 (dk_at dksX10_table_5 3 rfl rfl)
theorem dX10_table_121 : decode cX10_table 121 = .ok (.laload, 1) := dk_47 (dk_at dksX10_table_5 5 rfl rfl)
theorem dX10_table_122 : decode cX10_table 122 = .ok (.lmul, 1) := dk_105 (dk_at dksX10_table_5 6 rfl rfl)
theorem dX10_table_123 : decode cX10_table 123 = .ok (.invokevirtual 45, 3) := dk_182 0 45 (dk_at dksX10_table_5 7 rfl rfl)
theorem dX10_table_126 : decode cX10_table 126 = .ok (.aload_n 2, 1) := dk_44 (dk_at dksX10_table_5 10 rfl rfl)
theorem dX10_table_127 : decode cX10_table 127 = .ok (.iconst 1, 1) := dk_4 (dk_at dksX10_table_5 11 rfl rfl)
theorem dX10_table_128 : decode cX10_table 128 = .ok (.iload_n 3, 1) := dk_29 (dk_at dksX10_table_5 12 rfl rfl)
theorem dX10_table_129 : decode cX10_table 129 = .ok (.aload_n 1, 1) := dk_43 (dk_at dksX10_table_5 13 rfl rfl)
theorem dX10_table_130 : decode cX10_table 130 = .ok (.getfield 41, 3) := dk_180 0 41 (dk_at dksX10_table_5 14 rfl rfl)
theorem dX10_table_133 : decode cX10_table 133 = .ok (.iload_n 3, 1) := dk_29 (dk_at dksX10_table_5 17 rfl rfl)
theorem dX10_table_134 : decode cX10_table 134 = .ok (.laload, 1) := dk_47 (dk_at dksX10_table_5 18 rfl rfl)
theorem dX10_table_135 : decode cX10_table 135 = .ok (.aload_n 1, 1) := dk_43 (dk_at dksX10_table_5 19 rfl rfl)
theorem dX10_table_136 : decode cX10_table 136 = .ok (.getfield 49, 3) := dk_180 0 49 (dk_at dksX10_table_5 20 rfl rfl)
theorem dX10_table_139 : decode cX10_table 139 = .ok (.iload 4, 2) := dk_21 4 (dk_at dksX10_table_6 0 rfl rfl)
theorem dX10_table_141 : decode cX10_table 141 = .ok (.laload, 1) := dk_47 (dk_at dksX10_table_6 2 rfl rfl)
theorem dX10_table_142 : decode cX10_table 142 = .ok (.lmul, 1) := dk_105 (dk_at dksX10_table_6 3 rfl rfl)
theorem dX10_table_143 : decode cX10_table 143 = .ok (.invokevirtual 45, 3) := dk_182 0 45 (dk_at dksX10_table_6 4 rfl rfl)
theorem dX10_table_146 : decode cX10_table 146 = .ok (.aload_n 2, 1) := dk_44 (dk_at dksX10_table_6 7 rfl rfl)
theorem dX10_table_147 : decode cX10_table 147 = .ok (.iconst 1, 1) := dk_4 (dk_at dksX10_table_6 8 rfl rfl)
theorem dX10_table_148 : decode cX10_table 148 = .ok (.iload 5, 2) := dk_21 5 (dk_at dksX10_table_6 9 rfl rfl)
theorem dX10_table_150 : decode cX10_table 150 = .ok (.aload_n 1, 1) := dk_43 (dk_at dksX10_table_6 11 rfl rfl)
theorem dX10_table_151 : decode cX10_table 151 = .ok (.getfield 49, 3) := dk_180 0 49 (dk_at dksX10_table_6 12 rfl rfl)
theorem dX10_table_154 : decode cX10_table 154 = .ok (.iload_n 3, 1) := dk_29 (dk_at dksX10_table_6 15 rfl rfl)
theorem dX10_table_155 : decode cX10_table 155 = .ok (.laload, 1) := dk_47 (dk_at dksX10_table_6 16 rfl rfl)
theorem dX10_table_156 : decode cX10_table 156 = .ok (.aload_n 1, 1) := dk_43 (dk_at dksX10_table_6 17 rfl rfl)
theorem dX10_table_157 : decode cX10_table 157 = .ok (.getfield 41, 3) := dk_180 0 41 (dk_at dksX10_table_6 18 rfl rfl)
theorem dX10_table_160 : decode cX10_table 160 = .ok (.iload 4, 2) := dk_21 4 (dk_at dksX10_table_6 21 rfl rfl)
theorem dX10_table_162 : decode cX10_table 162 = .ok (.laload, 1) := dk_47 (dk_at dksX10_table_6 23 rfl rfl)
theorem dX10_table_163 : decode cX10_table 163 = .ok (.lmul, 1) := dk_105 (dk_at dksX10_table_7 0 rfl rfl)
theorem dX10_table_164 : decode cX10_table 164 = .ok (.invokevirtual 45, 3) := dk_182 0 45 (dk_at dksX10_table_7 1 rfl rfl)
theorem dX10_table_167 : decode cX10_table 167 = .ok (.aload_n 2, 1) := dk_44 (dk_at dksX10_table_7 4 rfl rfl)
theorem dX10_table_168 : decode cX10_table 168 = .ok (.iconst 0, 1) := dk_3 (dk_at dksX10_table_7 5 rfl rfl)
theorem dX10_table_169 : decode cX10_table 169 = .ok (.iload_n 3, 1) := dk_29 (dk_at dksX10_table_7 6 rfl rfl)
theorem dX10_table_170 : decode cX10_table 170 = .ok (.iload 5, 2) := dk_21 5 (dk_at dksX10_table_7 7 rfl rfl)
theorem dX10_table_172 : decode cX10_table 172 = .ok (.invokestatic 58, 3) := dk_184 0 58 (dk_at dksX10_table_7 9 rfl rfl)
theorem dX10_table_175 : decode cX10_table 175 = .ok (.aload_n 1, 1) := dk_43 (dk_at dksX10_table_7 12 rfl rfl)
theorem dX10_table_176 : decode cX10_table 176 = .ok (.getfield 49, 3) := dk_180 0 49 (dk_at dksX10_table_7 13 rfl rfl)
theorem dX10_table_179 : decode cX10_table 179 = .ok (.iload_n 3, 1) := dk_29 (dk_at dksX10_table_7 16 rfl rfl)
theorem dX10_table_180 : decode cX10_table 180 = .ok (.laload, 1) := dk_47 (dk_at dksX10_table_7 17 rfl rfl)
theorem dX10_table_181 : decode cX10_table 181 = .ok (.aload_n 1, 1) := dk_43 (dk_at dksX10_table_7 18 rfl rfl)
theorem dX10_table_182 : decode cX10_table 182 = .ok (.getfield 49, 3) := dk_180 0 49 (dk_at dksX10_table_7 19 rfl rfl)
theorem dX10_table_185 : decode cX10_table 185 = .ok (.iload 4, 2) := dk_21 4 (dk_at dksX10_table_7 22 rfl rfl)
theorem dX10_table_187 : decode cX10_table 187 = .ok (.laload, 1) := dk_47 (dk_at dksX10_table_8 0 rfl rfl)
theorem dX10_table_188 : decode cX10_table 188 = .ok (.lmul, 1) := dk_105 (dk_at dksX10_table_8 1 rfl rfl)
theorem dX10_table_189 : decode cX10_table 189 = .ok (.invokevirtual 45, 3) := dk_182 0 45 (dk_at dksX10_table_8 2 rfl rfl)
theorem dX10_table_192 : decode cX10_table 192 = .ok (.iinc 4 1, 3) := dk_132 4 1 (dk_at dksX10_table_8 5 rfl rfl)
theorem dX10_table_195 : decode cX10_table 195 = .ok (.goto (-110), 3) := dk_167 255 146 (dk_at dksX10_table_8 8 rfl rfl)
theorem dX10_table_198 : decode cX10_table 198 = .ok (.iinc 3 1, 3) := dk_132 3 1 (dk_at dksX10_table_8 11 rfl rfl)
theorem dX10_table_201 : decode cX10_table 201 = .ok (.goto (-170), 3) := dk_167 255 86 (dk_at dksX10_table_8 14 rfl rfl)
theorem dX10_table_204 : decode cX10_table 204 = .ok (.aload_n 2, 1) := dk_44 (dk_at dksX10_table_8 17 rfl rfl)
theorem dX10_table_205 : decode cX10_table 205 = .ok (.invokevirtual 61, 3) := dk_182 0 61 (dk_at dksX10_table_8 18 rfl rfl)
theorem dX10_table_208 : decode cX10_table 208 = .ok (.areturn, 1) := dk_176 (dk_at dksX10_table_8 21 rfl rfl)
abbrev cX10_asks : ByteArray := prog_4_method_3_code
def yX10_asks : MethodName := ⟨RX10, "asks", "()I"⟩
theorem dX10_asks_0 : decode cX10_asks 0 = .ok (.iconst 2, 1) := by decide +kernel
theorem dX10_asks_1 : decode cX10_asks 1 = .ok (.ireturn, 1) := by decide +kernel
theorem q69 : (Jvm.Cond.initialized "TickShare$Hedge") ∈ lw_all := lw_g (lw_at lw_m1 20 rfl) rfl
theorem q321 : (Jvm.Cond.fieldLinkNest "TickShare$Hedge" (41 : Nat) "TickShare$Table" "ok" "[J" "TickShare") ∈ lw_tbl := lw_at lw_m2 32 rfl
theorem q327 : (Jvm.Cond.fieldLinkNest "TickShare$Hedge" (49 : Nat) "TickShare$Table" "fail" "[J" "TickShare") ∈ lw_tbl := lw_at lw_m2 38 rfl
theorem q334 : (Jvm.Cond.fieldLinkNest "TickShare$Hedge" (27 : Nat) "TickShare$Table" "whole" "J" "TickShare") ∈ lw_tbl := lw_at lw_m2 45 rfl
theorem q389 : (Jvm.Cond.fieldLink "TickShare$Hedge" (15 : Nat) "TickShare$Hedge" "parts" "[LTickShare$Thing;") ∈ lw_all := lw_g (lw_at lw_m2 100 rfl) rfl
theorem q390 : (Jvm.Cond.sameField "TickShare$Hedge" "TickShare$Thing" "parts" "[LTickShare$Thing;") ∈ lw_all := lw_g (lw_at lw_m2 101 rfl) rfl
theorem q401 : (Jvm.Cond.fieldLink "TickShare$Hedge" (23 : Nat) "TickShare$Hedge" "made" "LTickShare$Table;") ∈ lw_all := lw_g (lw_at lw_m2 112 rfl) rfl
theorem q402 : (Jvm.Cond.sameField "TickShare$Hedge" "TickShare$Thing" "made" "LTickShare$Table;") ∈ lw_all := lw_g (lw_at lw_m2 113 rfl) rfl
theorem q573 : (Jvm.Cond.instantiable "TickShare$Hedge" (7 : Nat)) ∈ lw_all := lw_g (lw_at lw_m3 44 rfl) rfl
theorem q575 : (Jvm.Cond.instanceMethod ({ cls := "TickShare$Hedge", name := "<init>", desc := "(LTickShare$Thing;I)V" } : Jvm.MethodName)) ∈ lw_all := lw_g (lw_at lw_m3 46 rfl) rfl
theorem q576 : (Jvm.Cond.code ({ cls := "TickShare$Hedge", name := "<init>", desc := "(LTickShare$Thing;I)V" } : Jvm.MethodName) prog_4_method_1_code (3 : Nat) (Option.none : Option Jvm.ClassFile.FieldType)) ∈ lw_all := lw_g (lw_at lw_m3 47 rfl) rfl
theorem q577 : (Jvm.Cond.classLink "TickShare$Hedge" (3 : Nat) "TickShare$Thing") ∈ lw_all := lw_g (lw_at lw_m3 48 rfl) rfl
theorem q578 : (Jvm.Cond.methodLink "TickShare$Hedge" (5 : Nat) ({ cls := "TickShare$Thing", name := "<init>", desc := "([LTickShare$Thing;)V" } : Jvm.MethodName)) ∈ lw_all := lw_g (lw_at lw_m3 49 rfl) rfl
theorem q579 : (Jvm.Cond.fieldLink "TickShare$Hedge" (9 : Nat) "TickShare$Hedge" "behind" "I") ∈ lw_all := lw_g (lw_at lw_m3 50 rfl) rfl
theorem q580 : (Jvm.Cond.laysFinal "TickShare$Hedge" "TickShare$Hedge" "behind" "I") ∈ lw_all := lw_g (lw_at lw_m3 51 rfl) rfl
theorem q581 : (Jvm.Cond.soleField "TickShare$Hedge" "behind") ∈ lw_all := lw_g (lw_at lw_m3 52 rfl) rfl
theorem q582 : (Jvm.Cond.laysFinal "TickShare$Hedge" "TickShare$Thing" "parts" "[LTickShare$Thing;") ∈ lw_all := lw_g (lw_at lw_m3 53 rfl) rfl
theorem q583 : (Jvm.Cond.laysFinal "TickShare$Hedge" "TickShare$Thing" "made" "LTickShare$Table;") ∈ lw_all := lw_g (lw_at lw_m3 54 rfl) rfl
theorem q584 : (Jvm.Cond.laysFinal "TickShare$Hedge" "TickShare$Thing" "other" "LTickShare$Table;") ∈ lw_all := lw_g (lw_at lw_m3 55 rfl) rfl
theorem q585 : (Jvm.Cond.lays "TickShare$Hedge" "TickShare$Thing" "in" "LTickShare$Thing;") ∈ lw_all := lw_g (lw_at lw_m3 56 rfl) rfl
theorem q586 : (Jvm.Cond.lays "TickShare$Hedge" "TickShare$Thing" "traces" "I") ∈ lw_all := lw_g (lw_at lw_m3 57 rfl) rfl
theorem q587 : (Jvm.Cond.lays "TickShare$Hedge" "TickShare$Thing" "slow" "I") ∈ lw_all := lw_g (lw_at lw_m3 58 rfl) rfl
theorem q588 : (Jvm.Cond.superclass "TickShare$Hedge" "TickShare$Thing") ∈ lw_all := lw_g (lw_at lw_m3 59 rfl) rfl
theorem q603 : (Jvm.Cond.selects "TickShare$Hedge" ({ cls := "TickShare$Thing", name := "kind", desc := "()I" } : Jvm.MethodName) ({ cls := "TickShare$Hedge", name := "kind", desc := "()I" } : Jvm.MethodName)) ∈ lw_all := lw_g (lw_at lw_m3 74 rfl) rfl
theorem q604 : (Jvm.Cond.instanceMethod ({ cls := "TickShare$Hedge", name := "kind", desc := "()I" } : Jvm.MethodName)) ∈ lw_all := lw_g (lw_at lw_m3 75 rfl) rfl
theorem q605 : (Jvm.Cond.code ({ cls := "TickShare$Hedge", name := "kind", desc := "()I" } : Jvm.MethodName) prog_4_method_2_code (1 : Nat) (Option.some Jvm.ClassFile.FieldType.int)) ∈ lw_all := lw_g (lw_at lw_m3 76 rfl) rfl
theorem q624 : (Jvm.Cond.selects "TickShare$Hedge" ({ cls := "TickShare$Thing", name := "leaves", desc := "()I" } : Jvm.MethodName) ({ cls := "TickShare$Thing", name := "leaves", desc := "()I" } : Jvm.MethodName)) ∈ lw_all := lw_g (lw_at lw_m3 95 rfl) rfl
theorem q646 : (Jvm.Cond.instanceMethod ({ cls := "TickShare$Hedge", name := "table", desc := "()LTickShare$Table;" } : Jvm.MethodName)) ∈ lw_all := lw_g (lw_at lw_m3 117 rfl) rfl
theorem q647 : (Jvm.Cond.code ({ cls := "TickShare$Hedge", name := "table", desc := "()LTickShare$Table;" } : Jvm.MethodName) prog_4_method_4_code (6 : Nat) (Option.some (Jvm.ClassFile.FieldType.object "TickShare$Table"))) ∈ lw_all := lw_g (lw_at lw_m3 118 rfl) rfl
theorem q648 : (Jvm.Cond.methodLink "TickShare$Hedge" (19 : Nat) ({ cls := "TickShare$Thing", name := "table", desc := "()LTickShare$Table;" } : Jvm.MethodName)) ∈ lw_all := lw_g (lw_at lw_m3 119 rfl) rfl
theorem q699 : (Jvm.Cond.methodLinkNest "TickShare$Hedge" (33 : Nat) ({ cls := "TickShare", name := "times", desc := "(JJ)J" } : Jvm.MethodName) "TickShare") ∈ lw_tbl := lw_at lw_m3 170 rfl
theorem q700 : (Jvm.Cond.methodLink "TickShare$Hedge" (37 : Nat) ({ cls := "TickShare$Table", name := "anew", desc := "(J)LTickShare$Table;" } : Jvm.MethodName)) ∈ lw_all := lw_g (lw_at lw_m3 171 rfl) rfl
theorem q701 : (Jvm.Cond.methodLink "TickShare$Hedge" (45 : Nat) ({ cls := "TickShare$Table", name := "add", desc := "(ZIJ)V" } : Jvm.MethodName)) ∈ lw_all := lw_g (lw_at lw_m3 172 rfl) rfl
theorem q702 : (Jvm.Cond.methodLink "TickShare$Hedge" (52 : Nat) ({ cls := "java/lang/Math", name := "min", desc := "(II)I" } : Jvm.MethodName)) ∈ lw_all := lw_g (lw_at lw_m3 173 rfl) rfl
theorem q703 : (Jvm.Cond.methodLink "TickShare$Hedge" (58 : Nat) ({ cls := "java/lang/Math", name := "max", desc := "(II)I" } : Jvm.MethodName)) ∈ lw_all := lw_g (lw_at lw_m3 174 rfl) rfl
theorem q706 : (Jvm.Cond.methodLink "TickShare$Hedge" (61 : Nat) ({ cls := "TickShare$Table", name := "less", desc := "()LTickShare$Table;" } : Jvm.MethodName)) ∈ lw_all := lw_g (lw_at lw_m3 177 rfl) rfl
theorem q721 : (Jvm.Cond.selects "TickShare$Hedge" ({ cls := "TickShare$Thing", name := "table", desc := "()LTickShare$Table;" } : Jvm.MethodName) ({ cls := "TickShare$Hedge", name := "table", desc := "()LTickShare$Table;" } : Jvm.MethodName)) ∈ lw_all := lw_g (lw_at lw_m3 192 rfl) rfl
theorem q805 : (Jvm.Cond.selects "TickShare$Hedge" ({ cls := "TickShare$Thing", name := "bounds", desc := "([J)J" } : Jvm.MethodName) ({ cls := "TickShare$Thing", name := "bounds", desc := "([J)J" } : Jvm.MethodName)) ∈ lw_all := lw_g (lw_at lw_m4 36 rfl) rfl
theorem q829 : (Jvm.Cond.selects "TickShare$Hedge" ({ cls := "TickShare$Thing", name := "asks", desc := "()I" } : Jvm.MethodName) ({ cls := "TickShare$Hedge", name := "asks", desc := "()I" } : Jvm.MethodName)) ∈ lw_all := lw_g (lw_at lw_m4 60 rfl) rfl
theorem q830 : (Jvm.Cond.instanceMethod ({ cls := "TickShare$Hedge", name := "asks", desc := "()I" } : Jvm.MethodName)) ∈ lw_all := lw_g (lw_at lw_m4 61 rfl) rfl
theorem q831 : (Jvm.Cond.code ({ cls := "TickShare$Hedge", name := "asks", desc := "()I" } : Jvm.MethodName) prog_4_method_3_code (1 : Nat) (Option.some Jvm.ClassFile.FieldType.int)) ∈ lw_all := lw_g (lw_at lw_m4 62 rfl) rfl
theorem q1304 : (Jvm.Cond.castable "TickShare$Hedge" "java/lang/Object") ∈ lw_tbl := lw_at lw_m6 55 rfl
theorem q1313 : (Jvm.Cond.castable "TickShare$Hedge" "TickShare$Thing") ∈ lw_tbl := lw_at lw_m6 64 rfl
theorem in_X10 : ∀ w ∈ wsX100, w ∈ lw_all := lw_in wsX100 [582, 583, 584, 585, 586, 587, 580] (by decide +kernel) (by decide +kernel)

/-! TickShare$TooGreat -/
set_option maxRecDepth 100000
def RX11 : String := "TickShare$TooGreat"
def TX11 : u_T := fun k => match k with
  | 0 => ("java/lang/Throwable", "cause", "Ljava/lang/Throwable;", false)
  | 1 => ("java/lang/Throwable", "stackTrace", "[Ljava/lang/StackTraceElement;", false)
  | 2 => ("java/lang/Throwable", "suppressedExceptions", "Ljava/util/List;", false)
  | 3 => ("java/lang/Throwable", "detailMessage", "Ljava/lang/String;", false)
  | 4 => ("java/lang/Throwable", "backtrace", "Ljava/lang/Object;", false)
  | _ => ("java/lang/Throwable", "depth", "I", false)
def tyX11 : Nat → FieldType := fun k => match k with
  | 0 => .object "java/lang/Throwable"
  | 1 => .array (.object "java/lang/StackTraceElement")
  | 2 => .object "java/util/List"
  | 3 => .object "java/lang/String"
  | 4 => .object "java/lang/Object"
  | _ => .int
abbrev wsX110 : List Cond := u_ws RX11 TX11 6
theorem nmX11 : ∀ a, a < 6 → ∀ b, b < 6 → a ≠ b → (TX11 a).2.1 ≠ (TX11 b).2.1 := by decide +kernel
theorem tyX11_ok : ∀ k, k < 6 → parseFieldDescriptor (TX11 k).2.2.1 = some (tyX11 k) := by decide +kernel
abbrev cX11_init : ByteArray := prog_11_method_1_code
def yX11_init : MethodName := ⟨RX11, "<init>", "()V"⟩
def dkwX11_init_0 : List UInt8 := [42, 1, 1, 3, 3, 183, 0, 1, 177]
abbrev dktX11_init_0 : List UInt8 := dkwX11_init_0 ++ []
theorem dksX11_init_0 : cX11_init.data.toList.drop 0 = dktX11_init_0 := by decide +kernel
theorem dX11_init_0 : decode cX11_init 0 = .ok (.aload_n 0, 1) := dk_42 (dk_at dksX11_init_0 0 rfl rfl)
theorem dX11_init_1 : decode cX11_init 1 = .ok (.aconst_null, 1) := dk_1 (dk_at dksX11_init_0 1 rfl rfl)
theorem dX11_init_2 : decode cX11_init 2 = .ok (.aconst_null, 1) := dk_1 (dk_at dksX11_init_0 2 rfl rfl)
theorem dX11_init_3 : decode cX11_init 3 = .ok (.iconst 0, 1) := dk_3 (dk_at dksX11_init_0 3 rfl rfl)
theorem dX11_init_4 : decode cX11_init 4 = .ok (.iconst 0, 1) := dk_3 (dk_at dksX11_init_0 4 rfl rfl)
theorem dX11_init_5 : decode cX11_init 5 = .ok (.invokespecial 1, 3) := dk_183 0 1 (dk_at dksX11_init_0 5 rfl rfl)
theorem dX11_init_8 : decode cX11_init 8 = .ok (.return_, 1) := dk_177 (dk_at dksX11_init_0 8 rfl rfl)
theorem q70 : (Jvm.Cond.initialized "TickShare$TooGreat") ∈ lw_all := lw_g (lw_at lw_m1 21 rfl) rfl
theorem q115 : (Jvm.Cond.selects "TickShare$TooGreat" ({ cls := "java/lang/Throwable", name := "fillInStackTrace", desc := "()Ljava/lang/Throwable;" } : Jvm.MethodName) ({ cls := "java/lang/Throwable", name := "fillInStackTrace", desc := "()Ljava/lang/Throwable;" } : Jvm.MethodName)) ∈ lw_all := lw_g (lw_at lw_m1 66 rfl) rfl
theorem q661 : (Jvm.Cond.instantiable "TickShare$TooGreat" (6 : Nat)) ∈ lw_all := lw_g (lw_at lw_m3 132 rfl) rfl
theorem q662 : (Jvm.Cond.castable "TickShare$TooGreat" "TickShare$TooGreat") ∈ lw_tbl := lw_at lw_m3 133 rfl
theorem q663 : (Jvm.Cond.selects "TickShare$TooGreat" ({ cls := "java/lang/Throwable", name := "fillInStackTrace", desc := "(I)Ljava/lang/Throwable;" } : Jvm.MethodName) ({ cls := "java/lang/Throwable", name := "fillInStackTrace", desc := "(I)Ljava/lang/Throwable;" } : Jvm.MethodName)) ∈ lw_all := lw_g (lw_at lw_m3 134 rfl) rfl
theorem q664 : (Jvm.Cond.lays "TickShare$TooGreat" "java/lang/Throwable" "cause" "Ljava/lang/Throwable;") ∈ lw_all := lw_g (lw_at lw_m3 135 rfl) rfl
theorem q665 : (Jvm.Cond.lays "TickShare$TooGreat" "java/lang/Throwable" "stackTrace" "[Ljava/lang/StackTraceElement;") ∈ lw_all := lw_g (lw_at lw_m3 136 rfl) rfl
theorem q666 : (Jvm.Cond.lays "TickShare$TooGreat" "java/lang/Throwable" "suppressedExceptions" "Ljava/util/List;") ∈ lw_all := lw_g (lw_at lw_m3 137 rfl) rfl
theorem q667 : (Jvm.Cond.lays "TickShare$TooGreat" "java/lang/Throwable" "detailMessage" "Ljava/lang/String;") ∈ lw_all := lw_g (lw_at lw_m3 138 rfl) rfl
theorem q668 : (Jvm.Cond.lays "TickShare$TooGreat" "java/lang/Throwable" "backtrace" "Ljava/lang/Object;") ∈ lw_all := lw_g (lw_at lw_m3 139 rfl) rfl
theorem q670 : (Jvm.Cond.instanceMethod ({ cls := "TickShare$TooGreat", name := "<init>", desc := "()V" } : Jvm.MethodName)) ∈ lw_all := lw_g (lw_at lw_m3 141 rfl) rfl
theorem q671 : (Jvm.Cond.code ({ cls := "TickShare$TooGreat", name := "<init>", desc := "()V" } : Jvm.MethodName) prog_11_method_1_code (1 : Nat) (Option.none : Option Jvm.ClassFile.FieldType)) ∈ lw_all := lw_g (lw_at lw_m3 142 rfl) rfl
theorem q672 : (Jvm.Cond.methodLink "TickShare$TooGreat" (1 : Nat) ({ cls := "java/lang/RuntimeException", name := "<init>", desc := "(Ljava/lang/String;Ljava/lang/Throwable;ZZ)V" } : Jvm.MethodName)) ∈ lw_all := lw_g (lw_at lw_m3 143 rfl) rfl
theorem q676 : (Jvm.Cond.lays "TickShare$TooGreat" "java/lang/Throwable" "depth" "I") ∈ lw_all := lw_g (lw_at lw_m3 147 rfl) rfl
theorem q677 : (Jvm.Cond.superclass "TickShare$TooGreat" "java/lang/RuntimeException") ∈ lw_all := lw_g (lw_at lw_m3 148 rfl) rfl
theorem q1305 : (Jvm.Cond.castable "TickShare$TooGreat" "java/lang/Object") ∈ lw_tbl := lw_at lw_m6 56 rfl
theorem in_X11 : ∀ w ∈ wsX110, w ∈ lw_all := lw_in wsX110 [664, 665, 666, 667, 668, 676] (by decide +kernel) (by decide +kernel)

