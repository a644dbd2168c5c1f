/-! TickShareModel -/
set_option maxRecDepth 100000
def RX2 : String := "TickShareModel"
def TX2 : u_T := fun k => match k with
  | 0 => ("TickShareModel", "status", "I", false)
  | 1 => ("TickShareModel", "top", "J", false)
  | 2 => ("TickShareModel", "bottom", "J", false)
  | 3 => ("TickShareModel", "sort", "[I", true)
  | 4 => ("TickShareModel", "many", "[I", true)
  | 5 => ("TickShareModel", "trays", "[J", true)
  | 6 => ("TickShareModel", "things", "I", false)
  | 7 => ("TickShareModel", "kind", "[I", true)
  | 8 => ("TickShareModel", "of", "[I", true)
  | 9 => ("TickShareModel", "first", "[I", true)
  | 10 => ("TickShareModel", "second", "[I", true)
  | 11 => ("TickShareModel", "in", "[I", true)
  | 12 => ("TickShareModel", "grades", "[I", true)
  | 13 => ("TickShareModel", "prices", "[I", true)
  | 14 => ("TickShareModel", "gradeWeights", "[I", true)
  | 15 => ("TickShareModel", "use", "[I", true)
  | 16 => ("TickShareModel", "parts", "[I", true)
  | 17 => ("TickShareModel", "chosen", "[I", true)
  | 18 => ("TickShareModel", "traced", "[I", true)
  | 19 => ("TickShareModel", "slow", "[I", true)
  | 20 => ("TickShareModel", "wasOver", "[I", true)
  | 21 => ("TickShareModel", "wasBest", "Z", false)
  | 22 => ("TickShareModel", "ok", "[J", true)
  | 23 => ("TickShareModel", "bad", "[J", true)
  | 24 => ("TickShareModel", "whole", "[J", true)
  | 25 => ("TickShareModel", "isGreat", "[Z", true)
  | 26 => ("TickShareModel", "newOk", "[J", true)
  | 27 => ("TickShareModel", "newBad", "[J", true)
  | 28 => ("TickShareModel", "chain", "[J", true)
  | 29 => ("TickShareModel", "chain2", "[J", true)
  | 30 => ("TickShareModel", "over", "Z", false)
  | 31 => ("TickShareModel", "counts", "[J", true)
  | 32 => ("TickShareModel", "up", "[J", true)
  | 33 => ("TickShareModel", "low", "[J", true)
  | 34 => ("TickShareModel", "sums", "[J", true)
  | 35 => ("TickShareModel", "sums2", "[J", true)
  | 36 => ("TickShareModel", "isNeeded", "[Z", true)
  | _ => ("TickShareModel", "found", "[I", true)
def tyX2 : Nat → FieldType := fun k => match k with
  | 0 => .int
  | 1 => .long
  | 2 => .long
  | 3 => .array .int
  | 4 => .array .int
  | 5 => .array .long
  | 6 => .int
  | 7 => .array .int
  | 8 => .array .int
  | 9 => .array .int
  | 10 => .array .int
  | 11 => .array .int
  | 12 => .array .int
  | 13 => .array .int
  | 14 => .array .int
  | 15 => .array .int
  | 16 => .array .int
  | 17 => .array .int
  | 18 => .array .int
  | 19 => .array .int
  | 20 => .array .int
  | 21 => .boolean
  | 22 => .array .long
  | 23 => .array .long
  | 24 => .array .long
  | 25 => .array .boolean
  | 26 => .array .long
  | 27 => .array .long
  | 28 => .array .long
  | 29 => .array .long
  | 30 => .boolean
  | 31 => .array .long
  | 32 => .array .long
  | 33 => .array .long
  | 34 => .array .long
  | 35 => .array .long
  | 36 => .array .boolean
  | _ => .array .int
abbrev wsX20 : List Cond := u_ws RX2 TX2 38
set_option maxRecDepth 100000 in
theorem nmX2 : ∀ a, a < 38 → ∀ b, b < 38 → a ≠ b → (TX2 a).2.1 ≠ (TX2 b).2.1 := by decide +kernel
set_option maxRecDepth 100000 in
theorem tyX2_ok : ∀ k, k < 38 → parseFieldDescriptor (TX2 k).2.2.1 = some (tyX2 k) := by decide +kernel
abbrev cX2_init : ByteArray := prog_13_method_1_code
def yX2_init : MethodName := ⟨RX2, "<init>", "()V"⟩
def dkwX2_init_12 : List UInt8 := [16, 20, 188, 10, 181, 0, 109, 177]
abbrev dktX2_init_12 : List UInt8 := dkwX2_init_12 ++ []
def dkwX2_init_11 : List UInt8 := [16, 121, 188, 11, 181, 0, 100, 42, 16, 121, 188, 11, 181, 0, 103, 42, 16, 20, 188, 4, 181, 0, 106, 42]
abbrev dktX2_init_11 : List UInt8 := dkwX2_init_11 ++ dktX2_init_12
def dkwX2_init_10 : List UInt8 := [188, 11, 181, 0, 91, 42, 17, 9, 116, 188, 11, 181, 0, 94, 42, 16, 20, 188, 11, 181, 0, 97, 42]
abbrev dktX2_init_10 : List UInt8 := dkwX2_init_10 ++ dktX2_init_11
def dkwX2_init_9 : List UInt8 := [181, 0, 82, 42, 17, 2, 88, 188, 11, 181, 0, 85, 42, 17, 2, 88, 188, 11, 181, 0, 88, 42, 8]
abbrev dktX2_init_9 : List UInt8 := dkwX2_init_9 ++ dktX2_init_10
def dkwX2_init_8 : List UInt8 := [16, 20, 188, 4, 181, 0, 75, 42, 17, 2, 88, 188, 11, 181, 0, 79, 42, 17, 2, 88, 188, 11]
abbrev dktX2_init_8 : List UInt8 := dkwX2_init_8 ++ dktX2_init_9
def dkwX2_init_7 : List UInt8 := [188, 11, 181, 0, 66, 42, 17, 9, 116, 188, 11, 181, 0, 69, 42, 16, 20, 188, 11, 181, 0, 72, 42]
abbrev dktX2_init_7 : List UInt8 := dkwX2_init_7 ++ dktX2_init_8
def dkwX2_init_6 : List UInt8 := [181, 0, 57, 42, 16, 20, 188, 10, 181, 0, 60, 42, 16, 20, 188, 10, 181, 0, 63, 42, 17, 9, 116]
abbrev dktX2_init_6 : List UInt8 := dkwX2_init_6 ++ dktX2_init_7
def dkwX2_init_5 : List UInt8 := [181, 0, 48, 42, 16, 20, 188, 10, 181, 0, 51, 42, 16, 20, 188, 10, 181, 0, 54, 42, 16, 20, 188, 10]
abbrev dktX2_init_5 : List UInt8 := dkwX2_init_5 ++ dktX2_init_6
def dkwX2_init_4 : List UInt8 := [42, 16, 60, 188, 10, 181, 0, 42, 42, 17, 14, 16, 188, 10, 181, 0, 45, 42, 16, 20, 188, 10]
abbrev dktX2_init_4 : List UInt8 := dkwX2_init_4 ++ dktX2_init_5
def dkwX2_init_3 : List UInt8 := [42, 16, 20, 188, 10, 181, 0, 33, 42, 16, 20, 188, 10, 181, 0, 36, 42, 16, 20, 188, 10, 181, 0, 39]
abbrev dktX2_init_3 : List UInt8 := dkwX2_init_3 ++ dktX2_init_4
def dkwX2_init_2 : List UInt8 := [42, 16, 20, 188, 10, 181, 0, 24, 42, 16, 80, 188, 10, 181, 0, 27, 42, 16, 20, 188, 10, 181, 0, 30]
abbrev dktX2_init_2 : List UInt8 := dkwX2_init_2 ++ dktX2_init_3
def dkwX2_init_1 : List UInt8 := [89, 4, 2, 79, 89, 5, 2, 79, 89, 6, 2, 79, 181, 0, 17, 42, 17, 0, 240, 188, 11, 181, 0, 20]
abbrev dktX2_init_1 : List UInt8 := dkwX2_init_1 ++ dktX2_init_2
def dkwX2_init_0 : List UInt8 := [42, 183, 0, 1, 42, 10, 181, 0, 7, 42, 7, 188, 10, 181, 0, 13, 42, 7, 188, 10, 89, 3, 2, 79]
abbrev dktX2_init_0 : List UInt8 := dkwX2_init_0 ++ dktX2_init_1
theorem dksX2_init_0 : cX2_init.data.toList.drop 0 = dktX2_init_0 := by decide +kernel
theorem dksX2_init_1 : cX2_init.data.toList.drop 24 = dktX2_init_1 := dk_seg dksX2_init_0 24 rfl rfl
theorem dksX2_init_2 : cX2_init.data.toList.drop 48 = dktX2_init_2 := dk_seg dksX2_init_1 24 rfl rfl
theorem dksX2_init_3 : cX2_init.data.toList.drop 72 = dktX2_init_3 := dk_seg dksX2_init_2 24 rfl rfl
theorem dksX2_init_4 : cX2_init.data.toList.drop 96 = dktX2_init_4 := dk_seg dksX2_init_3 24 rfl rfl
theorem dksX2_init_5 : cX2_init.data.toList.drop 118 = dktX2_init_5 := dk_seg dksX2_init_4 22 rfl rfl
theorem dksX2_init_6 : cX2_init.data.toList.drop 142 = dktX2_init_6 := dk_seg dksX2_init_5 24 rfl rfl
theorem dksX2_init_7 : cX2_init.data.toList.drop 165 = dktX2_init_7 := dk_seg dksX2_init_6 23 rfl rfl
theorem dksX2_init_8 : cX2_init.data.toList.drop 188 = dktX2_init_8 := dk_seg dksX2_init_7 23 rfl rfl
theorem dksX2_init_9 : cX2_init.data.toList.drop 210 = dktX2_init_9 := dk_seg dksX2_init_8 22 rfl rfl
theorem dksX2_init_10 : cX2_init.data.toList.drop 233 = dktX2_init_10 := dk_seg dksX2_init_9 23 rfl rfl
theorem dksX2_init_11 : cX2_init.data.toList.drop 256 = dktX2_init_11 := dk_seg dksX2_init_10 23 rfl rfl
theorem dksX2_init_12 : cX2_init.data.toList.drop 280 = dktX2_init_12 := dk_seg dksX2_init_11 24 rfl rfl
theorem dX2_init_0 : decode cX2_init 0 = .ok (.aload_n 0, 1) := dk_42 (dk_at dksX2_init_0 0 rfl rfl)
theorem dX2_init_1 : decode cX2_init 1 = .ok (.invokespecial 1, 3) := dk_183 0 1 (dk_at dksX2_init_0 1 rfl rfl)
theorem dX2_init_4 : decode cX2_init 4 = .ok (.aload_n 0, 1) := dk_42 (dk_at dksX2_init_0 4 rfl rfl)
theorem dX2_init_5 : decode cX2_init 5 = .ok (.lconst 1, 1) := dk_10 (dk_at dksX2_init_0 5 rfl rfl)
theorem dX2_init_6 : decode cX2_init 6 = .ok (.putfield 7, 3) := dk_181 0 7 (dk_at dksX2_init_0 6 rfl rfl)
theorem dX2_init_9 : decode cX2_init 9 = .ok (.aload_n 0, 1) := dk_42 (dk_at dksX2_init_0 9 rfl rfl)
theorem dX2_init_10 : decode cX2_init 10 = .ok (.iconst 4, 1) := dk_7 (dk_at dksX2_init_0 10 rfl rfl)
theorem dX2_init_11 : decode cX2_init 11 = .ok (.newarray .int, 2) := dk_188_10 (dk_at dksX2_init_0 11 rfl rfl)
theorem dX2_init_13 : decode cX2_init 13 = .ok (.putfield 13, 3) := dk_181 0 13 (dk_at dksX2_init_0 13 rfl rfl)
theorem dX2_init_16 : decode cX2_init 16 = .ok (.aload_n 0, 1) := dk_42 (dk_at dksX2_init_0 16 rfl rfl)
theorem dX2_init_17 : decode cX2_init 17 = .ok (.iconst 4, 1) := dk_7 (dk_at dksX2_init_0 17 rfl rfl)
theorem dX2_init_18 : decode cX2_init 18 = .ok (.newarray .int, 2) := dk_188_10 (dk_at dksX2_init_0 18 rfl rfl)
theorem dX2_init_20 : decode cX2_init 20 = .ok (.dup, 1) := dk_89 (dk_at dksX2_init_0 20 rfl rfl)
theorem dX2_init_21 : decode cX2_init 21 = .ok (.iconst 0, 1) := dk_3 (dk_at dksX2_init_0 21 rfl rfl)
theorem dX2_init_22 : decode cX2_init 22 = .ok (.iconst (-1), 1) := dk_2 (dk_at dksX2_init_0 22 rfl rfl)
theorem dX2_init_23 : decode cX2_init 23 = .ok (.iastore, 1) := dk_79 (dk_at dksX2_init_0 23 rfl rfl)
theorem dX2_init_24 : decode cX2_init 24 = .ok (.dup, 1) := dk_89 (dk_at dksX2_init_1 0 rfl rfl)
theorem dX2_init_25 : decode cX2_init 25 = .ok (.iconst 1, 1) := dk_4 (dk_at dksX2_init_1 1 rfl rfl)
theorem dX2_init_26 : decode cX2_init 26 = .ok (.iconst (-1), 1) := dk_2 (dk_at dksX2_init_1 2 rfl rfl)
theorem dX2_init_27 : decode cX2_init 27 = .ok (.iastore, 1) := dk_79 (dk_at dksX2_init_1 3 rfl rfl)
theorem dX2_init_28 : decode cX2_init 28 = .ok (.dup, 1) := dk_89 (dk_at dksX2_init_1 4 rfl rfl)
theorem dX2_init_29 : decode cX2_init 29 = .ok (.iconst 2, 1) := dk_5 (dk_at dksX2_init_1 5 rfl rfl)
theorem dX2_init_30 : decode cX2_init 30 = .ok (.iconst (-1), 1) := dk_2 (dk_at dksX2_init_1 6 rfl rfl)
theorem dX2_init_31 : decode cX2_init 31 = .ok (.iastore, 1) := dk_79 (dk_at dksX2_init_1 7 rfl rfl)
theorem dX2_init_32 : decode cX2_init 32 = .ok (.dup, 1) := dk_89 (dk_at dksX2_init_1 8 rfl rfl)
theorem dX2_init_33 : decode cX2_init 33 = .ok (.iconst 3, 1) := dk_6 (dk_at dksX2_init_1 9 rfl rfl)
theorem dX2_init_34 : decode cX2_init 34 = .ok (.iconst (-1), 1) := dk_2 (dk_at dksX2_init_1 10 rfl rfl)
theorem dX2_init_35 : decode cX2_init 35 = .ok (.iastore, 1) := dk_79 (dk_at dksX2_init_1 11 rfl rfl)
theorem dX2_init_36 : decode cX2_init 36 = .ok (.putfield 17, 3) := dk_181 0 17 (dk_at dksX2_init_1 12 rfl rfl)
theorem dX2_init_39 : decode cX2_init 39 = .ok (.aload_n 0, 1) := dk_42 (dk_at dksX2_init_1 15 rfl rfl)
theorem dX2_init_40 : decode cX2_init 40 = .ok (.sipush 240, 3) := dk_17 0 240 (dk_at dksX2_init_1 16 rfl rfl)
theorem dX2_init_43 : decode cX2_init 43 = .ok (.newarray .long, 2) := dk_188_11 (dk_at dksX2_init_1 19 rfl rfl)
theorem dX2_init_45 : decode cX2_init 45 = .ok (.putfield 20, 3) := dk_181 0 20 (dk_at dksX2_init_1 21 rfl rfl)
theorem dX2_init_48 : decode cX2_init 48 = .ok (.aload_n 0, 1) := dk_42 (dk_at dksX2_init_2 0 rfl rfl)
theorem dX2_init_49 : decode cX2_init 49 = .ok (.bipush 20, 2) := dk_16 20 (dk_at dksX2_init_2 1 rfl rfl)
theorem dX2_init_51 : decode cX2_init 51 = .ok (.newarray .int, 2) := dk_188_10 (dk_at dksX2_init_2 3 rfl rfl)
theorem dX2_init_53 : decode cX2_init 53 = .ok (.putfield 24, 3) := dk_181 0 24 (dk_at dksX2_init_2 5 rfl rfl)
theorem dX2_init_56 : decode cX2_init 56 = .ok (.aload_n 0, 1) := dk_42 (dk_at dksX2_init_2 8 rfl rfl)
theorem dX2_init_57 : decode cX2_init 57 = .ok (.bipush 80, 2) := dk_16 80 (dk_at dksX2_init_2 9 rfl rfl)
theorem dX2_init_59 : decode cX2_init 59 = .ok (.newarray .int, 2) := dk_188_10 (dk_at dksX2_init_2 11 rfl rfl)
theorem dX2_init_61 : decode cX2_init 61 = .ok (.putfield 27, 3) := dk_181 0 27 (dk_at dksX2_init_2 13 rfl rfl)
theorem dX2_init_64 : decode cX2_init 64 = .ok (.aload_n 0, 1) := dk_42 (dk_at dksX2_init_2 16 rfl rfl)
theorem dX2_init_65 : decode cX2_init 65 = .ok (.bipush 20, 2) := dk_16 20 (dk_at dksX2_init_2 17 rfl rfl)
theorem dX2_init_67 : decode cX2_init 67 = .ok (.newarray .int, 2) := dk_188_10 (dk_at dksX2_init_2 19 rfl rfl)
theorem dX2_init_69 : decode cX2_init 69 = .ok (.putfield 30, 3) := dk_181 0 30 (dk_at dksX2_init_2 21 rfl rfl)
theorem dX2_init_72 : decode cX2_init 72 = .ok (.aload_n 0, 1) := dk_42 (dk_at dksX2_init_3 0 rfl rfl)
theorem dX2_init_73 : decode cX2_init 73 = .ok (.bipush 20, 2) := dk_16 20 (dk_at dksX2_init_3 1 rfl rfl)
theorem dX2_init_75 : decode cX2_init 75 = .ok (.newarray .int, 2) := dk_188_10 (dk_at dksX2_init_3 3 rfl rfl)
theorem dX2_init_77 : decode cX2_init 77 = .ok (.putfield 33, 3) := dk_181 0 33 (dk_at dksX2_init_3 5 rfl rfl)
theorem dX2_init_80 : decode cX2_init 80 = .ok (.aload_n 0, 1) := dk_42 (dk_at dksX2_init_3 8 rfl rfl)
theorem dX2_init_81 : decode cX2_init 81 = .ok (.bipush 20, 2) := dk_16 20 (dk_at dksX2_init_3 9 rfl rfl)
theorem dX2_init_83 : decode cX2_init 83 = .ok (.newarray .int, 2) := dk_188_10 (dk_at dksX2_init_3 11 rfl rfl)
theorem dX2_init_85 : decode cX2_init 85 = .ok (.putfield 36, 3) := dk_181 0 36 (dk_at dksX2_init_3 13 rfl rfl)
theorem dX2_init_88 : decode cX2_init 88 = .ok (.aload_n 0, 1) := dk_42 (dk_at dksX2_init_3 16 rfl rfl)
theorem dX2_init_89 : decode cX2_init 89 = .ok (.bipush 20, 2) := dk_16 20 (dk_at dksX2_init_3 17 rfl rfl)
theorem dX2_init_91 : decode cX2_init 91 = .ok (.newarray .int, 2) := dk_188_10 (dk_at dksX2_init_3 19 rfl rfl)
theorem dX2_init_93 : decode cX2_init 93 = .ok (.putfield 39, 3) := dk_181 0 39 (dk_at dksX2_init_3 21 rfl rfl)
theorem dX2_init_96 : decode cX2_init 96 = .ok (.aload_n 0, 1) := dk_42 (dk_at dksX2_init_4 0 rfl rfl)
theorem dX2_init_97 : decode cX2_init 97 = .ok (.bipush 60, 2) := dk_16 60 (dk_at dksX2_init_4 1 rfl rfl)
theorem dX2_init_99 : decode cX2_init 99 = .ok (.newarray .int, 2) := dk_188_10 (dk_at dksX2_init_4 3 rfl rfl)
theorem dX2_init_101 : decode cX2_init 101 = .ok (.putfield 42, 3) := dk_181 0 42 (dk_at dksX2_init_4 5 rfl rfl)
theorem dX2_init_104 : decode cX2_init 104 = .ok (.aload_n 0, 1) := dk_42 (dk_at dksX2_init_4 8 rfl rfl)
theorem dX2_init_105 : decode cX2_init 105 = .ok (.sipush 3600, 3) := dk_17 14 16 (dk_at dksX2_init_4 9 rfl rfl)
theorem dX2_init_108 : decode cX2_init 108 = .ok (.newarray .int, 2) := dk_188_10 (dk_at dksX2_init_4 12 rfl rfl)
theorem dX2_init_110 : decode cX2_init 110 = .ok (.putfield 45, 3) := dk_181 0 45 (dk_at dksX2_init_4 14 rfl rfl)
theorem dX2_init_113 : decode cX2_init 113 = .ok (.aload_n 0, 1) := dk_42 (dk_at dksX2_init_4 17 rfl rfl)
theorem dX2_init_114 : decode cX2_init 114 = .ok (.bipush 20, 2) := dk_16 20 (dk_at dksX2_init_4 18 rfl rfl)
theorem dX2_init_116 : decode cX2_init 116 = .ok (.newarray .int, 2) := dk_188_10 (dk_at dksX2_init_4 20 rfl rfl)
theorem dX2_init_118 : decode cX2_init 118 = .ok (.putfield 48, 3) := dk_181 0 48 (dk_at dksX2_init_5 0 rfl rfl)
theorem dX2_init_121 : decode cX2_init 121 = .ok (.aload_n 0, 1) := dk_42 (dk_at dksX2_init_5 3 rfl rfl)
theorem dX2_init_122 : decode cX2_init 122 = .ok (.bipush 20, 2) := dk_16 20 (dk_at dksX2_init_5 4 rfl rfl)
theorem dX2_init_124 : decode cX2_init 124 = .ok (.newarray .int, 2) := dk_188_10 (dk_at dksX2_init_5 6 rfl rfl)
theorem dX2_init_126 : decode cX2_init 126 = .ok (.putfield 51, 3) := dk_181 0 51 (dk_at dksX2_init_5 8 rfl rfl)
theorem dX2_init_129 : decode cX2_init 129 = .ok (.aload_n 0, 1) := dk_42 (dk_at dksX2_init_5 11 rfl rfl)
theorem dX2_init_130 : decode cX2_init 130 = .ok (.bipush 20, 2) := dk_16 20 (dk_at dksX2_init_5 12 rfl rfl)
theorem dX2_init_132 : decode cX2_init 132 = .ok (.newarray .int, 2) := dk_188_10 (dk_at dksX2_init_5 14 rfl rfl)
theorem dX2_init_134 : decode cX2_init 134 = .ok (.putfield 54, 3) := dk_181 0 54 (dk_at dksX2_init_5 16 rfl rfl)
theorem dX2_init_137 : decode cX2_init 137 = .ok (.aload_n 0, 1) := dk_42 (dk_at dksX2_init_5 19 rfl rfl)
theorem dX2_init_138 : decode cX2_init 138 = .ok (.bipush 20, 2) := dk_16 20 (dk_at dksX2_init_5 20 rfl rfl)
theorem dX2_init_140 : decode cX2_init 140 = .ok (.newarray .int, 2) := dk_188_10 (dk_at dksX2_init_5 22 rfl rfl)
theorem dX2_init_142 : decode cX2_init 142 = .ok (.putfield 57, 3) := dk_181 0 57 (dk_at dksX2_init_6 0 rfl rfl)
theorem dX2_init_145 : decode cX2_init 145 = .ok (.aload_n 0, 1) := dk_42 (dk_at dksX2_init_6 3 rfl rfl)
theorem dX2_init_146 : decode cX2_init 146 = .ok (.bipush 20, 2) := dk_16 20 (dk_at dksX2_init_6 4 rfl rfl)
theorem dX2_init_148 : decode cX2_init 148 = .ok (.newarray .int, 2) := dk_188_10 (dk_at dksX2_init_6 6 rfl rfl)
theorem dX2_init_150 : decode cX2_init 150 = .ok (.putfield 60, 3) := dk_181 0 60 (dk_at dksX2_init_6 8 rfl rfl)
theorem dX2_init_153 : decode cX2_init 153 = .ok (.aload_n 0, 1) := dk_42 (dk_at dksX2_init_6 11 rfl rfl)
theorem dX2_init_154 : decode cX2_init 154 = .ok (.bipush 20, 2) := dk_16 20 (dk_at dksX2_init_6 12 rfl rfl)
theorem dX2_init_156 : decode cX2_init 156 = .ok (.newarray .int, 2) := dk_188_10 (dk_at dksX2_init_6 14 rfl rfl)
theorem dX2_init_158 : decode cX2_init 158 = .ok (.putfield 63, 3) := dk_181 0 63 (dk_at dksX2_init_6 16 rfl rfl)
theorem dX2_init_161 : decode cX2_init 161 = .ok (.aload_n 0, 1) := dk_42 (dk_at dksX2_init_6 19 rfl rfl)
theorem dX2_init_162 : decode cX2_init 162 = .ok (.sipush 2420, 3) := dk_17 9 116 (dk_at dksX2_init_6 20 rfl rfl)
theorem dX2_init_165 : decode cX2_init 165 = .ok (.newarray .long, 2) := dk_188_11 (dk_at dksX2_init_7 0 rfl rfl)
theorem dX2_init_167 : decode cX2_init 167 = .ok (.putfield 66, 3) := dk_181 0 66 (dk_at dksX2_init_7 2 rfl rfl)
theorem dX2_init_170 : decode cX2_init 170 = .ok (.aload_n 0, 1) := dk_42 (dk_at dksX2_init_7 5 rfl rfl)
theorem dX2_init_171 : decode cX2_init 171 = .ok (.sipush 2420, 3) := dk_17 9 116 (dk_at dksX2_init_7 6 rfl rfl)
theorem dX2_init_174 : decode cX2_init 174 = .ok (.newarray .long, 2) := dk_188_11 (dk_at dksX2_init_7 9 rfl rfl)
theorem dX2_init_176 : decode cX2_init 176 = .ok (.putfield 69, 3) := dk_181 0 69 (dk_at dksX2_init_7 11 rfl rfl)
theorem dX2_init_179 : decode cX2_init 179 = .ok (.aload_n 0, 1) := dk_42 (dk_at dksX2_init_7 14 rfl rfl)
theorem dX2_init_180 : decode cX2_init 180 = .ok (.bipush 20, 2) := dk_16 20 (dk_at dksX2_init_7 15 rfl rfl)
theorem dX2_init_182 : decode cX2_init 182 = .ok (.newarray .long, 2) := dk_188_11 (dk_at dksX2_init_7 17 rfl rfl)
theorem dX2_init_184 : decode cX2_init 184 = .ok (.putfield 72, 3) := dk_181 0 72 (dk_at dksX2_init_7 19 rfl rfl)
theorem dX2_init_187 : decode cX2_init 187 = .ok (.aload_n 0, 1) := dk_42 (dk_at dksX2_init_7 22 rfl rfl)
theorem dX2_init_188 : decode cX2_init 188 = .ok (.bipush 20, 2) := dk_16 20 (dk_at dksX2_init_8 0 rfl rfl)
theorem dX2_init_190 : decode cX2_init 190 = .ok (.newarray .boolean, 2) := dk_188_4 (dk_at dksX2_init_8 2 rfl rfl)
theorem dX2_init_192 : decode cX2_init 192 = .ok (.putfield 75, 3) := dk_181 0 75 (dk_at dksX2_init_8 4 rfl rfl)
theorem dX2_init_195 : decode cX2_init 195 = .ok (.aload_n 0, 1) := dk_42 (dk_at dksX2_init_8 7 rfl rfl)
theorem dX2_init_196 : decode cX2_init 196 = .ok (.sipush 600, 3) := dk_17 2 88 (dk_at dksX2_init_8 8 rfl rfl)
theorem dX2_init_199 : decode cX2_init 199 = .ok (.newarray .long, 2) := dk_188_11 (dk_at dksX2_init_8 11 rfl rfl)
theorem dX2_init_201 : decode cX2_init 201 = .ok (.putfield 79, 3) := dk_181 0 79 (dk_at dksX2_init_8 13 rfl rfl)
theorem dX2_init_204 : decode cX2_init 204 = .ok (.aload_n 0, 1) := dk_42 (dk_at dksX2_init_8 16 rfl rfl)
theorem dX2_init_205 : decode cX2_init 205 = .ok (.sipush 600, 3) := dk_17 2 88 (dk_at dksX2_init_8 17 rfl rfl)
theorem dX2_init_208 : decode cX2_init 208 = .ok (.newarray .long, 2) := dk_188_11 (dk_at dksX2_init_8 20 rfl rfl)
theorem dX2_init_210 : decode cX2_init 210 = .ok (.putfield 82, 3) := dk_181 0 82 (dk_at dksX2_init_9 0 rfl rfl)
theorem dX2_init_213 : decode cX2_init 213 = .ok (.aload_n 0, 1) := dk_42 (dk_at dksX2_init_9 3 rfl rfl)
theorem dX2_init_214 : decode cX2_init 214 = .ok (.sipush 600, 3) := dk_17 2 88 (dk_at dksX2_init_9 4 rfl rfl)
theorem dX2_init_217 : decode cX2_init 217 = .ok (.newarray .long, 2) := dk_188_11 (dk_at dksX2_init_9 7 rfl rfl)
theorem dX2_init_219 : decode cX2_init 219 = .ok (.putfield 85, 3) := dk_181 0 85 (dk_at dksX2_init_9 9 rfl rfl)
theorem dX2_init_222 : decode cX2_init 222 = .ok (.aload_n 0, 1) := dk_42 (dk_at dksX2_init_9 12 rfl rfl)
theorem dX2_init_223 : decode cX2_init 223 = .ok (.sipush 600, 3) := dk_17 2 88 (dk_at dksX2_init_9 13 rfl rfl)
theorem dX2_init_226 : decode cX2_init 226 = .ok (.newarray .long, 2) := dk_188_11 (dk_at dksX2_init_9 16 rfl rfl)
theorem dX2_init_228 : decode cX2_init 228 = .ok (.putfield 88, 3) := dk_181 0 88 (dk_at dksX2_init_9 18 rfl rfl)
theorem dX2_init_231 : decode cX2_init 231 = .ok (.aload_n 0, 1) := dk_42 (dk_at dksX2_init_9 21 rfl rfl)
theorem dX2_init_232 : decode cX2_init 232 = .ok (.iconst 5, 1) := dk_8 (dk_at dksX2_init_9 22 rfl rfl)
theorem dX2_init_233 : decode cX2_init 233 = .ok (.newarray .long, 2) := dk_188_11 (dk_at dksX2_init_10 0 rfl rfl)
theorem dX2_init_235 : decode cX2_init 235 = .ok (.putfield 91, 3) := dk_181 0 91 (dk_at dksX2_init_10 2 rfl rfl)
theorem dX2_init_238 : decode cX2_init 238 = .ok (.aload_n 0, 1) := dk_42 (dk_at dksX2_init_10 5 rfl rfl)
theorem dX2_init_239 : decode cX2_init 239 = .ok (.sipush 2420, 3) := dk_17 9 116 (dk_at dksX2_init_10 6 rfl rfl)
theorem dX2_init_242 : decode cX2_init 242 = .ok (.newarray .long, 2) := dk_188_11 (dk_at dksX2_init_10 9 rfl rfl)
theorem dX2_init_244 : decode cX2_init 244 = .ok (.putfield 94, 3) := dk_181 0 94 (dk_at dksX2_init_10 11 rfl rfl)
theorem dX2_init_247 : decode cX2_init 247 = .ok (.aload_n 0, 1) := dk_42 (dk_at dksX2_init_10 14 rfl rfl)
theorem dX2_init_248 : decode cX2_init 248 = .ok (.bipush 20, 2) := dk_16 20 (dk_at dksX2_init_10 15 rfl rfl)
theorem dX2_init_250 : decode cX2_init 250 = .ok (.newarray .long, 2) := dk_188_11 (dk_at dksX2_init_10 17 rfl rfl)
theorem dX2_init_252 : decode cX2_init 252 = .ok (.putfield 97, 3) := dk_181 0 97 (dk_at dksX2_init_10 19 rfl rfl)
theorem dX2_init_255 : decode cX2_init 255 = .ok (.aload_n 0, 1) := dk_42 (dk_at dksX2_init_10 22 rfl rfl)
theorem dX2_init_256 : decode cX2_init 256 = .ok (.bipush 121, 2) := dk_16 121 (dk_at dksX2_init_11 0 rfl rfl)
theorem dX2_init_258 : decode cX2_init 258 = .ok (.newarray .long, 2) := dk_188_11 (dk_at dksX2_init_11 2 rfl rfl)
theorem dX2_init_260 : decode cX2_init 260 = .ok (.putfield 100, 3) := dk_181 0 100 (dk_at dksX2_init_11 4 rfl rfl)
theorem dX2_init_263 : decode cX2_init 263 = .ok (.aload_n 0, 1) := dk_42 (dk_at dksX2_init_11 7 rfl rfl)
theorem dX2_init_264 : decode cX2_init 264 = .ok (.bipush 121, 2) := dk_16 121 (dk_at dksX2_init_11 8 rfl rfl)
theorem dX2_init_266 : decode cX2_init 266 = .ok (.newarray .long, 2) := dk_188_11 (dk_at dksX2_init_11 10 rfl rfl)
theorem dX2_init_268 : decode cX2_init 268 = .ok (.putfield 103, 3) := dk_181 0 103 (dk_at dksX2_init_11 12 rfl rfl)
theorem dX2_init_271 : decode cX2_init 271 = .ok (.aload_n 0, 1) := dk_42 (dk_at dksX2_init_11 15 rfl rfl)
theorem dX2_init_272 : decode cX2_init 272 = .ok (.bipush 20, 2) := dk_16 20 (dk_at dksX2_init_11 16 rfl rfl)
theorem dX2_init_274 : decode cX2_init 274 = .ok (.newarray .boolean, 2) := dk_188_4 (dk_at dksX2_init_11 18 rfl rfl)
theorem dX2_init_276 : decode cX2_init 276 = .ok (.putfield 106, 3) := dk_181 0 106 (dk_at dksX2_init_11 20 rfl rfl)
theorem dX2_init_279 : decode cX2_init 279 = .ok (.aload_n 0, 1) := dk_42 (dk_at dksX2_init_11 23 rfl rfl)
theorem dX2_init_280 : decode cX2_init 280 = .ok (.bipush 20, 2) := dk_16 20 (dk_at dksX2_init_12 0 rfl rfl)
theorem dX2_init_282 : decode cX2_init 282 = .ok (.newarray .int, 2) := dk_188_10 (dk_at dksX2_init_12 2 rfl rfl)
theorem dX2_init_284 : decode cX2_init 284 = .ok (.putfield 109, 3) := dk_181 0 109 (dk_at dksX2_init_12 4 rfl rfl)
theorem dX2_init_287 : decode cX2_init 287 = .ok (.return_, 1) := dk_177 (dk_at dksX2_init_12 7 rfl rfl)
abbrev cX2_status : ByteArray := prog_13_method_2_code
def yX2_status : MethodName := ⟨RX2, "status", "()I"⟩
theorem dX2_status_0 : decode cX2_status 0 = .ok (.aload_n 0, 1) := by decide +kernel
theorem dX2_status_1 : decode cX2_status 1 = .ok (.getfield 112, 3) := by decide +kernel
theorem dX2_status_4 : decode cX2_status 4 = .ok (.ireturn, 1) := by decide +kernel
abbrev cX2_top : ByteArray := prog_13_method_3_code
def yX2_top : MethodName := ⟨RX2, "top", "()J"⟩
theorem dX2_top_0 : decode cX2_top 0 = .ok (.aload_n 0, 1) := by decide +kernel
theorem dX2_top_1 : decode cX2_top 1 = .ok (.getfield 116, 3) := by decide +kernel
theorem dX2_top_4 : decode cX2_top 4 = .ok (.lreturn, 1) := by decide +kernel
abbrev cX2_bottom : ByteArray := prog_13_method_4_code
def yX2_bottom : MethodName := ⟨RX2, "bottom", "()J"⟩
theorem dX2_bottom_0 : decode cX2_bottom 0 = .ok (.aload_n 0, 1) := by decide +kernel
theorem dX2_bottom_1 : decode cX2_bottom 1 = .ok (.getfield 7, 3) := by decide +kernel
theorem dX2_bottom_4 : decode cX2_bottom 4 = .ok (.lreturn, 1) := by decide +kernel
abbrev cX2_tray : ByteArray := prog_13_method_9_code
def yX2_tray : MethodName := ⟨RX2, "tray", "(III)Z"⟩
def dkwX2_tray_3 : List UInt8 := [167, 255, 234, 42, 3, 182, 0, 123, 172]
abbrev dktX2_tray_3 : List UInt8 := dkwX2_tray_3 ++ []
def dkwX2_tray_2 : List UInt8 := [54, 4, 21, 4, 29, 162, 0, 22, 42, 180, 0, 20, 16, 60, 27, 104, 21, 4, 96, 9, 80, 132, 4, 1]
abbrev dktX2_tray_2 : List UInt8 := dkwX2_tray_2 ++ dktX2_tray_3
def dkwX2_tray_1 : List UInt8 := [164, 0, 9, 42, 4, 182, 0, 123, 172, 42, 180, 0, 13, 27, 28, 79, 42, 180, 0, 17, 27, 29, 79, 3]
abbrev dktX2_tray_1 : List UInt8 := dkwX2_tray_1 ++ dktX2_tray_2
def dkwX2_tray_0 : List UInt8 := [27, 184, 0, 119, 153, 0, 22, 28, 155, 0, 18, 28, 6, 163, 0, 13, 29, 155, 0, 9, 29, 16, 60]
abbrev dktX2_tray_0 : List UInt8 := dkwX2_tray_0 ++ dktX2_tray_1
theorem dksX2_tray_0 : cX2_tray.data.toList.drop 0 = dktX2_tray_0 := by decide +kernel
theorem dksX2_tray_1 : cX2_tray.data.toList.drop 23 = dktX2_tray_1 := dk_seg dksX2_tray_0 23 rfl rfl
theorem dksX2_tray_2 : cX2_tray.data.toList.drop 47 = dktX2_tray_2 := dk_seg dksX2_tray_1 24 rfl rfl
theorem dksX2_tray_3 : cX2_tray.data.toList.drop 71 = dktX2_tray_3 := dk_seg dksX2_tray_2 24 rfl rfl
theorem dX2_tray_0 : decode cX2_tray 0 = .ok (.iload_n 1, 1) := dk_27 (dk_at dksX2_tray_0 0 rfl rfl)
theorem dX2_tray_1 : decode cX2_tray 1 = .ok (.invokestatic 119, 3) := dk_184 0 119 (dk_at dksX2_tray_0 1 rfl rfl)
theorem dX2_tray_4 : decode cX2_tray 4 = .ok (.ifCond .eq 22, 3) := dk_153 0 22 (dk_at dksX2_tray_0 4 rfl rfl)
theorem dX2_tray_7 : decode cX2_tray 7 = .ok (.iload_n 2, 1) := dk_28 (dk_at dksX2_tray_0 7 rfl rfl)
theorem dX2_tray_8 : decode cX2_tray 8 = .ok (.ifCond .lt 18, 3) := dk_155 0 18 (dk_at dksX2_tray_0 8 rfl rfl)
theorem dX2_tray_11 : decode cX2_tray 11 = .ok (.iload_n 2, 1) := dk_28 (dk_at dksX2_tray_0 11 rfl rfl)
theorem dX2_tray_12 : decode cX2_tray 12 = .ok (.iconst 3, 1) := dk_6 (dk_at dksX2_tray_0 12 rfl rfl)
theorem dX2_tray_13 : decode cX2_tray 13 = .ok (.if_icmp .gt 13, 3) := dk_163 0 13 (dk_at dksX2_tray_0 13 rfl rfl)
theorem dX2_tray_16 : decode cX2_tray 16 = .ok (.iload_n 3, 1) := dk_29 (dk_at dksX2_tray_0 16 rfl rfl)
theorem dX2_tray_17 : decode cX2_tray 17 = .ok (.ifCond .lt 9, 3) := dk_155 0 9 (dk_at dksX2_tray_0 17 rfl rfl)
theorem dX2_tray_20 : decode cX2_tray 20 = .ok (.iload_n 3, 1) := dk_29 (dk_at dksX2_tray_0 20 rfl rfl)
theorem dX2_tray_21 : decode cX2_tray 21 = .ok (.bipush 60, 2) := dk_16 60 (dk_at dksX2_tray_0 21 rfl rfl)
theorem dX2_tray_23 : decode cX2_tray 23 = .ok (.if_icmp .le 9, 3) := dk_164 0 9 (dk_at dksX2_tray_1 0 rfl rfl)
theorem dX2_tray_26 : decode cX2_tray 26 = .ok (.aload_n 0, 1) := dk_42 (dk_at dksX2_tray_1 3 rfl rfl)
theorem dX2_tray_27 : decode cX2_tray 27 = .ok (.iconst 1, 1) := dk_4 (dk_at dksX2_tray_1 4 rfl rfl)
theorem dX2_tray_28 : decode cX2_tray 28 = .ok (.invokevirtual 123, 3) := dk_182 0 123 (dk_at dksX2_tray_1 5 rfl rfl)
theorem dX2_tray_31 : decode cX2_tray 31 = .ok (.ireturn, 1) := dk_172 (dk_at dksX2_tray_1 8 rfl rfl)
theorem dX2_tray_32 : decode cX2_tray 32 = .ok (.aload_n 0, 1) := dk_42 (dk_at dksX2_tray_1 9 rfl rfl)
theorem dX2_tray_33 : decode cX2_tray 33 = .ok (.getfield 13, 3) := dk_180 0 13 (dk_at dksX2_tray_1 10 rfl rfl)
theorem dX2_tray_36 : decode cX2_tray 36 = .ok (.iload_n 1, 1) := dk_27 (dk_at dksX2_tray_1 13 rfl rfl)
theorem dX2_tray_37 : decode cX2_tray 37 = .ok (.iload_n 2, 1) := dk_28 (dk_at dksX2_tray_1 14 rfl rfl)
theorem dX2_tray_38 : decode cX2_tray 38 = .ok (.iastore, 1) := dk_79 (dk_at dksX2_tray_1 15 rfl rfl)
theorem dX2_tray_39 : decode cX2_tray 39 = .ok (.aload_n 0, 1) := dk_42 (dk_at dksX2_tray_1 16 rfl rfl)
theorem dX2_tray_40 : decode cX2_tray 40 = .ok (.getfield 17, 3) := dk_180 0 17 (dk_at dksX2_tray_1 17 rfl rfl)
theorem dX2_tray_43 : decode cX2_tray 43 = .ok (.iload_n 1, 1) := dk_27 (dk_at dksX2_tray_1 20 rfl rfl)
theorem dX2_tray_44 : decode cX2_tray 44 = .ok (.iload_n 3, 1) := dk_29 (dk_at dksX2_tray_1 21 rfl rfl)
theorem dX2_tray_45 : decode cX2_tray 45 = .ok (.iastore, 1) := dk_79 (dk_at dksX2_tray_1 22 rfl rfl)
theorem dX2_tray_46 : decode cX2_tray 46 = .ok (.iconst 0, 1) := dk_3 (dk_at dksX2_tray_1 23 rfl rfl)
theorem dX2_tray_47 : decode cX2_tray 47 = .ok (.istore 4, 2) := dk_54 4 (dk_at dksX2_tray_2 0 rfl rfl)
theorem dX2_tray_49 : decode cX2_tray 49 = .ok (.iload 4, 2) := dk_21 4 (dk_at dksX2_tray_2 2 rfl rfl)
theorem dX2_tray_51 : decode cX2_tray 51 = .ok (.iload_n 3, 1) := dk_29 (dk_at dksX2_tray_2 4 rfl rfl)
theorem dX2_tray_52 : decode cX2_tray 52 = .ok (.if_icmp .ge 22, 3) := dk_162 0 22 (dk_at dksX2_tray_2 5 rfl rfl)
theorem dX2_tray_55 : decode cX2_tray 55 = .ok (.aload_n 0, 1) := dk_42 (dk_at dksX2_tray_2 8 rfl rfl)
theorem dX2_tray_56 : decode cX2_tray 56 = .ok (.getfield 20, 3) := dk_180 0 20 (dk_at dksX2_tray_2 9 rfl rfl)
theorem dX2_tray_59 : decode cX2_tray 59 = .ok (.bipush 60, 2) := dk_16 60 (dk_at dksX2_tray_2 12 rfl rfl)
theorem dX2_tray_61 : decode cX2_tray 61 = .ok (.iload_n 1, 1) := dk_27 (dk_at dksX2_tray_2 14 rfl rfl)
theorem dX2_tray_62 : decode cX2_tray 62 = .ok (.imul, 1) := dk_104 (dk_at dksX2_tray_2 15 rfl rfl)
theorem dX2_tray_63 : decode cX2_tray 63 = .ok (.iload 4, 2) := dk_21 4 (dk_at dksX2_tray_2 16 rfl rfl)
theorem dX2_tray_65 : decode cX2_tray 65 = .ok (.iadd, 1) := dk_96 (dk_at dksX2_tray_2 18 rfl rfl)
theorem dX2_tray_66 : decode cX2_tray 66 = .ok (.lconst 0, 1) := dk_9 (dk_at dksX2_tray_2 19 rfl rfl)
theorem dX2_tray_67 : decode cX2_tray 67 = .ok (.lastore, 1) := dk_80 (dk_at dksX2_tray_2 20 rfl rfl)
theorem dX2_tray_68 : decode cX2_tray 68 = .ok (.iinc 4 1, 3) := dk_132 4 1 (dk_at dksX2_tray_2 21 rfl rfl)
theorem dX2_tray_71 : decode cX2_tray 71 = .ok (.goto (-22), 3) := dk_167 255 234 (dk_at dksX2_tray_3 0 rfl rfl)
theorem dX2_tray_74 : decode cX2_tray 74 = .ok (.aload_n 0, 1) := dk_42 (dk_at dksX2_tray_3 3 rfl rfl)
theorem dX2_tray_75 : decode cX2_tray 75 = .ok (.iconst 0, 1) := dk_3 (dk_at dksX2_tray_3 4 rfl rfl)
theorem dX2_tray_76 : decode cX2_tray 76 = .ok (.invokevirtual 123, 3) := dk_182 0 123 (dk_at dksX2_tray_3 5 rfl rfl)
theorem dX2_tray_79 : decode cX2_tray 79 = .ok (.ireturn, 1) := dk_172 (dk_at dksX2_tray_3 8 rfl rfl)
abbrev cX2_isTray : ByteArray := prog_13_method_7_code
def yX2_isTray : MethodName := ⟨RX2, "isTray", "(I)Z"⟩
def dkwX2_isTray_0 : List UInt8 := [26, 155, 0, 12, 26, 7, 162, 0, 7, 4, 167, 0, 4, 3, 172]
abbrev dktX2_isTray_0 : List UInt8 := dkwX2_isTray_0 ++ []
theorem dksX2_isTray_0 : cX2_isTray.data.toList.drop 0 = dktX2_isTray_0 := by decide +kernel
theorem dX2_isTray_0 : decode cX2_isTray 0 = .ok (.iload_n 0, 1) := dk_26 (dk_at dksX2_isTray_0 0 rfl rfl)
theorem dX2_isTray_1 : decode cX2_isTray 1 = .ok (.ifCond .lt 12, 3) := dk_155 0 12 (dk_at dksX2_isTray_0 1 rfl rfl)
theorem dX2_isTray_4 : decode cX2_isTray 4 = .ok (.iload_n 0, 1) := dk_26 (dk_at dksX2_isTray_0 4 rfl rfl)
theorem dX2_isTray_5 : decode cX2_isTray 5 = .ok (.iconst 4, 1) := dk_7 (dk_at dksX2_isTray_0 5 rfl rfl)
theorem dX2_isTray_6 : decode cX2_isTray 6 = .ok (.if_icmp .ge 7, 3) := dk_162 0 7 (dk_at dksX2_isTray_0 6 rfl rfl)
theorem dX2_isTray_9 : decode cX2_isTray 9 = .ok (.iconst 1, 1) := dk_4 (dk_at dksX2_isTray_0 9 rfl rfl)
theorem dX2_isTray_10 : decode cX2_isTray 10 = .ok (.goto 4, 3) := dk_167 0 4 (dk_at dksX2_isTray_0 10 rfl rfl)
theorem dX2_isTray_13 : decode cX2_isTray 13 = .ok (.iconst 0, 1) := dk_3 (dk_at dksX2_isTray_0 13 rfl rfl)
theorem dX2_isTray_14 : decode cX2_isTray 14 = .ok (.ireturn, 1) := dk_172 (dk_at dksX2_isTray_0 14 rfl rfl)
abbrev cX2_is : ByteArray := prog_13_method_5_code
def yX2_is : MethodName := ⟨RX2, "is", "(I)Z"⟩
def dkwX2_is_0 : List UInt8 := [42, 27, 181, 0, 112, 27, 154, 0, 7, 4, 167, 0, 4, 3, 172]
abbrev dktX2_is_0 : List UInt8 := dkwX2_is_0 ++ []
theorem dksX2_is_0 : cX2_is.data.toList.drop 0 = dktX2_is_0 := by decide +kernel
theorem dX2_is_0 : decode cX2_is 0 = .ok (.aload_n 0, 1) := dk_42 (dk_at dksX2_is_0 0 rfl rfl)
theorem dX2_is_1 : decode cX2_is 1 = .ok (.iload_n 1, 1) := dk_27 (dk_at dksX2_is_0 1 rfl rfl)
theorem dX2_is_2 : decode cX2_is 2 = .ok (.putfield 112, 3) := dk_181 0 112 (dk_at dksX2_is_0 2 rfl rfl)
theorem dX2_is_5 : decode cX2_is 5 = .ok (.iload_n 1, 1) := dk_27 (dk_at dksX2_is_0 5 rfl rfl)
theorem dX2_is_6 : decode cX2_is 6 = .ok (.ifCond .ne 7, 3) := dk_154 0 7 (dk_at dksX2_is_0 6 rfl rfl)
theorem dX2_is_9 : decode cX2_is 9 = .ok (.iconst 1, 1) := dk_4 (dk_at dksX2_is_0 9 rfl rfl)
theorem dX2_is_10 : decode cX2_is 10 = .ok (.goto 4, 3) := dk_167 0 4 (dk_at dksX2_is_0 10 rfl rfl)
theorem dX2_is_13 : decode cX2_is 13 = .ok (.iconst 0, 1) := dk_3 (dk_at dksX2_is_0 13 rfl rfl)
theorem dX2_is_14 : decode cX2_is 14 = .ok (.ireturn, 1) := dk_172 (dk_at dksX2_is_0 14 rfl rfl)
abbrev cX2_write : ByteArray := prog_13_method_11_code
def yX2_write : MethodName := ⟨RX2, "write", "(IIJ)Z"⟩
def dkwX2_write_1 : List UInt8 := [42, 180, 0, 13, 27, 46, 184, 0, 130, 80, 42, 21, 5, 182, 0, 123, 172]
abbrev dktX2_write_1 : List UInt8 := dkwX2_write_1 ++ []
def dkwX2_write_0 : List UInt8 := [42, 27, 28, 182, 0, 126, 54, 5, 21, 5, 154, 0, 24, 42, 180, 0, 20, 16, 60, 27, 104, 28, 96, 33]
abbrev dktX2_write_0 : List UInt8 := dkwX2_write_0 ++ dktX2_write_1
theorem dksX2_write_0 : cX2_write.data.toList.drop 0 = dktX2_write_0 := by decide +kernel
theorem dksX2_write_1 : cX2_write.data.toList.drop 24 = dktX2_write_1 := dk_seg dksX2_write_0 24 rfl rfl
theorem dX2_write_0 : decode cX2_write 0 = .ok (.aload_n 0, 1) := dk_42 (dk_at dksX2_write_0 0 rfl rfl)
theorem dX2_write_1 : decode cX2_write 1 = .ok (.iload_n 1, 1) := dk_27 (dk_at dksX2_write_0 1 rfl rfl)
theorem dX2_write_2 : decode cX2_write 2 = .ok (.iload_n 2, 1) := dk_28 (dk_at dksX2_write_0 2 rfl rfl)
theorem dX2_write_3 : decode cX2_write 3 = .ok (.invokevirtual 126, 3) := dk_182 0 126 (dk_at dksX2_write_0 3 rfl rfl)
theorem dX2_write_6 : decode cX2_write 6 = .ok (.istore 5, 2) := dk_54 5 (dk_at dksX2_write_0 6 rfl rfl)
theorem dX2_write_8 : decode cX2_write 8 = .ok (.iload 5, 2) := dk_21 5 (dk_at dksX2_write_0 8 rfl rfl)
theorem dX2_write_10 : decode cX2_write 10 = .ok (.ifCond .ne 24, 3) := dk_154 0 24 (dk_at dksX2_write_0 10 rfl rfl)
theorem dX2_write_13 : decode cX2_write 13 = .ok (.aload_n 0, 1) := dk_42 (dk_at dksX2_write_0 13 rfl rfl)
theorem dX2_write_14 : decode cX2_write 14 = .ok (.getfield 20, 3) := dk_180 0 20 (dk_at dksX2_write_0 14 rfl rfl)
theorem dX2_write_17 : decode cX2_write 17 = .ok (.bipush 60, 2) := dk_16 60 (dk_at dksX2_write_0 17 rfl rfl)
theorem dX2_write_19 : decode cX2_write 19 = .ok (.iload_n 1, 1) := dk_27 (dk_at dksX2_write_0 19 rfl rfl)
theorem dX2_write_20 : decode cX2_write 20 = .ok (.imul, 1) := dk_104 (dk_at dksX2_write_0 20 rfl rfl)
theorem dX2_write_21 : decode cX2_write 21 = .ok (.iload_n 2, 1) := dk_28 (dk_at dksX2_write_0 21 rfl rfl)
theorem dX2_write_22 : decode cX2_write 22 = .ok (.iadd, 1) := dk_96 (dk_at dksX2_write_0 22 rfl rfl)
theorem dX2_write_23 : decode cX2_write 23 = .ok (.lload_n 3, 1) := dk_33 (dk_at dksX2_write_0 23 rfl rfl)
theorem dX2_write_24 : decode cX2_write 24 = .ok (.aload_n 0, 1) := dk_42 (dk_at dksX2_write_1 0 rfl rfl)
theorem dX2_write_25 : decode cX2_write 25 = .ok (.getfield 13, 3) := dk_180 0 13 (dk_at dksX2_write_1 1 rfl rfl)
theorem dX2_write_28 : decode cX2_write 28 = .ok (.iload_n 1, 1) := dk_27 (dk_at dksX2_write_1 4 rfl rfl)
theorem dX2_write_29 : decode cX2_write 29 = .ok (.iaload, 1) := dk_46 (dk_at dksX2_write_1 5 rfl rfl)
theorem dX2_write_30 : decode cX2_write 30 = .ok (.invokestatic 130, 3) := dk_184 0 130 (dk_at dksX2_write_1 6 rfl rfl)
theorem dX2_write_33 : decode cX2_write 33 = .ok (.lastore, 1) := dk_80 (dk_at dksX2_write_1 9 rfl rfl)
theorem dX2_write_34 : decode cX2_write 34 = .ok (.aload_n 0, 1) := dk_42 (dk_at dksX2_write_1 10 rfl rfl)
theorem dX2_write_35 : decode cX2_write 35 = .ok (.iload 5, 2) := dk_21 5 (dk_at dksX2_write_1 11 rfl rfl)
theorem dX2_write_37 : decode cX2_write 37 = .ok (.invokevirtual 123, 3) := dk_182 0 123 (dk_at dksX2_write_1 13 rfl rfl)
theorem dX2_write_40 : decode cX2_write 40 = .ok (.ireturn, 1) := dk_172 (dk_at dksX2_write_1 16 rfl rfl)
abbrev cX2_wrong : ByteArray := prog_13_method_10_code
def yX2_wrong : MethodName := ⟨RX2, "wrong", "(II)I"⟩
def dkwX2_wrong_1 : List UInt8 := [167, 0, 22, 28, 155, 0, 13, 28, 42, 180, 0, 17, 27, 46, 161, 0, 7, 6, 167, 0, 4, 3, 172]
abbrev dktX2_wrong_1 : List UInt8 := dkwX2_wrong_1 ++ []
def dkwX2_wrong_0 : List UInt8 := [27, 184, 0, 119, 154, 0, 7, 4, 167, 0, 36, 42, 180, 0, 17, 27, 46, 2, 160, 0, 7, 5]
abbrev dktX2_wrong_0 : List UInt8 := dkwX2_wrong_0 ++ dktX2_wrong_1
theorem dksX2_wrong_0 : cX2_wrong.data.toList.drop 0 = dktX2_wrong_0 := by decide +kernel
theorem dksX2_wrong_1 : cX2_wrong.data.toList.drop 22 = dktX2_wrong_1 := dk_seg dksX2_wrong_0 22 rfl rfl
theorem dX2_wrong_0 : decode cX2_wrong 0 = .ok (.iload_n 1, 1) := dk_27 (dk_at dksX2_wrong_0 0 rfl rfl)
theorem dX2_wrong_1 : decode cX2_wrong 1 = .ok (.invokestatic 119, 3) := dk_184 0 119 (dk_at dksX2_wrong_0 1 rfl rfl)
theorem dX2_wrong_4 : decode cX2_wrong 4 = .ok (.ifCond .ne 7, 3) := dk_154 0 7 (dk_at dksX2_wrong_0 4 rfl rfl)
theorem dX2_wrong_7 : decode cX2_wrong 7 = .ok (.iconst 1, 1) := dk_4 (dk_at dksX2_wrong_0 7 rfl rfl)
theorem dX2_wrong_8 : decode cX2_wrong 8 = .ok (.goto 36, 3) := dk_167 0 36 (dk_at dksX2_wrong_0 8 rfl rfl)
theorem dX2_wrong_11 : decode cX2_wrong 11 = .ok (.aload_n 0, 1) := dk_42 (dk_at dksX2_wrong_0 11 rfl rfl)
theorem dX2_wrong_12 : decode cX2_wrong 12 = .ok (.getfield 17, 3) := dk_180 0 17 (dk_at dksX2_wrong_0 12 rfl rfl)
theorem dX2_wrong_15 : decode cX2_wrong 15 = .ok (.iload_n 1, 1) := dk_27 (dk_at dksX2_wrong_0 15 rfl rfl)
theorem dX2_wrong_16 : decode cX2_wrong 16 = .ok (.iaload, 1) := dk_46 (dk_at dksX2_wrong_0 16 rfl rfl)
theorem dX2_wrong_17 : decode cX2_wrong 17 = .ok (.iconst (-1), 1) := dk_2 (dk_at dksX2_wrong_0 17 rfl rfl)
theorem dX2_wrong_18 : decode cX2_wrong 18 = .ok (.if_icmp .ne 7, 3) := dk_160 0 7 (dk_at dksX2_wrong_0 18 rfl rfl)
theorem dX2_wrong_21 : decode cX2_wrong 21 = .ok (.iconst 2, 1) := dk_5 (dk_at dksX2_wrong_0 21 rfl rfl)
theorem dX2_wrong_22 : decode cX2_wrong 22 = .ok (.goto 22, 3) := dk_167 0 22 (dk_at dksX2_wrong_1 0 rfl rfl)
theorem dX2_wrong_25 : decode cX2_wrong 25 = .ok (.iload_n 2, 1) := dk_28 (dk_at dksX2_wrong_1 3 rfl rfl)
theorem dX2_wrong_26 : decode cX2_wrong 26 = .ok (.ifCond .lt 13, 3) := dk_155 0 13 (dk_at dksX2_wrong_1 4 rfl rfl)
theorem dX2_wrong_29 : decode cX2_wrong 29 = .ok (.iload_n 2, 1) := dk_28 (dk_at dksX2_wrong_1 7 rfl rfl)
theorem dX2_wrong_30 : decode cX2_wrong 30 = .ok (.aload_n 0, 1) := dk_42 (dk_at dksX2_wrong_1 8 rfl rfl)
theorem dX2_wrong_31 : decode cX2_wrong 31 = .ok (.getfield 17, 3) := dk_180 0 17 (dk_at dksX2_wrong_1 9 rfl rfl)
theorem dX2_wrong_34 : decode cX2_wrong 34 = .ok (.iload_n 1, 1) := dk_27 (dk_at dksX2_wrong_1 12 rfl rfl)
theorem dX2_wrong_35 : decode cX2_wrong 35 = .ok (.iaload, 1) := dk_46 (dk_at dksX2_wrong_1 13 rfl rfl)
theorem dX2_wrong_36 : decode cX2_wrong 36 = .ok (.if_icmp .lt 7, 3) := dk_161 0 7 (dk_at dksX2_wrong_1 14 rfl rfl)
theorem dX2_wrong_39 : decode cX2_wrong 39 = .ok (.iconst 3, 1) := dk_6 (dk_at dksX2_wrong_1 17 rfl rfl)
theorem dX2_wrong_40 : decode cX2_wrong 40 = .ok (.goto 4, 3) := dk_167 0 4 (dk_at dksX2_wrong_1 18 rfl rfl)
theorem dX2_wrong_43 : decode cX2_wrong 43 = .ok (.iconst 0, 1) := dk_3 (dk_at dksX2_wrong_1 21 rfl rfl)
theorem dX2_wrong_44 : decode cX2_wrong 44 = .ok (.ireturn, 1) := dk_172 (dk_at dksX2_wrong_1 22 rfl rfl)
abbrev cX2_cut : ByteArray := prog_13_method_8_code
def yX2_cut : MethodName := ⟨RX2, "cut", "(JI)J"⟩
def dkwX2_cut_1 : List UInt8 := [5, 160, 0, 9, 30, 136, 133, 167, 0, 4, 30, 173]
abbrev dktX2_cut_1 : List UInt8 := dkwX2_cut_1 ++ []
def dkwX2_cut_0 : List UInt8 := [28, 154, 0, 10, 30, 136, 145, 133, 167, 0, 27, 28, 4, 160, 0, 10, 30, 136, 147, 133, 167, 0, 15, 28]
abbrev dktX2_cut_0 : List UInt8 := dkwX2_cut_0 ++ dktX2_cut_1
theorem dksX2_cut_0 : cX2_cut.data.toList.drop 0 = dktX2_cut_0 := by decide +kernel
theorem dksX2_cut_1 : cX2_cut.data.toList.drop 24 = dktX2_cut_1 := dk_seg dksX2_cut_0 24 rfl rfl
theorem dX2_cut_0 : decode cX2_cut 0 = .ok (.iload_n 2, 1) := dk_28 (dk_at dksX2_cut_0 0 rfl rfl)
theorem dX2_cut_1 : decode cX2_cut 1 = .ok (.ifCond .ne 10, 3) := dk_154 0 10 (dk_at dksX2_cut_0 1 rfl rfl)
theorem dX2_cut_4 : decode cX2_cut 4 = .ok (.lload_n 0, 1) := dk_30 (dk_at dksX2_cut_0 4 rfl rfl)
theorem dX2_cut_5 : decode cX2_cut 5 = .ok (.l2i, 1) := dk_136 (dk_at dksX2_cut_0 5 rfl rfl)
theorem dX2_cut_6 : decode cX2_cut 6 = .ok (.i2b, 1) := dk_145 (dk_at dksX2_cut_0 6 rfl rfl)
theorem dX2_cut_7 : decode cX2_cut 7 = .ok (.i2l, 1) := dk_133 (dk_at dksX2_cut_0 7 rfl rfl)
theorem dX2_cut_8 : decode cX2_cut 8 = .ok (.goto 27, 3) := dk_167 0 27 (dk_at dksX2_cut_0 8 rfl rfl)
theorem dX2_cut_11 : decode cX2_cut 11 = .ok (.iload_n 2, 1) := dk_28 (dk_at dksX2_cut_0 11 rfl rfl)
theorem dX2_cut_12 : decode cX2_cut 12 = .ok (.iconst 1, 1) := dk_4 (dk_at dksX2_cut_0 12 rfl rfl)
theorem dX2_cut_13 : decode cX2_cut 13 = .ok (.if_icmp .ne 10, 3) := dk_160 0 10 (dk_at dksX2_cut_0 13 rfl rfl)
theorem dX2_cut_16 : decode cX2_cut 16 = .ok (.lload_n 0, 1) := dk_30 (dk_at dksX2_cut_0 16 rfl rfl)
theorem dX2_cut_17 : decode cX2_cut 17 = .ok (.l2i, 1) := dk_136 (dk_at dksX2_cut_0 17 rfl rfl)
theorem dX2_cut_18 : decode cX2_cut 18 = .ok (.i2s, 1) := dk_147 (dk_at dksX2_cut_0 18 rfl rfl)
theorem dX2_cut_19 : decode cX2_cut 19 = .ok (.i2l, 1) := dk_133 (dk_at dksX2_cut_0 19 rfl rfl)
theorem dX2_cut_20 : decode cX2_cut 20 = .ok (.goto 15, 3) := dk_167 0 15 (dk_at dksX2_cut_0 20 rfl rfl)
theorem dX2_cut_23 : decode cX2_cut 23 = .ok (.iload_n 2, 1) := dk_28 (dk_at dksX2_cut_0 23 rfl rfl)
theorem dX2_cut_24 : decode cX2_cut 24 = .ok (.iconst 2, 1) := dk_5 (dk_at dksX2_cut_1 0 rfl rfl)
theorem dX2_cut_25 : decode cX2_cut 25 = .ok (.if_icmp .ne 9, 3) := dk_160 0 9 (dk_at dksX2_cut_1 1 rfl rfl)
theorem dX2_cut_28 : decode cX2_cut 28 = .ok (.lload_n 0, 1) := dk_30 (dk_at dksX2_cut_1 4 rfl rfl)
theorem dX2_cut_29 : decode cX2_cut 29 = .ok (.l2i, 1) := dk_136 (dk_at dksX2_cut_1 5 rfl rfl)
theorem dX2_cut_30 : decode cX2_cut 30 = .ok (.i2l, 1) := dk_133 (dk_at dksX2_cut_1 6 rfl rfl)
theorem dX2_cut_31 : decode cX2_cut 31 = .ok (.goto 4, 3) := dk_167 0 4 (dk_at dksX2_cut_1 7 rfl rfl)
theorem dX2_cut_34 : decode cX2_cut 34 = .ok (.lload_n 0, 1) := dk_30 (dk_at dksX2_cut_1 10 rfl rfl)
theorem dX2_cut_35 : decode cX2_cut 35 = .ok (.lreturn, 1) := dk_173 (dk_at dksX2_cut_1 11 rfl rfl)
abbrev cX2_read : ByteArray := prog_13_method_12_code
def yX2_read : MethodName := ⟨RX2, "read", "(II)J"⟩
def dkwX2_read_1 : List UInt8 := [180, 0, 20, 16, 60, 27, 104, 28, 96, 47, 173]
abbrev dktX2_read_1 : List UInt8 := dkwX2_read_1 ++ []
def dkwX2_read_0 : List UInt8 := [42, 42, 27, 28, 182, 0, 126, 181, 0, 112, 42, 180, 0, 112, 158, 0, 9, 20, 0, 134, 167, 0, 14, 42]
abbrev dktX2_read_0 : List UInt8 := dkwX2_read_0 ++ dktX2_read_1
theorem dksX2_read_0 : cX2_read.data.toList.drop 0 = dktX2_read_0 := by decide +kernel
theorem dksX2_read_1 : cX2_read.data.toList.drop 24 = dktX2_read_1 := dk_seg dksX2_read_0 24 rfl rfl
theorem dX2_read_0 : decode cX2_read 0 = .ok (.aload_n 0, 1) := dk_42 (dk_at dksX2_read_0 0 rfl rfl)
theorem dX2_read_1 : decode cX2_read 1 = .ok (.aload_n 0, 1) := dk_42 (dk_at dksX2_read_0 1 rfl rfl)
theorem dX2_read_2 : decode cX2_read 2 = .ok (.iload_n 1, 1) := dk_27 (dk_at dksX2_read_0 2 rfl rfl)
theorem dX2_read_3 : decode cX2_read 3 = .ok (.iload_n 2, 1) := dk_28 (dk_at dksX2_read_0 3 rfl rfl)
theorem dX2_read_4 : decode cX2_read 4 = .ok (.invokevirtual 126, 3) := dk_182 0 126 (dk_at dksX2_read_0 4 rfl rfl)
theorem dX2_read_7 : decode cX2_read 7 = .ok (.putfield 112, 3) := dk_181 0 112 (dk_at dksX2_read_0 7 rfl rfl)
theorem dX2_read_10 : decode cX2_read 10 = .ok (.aload_n 0, 1) := dk_42 (dk_at dksX2_read_0 10 rfl rfl)
theorem dX2_read_11 : decode cX2_read 11 = .ok (.getfield 112, 3) := dk_180 0 112 (dk_at dksX2_read_0 11 rfl rfl)
theorem dX2_read_14 : decode cX2_read 14 = .ok (.ifCond .le 9, 3) := dk_158 0 9 (dk_at dksX2_read_0 14 rfl rfl)
theorem dX2_read_17 : decode cX2_read 17 = .ok (.ldc2_w 134, 3) := dk_20 0 134 (dk_at dksX2_read_0 17 rfl rfl)
theorem dX2_read_20 : decode cX2_read 20 = .ok (.goto 14, 3) := dk_167 0 14 (dk_at dksX2_read_0 20 rfl rfl)
theorem dX2_read_23 : decode cX2_read 23 = .ok (.aload_n 0, 1) := dk_42 (dk_at dksX2_read_0 23 rfl rfl)
theorem dX2_read_24 : decode cX2_read 24 = .ok (.getfield 20, 3) := dk_180 0 20 (dk_at dksX2_read_1 0 rfl rfl)
theorem dX2_read_27 : decode cX2_read 27 = .ok (.bipush 60, 2) := dk_16 60 (dk_at dksX2_read_1 3 rfl rfl)
theorem dX2_read_29 : decode cX2_read 29 = .ok (.iload_n 1, 1) := dk_27 (dk_at dksX2_read_1 5 rfl rfl)
theorem dX2_read_30 : decode cX2_read 30 = .ok (.imul, 1) := dk_104 (dk_at dksX2_read_1 6 rfl rfl)
theorem dX2_read_31 : decode cX2_read 31 = .ok (.iload_n 2, 1) := dk_28 (dk_at dksX2_read_1 7 rfl rfl)
theorem dX2_read_32 : decode cX2_read 32 = .ok (.iadd, 1) := dk_96 (dk_at dksX2_read_1 8 rfl rfl)
theorem dX2_read_33 : decode cX2_read 33 = .ok (.laload, 1) := dk_47 (dk_at dksX2_read_1 9 rfl rfl)
theorem dX2_read_34 : decode cX2_read 34 = .ok (.lreturn, 1) := dk_173 (dk_at dksX2_read_1 10 rfl rfl)
abbrev cX2_pour : ByteArray := prog_13_method_13_code
def yX2_pour : MethodName := ⟨RX2, "pour", "(IIIII)Z"⟩
def dkwX2_pour_8 : List UInt8 := [182, 0, 123, 172]
abbrev dktX2_pour_8 : List UInt8 := dkwX2_pour_8 ++ []
def dkwX2_pour_7 : List UInt8 := [180, 0, 20, 16, 60, 27, 104, 28, 96, 21, 7, 96, 47, 80, 132, 6, 1, 167, 255, 197, 42, 3]
abbrev dktX2_pour_7 : List UInt8 := dkwX2_pour_7 ++ dktX2_pour_8
def dkwX2_pour_6 : List UInt8 := [167, 0, 5, 21, 6, 54, 7, 42, 180, 0, 20, 16, 60, 29, 104, 21, 4, 96, 21, 7, 96, 42]
abbrev dktX2_pour_6 : List UInt8 := dkwX2_pour_6 ++ dktX2_pour_7
def dkwX2_pour_5 : List UInt8 := [3, 54, 6, 21, 6, 21, 5, 162, 0, 58, 28, 21, 4, 162, 0, 13, 21, 5, 4, 100, 21, 6, 100]
abbrev dktX2_pour_5 : List UInt8 := dkwX2_pour_5 ++ dktX2_pour_6
def dkwX2_pour_4 : List UInt8 := [100, 163, 0, 17, 21, 5, 42, 180, 0, 17, 29, 46, 21, 4, 100, 164, 0, 9, 42, 6, 182, 0, 123, 172]
abbrev dktX2_pour_4 : List UInt8 := dkwX2_pour_4 ++ dktX2_pour_5
def dkwX2_pour_3 : List UInt8 := [180, 0, 13, 29, 46, 159, 0, 10, 42, 16, 7, 182, 0, 123, 172, 21, 5, 42, 180, 0, 17, 27, 46, 28]
abbrev dktX2_pour_3 : List UInt8 := dkwX2_pour_3 ++ dktX2_pour_4
def dkwX2_pour_2 : List UInt8 := [180, 0, 17, 29, 46, 2, 160, 0, 9, 42, 5, 182, 0, 123, 172, 42, 180, 0, 13, 27, 46, 42]
abbrev dktX2_pour_2 : List UInt8 := dkwX2_pour_2 ++ dktX2_pour_3
def dkwX2_pour_1 : List UInt8 := [21, 5, 156, 0, 9, 42, 4, 182, 0, 123, 172, 42, 180, 0, 17, 27, 46, 2, 159, 0, 13, 42]
abbrev dktX2_pour_1 : List UInt8 := dkwX2_pour_1 ++ dktX2_pour_2
def dkwX2_pour_0 : List UInt8 := [27, 184, 0, 119, 153, 0, 24, 29, 184, 0, 119, 153, 0, 17, 28, 155, 0, 13, 21, 4, 155, 0, 8]
abbrev dktX2_pour_0 : List UInt8 := dkwX2_pour_0 ++ dktX2_pour_1
theorem dksX2_pour_0 : cX2_pour.data.toList.drop 0 = dktX2_pour_0 := by decide +kernel
theorem dksX2_pour_1 : cX2_pour.data.toList.drop 23 = dktX2_pour_1 := dk_seg dksX2_pour_0 23 rfl rfl
theorem dksX2_pour_2 : cX2_pour.data.toList.drop 45 = dktX2_pour_2 := dk_seg dksX2_pour_1 22 rfl rfl
theorem dksX2_pour_3 : cX2_pour.data.toList.drop 67 = dktX2_pour_3 := dk_seg dksX2_pour_2 22 rfl rfl
theorem dksX2_pour_4 : cX2_pour.data.toList.drop 91 = dktX2_pour_4 := dk_seg dksX2_pour_3 24 rfl rfl
theorem dksX2_pour_5 : cX2_pour.data.toList.drop 115 = dktX2_pour_5 := dk_seg dksX2_pour_4 24 rfl rfl
theorem dksX2_pour_6 : cX2_pour.data.toList.drop 138 = dktX2_pour_6 := dk_seg dksX2_pour_5 23 rfl rfl
theorem dksX2_pour_7 : cX2_pour.data.toList.drop 160 = dktX2_pour_7 := dk_seg dksX2_pour_6 22 rfl rfl
theorem dksX2_pour_8 : cX2_pour.data.toList.drop 182 = dktX2_pour_8 := dk_seg dksX2_pour_7 22 rfl rfl
theorem dX2_pour_0 : decode cX2_pour 0 = .ok (.iload_n 1, 1) := dk_27 (dk_at dksX2_pour_0 0 rfl rfl)
theorem dX2_pour_1 : decode cX2_pour 1 = .ok (.invokestatic 119, 3) := dk_184 0 119 (dk_at dksX2_pour_0 1 rfl rfl)
theorem dX2_pour_4 : decode cX2_pour 4 = .ok (.ifCond .eq 24, 3) := dk_153 0 24 (dk_at dksX2_pour_0 4 rfl rfl)
theorem dX2_pour_7 : decode cX2_pour 7 = .ok (.iload_n 3, 1) := dk_29 (dk_at dksX2_pour_0 7 rfl rfl)
theorem dX2_pour_8 : decode cX2_pour 8 = .ok (.invokestatic 119, 3) := dk_184 0 119 (dk_at dksX2_pour_0 8 rfl rfl)
theorem dX2_pour_11 : decode cX2_pour 11 = .ok (.ifCond .eq 17, 3) := dk_153 0 17 (dk_at dksX2_pour_0 11 rfl rfl)
theorem dX2_pour_14 : decode cX2_pour 14 = .ok (.iload_n 2, 1) := dk_28 (dk_at dksX2_pour_0 14 rfl rfl)
theorem dX2_pour_15 : decode cX2_pour 15 = .ok (.ifCond .lt 13, 3) := dk_155 0 13 (dk_at dksX2_pour_0 15 rfl rfl)
theorem dX2_pour_18 : decode cX2_pour 18 = .ok (.iload 4, 2) := dk_21 4 (dk_at dksX2_pour_0 18 rfl rfl)
theorem dX2_pour_20 : decode cX2_pour 20 = .ok (.ifCond .lt 8, 3) := dk_155 0 8 (dk_at dksX2_pour_0 20 rfl rfl)
theorem dX2_pour_23 : decode cX2_pour 23 = .ok (.iload 5, 2) := dk_21 5 (dk_at dksX2_pour_1 0 rfl rfl)
theorem dX2_pour_25 : decode cX2_pour 25 = .ok (.ifCond .ge 9, 3) := dk_156 0 9 (dk_at dksX2_pour_1 2 rfl rfl)
theorem dX2_pour_28 : decode cX2_pour 28 = .ok (.aload_n 0, 1) := dk_42 (dk_at dksX2_pour_1 5 rfl rfl)
theorem dX2_pour_29 : decode cX2_pour 29 = .ok (.iconst 1, 1) := dk_4 (dk_at dksX2_pour_1 6 rfl rfl)
theorem dX2_pour_30 : decode cX2_pour 30 = .ok (.invokevirtual 123, 3) := dk_182 0 123 (dk_at dksX2_pour_1 7 rfl rfl)
theorem dX2_pour_33 : decode cX2_pour 33 = .ok (.ireturn, 1) := dk_172 (dk_at dksX2_pour_1 10 rfl rfl)
theorem dX2_pour_34 : decode cX2_pour 34 = .ok (.aload_n 0, 1) := dk_42 (dk_at dksX2_pour_1 11 rfl rfl)
theorem dX2_pour_35 : decode cX2_pour 35 = .ok (.getfield 17, 3) := dk_180 0 17 (dk_at dksX2_pour_1 12 rfl rfl)
theorem dX2_pour_38 : decode cX2_pour 38 = .ok (.iload_n 1, 1) := dk_27 (dk_at dksX2_pour_1 15 rfl rfl)
theorem dX2_pour_39 : decode cX2_pour 39 = .ok (.iaload, 1) := dk_46 (dk_at dksX2_pour_1 16 rfl rfl)
theorem dX2_pour_40 : decode cX2_pour 40 = .ok (.iconst (-1), 1) := dk_2 (dk_at dksX2_pour_1 17 rfl rfl)
theorem dX2_pour_41 : decode cX2_pour 41 = .ok (.if_icmp .eq 13, 3) := dk_159 0 13 (dk_at dksX2_pour_1 18 rfl rfl)
theorem dX2_pour_44 : decode cX2_pour 44 = .ok (.aload_n 0, 1) := dk_42 (dk_at dksX2_pour_1 21 rfl rfl)
theorem dX2_pour_45 : decode cX2_pour 45 = .ok (.getfield 17, 3) := dk_180 0 17 (dk_at dksX2_pour_2 0 rfl rfl)
theorem dX2_pour_48 : decode cX2_pour 48 = .ok (.iload_n 3, 1) := dk_29 (dk_at dksX2_pour_2 3 rfl rfl)
theorem dX2_pour_49 : decode cX2_pour 49 = .ok (.iaload, 1) := dk_46 (dk_at dksX2_pour_2 4 rfl rfl)
theorem dX2_pour_50 : decode cX2_pour 50 = .ok (.iconst (-1), 1) := dk_2 (dk_at dksX2_pour_2 5 rfl rfl)
theorem dX2_pour_51 : decode cX2_pour 51 = .ok (.if_icmp .ne 9, 3) := dk_160 0 9 (dk_at dksX2_pour_2 6 rfl rfl)
theorem dX2_pour_54 : decode cX2_pour 54 = .ok (.aload_n 0, 1) := dk_42 (dk_at dksX2_pour_2 9 rfl rfl)
theorem dX2_pour_55 : decode cX2_pour 55 = .ok (.iconst 2, 1) := dk_5 (dk_at dksX2_pour_2 10 rfl rfl)
theorem dX2_pour_56 : decode cX2_pour 56 = .ok (.invokevirtual 123, 3) := dk_182 0 123 (dk_at dksX2_pour_2 11 rfl rfl)
theorem dX2_pour_59 : decode cX2_pour 59 = .ok (.ireturn, 1) := dk_172 (dk_at dksX2_pour_2 14 rfl rfl)
theorem dX2_pour_60 : decode cX2_pour 60 = .ok (.aload_n 0, 1) := dk_42 (dk_at dksX2_pour_2 15 rfl rfl)
theorem dX2_pour_61 : decode cX2_pour 61 = .ok (.getfield 13, 3) := dk_180 0 13 (dk_at dksX2_pour_2 16 rfl rfl)
theorem dX2_pour_64 : decode cX2_pour 64 = .ok (.iload_n 1, 1) := dk_27 (dk_at dksX2_pour_2 19 rfl rfl)
theorem dX2_pour_65 : decode cX2_pour 65 = .ok (.iaload, 1) := dk_46 (dk_at dksX2_pour_2 20 rfl rfl)
theorem dX2_pour_66 : decode cX2_pour 66 = .ok (.aload_n 0, 1) := dk_42 (dk_at dksX2_pour_2 21 rfl rfl)
theorem dX2_pour_67 : decode cX2_pour 67 = .ok (.getfield 13, 3) := dk_180 0 13 (dk_at dksX2_pour_3 0 rfl rfl)
theorem dX2_pour_70 : decode cX2_pour 70 = .ok (.iload_n 3, 1) := dk_29 (dk_at dksX2_pour_3 3 rfl rfl)
theorem dX2_pour_71 : decode cX2_pour 71 = .ok (.iaload, 1) := dk_46 (dk_at dksX2_pour_3 4 rfl rfl)
theorem dX2_pour_72 : decode cX2_pour 72 = .ok (.if_icmp .eq 10, 3) := dk_159 0 10 (dk_at dksX2_pour_3 5 rfl rfl)
theorem dX2_pour_75 : decode cX2_pour 75 = .ok (.aload_n 0, 1) := dk_42 (dk_at dksX2_pour_3 8 rfl rfl)
theorem dX2_pour_76 : decode cX2_pour 76 = .ok (.bipush 7, 2) := dk_16 7 (dk_at dksX2_pour_3 9 rfl rfl)
theorem dX2_pour_78 : decode cX2_pour 78 = .ok (.invokevirtual 123, 3) := dk_182 0 123 (dk_at dksX2_pour_3 11 rfl rfl)
theorem dX2_pour_81 : decode cX2_pour 81 = .ok (.ireturn, 1) := dk_172 (dk_at dksX2_pour_3 14 rfl rfl)
theorem dX2_pour_82 : decode cX2_pour 82 = .ok (.iload 5, 2) := dk_21 5 (dk_at dksX2_pour_3 15 rfl rfl)
theorem dX2_pour_84 : decode cX2_pour 84 = .ok (.aload_n 0, 1) := dk_42 (dk_at dksX2_pour_3 17 rfl rfl)
theorem dX2_pour_85 : decode cX2_pour 85 = .ok (.getfield 17, 3) := dk_180 0 17 (dk_at dksX2_pour_3 18 rfl rfl)
theorem dX2_pour_88 : decode cX2_pour 88 = .ok (.iload_n 1, 1) := dk_27 (dk_at dksX2_pour_3 21 rfl rfl)
theorem dX2_pour_89 : decode cX2_pour 89 = .ok (.iaload, 1) := dk_46 (dk_at dksX2_pour_3 22 rfl rfl)
theorem dX2_pour_90 : decode cX2_pour 90 = .ok (.iload_n 2, 1) := dk_28 (dk_at dksX2_pour_3 23 rfl rfl)
theorem dX2_pour_91 : decode cX2_pour 91 = .ok (.isub, 1) := dk_100 (dk_at dksX2_pour_4 0 rfl rfl)
theorem dX2_pour_92 : decode cX2_pour 92 = .ok (.if_icmp .gt 17, 3) := dk_163 0 17 (dk_at dksX2_pour_4 1 rfl rfl)
theorem dX2_pour_95 : decode cX2_pour 95 = .ok (.iload 5, 2) := dk_21 5 (dk_at dksX2_pour_4 4 rfl rfl)
theorem dX2_pour_97 : decode cX2_pour 97 = .ok (.aload_n 0, 1) := dk_42 (dk_at dksX2_pour_4 6 rfl rfl)
theorem dX2_pour_98 : decode cX2_pour 98 = .ok (.getfield 17, 3) := dk_180 0 17 (dk_at dksX2_pour_4 7 rfl rfl)
theorem dX2_pour_101 : decode cX2_pour 101 = .ok (.iload_n 3, 1) := dk_29 (dk_at dksX2_pour_4 10 rfl rfl)
theorem dX2_pour_102 : decode cX2_pour 102 = .ok (.iaload, 1) := dk_46 (dk_at dksX2_pour_4 11 rfl rfl)
theorem dX2_pour_103 : decode cX2_pour 103 = .ok (.iload 4, 2) := dk_21 4 (dk_at dksX2_pour_4 12 rfl rfl)
theorem dX2_pour_105 : decode cX2_pour 105 = .ok (.isub, 1) := dk_100 (dk_at dksX2_pour_4 14 rfl rfl)
theorem dX2_pour_106 : decode cX2_pour 106 = .ok (.if_icmp .le 9, 3) := dk_164 0 9 (dk_at dksX2_pour_4 15 rfl rfl)
theorem dX2_pour_109 : decode cX2_pour 109 = .ok (.aload_n 0, 1) := dk_42 (dk_at dksX2_pour_4 18 rfl rfl)
theorem dX2_pour_110 : decode cX2_pour 110 = .ok (.iconst 3, 1) := dk_6 (dk_at dksX2_pour_4 19 rfl rfl)
theorem dX2_pour_111 : decode cX2_pour 111 = .ok (.invokevirtual 123, 3) := dk_182 0 123 (dk_at dksX2_pour_4 20 rfl rfl)
theorem dX2_pour_114 : decode cX2_pour 114 = .ok (.ireturn, 1) := dk_172 (dk_at dksX2_pour_4 23 rfl rfl)
theorem dX2_pour_115 : decode cX2_pour 115 = .ok (.iconst 0, 1) := dk_3 (dk_at dksX2_pour_5 0 rfl rfl)
theorem dX2_pour_116 : decode cX2_pour 116 = .ok (.istore 6, 2) := dk_54 6 (dk_at dksX2_pour_5 1 rfl rfl)
theorem dX2_pour_118 : decode cX2_pour 118 = .ok (.iload 6, 2) := dk_21 6 (dk_at dksX2_pour_5 3 rfl rfl)
theorem dX2_pour_120 : decode cX2_pour 120 = .ok (.iload 5, 2) := dk_21 5 (dk_at dksX2_pour_5 5 rfl rfl)
theorem dX2_pour_122 : decode cX2_pour 122 = .ok (.if_icmp .ge 58, 3) := dk_162 0 58 (dk_at dksX2_pour_5 7 rfl rfl)
theorem dX2_pour_125 : decode cX2_pour 125 = .ok (.iload_n 2, 1) := dk_28 (dk_at dksX2_pour_5 10 rfl rfl)
theorem dX2_pour_126 : decode cX2_pour 126 = .ok (.iload 4, 2) := dk_21 4 (dk_at dksX2_pour_5 11 rfl rfl)
theorem dX2_pour_128 : decode cX2_pour 128 = .ok (.if_icmp .ge 13, 3) := dk_162 0 13 (dk_at dksX2_pour_5 13 rfl rfl)
theorem dX2_pour_131 : decode cX2_pour 131 = .ok (.iload 5, 2) := dk_21 5 (dk_at dksX2_pour_5 16 rfl rfl)
theorem dX2_pour_133 : decode cX2_pour 133 = .ok (.iconst 1, 1) := dk_4 (dk_at dksX2_pour_5 18 rfl rfl)
theorem dX2_pour_134 : decode cX2_pour 134 = .ok (.isub, 1) := dk_100 (dk_at dksX2_pour_5 19 rfl rfl)
theorem dX2_pour_135 : decode cX2_pour 135 = .ok (.iload 6, 2) := dk_21 6 (dk_at dksX2_pour_5 20 rfl rfl)
theorem dX2_pour_137 : decode cX2_pour 137 = .ok (.isub, 1) := dk_100 (dk_at dksX2_pour_5 22 rfl rfl)
theorem dX2_pour_138 : decode cX2_pour 138 = .ok (.goto 5, 3) := dk_167 0 5 (dk_at dksX2_pour_6 0 rfl rfl)
theorem dX2_pour_141 : decode cX2_pour 141 = .ok (.iload 6, 2) := dk_21 6 (dk_at dksX2_pour_6 3 rfl rfl)
theorem dX2_pour_143 : decode cX2_pour 143 = .ok (.istore 7, 2) := dk_54 7 (dk_at dksX2_pour_6 5 rfl rfl)
theorem dX2_pour_145 : decode cX2_pour 145 = .ok (.aload_n 0, 1) := dk_42 (dk_at dksX2_pour_6 7 rfl rfl)
theorem dX2_pour_146 : decode cX2_pour 146 = .ok (.getfield 20, 3) := dk_180 0 20 (dk_at dksX2_pour_6 8 rfl rfl)
theorem dX2_pour_149 : decode cX2_pour 149 = .ok (.bipush 60, 2) := dk_16 60 (dk_at dksX2_pour_6 11 rfl rfl)
theorem dX2_pour_151 : decode cX2_pour 151 = .ok (.iload_n 3, 1) := dk_29 (dk_at dksX2_pour_6 13 rfl rfl)
theorem dX2_pour_152 : decode cX2_pour 152 = .ok (.imul, 1) := dk_104 (dk_at dksX2_pour_6 14 rfl rfl)
theorem dX2_pour_153 : decode cX2_pour 153 = .ok (.iload 4, 2) := dk_21 4 (dk_at dksX2_pour_6 15 rfl rfl)
theorem dX2_pour_155 : decode cX2_pour 155 = .ok (.iadd, 1) := dk_96 (dk_at dksX2_pour_6 17 rfl rfl)
theorem dX2_pour_156 : decode cX2_pour 156 = .ok (.iload 7, 2) := dk_21 7 (dk_at dksX2_pour_6 18 rfl rfl)
theorem dX2_pour_158 : decode cX2_pour 158 = .ok (.iadd, 1) := dk_96 (dk_at dksX2_pour_6 20 rfl rfl)
theorem dX2_pour_159 : decode cX2_pour 159 = .ok (.aload_n 0, 1) := dk_42 (dk_at dksX2_pour_6 21 rfl rfl)
theorem dX2_pour_160 : decode cX2_pour 160 = .ok (.getfield 20, 3) := dk_180 0 20 (dk_at dksX2_pour_7 0 rfl rfl)
theorem dX2_pour_163 : decode cX2_pour 163 = .ok (.bipush 60, 2) := dk_16 60 (dk_at dksX2_pour_7 3 rfl rfl)
theorem dX2_pour_165 : decode cX2_pour 165 = .ok (.iload_n 1, 1) := dk_27 (dk_at dksX2_pour_7 5 rfl rfl)
theorem dX2_pour_166 : decode cX2_pour 166 = .ok (.imul, 1) := dk_104 (dk_at dksX2_pour_7 6 rfl rfl)
theorem dX2_pour_167 : decode cX2_pour 167 = .ok (.iload_n 2, 1) := dk_28 (dk_at dksX2_pour_7 7 rfl rfl)
theorem dX2_pour_168 : decode cX2_pour 168 = .ok (.iadd, 1) := dk_96 (dk_at dksX2_pour_7 8 rfl rfl)
theorem dX2_pour_169 : decode cX2_pour 169 = .ok (.iload 7, 2) := dk_21 7 (dk_at dksX2_pour_7 9 rfl rfl)
theorem dX2_pour_171 : decode cX2_pour 171 = .ok (.iadd, 1) := dk_96 (dk_at dksX2_pour_7 11 rfl rfl)
theorem dX2_pour_172 : decode cX2_pour 172 = .ok (.laload, 1) := dk_47 (dk_at dksX2_pour_7 12 rfl rfl)
theorem dX2_pour_173 : decode cX2_pour 173 = .ok (.lastore, 1) := dk_80 (dk_at dksX2_pour_7 13 rfl rfl)
theorem dX2_pour_174 : decode cX2_pour 174 = .ok (.iinc 6 1, 3) := dk_132 6 1 (dk_at dksX2_pour_7 14 rfl rfl)
theorem dX2_pour_177 : decode cX2_pour 177 = .ok (.goto (-59), 3) := dk_167 255 197 (dk_at dksX2_pour_7 17 rfl rfl)
theorem dX2_pour_180 : decode cX2_pour 180 = .ok (.aload_n 0, 1) := dk_42 (dk_at dksX2_pour_7 20 rfl rfl)
theorem dX2_pour_181 : decode cX2_pour 181 = .ok (.iconst 0, 1) := dk_3 (dk_at dksX2_pour_7 21 rfl rfl)
theorem dX2_pour_182 : decode cX2_pour 182 = .ok (.invokevirtual 123, 3) := dk_182 0 123 (dk_at dksX2_pour_8 0 rfl rfl)
theorem dX2_pour_185 : decode cX2_pour 185 = .ok (.ireturn, 1) := dk_172 (dk_at dksX2_pour_8 3 rfl rfl)
abbrev cX2_leaf : ByteArray := prog_13_method_19_code
def yX2_leaf : MethodName := ⟨RX2, "leaf", "(II)I"⟩
def dkwX2_leaf_2 : List UInt8 := [2, 2, 3, 3, 182, 0, 155, 172]
abbrev dktX2_leaf_2 : List UInt8 := dkwX2_leaf_2 ++ []
def dkwX2_leaf_1 : List UInt8 := [158, 0, 9, 42, 29, 182, 0, 147, 172, 42, 42, 180, 0, 136, 3, 27, 28, 182, 0, 151, 42, 3, 2, 2]
abbrev dktX2_leaf_1 : List UInt8 := dkwX2_leaf_1 ++ dktX2_leaf_2
def dkwX2_leaf_0 : List UInt8 := [42, 27, 28, 182, 0, 144, 62, 29, 154, 0, 14, 42, 180, 0, 136, 16, 20, 160, 0, 5, 7, 62, 29]
abbrev dktX2_leaf_0 : List UInt8 := dkwX2_leaf_0 ++ dktX2_leaf_1
theorem dksX2_leaf_0 : cX2_leaf.data.toList.drop 0 = dktX2_leaf_0 := by decide +kernel
theorem dksX2_leaf_1 : cX2_leaf.data.toList.drop 23 = dktX2_leaf_1 := dk_seg dksX2_leaf_0 23 rfl rfl
theorem dksX2_leaf_2 : cX2_leaf.data.toList.drop 47 = dktX2_leaf_2 := dk_seg dksX2_leaf_1 24 rfl rfl
theorem dX2_leaf_0 : decode cX2_leaf 0 = .ok (.aload_n 0, 1) := dk_42 (dk_at dksX2_leaf_0 0 rfl rfl)
theorem dX2_leaf_1 : decode cX2_leaf 1 = .ok (.iload_n 1, 1) := dk_27 (dk_at dksX2_leaf_0 1 rfl rfl)
theorem dX2_leaf_2 : decode cX2_leaf 2 = .ok (.iload_n 2, 1) := dk_28 (dk_at dksX2_leaf_0 2 rfl rfl)
theorem dX2_leaf_3 : decode cX2_leaf 3 = .ok (.invokevirtual 144, 3) := dk_182 0 144 (dk_at dksX2_leaf_0 3 rfl rfl)
theorem dX2_leaf_6 : decode cX2_leaf 6 = .ok (.istore_n 3, 1) := dk_62 (dk_at dksX2_leaf_0 6 rfl rfl)
theorem dX2_leaf_7 : decode cX2_leaf 7 = .ok (.iload_n 3, 1) := dk_29 (dk_at dksX2_leaf_0 7 rfl rfl)
theorem dX2_leaf_8 : decode cX2_leaf 8 = .ok (.ifCond .ne 14, 3) := dk_154 0 14 (dk_at dksX2_leaf_0 8 rfl rfl)
theorem dX2_leaf_11 : decode cX2_leaf 11 = .ok (.aload_n 0, 1) := dk_42 (dk_at dksX2_leaf_0 11 rfl rfl)
theorem dX2_leaf_12 : decode cX2_leaf 12 = .ok (.getfield 136, 3) := dk_180 0 136 (dk_at dksX2_leaf_0 12 rfl rfl)
theorem dX2_leaf_15 : decode cX2_leaf 15 = .ok (.bipush 20, 2) := dk_16 20 (dk_at dksX2_leaf_0 15 rfl rfl)
theorem dX2_leaf_17 : decode cX2_leaf 17 = .ok (.if_icmp .ne 5, 3) := dk_160 0 5 (dk_at dksX2_leaf_0 17 rfl rfl)
theorem dX2_leaf_20 : decode cX2_leaf 20 = .ok (.iconst 4, 1) := dk_7 (dk_at dksX2_leaf_0 20 rfl rfl)
theorem dX2_leaf_21 : decode cX2_leaf 21 = .ok (.istore_n 3, 1) := dk_62 (dk_at dksX2_leaf_0 21 rfl rfl)
theorem dX2_leaf_22 : decode cX2_leaf 22 = .ok (.iload_n 3, 1) := dk_29 (dk_at dksX2_leaf_0 22 rfl rfl)
theorem dX2_leaf_23 : decode cX2_leaf 23 = .ok (.ifCond .le 9, 3) := dk_158 0 9 (dk_at dksX2_leaf_1 0 rfl rfl)
theorem dX2_leaf_26 : decode cX2_leaf 26 = .ok (.aload_n 0, 1) := dk_42 (dk_at dksX2_leaf_1 3 rfl rfl)
theorem dX2_leaf_27 : decode cX2_leaf 27 = .ok (.iload_n 3, 1) := dk_29 (dk_at dksX2_leaf_1 4 rfl rfl)
theorem dX2_leaf_28 : decode cX2_leaf 28 = .ok (.invokevirtual 147, 3) := dk_182 0 147 (dk_at dksX2_leaf_1 5 rfl rfl)
theorem dX2_leaf_31 : decode cX2_leaf 31 = .ok (.ireturn, 1) := dk_172 (dk_at dksX2_leaf_1 8 rfl rfl)
theorem dX2_leaf_32 : decode cX2_leaf 32 = .ok (.aload_n 0, 1) := dk_42 (dk_at dksX2_leaf_1 9 rfl rfl)
theorem dX2_leaf_33 : decode cX2_leaf 33 = .ok (.aload_n 0, 1) := dk_42 (dk_at dksX2_leaf_1 10 rfl rfl)
theorem dX2_leaf_34 : decode cX2_leaf 34 = .ok (.getfield 136, 3) := dk_180 0 136 (dk_at dksX2_leaf_1 11 rfl rfl)
theorem dX2_leaf_37 : decode cX2_leaf 37 = .ok (.iconst 0, 1) := dk_3 (dk_at dksX2_leaf_1 14 rfl rfl)
theorem dX2_leaf_38 : decode cX2_leaf 38 = .ok (.iload_n 1, 1) := dk_27 (dk_at dksX2_leaf_1 15 rfl rfl)
theorem dX2_leaf_39 : decode cX2_leaf 39 = .ok (.iload_n 2, 1) := dk_28 (dk_at dksX2_leaf_1 16 rfl rfl)
theorem dX2_leaf_40 : decode cX2_leaf 40 = .ok (.invokevirtual 151, 3) := dk_182 0 151 (dk_at dksX2_leaf_1 17 rfl rfl)
theorem dX2_leaf_43 : decode cX2_leaf 43 = .ok (.aload_n 0, 1) := dk_42 (dk_at dksX2_leaf_1 20 rfl rfl)
theorem dX2_leaf_44 : decode cX2_leaf 44 = .ok (.iconst 0, 1) := dk_3 (dk_at dksX2_leaf_1 21 rfl rfl)
theorem dX2_leaf_45 : decode cX2_leaf 45 = .ok (.iconst (-1), 1) := dk_2 (dk_at dksX2_leaf_1 22 rfl rfl)
theorem dX2_leaf_46 : decode cX2_leaf 46 = .ok (.iconst (-1), 1) := dk_2 (dk_at dksX2_leaf_1 23 rfl rfl)
theorem dX2_leaf_47 : decode cX2_leaf 47 = .ok (.iconst (-1), 1) := dk_2 (dk_at dksX2_leaf_2 0 rfl rfl)
theorem dX2_leaf_48 : decode cX2_leaf 48 = .ok (.iconst (-1), 1) := dk_2 (dk_at dksX2_leaf_2 1 rfl rfl)
theorem dX2_leaf_49 : decode cX2_leaf 49 = .ok (.iconst 0, 1) := dk_3 (dk_at dksX2_leaf_2 2 rfl rfl)
theorem dX2_leaf_50 : decode cX2_leaf 50 = .ok (.iconst 0, 1) := dk_3 (dk_at dksX2_leaf_2 3 rfl rfl)
theorem dX2_leaf_51 : decode cX2_leaf 51 = .ok (.invokevirtual 155, 3) := dk_182 0 155 (dk_at dksX2_leaf_2 4 rfl rfl)
theorem dX2_leaf_54 : decode cX2_leaf 54 = .ok (.ireturn, 1) := dk_172 (dk_at dksX2_leaf_2 7 rfl rfl)
abbrev cX2_wrongWeights : ByteArray := prog_13_method_16_code
def yX2_wrongWeights : MethodName := ⟨RX2, "wrongWeights", "(II)I"⟩
def dkwX2_wrongWeights_4 : List UInt8 := [167, 255, 210, 33, 10, 148, 155, 0, 11, 33, 20, 0, 142, 148, 158, 0, 7, 4, 167, 0, 4, 3, 172]
abbrev dktX2_wrongWeights_4 : List UInt8 := dkwX2_wrongWeights_4 ++ []
def dkwX2_wrongWeights_3 : List UInt8 := [9, 148, 155, 0, 12, 22, 6, 20, 0, 142, 148, 158, 0, 5, 4, 172, 33, 22, 6, 97, 66, 132, 5, 1]
abbrev dktX2_wrongWeights_3 : List UInt8 := dkwX2_wrongWeights_3 ++ dktX2_wrongWeights_4
def dkwX2_wrongWeights_2 : List UInt8 := [54, 5, 21, 5, 28, 162, 0, 46, 42, 180, 0, 20, 16, 60, 27, 104, 21, 5, 96, 47, 55, 6, 22, 6]
abbrev dktX2_wrongWeights_2 : List UInt8 := dkwX2_wrongWeights_2 ++ dktX2_wrongWeights_3
def dkwX2_wrongWeights_1 : List UInt8 := [27, 46, 2, 160, 0, 5, 5, 172, 28, 42, 180, 0, 17, 27, 46, 164, 0, 5, 6, 172, 9, 66, 3]
abbrev dktX2_wrongWeights_1 : List UInt8 := dkwX2_wrongWeights_1 ++ dktX2_wrongWeights_2
def dkwX2_wrongWeights_0 : List UInt8 := [27, 184, 0, 119, 153, 0, 14, 28, 4, 161, 0, 9, 28, 16, 60, 164, 0, 5, 4, 172, 42, 180, 0, 17]
abbrev dktX2_wrongWeights_0 : List UInt8 := dkwX2_wrongWeights_0 ++ dktX2_wrongWeights_1
theorem dksX2_wrongWeights_0 : cX2_wrongWeights.data.toList.drop 0 = dktX2_wrongWeights_0 := by decide +kernel
theorem dksX2_wrongWeights_1 : cX2_wrongWeights.data.toList.drop 24 = dktX2_wrongWeights_1 := dk_seg dksX2_wrongWeights_0 24 rfl rfl
theorem dksX2_wrongWeights_2 : cX2_wrongWeights.data.toList.drop 47 = dktX2_wrongWeights_2 := dk_seg dksX2_wrongWeights_1 23 rfl rfl
theorem dksX2_wrongWeights_3 : cX2_wrongWeights.data.toList.drop 71 = dktX2_wrongWeights_3 := dk_seg dksX2_wrongWeights_2 24 rfl rfl
theorem dksX2_wrongWeights_4 : cX2_wrongWeights.data.toList.drop 95 = dktX2_wrongWeights_4 := dk_seg dksX2_wrongWeights_3 24 rfl rfl
theorem dX2_wrongWeights_0 : decode cX2_wrongWeights 0 = .ok (.iload_n 1, 1) := dk_27 (dk_at dksX2_wrongWeights_0 0 rfl rfl)
theorem dX2_wrongWeights_1 : decode cX2_wrongWeights 1 = .ok (.invokestatic 119, 3) := dk_184 0 119 (dk_at dksX2_wrongWeights_0 1 rfl rfl)
theorem dX2_wrongWeights_4 : decode cX2_wrongWeights 4 = .ok (.ifCond .eq 14, 3) := dk_153 0 14 (dk_at dksX2_wrongWeights_0 4 rfl rfl)
theorem dX2_wrongWeights_7 : decode cX2_wrongWeights 7 = .ok (.iload_n 2, 1) := dk_28 (dk_at dksX2_wrongWeights_0 7 rfl rfl)
theorem dX2_wrongWeights_8 : decode cX2_wrongWeights 8 = .ok (.iconst 1, 1) := dk_4 (dk_at dksX2_wrongWeights_0 8 rfl rfl)
theorem dX2_wrongWeights_9 : decode cX2_wrongWeights 9 = .ok (.if_icmp .lt 9, 3) := dk_161 0 9 (dk_at dksX2_wrongWeights_0 9 rfl rfl)
theorem dX2_wrongWeights_12 : decode cX2_wrongWeights 12 = .ok (.iload_n 2, 1) := dk_28 (dk_at dksX2_wrongWeights_0 12 rfl rfl)
theorem dX2_wrongWeights_13 : decode cX2_wrongWeights 13 = .ok (.bipush 60, 2) := dk_16 60 (dk_at dksX2_wrongWeights_0 13 rfl rfl)
theorem dX2_wrongWeights_15 : decode cX2_wrongWeights 15 = .ok (.if_icmp .le 5, 3) := dk_164 0 5 (dk_at dksX2_wrongWeights_0 15 rfl rfl)
theorem dX2_wrongWeights_18 : decode cX2_wrongWeights 18 = .ok (.iconst 1, 1) := dk_4 (dk_at dksX2_wrongWeights_0 18 rfl rfl)
theorem dX2_wrongWeights_19 : decode cX2_wrongWeights 19 = .ok (.ireturn, 1) := dk_172 (dk_at dksX2_wrongWeights_0 19 rfl rfl)
theorem dX2_wrongWeights_20 : decode cX2_wrongWeights 20 = .ok (.aload_n 0, 1) := dk_42 (dk_at dksX2_wrongWeights_0 20 rfl rfl)
theorem dX2_wrongWeights_21 : decode cX2_wrongWeights 21 = .ok (.getfield 17, 3) := dk_180 0 17 (dk_at dksX2_wrongWeights_0 21 rfl rfl)
theorem dX2_wrongWeights_24 : decode cX2_wrongWeights 24 = .ok (.iload_n 1, 1) := dk_27 (dk_at dksX2_wrongWeights_1 0 rfl rfl)
theorem dX2_wrongWeights_25 : decode cX2_wrongWeights 25 = .ok (.iaload, 1) := dk_46 (dk_at dksX2_wrongWeights_1 1 rfl rfl)
theorem dX2_wrongWeights_26 : decode cX2_wrongWeights 26 = .ok (.iconst (-1), 1) := dk_2 (dk_at dksX2_wrongWeights_1 2 rfl rfl)
theorem dX2_wrongWeights_27 : decode cX2_wrongWeights 27 = .ok (.if_icmp .ne 5, 3) := dk_160 0 5 (dk_at dksX2_wrongWeights_1 3 rfl rfl)
theorem dX2_wrongWeights_30 : decode cX2_wrongWeights 30 = .ok (.iconst 2, 1) := dk_5 (dk_at dksX2_wrongWeights_1 6 rfl rfl)
theorem dX2_wrongWeights_31 : decode cX2_wrongWeights 31 = .ok (.ireturn, 1) := dk_172 (dk_at dksX2_wrongWeights_1 7 rfl rfl)
theorem dX2_wrongWeights_32 : decode cX2_wrongWeights 32 = .ok (.iload_n 2, 1) := dk_28 (dk_at dksX2_wrongWeights_1 8 rfl rfl)
theorem dX2_wrongWeights_33 : decode cX2_wrongWeights 33 = .ok (.aload_n 0, 1) := dk_42 (dk_at dksX2_wrongWeights_1 9 rfl rfl)
theorem dX2_wrongWeights_34 : decode cX2_wrongWeights 34 = .ok (.getfield 17, 3) := dk_180 0 17 (dk_at dksX2_wrongWeights_1 10 rfl rfl)
theorem dX2_wrongWeights_37 : decode cX2_wrongWeights 37 = .ok (.iload_n 1, 1) := dk_27 (dk_at dksX2_wrongWeights_1 13 rfl rfl)
theorem dX2_wrongWeights_38 : decode cX2_wrongWeights 38 = .ok (.iaload, 1) := dk_46 (dk_at dksX2_wrongWeights_1 14 rfl rfl)
theorem dX2_wrongWeights_39 : decode cX2_wrongWeights 39 = .ok (.if_icmp .le 5, 3) := dk_164 0 5 (dk_at dksX2_wrongWeights_1 15 rfl rfl)
theorem dX2_wrongWeights_42 : decode cX2_wrongWeights 42 = .ok (.iconst 3, 1) := dk_6 (dk_at dksX2_wrongWeights_1 18 rfl rfl)
theorem dX2_wrongWeights_43 : decode cX2_wrongWeights 43 = .ok (.ireturn, 1) := dk_172 (dk_at dksX2_wrongWeights_1 19 rfl rfl)
theorem dX2_wrongWeights_44 : decode cX2_wrongWeights 44 = .ok (.lconst 0, 1) := dk_9 (dk_at dksX2_wrongWeights_1 20 rfl rfl)
theorem dX2_wrongWeights_45 : decode cX2_wrongWeights 45 = .ok (.lstore_n 3, 1) := dk_66 (dk_at dksX2_wrongWeights_1 21 rfl rfl)
theorem dX2_wrongWeights_46 : decode cX2_wrongWeights 46 = .ok (.iconst 0, 1) := dk_3 (dk_at dksX2_wrongWeights_1 22 rfl rfl)
theorem dX2_wrongWeights_47 : decode cX2_wrongWeights 47 = .ok (.istore 5, 2) := dk_54 5 (dk_at dksX2_wrongWeights_2 0 rfl rfl)
theorem dX2_wrongWeights_49 : decode cX2_wrongWeights 49 = .ok (.iload 5, 2) := dk_21 5 (dk_at dksX2_wrongWeights_2 2 rfl rfl)
theorem dX2_wrongWeights_51 : decode cX2_wrongWeights 51 = .ok (.iload_n 2, 1) := dk_28 (dk_at dksX2_wrongWeights_2 4 rfl rfl)
theorem dX2_wrongWeights_52 : decode cX2_wrongWeights 52 = .ok (.if_icmp .ge 46, 3) := dk_162 0 46 (dk_at dksX2_wrongWeights_2 5 rfl rfl)
theorem dX2_wrongWeights_55 : decode cX2_wrongWeights 55 = .ok (.aload_n 0, 1) := dk_42 (dk_at dksX2_wrongWeights_2 8 rfl rfl)
theorem dX2_wrongWeights_56 : decode cX2_wrongWeights 56 = .ok (.getfield 20, 3) := dk_180 0 20 (dk_at dksX2_wrongWeights_2 9 rfl rfl)
theorem dX2_wrongWeights_59 : decode cX2_wrongWeights 59 = .ok (.bipush 60, 2) := dk_16 60 (dk_at dksX2_wrongWeights_2 12 rfl rfl)
theorem dX2_wrongWeights_61 : decode cX2_wrongWeights 61 = .ok (.iload_n 1, 1) := dk_27 (dk_at dksX2_wrongWeights_2 14 rfl rfl)
theorem dX2_wrongWeights_62 : decode cX2_wrongWeights 62 = .ok (.imul, 1) := dk_104 (dk_at dksX2_wrongWeights_2 15 rfl rfl)
theorem dX2_wrongWeights_63 : decode cX2_wrongWeights 63 = .ok (.iload 5, 2) := dk_21 5 (dk_at dksX2_wrongWeights_2 16 rfl rfl)
theorem dX2_wrongWeights_65 : decode cX2_wrongWeights 65 = .ok (.iadd, 1) := dk_96 (dk_at dksX2_wrongWeights_2 18 rfl rfl)
theorem dX2_wrongWeights_66 : decode cX2_wrongWeights 66 = .ok (.laload, 1) := dk_47 (dk_at dksX2_wrongWeights_2 19 rfl rfl)
theorem dX2_wrongWeights_67 : decode cX2_wrongWeights 67 = .ok (.lstore 6, 2) := dk_55 6 (dk_at dksX2_wrongWeights_2 20 rfl rfl)
theorem dX2_wrongWeights_69 : decode cX2_wrongWeights 69 = .ok (.lload 6, 2) := dk_22 6 (dk_at dksX2_wrongWeights_2 22 rfl rfl)
theorem dX2_wrongWeights_71 : decode cX2_wrongWeights 71 = .ok (.lconst 0, 1) := dk_9 (dk_at dksX2_wrongWeights_3 0 rfl rfl)
theorem dX2_wrongWeights_72 : decode cX2_wrongWeights 72 = .ok (.lcmp, 1) := dk_148 (dk_at dksX2_wrongWeights_3 1 rfl rfl)
theorem dX2_wrongWeights_73 : decode cX2_wrongWeights 73 = .ok (.ifCond .lt 12, 3) := dk_155 0 12 (dk_at dksX2_wrongWeights_3 2 rfl rfl)
theorem dX2_wrongWeights_76 : decode cX2_wrongWeights 76 = .ok (.lload 6, 2) := dk_22 6 (dk_at dksX2_wrongWeights_3 5 rfl rfl)
theorem dX2_wrongWeights_78 : decode cX2_wrongWeights 78 = .ok (.ldc2_w 142, 3) := dk_20 0 142 (dk_at dksX2_wrongWeights_3 7 rfl rfl)
theorem dX2_wrongWeights_81 : decode cX2_wrongWeights 81 = .ok (.lcmp, 1) := dk_148 (dk_at dksX2_wrongWeights_3 10 rfl rfl)
theorem dX2_wrongWeights_82 : decode cX2_wrongWeights 82 = .ok (.ifCond .le 5, 3) := dk_158 0 5 (dk_at dksX2_wrongWeights_3 11 rfl rfl)
theorem dX2_wrongWeights_85 : decode cX2_wrongWeights 85 = .ok (.iconst 1, 1) := dk_4 (dk_at dksX2_wrongWeights_3 14 rfl rfl)
theorem dX2_wrongWeights_86 : decode cX2_wrongWeights 86 = .ok (.ireturn, 1) := dk_172 (dk_at dksX2_wrongWeights_3 15 rfl rfl)
theorem dX2_wrongWeights_87 : decode cX2_wrongWeights 87 = .ok (.lload_n 3, 1) := dk_33 (dk_at dksX2_wrongWeights_3 16 rfl rfl)
theorem dX2_wrongWeights_88 : decode cX2_wrongWeights 88 = .ok (.lload 6, 2) := dk_22 6 (dk_at dksX2_wrongWeights_3 17 rfl rfl)
theorem dX2_wrongWeights_90 : decode cX2_wrongWeights 90 = .ok (.ladd, 1) := dk_97 (dk_at dksX2_wrongWeights_3 19 rfl rfl)
theorem dX2_wrongWeights_91 : decode cX2_wrongWeights 91 = .ok (.lstore_n 3, 1) := dk_66 (dk_at dksX2_wrongWeights_3 20 rfl rfl)
theorem dX2_wrongWeights_92 : decode cX2_wrongWeights 92 = .ok (.iinc 5 1, 3) := dk_132 5 1 (dk_at dksX2_wrongWeights_3 21 rfl rfl)
theorem dX2_wrongWeights_95 : decode cX2_wrongWeights 95 = .ok (.goto (-46), 3) := dk_167 255 210 (dk_at dksX2_wrongWeights_4 0 rfl rfl)
theorem dX2_wrongWeights_98 : decode cX2_wrongWeights 98 = .ok (.lload_n 3, 1) := dk_33 (dk_at dksX2_wrongWeights_4 3 rfl rfl)
theorem dX2_wrongWeights_99 : decode cX2_wrongWeights 99 = .ok (.lconst 1, 1) := dk_10 (dk_at dksX2_wrongWeights_4 4 rfl rfl)
theorem dX2_wrongWeights_100 : decode cX2_wrongWeights 100 = .ok (.lcmp, 1) := dk_148 (dk_at dksX2_wrongWeights_4 5 rfl rfl)
theorem dX2_wrongWeights_101 : decode cX2_wrongWeights 101 = .ok (.ifCond .lt 11, 3) := dk_155 0 11 (dk_at dksX2_wrongWeights_4 6 rfl rfl)
theorem dX2_wrongWeights_104 : decode cX2_wrongWeights 104 = .ok (.lload_n 3, 1) := dk_33 (dk_at dksX2_wrongWeights_4 9 rfl rfl)
theorem dX2_wrongWeights_105 : decode cX2_wrongWeights 105 = .ok (.ldc2_w 142, 3) := dk_20 0 142 (dk_at dksX2_wrongWeights_4 10 rfl rfl)
theorem dX2_wrongWeights_108 : decode cX2_wrongWeights 108 = .ok (.lcmp, 1) := dk_148 (dk_at dksX2_wrongWeights_4 13 rfl rfl)
theorem dX2_wrongWeights_109 : decode cX2_wrongWeights 109 = .ok (.ifCond .le 7, 3) := dk_158 0 7 (dk_at dksX2_wrongWeights_4 14 rfl rfl)
theorem dX2_wrongWeights_112 : decode cX2_wrongWeights 112 = .ok (.iconst 1, 1) := dk_4 (dk_at dksX2_wrongWeights_4 17 rfl rfl)
theorem dX2_wrongWeights_113 : decode cX2_wrongWeights 113 = .ok (.goto 4, 3) := dk_167 0 4 (dk_at dksX2_wrongWeights_4 18 rfl rfl)
theorem dX2_wrongWeights_116 : decode cX2_wrongWeights 116 = .ok (.iconst 0, 1) := dk_3 (dk_at dksX2_wrongWeights_4 21 rfl rfl)
theorem dX2_wrongWeights_117 : decode cX2_wrongWeights 117 = .ok (.ireturn, 1) := dk_172 (dk_at dksX2_wrongWeights_4 22 rfl rfl)
abbrev cX2_refuse : ByteArray := prog_13_method_6_code
def yX2_refuse : MethodName := ⟨RX2, "refuse", "(I)I"⟩
def dkwX2_refuse_0 : List UInt8 := [42, 27, 181, 0, 112, 2, 172]
abbrev dktX2_refuse_0 : List UInt8 := dkwX2_refuse_0 ++ []
theorem dksX2_refuse_0 : cX2_refuse.data.toList.drop 0 = dktX2_refuse_0 := by decide +kernel
theorem dX2_refuse_0 : decode cX2_refuse 0 = .ok (.aload_n 0, 1) := dk_42 (dk_at dksX2_refuse_0 0 rfl rfl)
theorem dX2_refuse_1 : decode cX2_refuse 1 = .ok (.iload_n 1, 1) := dk_27 (dk_at dksX2_refuse_0 1 rfl rfl)
theorem dX2_refuse_2 : decode cX2_refuse 2 = .ok (.putfield 112, 3) := dk_181 0 112 (dk_at dksX2_refuse_0 2 rfl rfl)
theorem dX2_refuse_5 : decode cX2_refuse 5 = .ok (.iconst (-1), 1) := dk_2 (dk_at dksX2_refuse_0 5 rfl rfl)
theorem dX2_refuse_6 : decode cX2_refuse 6 = .ok (.ireturn, 1) := dk_172 (dk_at dksX2_refuse_0 6 rfl rfl)
abbrev cX2_takeWeights : ByteArray := prog_13_method_17_code
def yX2_takeWeights : MethodName := ⟨RX2, "takeWeights", "(IIII)V"⟩
def dkwX2_takeWeights_2 : List UInt8 := [3, 79, 132, 5, 1, 167, 255, 206, 177]
abbrev dktX2_takeWeights_2 : List UInt8 := dkwX2_takeWeights_2 ++ []
def dkwX2_takeWeights_1 : List UInt8 := [96, 21, 5, 21, 4, 162, 0, 19, 42, 180, 0, 20, 16, 60, 29, 104, 21, 5, 96, 47, 136, 167, 0, 4]
abbrev dktX2_takeWeights_1 : List UInt8 := dkwX2_takeWeights_1 ++ dktX2_takeWeights_2
def dkwX2_takeWeights_0 : List UInt8 := [3, 54, 5, 21, 5, 16, 60, 162, 0, 49, 42, 180, 0, 45, 16, 60, 6, 27, 104, 28, 96, 104, 21, 5]
abbrev dktX2_takeWeights_0 : List UInt8 := dkwX2_takeWeights_0 ++ dktX2_takeWeights_1
theorem dksX2_takeWeights_0 : cX2_takeWeights.data.toList.drop 0 = dktX2_takeWeights_0 := by decide +kernel
theorem dksX2_takeWeights_1 : cX2_takeWeights.data.toList.drop 24 = dktX2_takeWeights_1 := dk_seg dksX2_takeWeights_0 24 rfl rfl
theorem dksX2_takeWeights_2 : cX2_takeWeights.data.toList.drop 48 = dktX2_takeWeights_2 := dk_seg dksX2_takeWeights_1 24 rfl rfl
theorem dX2_takeWeights_0 : decode cX2_takeWeights 0 = .ok (.iconst 0, 1) := dk_3 (dk_at dksX2_takeWeights_0 0 rfl rfl)
theorem dX2_takeWeights_1 : decode cX2_takeWeights 1 = .ok (.istore 5, 2) := dk_54 5 (dk_at dksX2_takeWeights_0 1 rfl rfl)
theorem dX2_takeWeights_3 : decode cX2_takeWeights 3 = .ok (.iload 5, 2) := dk_21 5 (dk_at dksX2_takeWeights_0 3 rfl rfl)
theorem dX2_takeWeights_5 : decode cX2_takeWeights 5 = .ok (.bipush 60, 2) := dk_16 60 (dk_at dksX2_takeWeights_0 5 rfl rfl)
theorem dX2_takeWeights_7 : decode cX2_takeWeights 7 = .ok (.if_icmp .ge 49, 3) := dk_162 0 49 (dk_at dksX2_takeWeights_0 7 rfl rfl)
theorem dX2_takeWeights_10 : decode cX2_takeWeights 10 = .ok (.aload_n 0, 1) := dk_42 (dk_at dksX2_takeWeights_0 10 rfl rfl)
theorem dX2_takeWeights_11 : decode cX2_takeWeights 11 = .ok (.getfield 45, 3) := dk_180 0 45 (dk_at dksX2_takeWeights_0 11 rfl rfl)
theorem dX2_takeWeights_14 : decode cX2_takeWeights 14 = .ok (.bipush 60, 2) := dk_16 60 (dk_at dksX2_takeWeights_0 14 rfl rfl)
theorem dX2_takeWeights_16 : decode cX2_takeWeights 16 = .ok (.iconst 3, 1) := dk_6 (dk_at dksX2_takeWeights_0 16 rfl rfl)
theorem dX2_takeWeights_17 : decode cX2_takeWeights 17 = .ok (.iload_n 1, 1) := dk_27 (dk_at dksX2_takeWeights_0 17 rfl rfl)
theorem dX2_takeWeights_18 : decode cX2_takeWeights 18 = .ok (.imul, 1) := dk_104 (dk_at dksX2_takeWeights_0 18 rfl rfl)
theorem dX2_takeWeights_19 : decode cX2_takeWeights 19 = .ok (.iload_n 2, 1) := dk_28 (dk_at dksX2_takeWeights_0 19 rfl rfl)
theorem dX2_takeWeights_20 : decode cX2_takeWeights 20 = .ok (.iadd, 1) := dk_96 (dk_at dksX2_takeWeights_0 20 rfl rfl)
theorem dX2_takeWeights_21 : decode cX2_takeWeights 21 = .ok (.imul, 1) := dk_104 (dk_at dksX2_takeWeights_0 21 rfl rfl)
theorem dX2_takeWeights_22 : decode cX2_takeWeights 22 = .ok (.iload 5, 2) := dk_21 5 (dk_at dksX2_takeWeights_0 22 rfl rfl)
theorem dX2_takeWeights_24 : decode cX2_takeWeights 24 = .ok (.iadd, 1) := dk_96 (dk_at dksX2_takeWeights_1 0 rfl rfl)
theorem dX2_takeWeights_25 : decode cX2_takeWeights 25 = .ok (.iload 5, 2) := dk_21 5 (dk_at dksX2_takeWeights_1 1 rfl rfl)
theorem dX2_takeWeights_27 : decode cX2_takeWeights 27 = .ok (.iload 4, 2) := dk_21 4 (dk_at dksX2_takeWeights_1 3 rfl rfl)
theorem dX2_takeWeights_29 : decode cX2_takeWeights 29 = .ok (.if_icmp .ge 19, 3) := dk_162 0 19 (dk_at dksX2_takeWeights_1 5 rfl rfl)
theorem dX2_takeWeights_32 : decode cX2_takeWeights 32 = .ok (.aload_n 0, 1) := dk_42 (dk_at dksX2_takeWeights_1 8 rfl rfl)
theorem dX2_takeWeights_33 : decode cX2_takeWeights 33 = .ok (.getfield 20, 3) := dk_180 0 20 (dk_at dksX2_takeWeights_1 9 rfl rfl)
theorem dX2_takeWeights_36 : decode cX2_takeWeights 36 = .ok (.bipush 60, 2) := dk_16 60 (dk_at dksX2_takeWeights_1 12 rfl rfl)
theorem dX2_takeWeights_38 : decode cX2_takeWeights 38 = .ok (.iload_n 3, 1) := dk_29 (dk_at dksX2_takeWeights_1 14 rfl rfl)
theorem dX2_takeWeights_39 : decode cX2_takeWeights 39 = .ok (.imul, 1) := dk_104 (dk_at dksX2_takeWeights_1 15 rfl rfl)
theorem dX2_takeWeights_40 : decode cX2_takeWeights 40 = .ok (.iload 5, 2) := dk_21 5 (dk_at dksX2_takeWeights_1 16 rfl rfl)
theorem dX2_takeWeights_42 : decode cX2_takeWeights 42 = .ok (.iadd, 1) := dk_96 (dk_at dksX2_takeWeights_1 18 rfl rfl)
theorem dX2_takeWeights_43 : decode cX2_takeWeights 43 = .ok (.laload, 1) := dk_47 (dk_at dksX2_takeWeights_1 19 rfl rfl)
theorem dX2_takeWeights_44 : decode cX2_takeWeights 44 = .ok (.l2i, 1) := dk_136 (dk_at dksX2_takeWeights_1 20 rfl rfl)
theorem dX2_takeWeights_45 : decode cX2_takeWeights 45 = .ok (.goto 4, 3) := dk_167 0 4 (dk_at dksX2_takeWeights_1 21 rfl rfl)
theorem dX2_takeWeights_48 : decode cX2_takeWeights 48 = .ok (.iconst 0, 1) := dk_3 (dk_at dksX2_takeWeights_2 0 rfl rfl)
theorem dX2_takeWeights_49 : decode cX2_takeWeights 49 = .ok (.iastore, 1) := dk_79 (dk_at dksX2_takeWeights_2 1 rfl rfl)
theorem dX2_takeWeights_50 : decode cX2_takeWeights 50 = .ok (.iinc 5 1, 3) := dk_132 5 1 (dk_at dksX2_takeWeights_2 2 rfl rfl)
theorem dX2_takeWeights_53 : decode cX2_takeWeights 53 = .ok (.goto (-50), 3) := dk_167 255 206 (dk_at dksX2_takeWeights_2 5 rfl rfl)
theorem dX2_takeWeights_56 : decode cX2_takeWeights 56 = .ok (.return_, 1) := dk_177 (dk_at dksX2_takeWeights_2 8 rfl rfl)
abbrev cX2_adds : ByteArray := prog_13_method_18_code
def yX2_adds : MethodName := ⟨RX2, "adds", "(IIIIIII)I"⟩
def dkwX2_adds_9 : List UInt8 := [181, 0, 136, 42, 3, 181, 0, 112, 21, 8, 172]
abbrev dktX2_adds_9 : List UInt8 := dkwX2_adds_9 ++ []
def dkwX2_adds_8 : List UInt8 := [180, 0, 60, 21, 8, 3, 79, 42, 180, 0, 63, 21, 8, 3, 79, 42, 89, 180, 0, 136, 4, 96]
abbrev dktX2_adds_8 : List UInt8 := dkwX2_adds_8 ++ dktX2_adds_9
def dkwX2_adds_7 : List UInt8 := [180, 0, 51, 21, 8, 2, 79, 42, 180, 0, 54, 21, 8, 2, 79, 42, 180, 0, 57, 21, 8, 3, 79, 42]
abbrev dktX2_adds_7 : List UInt8 := dkwX2_adds_7 ++ dktX2_adds_8
def dkwX2_adds_6 : List UInt8 := [21, 8, 4, 79, 42, 180, 0, 42, 6, 21, 8, 104, 3, 79, 42, 180, 0, 48, 21, 8, 3, 79, 42]
abbrev dktX2_adds_6 : List UInt8 := dkwX2_adds_6 ++ dktX2_adds_7
def dkwX2_adds_5 : List UInt8 := [180, 0, 27, 7, 21, 8, 104, 21, 9, 96, 46, 21, 8, 79, 132, 9, 1, 167, 255, 212, 42, 180, 0, 39]
abbrev dktX2_adds_5 : List UInt8 := dkwX2_adds_5 ++ dktX2_adds_6
def dkwX2_adds_4 : List UInt8 := [162, 0, 44, 42, 180, 0, 27, 7, 21, 8, 104, 21, 9, 96, 46, 2, 159, 0, 22, 42, 180, 0, 36, 42]
abbrev dktX2_adds_4 : List UInt8 := dkwX2_adds_4 ++ dktX2_adds_5
def dkwX2_adds_3 : List UInt8 := [180, 0, 33, 21, 8, 21, 7, 79, 42, 180, 0, 36, 21, 8, 2, 79, 3, 54, 9, 21, 9, 7]
abbrev dktX2_adds_3 : List UInt8 := dkwX2_adds_3 ++ dktX2_adds_4
def dkwX2_adds_2 : List UInt8 := [79, 42, 180, 0, 27, 7, 21, 8, 104, 6, 96, 21, 5, 79, 42, 180, 0, 30, 21, 8, 21, 6, 79, 42]
abbrev dktX2_adds_2 : List UInt8 := dkwX2_adds_2 ++ dktX2_adds_3
def dkwX2_adds_1 : List UInt8 := [42, 180, 0, 27, 7, 21, 8, 104, 4, 96, 29, 79, 42, 180, 0, 27, 7, 21, 8, 104, 5, 96, 21, 4]
abbrev dktX2_adds_1 : List UInt8 := dkwX2_adds_1 ++ dktX2_adds_2
def dkwX2_adds_0 : List UInt8 := [42, 180, 0, 136, 54, 8, 42, 180, 0, 24, 21, 8, 27, 79, 42, 180, 0, 27, 7, 21, 8, 104, 28, 79]
abbrev dktX2_adds_0 : List UInt8 := dkwX2_adds_0 ++ dktX2_adds_1
theorem dksX2_adds_0 : cX2_adds.data.toList.drop 0 = dktX2_adds_0 := by decide +kernel
theorem dksX2_adds_1 : cX2_adds.data.toList.drop 24 = dktX2_adds_1 := dk_seg dksX2_adds_0 24 rfl rfl
theorem dksX2_adds_2 : cX2_adds.data.toList.drop 48 = dktX2_adds_2 := dk_seg dksX2_adds_1 24 rfl rfl
theorem dksX2_adds_3 : cX2_adds.data.toList.drop 72 = dktX2_adds_3 := dk_seg dksX2_adds_2 24 rfl rfl
theorem dksX2_adds_4 : cX2_adds.data.toList.drop 94 = dktX2_adds_4 := dk_seg dksX2_adds_3 22 rfl rfl
theorem dksX2_adds_5 : cX2_adds.data.toList.drop 118 = dktX2_adds_5 := dk_seg dksX2_adds_4 24 rfl rfl
theorem dksX2_adds_6 : cX2_adds.data.toList.drop 142 = dktX2_adds_6 := dk_seg dksX2_adds_5 24 rfl rfl
theorem dksX2_adds_7 : cX2_adds.data.toList.drop 165 = dktX2_adds_7 := dk_seg dksX2_adds_6 23 rfl rfl
theorem dksX2_adds_8 : cX2_adds.data.toList.drop 189 = dktX2_adds_8 := dk_seg dksX2_adds_7 24 rfl rfl
theorem dksX2_adds_9 : cX2_adds.data.toList.drop 211 = dktX2_adds_9 := dk_seg dksX2_adds_8 22 rfl rfl
theorem dX2_adds_0 : decode cX2_adds 0 = .ok (.aload_n 0, 1) := dk_42 (dk_at dksX2_adds_0 0 rfl rfl)
theorem dX2_adds_1 : decode cX2_adds 1 = .ok (.getfield 136, 3) := dk_180 0 136 (dk_at dksX2_adds_0 1 rfl rfl)
theorem dX2_adds_4 : decode cX2_adds 4 = .ok (.istore 8, 2) := dk_54 8 (dk_at dksX2_adds_0 4 rfl rfl)
theorem dX2_adds_6 : decode cX2_adds 6 = .ok (.aload_n 0, 1) := dk_42 (dk_at dksX2_adds_0 6 rfl rfl)
theorem dX2_adds_7 : decode cX2_adds 7 = .ok (.getfield 24, 3) := dk_180 0 24 (dk_at dksX2_adds_0 7 rfl rfl)
theorem dX2_adds_10 : decode cX2_adds 10 = .ok (.iload 8, 2) := dk_21 8 (dk_at dksX2_adds_0 10 rfl rfl)
theorem dX2_adds_12 : decode cX2_adds 12 = .ok (.iload_n 1, 1) := dk_27 (dk_at dksX2_adds_0 12 rfl rfl)
theorem dX2_adds_13 : decode cX2_adds 13 = .ok (.iastore, 1) := dk_79 (dk_at dksX2_adds_0 13 rfl rfl)
theorem dX2_adds_14 : decode cX2_adds 14 = .ok (.aload_n 0, 1) := dk_42 (dk_at dksX2_adds_0 14 rfl rfl)
theorem dX2_adds_15 : decode cX2_adds 15 = .ok (.getfield 27, 3) := dk_180 0 27 (dk_at dksX2_adds_0 15 rfl rfl)
theorem dX2_adds_18 : decode cX2_adds 18 = .ok (.iconst 4, 1) := dk_7 (dk_at dksX2_adds_0 18 rfl rfl)
theorem dX2_adds_19 : decode cX2_adds 19 = .ok (.iload 8, 2) := dk_21 8 (dk_at dksX2_adds_0 19 rfl rfl)
theorem dX2_adds_21 : decode cX2_adds 21 = .ok (.imul, 1) := dk_104 (dk_at dksX2_adds_0 21 rfl rfl)
theorem dX2_adds_22 : decode cX2_adds 22 = .ok (.iload_n 2, 1) := dk_28 (dk_at dksX2_adds_0 22 rfl rfl)
theorem dX2_adds_23 : decode cX2_adds 23 = .ok (.iastore, 1) := dk_79 (dk_at dksX2_adds_0 23 rfl rfl)
theorem dX2_adds_24 : decode cX2_adds 24 = .ok (.aload_n 0, 1) := dk_42 (dk_at dksX2_adds_1 0 rfl rfl)
theorem dX2_adds_25 : decode cX2_adds 25 = .ok (.getfield 27, 3) := dk_180 0 27 (dk_at dksX2_adds_1 1 rfl rfl)
theorem dX2_adds_28 : decode cX2_adds 28 = .ok (.iconst 4, 1) := dk_7 (dk_at dksX2_adds_1 4 rfl rfl)
theorem dX2_adds_29 : decode cX2_adds 29 = .ok (.iload 8, 2) := dk_21 8 (dk_at dksX2_adds_1 5 rfl rfl)
theorem dX2_adds_31 : decode cX2_adds 31 = .ok (.imul, 1) := dk_104 (dk_at dksX2_adds_1 7 rfl rfl)
theorem dX2_adds_32 : decode cX2_adds 32 = .ok (.iconst 1, 1) := dk_4 (dk_at dksX2_adds_1 8 rfl rfl)
theorem dX2_adds_33 : decode cX2_adds 33 = .ok (.iadd, 1) := dk_96 (dk_at dksX2_adds_1 9 rfl rfl)
theorem dX2_adds_34 : decode cX2_adds 34 = .ok (.iload_n 3, 1) := dk_29 (dk_at dksX2_adds_1 10 rfl rfl)
theorem dX2_adds_35 : decode cX2_adds 35 = .ok (.iastore, 1) := dk_79 (dk_at dksX2_adds_1 11 rfl rfl)
theorem dX2_adds_36 : decode cX2_adds 36 = .ok (.aload_n 0, 1) := dk_42 (dk_at dksX2_adds_1 12 rfl rfl)
theorem dX2_adds_37 : decode cX2_adds 37 = .ok (.getfield 27, 3) := dk_180 0 27 (dk_at dksX2_adds_1 13 rfl rfl)
theorem dX2_adds_40 : decode cX2_adds 40 = .ok (.iconst 4, 1) := dk_7 (dk_at dksX2_adds_1 16 rfl rfl)
theorem dX2_adds_41 : decode cX2_adds 41 = .ok (.iload 8, 2) := dk_21 8 (dk_at dksX2_adds_1 17 rfl rfl)
theorem dX2_adds_43 : decode cX2_adds 43 = .ok (.imul, 1) := dk_104 (dk_at dksX2_adds_1 19 rfl rfl)
theorem dX2_adds_44 : decode cX2_adds 44 = .ok (.iconst 2, 1) := dk_5 (dk_at dksX2_adds_1 20 rfl rfl)
theorem dX2_adds_45 : decode cX2_adds 45 = .ok (.iadd, 1) := dk_96 (dk_at dksX2_adds_1 21 rfl rfl)
theorem dX2_adds_46 : decode cX2_adds 46 = .ok (.iload 4, 2) := dk_21 4 (dk_at dksX2_adds_1 22 rfl rfl)
theorem dX2_adds_48 : decode cX2_adds 48 = .ok (.iastore, 1) := dk_79 (dk_at dksX2_adds_2 0 rfl rfl)
theorem dX2_adds_49 : decode cX2_adds 49 = .ok (.aload_n 0, 1) := dk_42 (dk_at dksX2_adds_2 1 rfl rfl)
theorem dX2_adds_50 : decode cX2_adds 50 = .ok (.getfield 27, 3) := dk_180 0 27 (dk_at dksX2_adds_2 2 rfl rfl)
theorem dX2_adds_53 : decode cX2_adds 53 = .ok (.iconst 4, 1) := dk_7 (dk_at dksX2_adds_2 5 rfl rfl)
theorem dX2_adds_54 : decode cX2_adds 54 = .ok (.iload 8, 2) := dk_21 8 (dk_at dksX2_adds_2 6 rfl rfl)
theorem dX2_adds_56 : decode cX2_adds 56 = .ok (.imul, 1) := dk_104 (dk_at dksX2_adds_2 8 rfl rfl)
theorem dX2_adds_57 : decode cX2_adds 57 = .ok (.iconst 3, 1) := dk_6 (dk_at dksX2_adds_2 9 rfl rfl)
theorem dX2_adds_58 : decode cX2_adds 58 = .ok (.iadd, 1) := dk_96 (dk_at dksX2_adds_2 10 rfl rfl)
theorem dX2_adds_59 : decode cX2_adds 59 = .ok (.iload 5, 2) := dk_21 5 (dk_at dksX2_adds_2 11 rfl rfl)
theorem dX2_adds_61 : decode cX2_adds 61 = .ok (.iastore, 1) := dk_79 (dk_at dksX2_adds_2 13 rfl rfl)
theorem dX2_adds_62 : decode cX2_adds 62 = .ok (.aload_n 0, 1) := dk_42 (dk_at dksX2_adds_2 14 rfl rfl)
theorem dX2_adds_63 : decode cX2_adds 63 = .ok (.getfield 30, 3) := dk_180 0 30 (dk_at dksX2_adds_2 15 rfl rfl)
theorem dX2_adds_66 : decode cX2_adds 66 = .ok (.iload 8, 2) := dk_21 8 (dk_at dksX2_adds_2 18 rfl rfl)
theorem dX2_adds_68 : decode cX2_adds 68 = .ok (.iload 6, 2) := dk_21 6 (dk_at dksX2_adds_2 20 rfl rfl)
theorem dX2_adds_70 : decode cX2_adds 70 = .ok (.iastore, 1) := dk_79 (dk_at dksX2_adds_2 22 rfl rfl)
theorem dX2_adds_71 : decode cX2_adds 71 = .ok (.aload_n 0, 1) := dk_42 (dk_at dksX2_adds_2 23 rfl rfl)
theorem dX2_adds_72 : decode cX2_adds 72 = .ok (.getfield 33, 3) := dk_180 0 33 (dk_at dksX2_adds_3 0 rfl rfl)
theorem dX2_adds_75 : decode cX2_adds 75 = .ok (.iload 8, 2) := dk_21 8 (dk_at dksX2_adds_3 3 rfl rfl)
theorem dX2_adds_77 : decode cX2_adds 77 = .ok (.iload 7, 2) := dk_21 7 (dk_at dksX2_adds_3 5 rfl rfl)
theorem dX2_adds_79 : decode cX2_adds 79 = .ok (.iastore, 1) := dk_79 (dk_at dksX2_adds_3 7 rfl rfl)
theorem dX2_adds_80 : decode cX2_adds 80 = .ok (.aload_n 0, 1) := dk_42 (dk_at dksX2_adds_3 8 rfl rfl)
theorem dX2_adds_81 : decode cX2_adds 81 = .ok (.getfield 36, 3) := dk_180 0 36 (dk_at dksX2_adds_3 9 rfl rfl)
theorem dX2_adds_84 : decode cX2_adds 84 = .ok (.iload 8, 2) := dk_21 8 (dk_at dksX2_adds_3 12 rfl rfl)
theorem dX2_adds_86 : decode cX2_adds 86 = .ok (.iconst (-1), 1) := dk_2 (dk_at dksX2_adds_3 14 rfl rfl)
theorem dX2_adds_87 : decode cX2_adds 87 = .ok (.iastore, 1) := dk_79 (dk_at dksX2_adds_3 15 rfl rfl)
theorem dX2_adds_88 : decode cX2_adds 88 = .ok (.iconst 0, 1) := dk_3 (dk_at dksX2_adds_3 16 rfl rfl)
theorem dX2_adds_89 : decode cX2_adds 89 = .ok (.istore 9, 2) := dk_54 9 (dk_at dksX2_adds_3 17 rfl rfl)
theorem dX2_adds_91 : decode cX2_adds 91 = .ok (.iload 9, 2) := dk_21 9 (dk_at dksX2_adds_3 19 rfl rfl)
theorem dX2_adds_93 : decode cX2_adds 93 = .ok (.iconst 4, 1) := dk_7 (dk_at dksX2_adds_3 21 rfl rfl)
theorem dX2_adds_94 : decode cX2_adds 94 = .ok (.if_icmp .ge 44, 3) := dk_162 0 44 (dk_at dksX2_adds_4 0 rfl rfl)
theorem dX2_adds_97 : decode cX2_adds 97 = .ok (.aload_n 0, 1) := dk_42 (dk_at dksX2_adds_4 3 rfl rfl)
theorem dX2_adds_98 : decode cX2_adds 98 = .ok (.getfield 27, 3) := dk_180 0 27 (dk_at dksX2_adds_4 4 rfl rfl)
theorem dX2_adds_101 : decode cX2_adds 101 = .ok (.iconst 4, 1) := dk_7 (dk_at dksX2_adds_4 7 rfl rfl)
theorem dX2_adds_102 : decode cX2_adds 102 = .ok (.iload 8, 2) := dk_21 8 (dk_at dksX2_adds_4 8 rfl rfl)
theorem dX2_adds_104 : decode cX2_adds 104 = .ok (.imul, 1) := dk_104 (dk_at dksX2_adds_4 10 rfl rfl)
theorem dX2_adds_105 : decode cX2_adds 105 = .ok (.iload 9, 2) := dk_21 9 (dk_at dksX2_adds_4 11 rfl rfl)
theorem dX2_adds_107 : decode cX2_adds 107 = .ok (.iadd, 1) := dk_96 (dk_at dksX2_adds_4 13 rfl rfl)
theorem dX2_adds_108 : decode cX2_adds 108 = .ok (.iaload, 1) := dk_46 (dk_at dksX2_adds_4 14 rfl rfl)
theorem dX2_adds_109 : decode cX2_adds 109 = .ok (.iconst (-1), 1) := dk_2 (dk_at dksX2_adds_4 15 rfl rfl)
theorem dX2_adds_110 : decode cX2_adds 110 = .ok (.if_icmp .eq 22, 3) := dk_159 0 22 (dk_at dksX2_adds_4 16 rfl rfl)
theorem dX2_adds_113 : decode cX2_adds 113 = .ok (.aload_n 0, 1) := dk_42 (dk_at dksX2_adds_4 19 rfl rfl)
theorem dX2_adds_114 : decode cX2_adds 114 = .ok (.getfield 36, 3) := dk_180 0 36 (dk_at dksX2_adds_4 20 rfl rfl)
theorem dX2_adds_117 : decode cX2_adds 117 = .ok (.aload_n 0, 1) := dk_42 (dk_at dksX2_adds_4 23 rfl rfl)
theorem dX2_adds_118 : decode cX2_adds 118 = .ok (.getfield 27, 3) := dk_180 0 27 (dk_at dksX2_adds_5 0 rfl rfl)
theorem dX2_adds_121 : decode cX2_adds 121 = .ok (.iconst 4, 1) := dk_7 (dk_at dksX2_adds_5 3 rfl rfl)
theorem dX2_adds_122 : decode cX2_adds 122 = .ok (.iload 8, 2) := dk_21 8 (dk_at dksX2_adds_5 4 rfl rfl)
theorem dX2_adds_124 : decode cX2_adds 124 = .ok (.imul, 1) := dk_104 (dk_at dksX2_adds_5 6 rfl rfl)
theorem dX2_adds_125 : decode cX2_adds 125 = .ok (.iload 9, 2) := dk_21 9 (dk_at dksX2_adds_5 7 rfl rfl)
theorem dX2_adds_127 : decode cX2_adds 127 = .ok (.iadd, 1) := dk_96 (dk_at dksX2_adds_5 9 rfl rfl)
theorem dX2_adds_128 : decode cX2_adds 128 = .ok (.iaload, 1) := dk_46 (dk_at dksX2_adds_5 10 rfl rfl)
theorem dX2_adds_129 : decode cX2_adds 129 = .ok (.iload 8, 2) := dk_21 8 (dk_at dksX2_adds_5 11 rfl rfl)
theorem dX2_adds_131 : decode cX2_adds 131 = .ok (.iastore, 1) := dk_79 (dk_at dksX2_adds_5 13 rfl rfl)
theorem dX2_adds_132 : decode cX2_adds 132 = .ok (.iinc 9 1, 3) := dk_132 9 1 (dk_at dksX2_adds_5 14 rfl rfl)
theorem dX2_adds_135 : decode cX2_adds 135 = .ok (.goto (-44), 3) := dk_167 255 212 (dk_at dksX2_adds_5 17 rfl rfl)
theorem dX2_adds_138 : decode cX2_adds 138 = .ok (.aload_n 0, 1) := dk_42 (dk_at dksX2_adds_5 20 rfl rfl)
theorem dX2_adds_139 : decode cX2_adds 139 = .ok (.getfield 39, 3) := dk_180 0 39 (dk_at dksX2_adds_5 21 rfl rfl)
theorem dX2_adds_142 : decode cX2_adds 142 = .ok (.iload 8, 2) := dk_21 8 (dk_at dksX2_adds_6 0 rfl rfl)
theorem dX2_adds_144 : decode cX2_adds 144 = .ok (.iconst 1, 1) := dk_4 (dk_at dksX2_adds_6 2 rfl rfl)
theorem dX2_adds_145 : decode cX2_adds 145 = .ok (.iastore, 1) := dk_79 (dk_at dksX2_adds_6 3 rfl rfl)
theorem dX2_adds_146 : decode cX2_adds 146 = .ok (.aload_n 0, 1) := dk_42 (dk_at dksX2_adds_6 4 rfl rfl)
theorem dX2_adds_147 : decode cX2_adds 147 = .ok (.getfield 42, 3) := dk_180 0 42 (dk_at dksX2_adds_6 5 rfl rfl)
theorem dX2_adds_150 : decode cX2_adds 150 = .ok (.iconst 3, 1) := dk_6 (dk_at dksX2_adds_6 8 rfl rfl)
theorem dX2_adds_151 : decode cX2_adds 151 = .ok (.iload 8, 2) := dk_21 8 (dk_at dksX2_adds_6 9 rfl rfl)
theorem dX2_adds_153 : decode cX2_adds 153 = .ok (.imul, 1) := dk_104 (dk_at dksX2_adds_6 11 rfl rfl)
theorem dX2_adds_154 : decode cX2_adds 154 = .ok (.iconst 0, 1) := dk_3 (dk_at dksX2_adds_6 12 rfl rfl)
theorem dX2_adds_155 : decode cX2_adds 155 = .ok (.iastore, 1) := dk_79 (dk_at dksX2_adds_6 13 rfl rfl)
theorem dX2_adds_156 : decode cX2_adds 156 = .ok (.aload_n 0, 1) := dk_42 (dk_at dksX2_adds_6 14 rfl rfl)
theorem dX2_adds_157 : decode cX2_adds 157 = .ok (.getfield 48, 3) := dk_180 0 48 (dk_at dksX2_adds_6 15 rfl rfl)
theorem dX2_adds_160 : decode cX2_adds 160 = .ok (.iload 8, 2) := dk_21 8 (dk_at dksX2_adds_6 18 rfl rfl)
theorem dX2_adds_162 : decode cX2_adds 162 = .ok (.iconst 0, 1) := dk_3 (dk_at dksX2_adds_6 20 rfl rfl)
theorem dX2_adds_163 : decode cX2_adds 163 = .ok (.iastore, 1) := dk_79 (dk_at dksX2_adds_6 21 rfl rfl)
theorem dX2_adds_164 : decode cX2_adds 164 = .ok (.aload_n 0, 1) := dk_42 (dk_at dksX2_adds_6 22 rfl rfl)
theorem dX2_adds_165 : decode cX2_adds 165 = .ok (.getfield 51, 3) := dk_180 0 51 (dk_at dksX2_adds_7 0 rfl rfl)
theorem dX2_adds_168 : decode cX2_adds 168 = .ok (.iload 8, 2) := dk_21 8 (dk_at dksX2_adds_7 3 rfl rfl)
theorem dX2_adds_170 : decode cX2_adds 170 = .ok (.iconst (-1), 1) := dk_2 (dk_at dksX2_adds_7 5 rfl rfl)
theorem dX2_adds_171 : decode cX2_adds 171 = .ok (.iastore, 1) := dk_79 (dk_at dksX2_adds_7 6 rfl rfl)
theorem dX2_adds_172 : decode cX2_adds 172 = .ok (.aload_n 0, 1) := dk_42 (dk_at dksX2_adds_7 7 rfl rfl)
theorem dX2_adds_173 : decode cX2_adds 173 = .ok (.getfield 54, 3) := dk_180 0 54 (dk_at dksX2_adds_7 8 rfl rfl)
theorem dX2_adds_176 : decode cX2_adds 176 = .ok (.iload 8, 2) := dk_21 8 (dk_at dksX2_adds_7 11 rfl rfl)
theorem dX2_adds_178 : decode cX2_adds 178 = .ok (.iconst (-1), 1) := dk_2 (dk_at dksX2_adds_7 13 rfl rfl)
theorem dX2_adds_179 : decode cX2_adds 179 = .ok (.iastore, 1) := dk_79 (dk_at dksX2_adds_7 14 rfl rfl)
theorem dX2_adds_180 : decode cX2_adds 180 = .ok (.aload_n 0, 1) := dk_42 (dk_at dksX2_adds_7 15 rfl rfl)
theorem dX2_adds_181 : decode cX2_adds 181 = .ok (.getfield 57, 3) := dk_180 0 57 (dk_at dksX2_adds_7 16 rfl rfl)
theorem dX2_adds_184 : decode cX2_adds 184 = .ok (.iload 8, 2) := dk_21 8 (dk_at dksX2_adds_7 19 rfl rfl)
theorem dX2_adds_186 : decode cX2_adds 186 = .ok (.iconst 0, 1) := dk_3 (dk_at dksX2_adds_7 21 rfl rfl)
theorem dX2_adds_187 : decode cX2_adds 187 = .ok (.iastore, 1) := dk_79 (dk_at dksX2_adds_7 22 rfl rfl)
theorem dX2_adds_188 : decode cX2_adds 188 = .ok (.aload_n 0, 1) := dk_42 (dk_at dksX2_adds_7 23 rfl rfl)
theorem dX2_adds_189 : decode cX2_adds 189 = .ok (.getfield 60, 3) := dk_180 0 60 (dk_at dksX2_adds_8 0 rfl rfl)
theorem dX2_adds_192 : decode cX2_adds 192 = .ok (.iload 8, 2) := dk_21 8 (dk_at dksX2_adds_8 3 rfl rfl)
theorem dX2_adds_194 : decode cX2_adds 194 = .ok (.iconst 0, 1) := dk_3 (dk_at dksX2_adds_8 5 rfl rfl)
theorem dX2_adds_195 : decode cX2_adds 195 = .ok (.iastore, 1) := dk_79 (dk_at dksX2_adds_8 6 rfl rfl)
theorem dX2_adds_196 : decode cX2_adds 196 = .ok (.aload_n 0, 1) := dk_42 (dk_at dksX2_adds_8 7 rfl rfl)
theorem dX2_adds_197 : decode cX2_adds 197 = .ok (.getfield 63, 3) := dk_180 0 63 (dk_at dksX2_adds_8 8 rfl rfl)
theorem dX2_adds_200 : decode cX2_adds 200 = .ok (.iload 8, 2) := dk_21 8 (dk_at dksX2_adds_8 11 rfl rfl)
theorem dX2_adds_202 : decode cX2_adds 202 = .ok (.iconst 0, 1) := dk_3 (dk_at dksX2_adds_8 13 rfl rfl)
theorem dX2_adds_203 : decode cX2_adds 203 = .ok (.iastore, 1) := dk_79 (dk_at dksX2_adds_8 14 rfl rfl)
theorem dX2_adds_204 : decode cX2_adds 204 = .ok (.aload_n 0, 1) := dk_42 (dk_at dksX2_adds_8 15 rfl rfl)
theorem dX2_adds_205 : decode cX2_adds 205 = .ok (.dup, 1) := dk_89 (dk_at dksX2_adds_8 16 rfl rfl)
theorem dX2_adds_206 : decode cX2_adds 206 = .ok (.getfield 136, 3) := dk_180 0 136 (dk_at dksX2_adds_8 17 rfl rfl)
theorem dX2_adds_209 : decode cX2_adds 209 = .ok (.iconst 1, 1) := dk_4 (dk_at dksX2_adds_8 20 rfl rfl)
theorem dX2_adds_210 : decode cX2_adds 210 = .ok (.iadd, 1) := dk_96 (dk_at dksX2_adds_8 21 rfl rfl)
theorem dX2_adds_211 : decode cX2_adds 211 = .ok (.putfield 136, 3) := dk_181 0 136 (dk_at dksX2_adds_9 0 rfl rfl)
theorem dX2_adds_214 : decode cX2_adds 214 = .ok (.aload_n 0, 1) := dk_42 (dk_at dksX2_adds_9 3 rfl rfl)
theorem dX2_adds_215 : decode cX2_adds 215 = .ok (.iconst 0, 1) := dk_3 (dk_at dksX2_adds_9 4 rfl rfl)
theorem dX2_adds_216 : decode cX2_adds 216 = .ok (.putfield 112, 3) := dk_181 0 112 (dk_at dksX2_adds_9 5 rfl rfl)
theorem dX2_adds_219 : decode cX2_adds 219 = .ok (.iload 8, 2) := dk_21 8 (dk_at dksX2_adds_9 8 rfl rfl)
theorem dX2_adds_221 : decode cX2_adds 221 = .ok (.ireturn, 1) := dk_172 (dk_at dksX2_adds_9 10 rfl rfl)
abbrev cX2_row : ByteArray := prog_13_method_21_code
def yX2_row : MethodName := ⟨RX2, "row", "(IIII)I"⟩
def dkwX2_row_1 : List UInt8 := [167, 0, 15, 42, 4, 27, 28, 29, 21, 4, 3, 3, 182, 0, 155, 172]
abbrev dktX2_row_1 : List UInt8 := dkwX2_row_1 ++ []
def dkwX2_row_0 : List UInt8 := [42, 27, 28, 29, 21, 4, 5, 182, 0, 159, 54, 5, 21, 5, 158, 0, 12, 42, 21, 5, 182, 0, 147]
abbrev dktX2_row_0 : List UInt8 := dkwX2_row_0 ++ dktX2_row_1
theorem dksX2_row_0 : cX2_row.data.toList.drop 0 = dktX2_row_0 := by decide +kernel
theorem dksX2_row_1 : cX2_row.data.toList.drop 23 = dktX2_row_1 := dk_seg dksX2_row_0 23 rfl rfl
theorem dX2_row_0 : decode cX2_row 0 = .ok (.aload_n 0, 1) := dk_42 (dk_at dksX2_row_0 0 rfl rfl)
theorem dX2_row_1 : decode cX2_row 1 = .ok (.iload_n 1, 1) := dk_27 (dk_at dksX2_row_0 1 rfl rfl)
theorem dX2_row_2 : decode cX2_row 2 = .ok (.iload_n 2, 1) := dk_28 (dk_at dksX2_row_0 2 rfl rfl)
theorem dX2_row_3 : decode cX2_row 3 = .ok (.iload_n 3, 1) := dk_29 (dk_at dksX2_row_0 3 rfl rfl)
theorem dX2_row_4 : decode cX2_row 4 = .ok (.iload 4, 2) := dk_21 4 (dk_at dksX2_row_0 4 rfl rfl)
theorem dX2_row_6 : decode cX2_row 6 = .ok (.iconst 2, 1) := dk_5 (dk_at dksX2_row_0 6 rfl rfl)
theorem dX2_row_7 : decode cX2_row 7 = .ok (.invokevirtual 159, 3) := dk_182 0 159 (dk_at dksX2_row_0 7 rfl rfl)
theorem dX2_row_10 : decode cX2_row 10 = .ok (.istore 5, 2) := dk_54 5 (dk_at dksX2_row_0 10 rfl rfl)
theorem dX2_row_12 : decode cX2_row 12 = .ok (.iload 5, 2) := dk_21 5 (dk_at dksX2_row_0 12 rfl rfl)
theorem dX2_row_14 : decode cX2_row 14 = .ok (.ifCond .le 12, 3) := dk_158 0 12 (dk_at dksX2_row_0 14 rfl rfl)
theorem dX2_row_17 : decode cX2_row 17 = .ok (.aload_n 0, 1) := dk_42 (dk_at dksX2_row_0 17 rfl rfl)
theorem dX2_row_18 : decode cX2_row 18 = .ok (.iload 5, 2) := dk_21 5 (dk_at dksX2_row_0 18 rfl rfl)
theorem dX2_row_20 : decode cX2_row 20 = .ok (.invokevirtual 147, 3) := dk_182 0 147 (dk_at dksX2_row_0 20 rfl rfl)
theorem dX2_row_23 : decode cX2_row 23 = .ok (.goto 15, 3) := dk_167 0 15 (dk_at dksX2_row_1 0 rfl rfl)
theorem dX2_row_26 : decode cX2_row 26 = .ok (.aload_n 0, 1) := dk_42 (dk_at dksX2_row_1 3 rfl rfl)
theorem dX2_row_27 : decode cX2_row 27 = .ok (.iconst 1, 1) := dk_4 (dk_at dksX2_row_1 4 rfl rfl)
theorem dX2_row_28 : decode cX2_row 28 = .ok (.iload_n 1, 1) := dk_27 (dk_at dksX2_row_1 5 rfl rfl)
theorem dX2_row_29 : decode cX2_row 29 = .ok (.iload_n 2, 1) := dk_28 (dk_at dksX2_row_1 6 rfl rfl)
theorem dX2_row_30 : decode cX2_row 30 = .ok (.iload_n 3, 1) := dk_29 (dk_at dksX2_row_1 7 rfl rfl)
theorem dX2_row_31 : decode cX2_row 31 = .ok (.iload 4, 2) := dk_21 4 (dk_at dksX2_row_1 8 rfl rfl)
theorem dX2_row_33 : decode cX2_row 33 = .ok (.iconst 0, 1) := dk_3 (dk_at dksX2_row_1 10 rfl rfl)
theorem dX2_row_34 : decode cX2_row 34 = .ok (.iconst 0, 1) := dk_3 (dk_at dksX2_row_1 11 rfl rfl)
theorem dX2_row_35 : decode cX2_row 35 = .ok (.invokevirtual 155, 3) := dk_182 0 155 (dk_at dksX2_row_1 12 rfl rfl)
theorem dX2_row_38 : decode cX2_row 38 = .ok (.ireturn, 1) := dk_172 (dk_at dksX2_row_1 15 rfl rfl)
abbrev cX2_wrongParts : ByteArray := prog_13_method_20_code
def yX2_wrongParts : MethodName := ⟨RX2, "wrongParts", "(IIIII)I"⟩
def dkwX2_wrongParts_7 : List UInt8 := [132, 8, 1, 167, 255, 188, 3, 172]
abbrev dktX2_wrongParts_7 : List UInt8 := dkwX2_wrongParts_7 ++ []
def dkwX2_wrongParts_6 : List UInt8 := [162, 0, 24, 25, 6, 21, 9, 46, 25, 6, 21, 8, 46, 160, 0, 5, 8, 172, 132, 9, 1, 167, 255, 231]
abbrev dktX2_wrongParts_6 : List UInt8 := dkwX2_wrongParts_6 ++ dktX2_wrongParts_7
def dkwX2_wrongParts_5 : List UInt8 := [180, 0, 36, 25, 6, 21, 8, 46, 46, 2, 159, 0, 5, 8, 172, 3, 54, 9, 21, 9, 21, 8]
abbrev dktX2_wrongParts_5 : List UInt8 := dkwX2_wrongParts_5 ++ dktX2_wrongParts_6
def dkwX2_wrongParts_4 : List UInt8 := [172, 3, 54, 8, 21, 8, 7, 162, 0, 68, 25, 6, 21, 8, 46, 2, 160, 0, 6, 167, 0, 50, 42]
abbrev dktX2_wrongParts_4 : List UInt8 := dkwX2_wrongParts_4 ++ dktX2_wrongParts_5
def dkwX2_wrongParts_3 : List UInt8 := [182, 0, 139, 154, 0, 5, 4, 172, 132, 8, 1, 167, 255, 206, 42, 180, 0, 136, 16, 20, 160, 0, 5, 7]
abbrev dktX2_wrongParts_3 : List UInt8 := dkwX2_wrongParts_3 ++ dktX2_wrongParts_4
def dkwX2_wrongParts_2 : List UInt8 := [21, 8, 21, 5, 161, 0, 9, 4, 54, 7, 167, 0, 22, 21, 7, 154, 0, 15, 42, 25, 6, 21, 8, 46]
abbrev dktX2_wrongParts_2 : List UInt8 := dkwX2_wrongParts_2 ++ dktX2_wrongParts_3
def dkwX2_wrongParts_1 : List UInt8 := [21, 4, 79, 3, 54, 7, 3, 54, 8, 21, 8, 7, 162, 0, 50, 25, 6, 21, 8, 46, 2, 160, 0, 16]
abbrev dktX2_wrongParts_1 : List UInt8 := dkwX2_wrongParts_1 ++ dktX2_wrongParts_2
def dkwX2_wrongParts_0 : List UInt8 := [7, 188, 10, 58, 6, 25, 6, 3, 27, 79, 25, 6, 4, 28, 79, 25, 6, 5, 29, 79, 25, 6, 6]
abbrev dktX2_wrongParts_0 : List UInt8 := dkwX2_wrongParts_0 ++ dktX2_wrongParts_1
theorem dksX2_wrongParts_0 : cX2_wrongParts.data.toList.drop 0 = dktX2_wrongParts_0 := by decide +kernel
theorem dksX2_wrongParts_1 : cX2_wrongParts.data.toList.drop 23 = dktX2_wrongParts_1 := dk_seg dksX2_wrongParts_0 23 rfl rfl
theorem dksX2_wrongParts_2 : cX2_wrongParts.data.toList.drop 47 = dktX2_wrongParts_2 := dk_seg dksX2_wrongParts_1 24 rfl rfl
theorem dksX2_wrongParts_3 : cX2_wrongParts.data.toList.drop 71 = dktX2_wrongParts_3 := dk_seg dksX2_wrongParts_2 24 rfl rfl
theorem dksX2_wrongParts_4 : cX2_wrongParts.data.toList.drop 95 = dktX2_wrongParts_4 := dk_seg dksX2_wrongParts_3 24 rfl rfl
theorem dksX2_wrongParts_5 : cX2_wrongParts.data.toList.drop 118 = dktX2_wrongParts_5 := dk_seg dksX2_wrongParts_4 23 rfl rfl
theorem dksX2_wrongParts_6 : cX2_wrongParts.data.toList.drop 140 = dktX2_wrongParts_6 := dk_seg dksX2_wrongParts_5 22 rfl rfl
theorem dksX2_wrongParts_7 : cX2_wrongParts.data.toList.drop 164 = dktX2_wrongParts_7 := dk_seg dksX2_wrongParts_6 24 rfl rfl
theorem dX2_wrongParts_0 : decode cX2_wrongParts 0 = .ok (.iconst 4, 1) := dk_7 (dk_at dksX2_wrongParts_0 0 rfl rfl)
theorem dX2_wrongParts_1 : decode cX2_wrongParts 1 = .ok (.newarray .int, 2) := dk_188_10 (dk_at dksX2_wrongParts_0 1 rfl rfl)
theorem dX2_wrongParts_3 : decode cX2_wrongParts 3 = .ok (.astore 6, 2) := dk_58 6 (dk_at dksX2_wrongParts_0 3 rfl rfl)
theorem dX2_wrongParts_5 : decode cX2_wrongParts 5 = .ok (.aload 6, 2) := dk_25 6 (dk_at dksX2_wrongParts_0 5 rfl rfl)
theorem dX2_wrongParts_7 : decode cX2_wrongParts 7 = .ok (.iconst 0, 1) := dk_3 (dk_at dksX2_wrongParts_0 7 rfl rfl)
theorem dX2_wrongParts_8 : decode cX2_wrongParts 8 = .ok (.iload_n 1, 1) := dk_27 (dk_at dksX2_wrongParts_0 8 rfl rfl)
theorem dX2_wrongParts_9 : decode cX2_wrongParts 9 = .ok (.iastore, 1) := dk_79 (dk_at dksX2_wrongParts_0 9 rfl rfl)
theorem dX2_wrongParts_10 : decode cX2_wrongParts 10 = .ok (.aload 6, 2) := dk_25 6 (dk_at dksX2_wrongParts_0 10 rfl rfl)
theorem dX2_wrongParts_12 : decode cX2_wrongParts 12 = .ok (.iconst 1, 1) := dk_4 (dk_at dksX2_wrongParts_0 12 rfl rfl)
theorem dX2_wrongParts_13 : decode cX2_wrongParts 13 = .ok (.iload_n 2, 1) := dk_28 (dk_at dksX2_wrongParts_0 13 rfl rfl)
theorem dX2_wrongParts_14 : decode cX2_wrongParts 14 = .ok (.iastore, 1) := dk_79 (dk_at dksX2_wrongParts_0 14 rfl rfl)
theorem dX2_wrongParts_15 : decode cX2_wrongParts 15 = .ok (.aload 6, 2) := dk_25 6 (dk_at dksX2_wrongParts_0 15 rfl rfl)
theorem dX2_wrongParts_17 : decode cX2_wrongParts 17 = .ok (.iconst 2, 1) := dk_5 (dk_at dksX2_wrongParts_0 17 rfl rfl)
theorem dX2_wrongParts_18 : decode cX2_wrongParts 18 = .ok (.iload_n 3, 1) := dk_29 (dk_at dksX2_wrongParts_0 18 rfl rfl)
theorem dX2_wrongParts_19 : decode cX2_wrongParts 19 = .ok (.iastore, 1) := dk_79 (dk_at dksX2_wrongParts_0 19 rfl rfl)
theorem dX2_wrongParts_20 : decode cX2_wrongParts 20 = .ok (.aload 6, 2) := dk_25 6 (dk_at dksX2_wrongParts_0 20 rfl rfl)
theorem dX2_wrongParts_22 : decode cX2_wrongParts 22 = .ok (.iconst 3, 1) := dk_6 (dk_at dksX2_wrongParts_0 22 rfl rfl)
theorem dX2_wrongParts_23 : decode cX2_wrongParts 23 = .ok (.iload 4, 2) := dk_21 4 (dk_at dksX2_wrongParts_1 0 rfl rfl)
theorem dX2_wrongParts_25 : decode cX2_wrongParts 25 = .ok (.iastore, 1) := dk_79 (dk_at dksX2_wrongParts_1 2 rfl rfl)
theorem dX2_wrongParts_26 : decode cX2_wrongParts 26 = .ok (.iconst 0, 1) := dk_3 (dk_at dksX2_wrongParts_1 3 rfl rfl)
theorem dX2_wrongParts_27 : decode cX2_wrongParts 27 = .ok (.istore 7, 2) := dk_54 7 (dk_at dksX2_wrongParts_1 4 rfl rfl)
theorem dX2_wrongParts_29 : decode cX2_wrongParts 29 = .ok (.iconst 0, 1) := dk_3 (dk_at dksX2_wrongParts_1 6 rfl rfl)
theorem dX2_wrongParts_30 : decode cX2_wrongParts 30 = .ok (.istore 8, 2) := dk_54 8 (dk_at dksX2_wrongParts_1 7 rfl rfl)
theorem dX2_wrongParts_32 : decode cX2_wrongParts 32 = .ok (.iload 8, 2) := dk_21 8 (dk_at dksX2_wrongParts_1 9 rfl rfl)
theorem dX2_wrongParts_34 : decode cX2_wrongParts 34 = .ok (.iconst 4, 1) := dk_7 (dk_at dksX2_wrongParts_1 11 rfl rfl)
theorem dX2_wrongParts_35 : decode cX2_wrongParts 35 = .ok (.if_icmp .ge 50, 3) := dk_162 0 50 (dk_at dksX2_wrongParts_1 12 rfl rfl)
theorem dX2_wrongParts_38 : decode cX2_wrongParts 38 = .ok (.aload 6, 2) := dk_25 6 (dk_at dksX2_wrongParts_1 15 rfl rfl)
theorem dX2_wrongParts_40 : decode cX2_wrongParts 40 = .ok (.iload 8, 2) := dk_21 8 (dk_at dksX2_wrongParts_1 17 rfl rfl)
theorem dX2_wrongParts_42 : decode cX2_wrongParts 42 = .ok (.iaload, 1) := dk_46 (dk_at dksX2_wrongParts_1 19 rfl rfl)
theorem dX2_wrongParts_43 : decode cX2_wrongParts 43 = .ok (.iconst (-1), 1) := dk_2 (dk_at dksX2_wrongParts_1 20 rfl rfl)
theorem dX2_wrongParts_44 : decode cX2_wrongParts 44 = .ok (.if_icmp .ne 16, 3) := dk_160 0 16 (dk_at dksX2_wrongParts_1 21 rfl rfl)
theorem dX2_wrongParts_47 : decode cX2_wrongParts 47 = .ok (.iload 8, 2) := dk_21 8 (dk_at dksX2_wrongParts_2 0 rfl rfl)
theorem dX2_wrongParts_49 : decode cX2_wrongParts 49 = .ok (.iload 5, 2) := dk_21 5 (dk_at dksX2_wrongParts_2 2 rfl rfl)
theorem dX2_wrongParts_51 : decode cX2_wrongParts 51 = .ok (.if_icmp .lt 9, 3) := dk_161 0 9 (dk_at dksX2_wrongParts_2 4 rfl rfl)
theorem dX2_wrongParts_54 : decode cX2_wrongParts 54 = .ok (.iconst 1, 1) := dk_4 (dk_at dksX2_wrongParts_2 7 rfl rfl)
theorem dX2_wrongParts_55 : decode cX2_wrongParts 55 = .ok (.istore 7, 2) := dk_54 7 (dk_at dksX2_wrongParts_2 8 rfl rfl)
theorem dX2_wrongParts_57 : decode cX2_wrongParts 57 = .ok (.goto 22, 3) := dk_167 0 22 (dk_at dksX2_wrongParts_2 10 rfl rfl)
theorem dX2_wrongParts_60 : decode cX2_wrongParts 60 = .ok (.iload 7, 2) := dk_21 7 (dk_at dksX2_wrongParts_2 13 rfl rfl)
theorem dX2_wrongParts_62 : decode cX2_wrongParts 62 = .ok (.ifCond .ne 15, 3) := dk_154 0 15 (dk_at dksX2_wrongParts_2 15 rfl rfl)
theorem dX2_wrongParts_65 : decode cX2_wrongParts 65 = .ok (.aload_n 0, 1) := dk_42 (dk_at dksX2_wrongParts_2 18 rfl rfl)
theorem dX2_wrongParts_66 : decode cX2_wrongParts 66 = .ok (.aload 6, 2) := dk_25 6 (dk_at dksX2_wrongParts_2 19 rfl rfl)
theorem dX2_wrongParts_68 : decode cX2_wrongParts 68 = .ok (.iload 8, 2) := dk_21 8 (dk_at dksX2_wrongParts_2 21 rfl rfl)
theorem dX2_wrongParts_70 : decode cX2_wrongParts 70 = .ok (.iaload, 1) := dk_46 (dk_at dksX2_wrongParts_2 23 rfl rfl)
theorem dX2_wrongParts_71 : decode cX2_wrongParts 71 = .ok (.invokevirtual 139, 3) := dk_182 0 139 (dk_at dksX2_wrongParts_3 0 rfl rfl)
theorem dX2_wrongParts_74 : decode cX2_wrongParts 74 = .ok (.ifCond .ne 5, 3) := dk_154 0 5 (dk_at dksX2_wrongParts_3 3 rfl rfl)
theorem dX2_wrongParts_77 : decode cX2_wrongParts 77 = .ok (.iconst 1, 1) := dk_4 (dk_at dksX2_wrongParts_3 6 rfl rfl)
theorem dX2_wrongParts_78 : decode cX2_wrongParts 78 = .ok (.ireturn, 1) := dk_172 (dk_at dksX2_wrongParts_3 7 rfl rfl)
theorem dX2_wrongParts_79 : decode cX2_wrongParts 79 = .ok (.iinc 8 1, 3) := dk_132 8 1 (dk_at dksX2_wrongParts_3 8 rfl rfl)
theorem dX2_wrongParts_82 : decode cX2_wrongParts 82 = .ok (.goto (-50), 3) := dk_167 255 206 (dk_at dksX2_wrongParts_3 11 rfl rfl)
theorem dX2_wrongParts_85 : decode cX2_wrongParts 85 = .ok (.aload_n 0, 1) := dk_42 (dk_at dksX2_wrongParts_3 14 rfl rfl)
theorem dX2_wrongParts_86 : decode cX2_wrongParts 86 = .ok (.getfield 136, 3) := dk_180 0 136 (dk_at dksX2_wrongParts_3 15 rfl rfl)
theorem dX2_wrongParts_89 : decode cX2_wrongParts 89 = .ok (.bipush 20, 2) := dk_16 20 (dk_at dksX2_wrongParts_3 18 rfl rfl)
theorem dX2_wrongParts_91 : decode cX2_wrongParts 91 = .ok (.if_icmp .ne 5, 3) := dk_160 0 5 (dk_at dksX2_wrongParts_3 20 rfl rfl)
theorem dX2_wrongParts_94 : decode cX2_wrongParts 94 = .ok (.iconst 4, 1) := dk_7 (dk_at dksX2_wrongParts_3 23 rfl rfl)
theorem dX2_wrongParts_95 : decode cX2_wrongParts 95 = .ok (.ireturn, 1) := dk_172 (dk_at dksX2_wrongParts_4 0 rfl rfl)
theorem dX2_wrongParts_96 : decode cX2_wrongParts 96 = .ok (.iconst 0, 1) := dk_3 (dk_at dksX2_wrongParts_4 1 rfl rfl)
theorem dX2_wrongParts_97 : decode cX2_wrongParts 97 = .ok (.istore 8, 2) := dk_54 8 (dk_at dksX2_wrongParts_4 2 rfl rfl)
theorem dX2_wrongParts_99 : decode cX2_wrongParts 99 = .ok (.iload 8, 2) := dk_21 8 (dk_at dksX2_wrongParts_4 4 rfl rfl)
theorem dX2_wrongParts_101 : decode cX2_wrongParts 101 = .ok (.iconst 4, 1) := dk_7 (dk_at dksX2_wrongParts_4 6 rfl rfl)
theorem dX2_wrongParts_102 : decode cX2_wrongParts 102 = .ok (.if_icmp .ge 68, 3) := dk_162 0 68 (dk_at dksX2_wrongParts_4 7 rfl rfl)
theorem dX2_wrongParts_105 : decode cX2_wrongParts 105 = .ok (.aload 6, 2) := dk_25 6 (dk_at dksX2_wrongParts_4 10 rfl rfl)
theorem dX2_wrongParts_107 : decode cX2_wrongParts 107 = .ok (.iload 8, 2) := dk_21 8 (dk_at dksX2_wrongParts_4 12 rfl rfl)
theorem dX2_wrongParts_109 : decode cX2_wrongParts 109 = .ok (.iaload, 1) := dk_46 (dk_at dksX2_wrongParts_4 14 rfl rfl)
theorem dX2_wrongParts_110 : decode cX2_wrongParts 110 = .ok (.iconst (-1), 1) := dk_2 (dk_at dksX2_wrongParts_4 15 rfl rfl)
theorem dX2_wrongParts_111 : decode cX2_wrongParts 111 = .ok (.if_icmp .ne 6, 3) := dk_160 0 6 (dk_at dksX2_wrongParts_4 16 rfl rfl)
theorem dX2_wrongParts_114 : decode cX2_wrongParts 114 = .ok (.goto 50, 3) := dk_167 0 50 (dk_at dksX2_wrongParts_4 19 rfl rfl)
theorem dX2_wrongParts_117 : decode cX2_wrongParts 117 = .ok (.aload_n 0, 1) := dk_42 (dk_at dksX2_wrongParts_4 22 rfl rfl)
theorem dX2_wrongParts_118 : decode cX2_wrongParts 118 = .ok (.getfield 36, 3) := dk_180 0 36 (dk_at dksX2_wrongParts_5 0 rfl rfl)
theorem dX2_wrongParts_121 : decode cX2_wrongParts 121 = .ok (.aload 6, 2) := dk_25 6 (dk_at dksX2_wrongParts_5 3 rfl rfl)
theorem dX2_wrongParts_123 : decode cX2_wrongParts 123 = .ok (.iload 8, 2) := dk_21 8 (dk_at dksX2_wrongParts_5 5 rfl rfl)
theorem dX2_wrongParts_125 : decode cX2_wrongParts 125 = .ok (.iaload, 1) := dk_46 (dk_at dksX2_wrongParts_5 7 rfl rfl)
theorem dX2_wrongParts_126 : decode cX2_wrongParts 126 = .ok (.iaload, 1) := dk_46 (dk_at dksX2_wrongParts_5 8 rfl rfl)
theorem dX2_wrongParts_127 : decode cX2_wrongParts 127 = .ok (.iconst (-1), 1) := dk_2 (dk_at dksX2_wrongParts_5 9 rfl rfl)
theorem dX2_wrongParts_128 : decode cX2_wrongParts 128 = .ok (.if_icmp .eq 5, 3) := dk_159 0 5 (dk_at dksX2_wrongParts_5 10 rfl rfl)
theorem dX2_wrongParts_131 : decode cX2_wrongParts 131 = .ok (.iconst 5, 1) := dk_8 (dk_at dksX2_wrongParts_5 13 rfl rfl)
theorem dX2_wrongParts_132 : decode cX2_wrongParts 132 = .ok (.ireturn, 1) := dk_172 (dk_at dksX2_wrongParts_5 14 rfl rfl)
theorem dX2_wrongParts_133 : decode cX2_wrongParts 133 = .ok (.iconst 0, 1) := dk_3 (dk_at dksX2_wrongParts_5 15 rfl rfl)
theorem dX2_wrongParts_134 : decode cX2_wrongParts 134 = .ok (.istore 9, 2) := dk_54 9 (dk_at dksX2_wrongParts_5 16 rfl rfl)
theorem dX2_wrongParts_136 : decode cX2_wrongParts 136 = .ok (.iload 9, 2) := dk_21 9 (dk_at dksX2_wrongParts_5 18 rfl rfl)
theorem dX2_wrongParts_138 : decode cX2_wrongParts 138 = .ok (.iload 8, 2) := dk_21 8 (dk_at dksX2_wrongParts_5 20 rfl rfl)
theorem dX2_wrongParts_140 : decode cX2_wrongParts 140 = .ok (.if_icmp .ge 24, 3) := dk_162 0 24 (dk_at dksX2_wrongParts_6 0 rfl rfl)
theorem dX2_wrongParts_143 : decode cX2_wrongParts 143 = .ok (.aload 6, 2) := dk_25 6 (dk_at dksX2_wrongParts_6 3 rfl rfl)
theorem dX2_wrongParts_145 : decode cX2_wrongParts 145 = .ok (.iload 9, 2) := dk_21 9 (dk_at dksX2_wrongParts_6 5 rfl rfl)
theorem dX2_wrongParts_147 : decode cX2_wrongParts 147 = .ok (.iaload, 1) := dk_46 (dk_at dksX2_wrongParts_6 7 rfl rfl)
theorem dX2_wrongParts_148 : decode cX2_wrongParts 148 = .ok (.aload 6, 2) := dk_25 6 (dk_at dksX2_wrongParts_6 8 rfl rfl)
theorem dX2_wrongParts_150 : decode cX2_wrongParts 150 = .ok (.iload 8, 2) := dk_21 8 (dk_at dksX2_wrongParts_6 10 rfl rfl)
theorem dX2_wrongParts_152 : decode cX2_wrongParts 152 = .ok (.iaload, 1) := dk_46 (dk_at dksX2_wrongParts_6 12 rfl rfl)
theorem dX2_wrongParts_153 : decode cX2_wrongParts 153 = .ok (.if_icmp .ne 5, 3) := dk_160 0 5 (dk_at dksX2_wrongParts_6 13 rfl rfl)
theorem dX2_wrongParts_156 : decode cX2_wrongParts 156 = .ok (.iconst 5, 1) := dk_8 (dk_at dksX2_wrongParts_6 16 rfl rfl)
theorem dX2_wrongParts_157 : decode cX2_wrongParts 157 = .ok (.ireturn, 1) := dk_172 (dk_at dksX2_wrongParts_6 17 rfl rfl)
theorem dX2_wrongParts_158 : decode cX2_wrongParts 158 = .ok (.iinc 9 1, 3) := dk_132 9 1 (dk_at dksX2_wrongParts_6 18 rfl rfl)
theorem dX2_wrongParts_161 : decode cX2_wrongParts 161 = .ok (.goto (-25), 3) := dk_167 255 231 (dk_at dksX2_wrongParts_6 21 rfl rfl)
theorem dX2_wrongParts_164 : decode cX2_wrongParts 164 = .ok (.iinc 8 1, 3) := dk_132 8 1 (dk_at dksX2_wrongParts_7 0 rfl rfl)
theorem dX2_wrongParts_167 : decode cX2_wrongParts 167 = .ok (.goto (-68), 3) := dk_167 255 188 (dk_at dksX2_wrongParts_7 3 rfl rfl)
theorem dX2_wrongParts_170 : decode cX2_wrongParts 170 = .ok (.iconst 0, 1) := dk_3 (dk_at dksX2_wrongParts_7 6 rfl rfl)
theorem dX2_wrongParts_171 : decode cX2_wrongParts 171 = .ok (.ireturn, 1) := dk_172 (dk_at dksX2_wrongParts_7 7 rfl rfl)
abbrev cX2_isThing : ByteArray := prog_13_method_14_code
def yX2_isThing : MethodName := ⟨RX2, "isThing", "(I)Z"⟩
def dkwX2_isThing_0 : List UInt8 := [27, 155, 0, 15, 27, 42, 180, 0, 136, 162, 0, 7, 4, 167, 0, 4, 3, 172]
abbrev dktX2_isThing_0 : List UInt8 := dkwX2_isThing_0 ++ []
theorem dksX2_isThing_0 : cX2_isThing.data.toList.drop 0 = dktX2_isThing_0 := by decide +kernel
theorem dX2_isThing_0 : decode cX2_isThing 0 = .ok (.iload_n 1, 1) := dk_27 (dk_at dksX2_isThing_0 0 rfl rfl)
theorem dX2_isThing_1 : decode cX2_isThing 1 = .ok (.ifCond .lt 15, 3) := dk_155 0 15 (dk_at dksX2_isThing_0 1 rfl rfl)
theorem dX2_isThing_4 : decode cX2_isThing 4 = .ok (.iload_n 1, 1) := dk_27 (dk_at dksX2_isThing_0 4 rfl rfl)
theorem dX2_isThing_5 : decode cX2_isThing 5 = .ok (.aload_n 0, 1) := dk_42 (dk_at dksX2_isThing_0 5 rfl rfl)
theorem dX2_isThing_6 : decode cX2_isThing 6 = .ok (.getfield 136, 3) := dk_180 0 136 (dk_at dksX2_isThing_0 6 rfl rfl)
theorem dX2_isThing_9 : decode cX2_isThing 9 = .ok (.if_icmp .ge 7, 3) := dk_162 0 7 (dk_at dksX2_isThing_0 9 rfl rfl)
theorem dX2_isThing_12 : decode cX2_isThing 12 = .ok (.iconst 1, 1) := dk_4 (dk_at dksX2_isThing_0 12 rfl rfl)
theorem dX2_isThing_13 : decode cX2_isThing 13 = .ok (.goto 4, 3) := dk_167 0 4 (dk_at dksX2_isThing_0 13 rfl rfl)
theorem dX2_isThing_16 : decode cX2_isThing 16 = .ok (.iconst 0, 1) := dk_3 (dk_at dksX2_isThing_0 16 rfl rfl)
theorem dX2_isThing_17 : decode cX2_isThing 17 = .ok (.ireturn, 1) := dk_172 (dk_at dksX2_isThing_0 17 rfl rfl)
abbrev cX2_fan : ByteArray := prog_13_method_22_code
def yX2_fan : MethodName := ⟨RX2, "fan", "(IIIII)I"⟩
def dkwX2_fan_4 : List UInt8 := [182, 0, 155, 172]
abbrev dktX2_fan_4 : List UInt8 := dkwX2_fan_4 ++ []
def dkwX2_fan_3 : List UInt8 := [158, 0, 12, 42, 21, 7, 182, 0, 147, 167, 0, 16, 42, 5, 28, 29, 21, 4, 21, 5, 27, 3]
abbrev dktX2_fan_3 : List UInt8 := dkwX2_fan_3 ++ dktX2_fan_4
def dkwX2_fan_2 : List UInt8 := [164, 0, 7, 4, 167, 0, 14, 42, 28, 29, 21, 4, 21, 5, 4, 182, 0, 159, 54, 7, 21, 7]
abbrev dktX2_fan_2 : List UInt8 := dkwX2_fan_2 ++ dktX2_fan_3
def dkwX2_fan_1 : List UInt8 := [21, 5, 2, 160, 0, 7, 3, 167, 0, 4, 4, 96, 54, 6, 27, 4, 161, 0, 9, 27, 21, 6]
abbrev dktX2_fan_1 : List UInt8 := dkwX2_fan_1 ++ dktX2_fan_2
def dkwX2_fan_0 : List UInt8 := [4, 29, 2, 160, 0, 7, 3, 167, 0, 4, 4, 96, 21, 4, 2, 160, 0, 7, 3, 167, 0, 4, 4, 96]
abbrev dktX2_fan_0 : List UInt8 := dkwX2_fan_0 ++ dktX2_fan_1
theorem dksX2_fan_0 : cX2_fan.data.toList.drop 0 = dktX2_fan_0 := by decide +kernel
theorem dksX2_fan_1 : cX2_fan.data.toList.drop 24 = dktX2_fan_1 := dk_seg dksX2_fan_0 24 rfl rfl
theorem dksX2_fan_2 : cX2_fan.data.toList.drop 46 = dktX2_fan_2 := dk_seg dksX2_fan_1 22 rfl rfl
theorem dksX2_fan_3 : cX2_fan.data.toList.drop 68 = dktX2_fan_3 := dk_seg dksX2_fan_2 22 rfl rfl
theorem dksX2_fan_4 : cX2_fan.data.toList.drop 90 = dktX2_fan_4 := dk_seg dksX2_fan_3 22 rfl rfl
theorem dX2_fan_0 : decode cX2_fan 0 = .ok (.iconst 1, 1) := dk_4 (dk_at dksX2_fan_0 0 rfl rfl)
theorem dX2_fan_1 : decode cX2_fan 1 = .ok (.iload_n 3, 1) := dk_29 (dk_at dksX2_fan_0 1 rfl rfl)
theorem dX2_fan_2 : decode cX2_fan 2 = .ok (.iconst (-1), 1) := dk_2 (dk_at dksX2_fan_0 2 rfl rfl)
theorem dX2_fan_3 : decode cX2_fan 3 = .ok (.if_icmp .ne 7, 3) := dk_160 0 7 (dk_at dksX2_fan_0 3 rfl rfl)
theorem dX2_fan_6 : decode cX2_fan 6 = .ok (.iconst 0, 1) := dk_3 (dk_at dksX2_fan_0 6 rfl rfl)
theorem dX2_fan_7 : decode cX2_fan 7 = .ok (.goto 4, 3) := dk_167 0 4 (dk_at dksX2_fan_0 7 rfl rfl)
theorem dX2_fan_10 : decode cX2_fan 10 = .ok (.iconst 1, 1) := dk_4 (dk_at dksX2_fan_0 10 rfl rfl)
theorem dX2_fan_11 : decode cX2_fan 11 = .ok (.iadd, 1) := dk_96 (dk_at dksX2_fan_0 11 rfl rfl)
theorem dX2_fan_12 : decode cX2_fan 12 = .ok (.iload 4, 2) := dk_21 4 (dk_at dksX2_fan_0 12 rfl rfl)
theorem dX2_fan_14 : decode cX2_fan 14 = .ok (.iconst (-1), 1) := dk_2 (dk_at dksX2_fan_0 14 rfl rfl)
theorem dX2_fan_15 : decode cX2_fan 15 = .ok (.if_icmp .ne 7, 3) := dk_160 0 7 (dk_at dksX2_fan_0 15 rfl rfl)
theorem dX2_fan_18 : decode cX2_fan 18 = .ok (.iconst 0, 1) := dk_3 (dk_at dksX2_fan_0 18 rfl rfl)
theorem dX2_fan_19 : decode cX2_fan 19 = .ok (.goto 4, 3) := dk_167 0 4 (dk_at dksX2_fan_0 19 rfl rfl)
theorem dX2_fan_22 : decode cX2_fan 22 = .ok (.iconst 1, 1) := dk_4 (dk_at dksX2_fan_0 22 rfl rfl)
theorem dX2_fan_23 : decode cX2_fan 23 = .ok (.iadd, 1) := dk_96 (dk_at dksX2_fan_0 23 rfl rfl)
theorem dX2_fan_24 : decode cX2_fan 24 = .ok (.iload 5, 2) := dk_21 5 (dk_at dksX2_fan_1 0 rfl rfl)
theorem dX2_fan_26 : decode cX2_fan 26 = .ok (.iconst (-1), 1) := dk_2 (dk_at dksX2_fan_1 2 rfl rfl)
theorem dX2_fan_27 : decode cX2_fan 27 = .ok (.if_icmp .ne 7, 3) := dk_160 0 7 (dk_at dksX2_fan_1 3 rfl rfl)
theorem dX2_fan_30 : decode cX2_fan 30 = .ok (.iconst 0, 1) := dk_3 (dk_at dksX2_fan_1 6 rfl rfl)
theorem dX2_fan_31 : decode cX2_fan 31 = .ok (.goto 4, 3) := dk_167 0 4 (dk_at dksX2_fan_1 7 rfl rfl)
theorem dX2_fan_34 : decode cX2_fan 34 = .ok (.iconst 1, 1) := dk_4 (dk_at dksX2_fan_1 10 rfl rfl)
theorem dX2_fan_35 : decode cX2_fan 35 = .ok (.iadd, 1) := dk_96 (dk_at dksX2_fan_1 11 rfl rfl)
theorem dX2_fan_36 : decode cX2_fan 36 = .ok (.istore 6, 2) := dk_54 6 (dk_at dksX2_fan_1 12 rfl rfl)
theorem dX2_fan_38 : decode cX2_fan 38 = .ok (.iload_n 1, 1) := dk_27 (dk_at dksX2_fan_1 14 rfl rfl)
theorem dX2_fan_39 : decode cX2_fan 39 = .ok (.iconst 1, 1) := dk_4 (dk_at dksX2_fan_1 15 rfl rfl)
theorem dX2_fan_40 : decode cX2_fan 40 = .ok (.if_icmp .lt 9, 3) := dk_161 0 9 (dk_at dksX2_fan_1 16 rfl rfl)
theorem dX2_fan_43 : decode cX2_fan 43 = .ok (.iload_n 1, 1) := dk_27 (dk_at dksX2_fan_1 19 rfl rfl)
theorem dX2_fan_44 : decode cX2_fan 44 = .ok (.iload 6, 2) := dk_21 6 (dk_at dksX2_fan_1 20 rfl rfl)
theorem dX2_fan_46 : decode cX2_fan 46 = .ok (.if_icmp .le 7, 3) := dk_164 0 7 (dk_at dksX2_fan_2 0 rfl rfl)
theorem dX2_fan_49 : decode cX2_fan 49 = .ok (.iconst 1, 1) := dk_4 (dk_at dksX2_fan_2 3 rfl rfl)
theorem dX2_fan_50 : decode cX2_fan 50 = .ok (.goto 14, 3) := dk_167 0 14 (dk_at dksX2_fan_2 4 rfl rfl)
theorem dX2_fan_53 : decode cX2_fan 53 = .ok (.aload_n 0, 1) := dk_42 (dk_at dksX2_fan_2 7 rfl rfl)
theorem dX2_fan_54 : decode cX2_fan 54 = .ok (.iload_n 2, 1) := dk_28 (dk_at dksX2_fan_2 8 rfl rfl)
theorem dX2_fan_55 : decode cX2_fan 55 = .ok (.iload_n 3, 1) := dk_29 (dk_at dksX2_fan_2 9 rfl rfl)
theorem dX2_fan_56 : decode cX2_fan 56 = .ok (.iload 4, 2) := dk_21 4 (dk_at dksX2_fan_2 10 rfl rfl)
theorem dX2_fan_58 : decode cX2_fan 58 = .ok (.iload 5, 2) := dk_21 5 (dk_at dksX2_fan_2 12 rfl rfl)
theorem dX2_fan_60 : decode cX2_fan 60 = .ok (.iconst 1, 1) := dk_4 (dk_at dksX2_fan_2 14 rfl rfl)
theorem dX2_fan_61 : decode cX2_fan 61 = .ok (.invokevirtual 159, 3) := dk_182 0 159 (dk_at dksX2_fan_2 15 rfl rfl)
theorem dX2_fan_64 : decode cX2_fan 64 = .ok (.istore 7, 2) := dk_54 7 (dk_at dksX2_fan_2 18 rfl rfl)
theorem dX2_fan_66 : decode cX2_fan 66 = .ok (.iload 7, 2) := dk_21 7 (dk_at dksX2_fan_2 20 rfl rfl)
theorem dX2_fan_68 : decode cX2_fan 68 = .ok (.ifCond .le 12, 3) := dk_158 0 12 (dk_at dksX2_fan_3 0 rfl rfl)
theorem dX2_fan_71 : decode cX2_fan 71 = .ok (.aload_n 0, 1) := dk_42 (dk_at dksX2_fan_3 3 rfl rfl)
theorem dX2_fan_72 : decode cX2_fan 72 = .ok (.iload 7, 2) := dk_21 7 (dk_at dksX2_fan_3 4 rfl rfl)
theorem dX2_fan_74 : decode cX2_fan 74 = .ok (.invokevirtual 147, 3) := dk_182 0 147 (dk_at dksX2_fan_3 6 rfl rfl)
theorem dX2_fan_77 : decode cX2_fan 77 = .ok (.goto 16, 3) := dk_167 0 16 (dk_at dksX2_fan_3 9 rfl rfl)
theorem dX2_fan_80 : decode cX2_fan 80 = .ok (.aload_n 0, 1) := dk_42 (dk_at dksX2_fan_3 12 rfl rfl)
theorem dX2_fan_81 : decode cX2_fan 81 = .ok (.iconst 2, 1) := dk_5 (dk_at dksX2_fan_3 13 rfl rfl)
theorem dX2_fan_82 : decode cX2_fan 82 = .ok (.iload_n 2, 1) := dk_28 (dk_at dksX2_fan_3 14 rfl rfl)
theorem dX2_fan_83 : decode cX2_fan 83 = .ok (.iload_n 3, 1) := dk_29 (dk_at dksX2_fan_3 15 rfl rfl)
theorem dX2_fan_84 : decode cX2_fan 84 = .ok (.iload 4, 2) := dk_21 4 (dk_at dksX2_fan_3 16 rfl rfl)
theorem dX2_fan_86 : decode cX2_fan 86 = .ok (.iload 5, 2) := dk_21 5 (dk_at dksX2_fan_3 18 rfl rfl)
theorem dX2_fan_88 : decode cX2_fan 88 = .ok (.iload_n 1, 1) := dk_27 (dk_at dksX2_fan_3 20 rfl rfl)
theorem dX2_fan_89 : decode cX2_fan 89 = .ok (.iconst 0, 1) := dk_3 (dk_at dksX2_fan_3 21 rfl rfl)
theorem dX2_fan_90 : decode cX2_fan 90 = .ok (.invokevirtual 155, 3) := dk_182 0 155 (dk_at dksX2_fan_4 0 rfl rfl)
theorem dX2_fan_93 : decode cX2_fan 93 = .ok (.ireturn, 1) := dk_172 (dk_at dksX2_fan_4 3 rfl rfl)
abbrev cX2_cache : ByteArray := prog_13_method_23_code
def yX2_cache : MethodName := ⟨RX2, "cache", "(IIII)I"⟩
def dkwX2_cache_2 : List UInt8 := [182, 0, 147, 167, 0, 15, 42, 6, 27, 28, 2, 2, 29, 21, 4, 182, 0, 155, 172]
abbrev dktX2_cache_2 : List UInt8 := dkwX2_cache_2 ++ []
def dkwX2_cache_1 : List UInt8 := [167, 0, 12, 42, 27, 28, 2, 2, 5, 182, 0, 159, 54, 5, 21, 5, 158, 0, 12, 42, 21, 5]
abbrev dktX2_cache_1 : List UInt8 := dkwX2_cache_1 ++ dktX2_cache_2
def dkwX2_cache_0 : List UInt8 := [21, 4, 4, 161, 0, 20, 21, 4, 16, 100, 163, 0, 13, 29, 155, 0, 9, 29, 21, 4, 164, 0, 7, 4]
abbrev dktX2_cache_0 : List UInt8 := dkwX2_cache_0 ++ dktX2_cache_1
theorem dksX2_cache_0 : cX2_cache.data.toList.drop 0 = dktX2_cache_0 := by decide +kernel
theorem dksX2_cache_1 : cX2_cache.data.toList.drop 24 = dktX2_cache_1 := dk_seg dksX2_cache_0 24 rfl rfl
theorem dksX2_cache_2 : cX2_cache.data.toList.drop 46 = dktX2_cache_2 := dk_seg dksX2_cache_1 22 rfl rfl
theorem dX2_cache_0 : decode cX2_cache 0 = .ok (.iload 4, 2) := dk_21 4 (dk_at dksX2_cache_0 0 rfl rfl)
theorem dX2_cache_2 : decode cX2_cache 2 = .ok (.iconst 1, 1) := dk_4 (dk_at dksX2_cache_0 2 rfl rfl)
theorem dX2_cache_3 : decode cX2_cache 3 = .ok (.if_icmp .lt 20, 3) := dk_161 0 20 (dk_at dksX2_cache_0 3 rfl rfl)
theorem dX2_cache_6 : decode cX2_cache 6 = .ok (.iload 4, 2) := dk_21 4 (dk_at dksX2_cache_0 6 rfl rfl)
theorem dX2_cache_8 : decode cX2_cache 8 = .ok (.bipush 100, 2) := dk_16 100 (dk_at dksX2_cache_0 8 rfl rfl)
theorem dX2_cache_10 : decode cX2_cache 10 = .ok (.if_icmp .gt 13, 3) := dk_163 0 13 (dk_at dksX2_cache_0 10 rfl rfl)
theorem dX2_cache_13 : decode cX2_cache 13 = .ok (.iload_n 3, 1) := dk_29 (dk_at dksX2_cache_0 13 rfl rfl)
theorem dX2_cache_14 : decode cX2_cache 14 = .ok (.ifCond .lt 9, 3) := dk_155 0 9 (dk_at dksX2_cache_0 14 rfl rfl)
theorem dX2_cache_17 : decode cX2_cache 17 = .ok (.iload_n 3, 1) := dk_29 (dk_at dksX2_cache_0 17 rfl rfl)
theorem dX2_cache_18 : decode cX2_cache 18 = .ok (.iload 4, 2) := dk_21 4 (dk_at dksX2_cache_0 18 rfl rfl)
theorem dX2_cache_20 : decode cX2_cache 20 = .ok (.if_icmp .le 7, 3) := dk_164 0 7 (dk_at dksX2_cache_0 20 rfl rfl)
theorem dX2_cache_23 : decode cX2_cache 23 = .ok (.iconst 1, 1) := dk_4 (dk_at dksX2_cache_0 23 rfl rfl)
theorem dX2_cache_24 : decode cX2_cache 24 = .ok (.goto 12, 3) := dk_167 0 12 (dk_at dksX2_cache_1 0 rfl rfl)
theorem dX2_cache_27 : decode cX2_cache 27 = .ok (.aload_n 0, 1) := dk_42 (dk_at dksX2_cache_1 3 rfl rfl)
theorem dX2_cache_28 : decode cX2_cache 28 = .ok (.iload_n 1, 1) := dk_27 (dk_at dksX2_cache_1 4 rfl rfl)
theorem dX2_cache_29 : decode cX2_cache 29 = .ok (.iload_n 2, 1) := dk_28 (dk_at dksX2_cache_1 5 rfl rfl)
theorem dX2_cache_30 : decode cX2_cache 30 = .ok (.iconst (-1), 1) := dk_2 (dk_at dksX2_cache_1 6 rfl rfl)
theorem dX2_cache_31 : decode cX2_cache 31 = .ok (.iconst (-1), 1) := dk_2 (dk_at dksX2_cache_1 7 rfl rfl)
theorem dX2_cache_32 : decode cX2_cache 32 = .ok (.iconst 2, 1) := dk_5 (dk_at dksX2_cache_1 8 rfl rfl)
theorem dX2_cache_33 : decode cX2_cache 33 = .ok (.invokevirtual 159, 3) := dk_182 0 159 (dk_at dksX2_cache_1 9 rfl rfl)
theorem dX2_cache_36 : decode cX2_cache 36 = .ok (.istore 5, 2) := dk_54 5 (dk_at dksX2_cache_1 12 rfl rfl)
theorem dX2_cache_38 : decode cX2_cache 38 = .ok (.iload 5, 2) := dk_21 5 (dk_at dksX2_cache_1 14 rfl rfl)
theorem dX2_cache_40 : decode cX2_cache 40 = .ok (.ifCond .le 12, 3) := dk_158 0 12 (dk_at dksX2_cache_1 16 rfl rfl)
theorem dX2_cache_43 : decode cX2_cache 43 = .ok (.aload_n 0, 1) := dk_42 (dk_at dksX2_cache_1 19 rfl rfl)
theorem dX2_cache_44 : decode cX2_cache 44 = .ok (.iload 5, 2) := dk_21 5 (dk_at dksX2_cache_1 20 rfl rfl)
theorem dX2_cache_46 : decode cX2_cache 46 = .ok (.invokevirtual 147, 3) := dk_182 0 147 (dk_at dksX2_cache_2 0 rfl rfl)
theorem dX2_cache_49 : decode cX2_cache 49 = .ok (.goto 15, 3) := dk_167 0 15 (dk_at dksX2_cache_2 3 rfl rfl)
theorem dX2_cache_52 : decode cX2_cache 52 = .ok (.aload_n 0, 1) := dk_42 (dk_at dksX2_cache_2 6 rfl rfl)
theorem dX2_cache_53 : decode cX2_cache 53 = .ok (.iconst 3, 1) := dk_6 (dk_at dksX2_cache_2 7 rfl rfl)
theorem dX2_cache_54 : decode cX2_cache 54 = .ok (.iload_n 1, 1) := dk_27 (dk_at dksX2_cache_2 8 rfl rfl)
theorem dX2_cache_55 : decode cX2_cache 55 = .ok (.iload_n 2, 1) := dk_28 (dk_at dksX2_cache_2 9 rfl rfl)
theorem dX2_cache_56 : decode cX2_cache 56 = .ok (.iconst (-1), 1) := dk_2 (dk_at dksX2_cache_2 10 rfl rfl)
theorem dX2_cache_57 : decode cX2_cache 57 = .ok (.iconst (-1), 1) := dk_2 (dk_at dksX2_cache_2 11 rfl rfl)
theorem dX2_cache_58 : decode cX2_cache 58 = .ok (.iload_n 3, 1) := dk_29 (dk_at dksX2_cache_2 12 rfl rfl)
theorem dX2_cache_59 : decode cX2_cache 59 = .ok (.iload 4, 2) := dk_21 4 (dk_at dksX2_cache_2 13 rfl rfl)
theorem dX2_cache_61 : decode cX2_cache 61 = .ok (.invokevirtual 155, 3) := dk_182 0 155 (dk_at dksX2_cache_2 15 rfl rfl)
theorem dX2_cache_64 : decode cX2_cache 64 = .ok (.ireturn, 1) := dk_172 (dk_at dksX2_cache_2 18 rfl rfl)
abbrev cX2_retry : ByteArray := prog_13_method_24_code
def yX2_retry : MethodName := ⟨RX2, "retry", "(III)I"⟩
def dkwX2_retry_2 : List UInt8 := [182, 0, 147, 167, 0, 14, 42, 7, 27, 2, 2, 2, 28, 29, 182, 0, 155, 172]
abbrev dktX2_retry_2 : List UInt8 := dkwX2_retry_2 ++ []
def dkwX2_retry_1 : List UInt8 := [167, 0, 12, 42, 27, 2, 2, 2, 4, 182, 0, 159, 54, 4, 21, 4, 158, 0, 12, 42, 21, 4]
abbrev dktX2_retry_1 : List UInt8 := dkwX2_retry_1 ++ dktX2_retry_2
def dkwX2_retry_0 : List UInt8 := [28, 4, 161, 0, 19, 28, 16, 60, 163, 0, 13, 29, 4, 161, 0, 8, 29, 6, 164, 0, 7, 4]
abbrev dktX2_retry_0 : List UInt8 := dkwX2_retry_0 ++ dktX2_retry_1
theorem dksX2_retry_0 : cX2_retry.data.toList.drop 0 = dktX2_retry_0 := by decide +kernel
theorem dksX2_retry_1 : cX2_retry.data.toList.drop 22 = dktX2_retry_1 := dk_seg dksX2_retry_0 22 rfl rfl
theorem dksX2_retry_2 : cX2_retry.data.toList.drop 44 = dktX2_retry_2 := dk_seg dksX2_retry_1 22 rfl rfl
theorem dX2_retry_0 : decode cX2_retry 0 = .ok (.iload_n 2, 1) := dk_28 (dk_at dksX2_retry_0 0 rfl rfl)
theorem dX2_retry_1 : decode cX2_retry 1 = .ok (.iconst 1, 1) := dk_4 (dk_at dksX2_retry_0 1 rfl rfl)
theorem dX2_retry_2 : decode cX2_retry 2 = .ok (.if_icmp .lt 19, 3) := dk_161 0 19 (dk_at dksX2_retry_0 2 rfl rfl)
theorem dX2_retry_5 : decode cX2_retry 5 = .ok (.iload_n 2, 1) := dk_28 (dk_at dksX2_retry_0 5 rfl rfl)
theorem dX2_retry_6 : decode cX2_retry 6 = .ok (.bipush 60, 2) := dk_16 60 (dk_at dksX2_retry_0 6 rfl rfl)
theorem dX2_retry_8 : decode cX2_retry 8 = .ok (.if_icmp .gt 13, 3) := dk_163 0 13 (dk_at dksX2_retry_0 8 rfl rfl)
theorem dX2_retry_11 : decode cX2_retry 11 = .ok (.iload_n 3, 1) := dk_29 (dk_at dksX2_retry_0 11 rfl rfl)
theorem dX2_retry_12 : decode cX2_retry 12 = .ok (.iconst 1, 1) := dk_4 (dk_at dksX2_retry_0 12 rfl rfl)
theorem dX2_retry_13 : decode cX2_retry 13 = .ok (.if_icmp .lt 8, 3) := dk_161 0 8 (dk_at dksX2_retry_0 13 rfl rfl)
theorem dX2_retry_16 : decode cX2_retry 16 = .ok (.iload_n 3, 1) := dk_29 (dk_at dksX2_retry_0 16 rfl rfl)
theorem dX2_retry_17 : decode cX2_retry 17 = .ok (.iconst 3, 1) := dk_6 (dk_at dksX2_retry_0 17 rfl rfl)
theorem dX2_retry_18 : decode cX2_retry 18 = .ok (.if_icmp .le 7, 3) := dk_164 0 7 (dk_at dksX2_retry_0 18 rfl rfl)
theorem dX2_retry_21 : decode cX2_retry 21 = .ok (.iconst 1, 1) := dk_4 (dk_at dksX2_retry_0 21 rfl rfl)
theorem dX2_retry_22 : decode cX2_retry 22 = .ok (.goto 12, 3) := dk_167 0 12 (dk_at dksX2_retry_1 0 rfl rfl)
theorem dX2_retry_25 : decode cX2_retry 25 = .ok (.aload_n 0, 1) := dk_42 (dk_at dksX2_retry_1 3 rfl rfl)
theorem dX2_retry_26 : decode cX2_retry 26 = .ok (.iload_n 1, 1) := dk_27 (dk_at dksX2_retry_1 4 rfl rfl)
theorem dX2_retry_27 : decode cX2_retry 27 = .ok (.iconst (-1), 1) := dk_2 (dk_at dksX2_retry_1 5 rfl rfl)
theorem dX2_retry_28 : decode cX2_retry 28 = .ok (.iconst (-1), 1) := dk_2 (dk_at dksX2_retry_1 6 rfl rfl)
theorem dX2_retry_29 : decode cX2_retry 29 = .ok (.iconst (-1), 1) := dk_2 (dk_at dksX2_retry_1 7 rfl rfl)
theorem dX2_retry_30 : decode cX2_retry 30 = .ok (.iconst 1, 1) := dk_4 (dk_at dksX2_retry_1 8 rfl rfl)
theorem dX2_retry_31 : decode cX2_retry 31 = .ok (.invokevirtual 159, 3) := dk_182 0 159 (dk_at dksX2_retry_1 9 rfl rfl)
theorem dX2_retry_34 : decode cX2_retry 34 = .ok (.istore 4, 2) := dk_54 4 (dk_at dksX2_retry_1 12 rfl rfl)
theorem dX2_retry_36 : decode cX2_retry 36 = .ok (.iload 4, 2) := dk_21 4 (dk_at dksX2_retry_1 14 rfl rfl)
theorem dX2_retry_38 : decode cX2_retry 38 = .ok (.ifCond .le 12, 3) := dk_158 0 12 (dk_at dksX2_retry_1 16 rfl rfl)
theorem dX2_retry_41 : decode cX2_retry 41 = .ok (.aload_n 0, 1) := dk_42 (dk_at dksX2_retry_1 19 rfl rfl)
theorem dX2_retry_42 : decode cX2_retry 42 = .ok (.iload 4, 2) := dk_21 4 (dk_at dksX2_retry_1 20 rfl rfl)
theorem dX2_retry_44 : decode cX2_retry 44 = .ok (.invokevirtual 147, 3) := dk_182 0 147 (dk_at dksX2_retry_2 0 rfl rfl)
theorem dX2_retry_47 : decode cX2_retry 47 = .ok (.goto 14, 3) := dk_167 0 14 (dk_at dksX2_retry_2 3 rfl rfl)
theorem dX2_retry_50 : decode cX2_retry 50 = .ok (.aload_n 0, 1) := dk_42 (dk_at dksX2_retry_2 6 rfl rfl)
theorem dX2_retry_51 : decode cX2_retry 51 = .ok (.iconst 4, 1) := dk_7 (dk_at dksX2_retry_2 7 rfl rfl)
theorem dX2_retry_52 : decode cX2_retry 52 = .ok (.iload_n 1, 1) := dk_27 (dk_at dksX2_retry_2 8 rfl rfl)
theorem dX2_retry_53 : decode cX2_retry 53 = .ok (.iconst (-1), 1) := dk_2 (dk_at dksX2_retry_2 9 rfl rfl)
theorem dX2_retry_54 : decode cX2_retry 54 = .ok (.iconst (-1), 1) := dk_2 (dk_at dksX2_retry_2 10 rfl rfl)
theorem dX2_retry_55 : decode cX2_retry 55 = .ok (.iconst (-1), 1) := dk_2 (dk_at dksX2_retry_2 11 rfl rfl)
theorem dX2_retry_56 : decode cX2_retry 56 = .ok (.iload_n 2, 1) := dk_28 (dk_at dksX2_retry_2 12 rfl rfl)
theorem dX2_retry_57 : decode cX2_retry 57 = .ok (.iload_n 3, 1) := dk_29 (dk_at dksX2_retry_2 13 rfl rfl)
theorem dX2_retry_58 : decode cX2_retry 58 = .ok (.invokevirtual 155, 3) := dk_182 0 155 (dk_at dksX2_retry_2 14 rfl rfl)
theorem dX2_retry_61 : decode cX2_retry 61 = .ok (.ireturn, 1) := dk_172 (dk_at dksX2_retry_2 17 rfl rfl)
abbrev cX2_hedge : ByteArray := prog_13_method_25_code
def yX2_hedge : MethodName := ⟨RX2, "hedge", "(II)I"⟩
def dkwX2_hedge_1 : List UInt8 := [29, 158, 0, 11, 42, 29, 182, 0, 147, 167, 0, 14, 42, 8, 27, 2, 2, 2, 28, 3, 182, 0, 155, 172]
abbrev dktX2_hedge_1 : List UInt8 := dkwX2_hedge_1 ++ []
def dkwX2_hedge_0 : List UInt8 := [28, 155, 0, 9, 28, 16, 60, 164, 0, 7, 4, 167, 0, 12, 42, 27, 2, 2, 2, 4, 182, 0, 159, 62]
abbrev dktX2_hedge_0 : List UInt8 := dkwX2_hedge_0 ++ dktX2_hedge_1
theorem dksX2_hedge_0 : cX2_hedge.data.toList.drop 0 = dktX2_hedge_0 := by decide +kernel
theorem dksX2_hedge_1 : cX2_hedge.data.toList.drop 24 = dktX2_hedge_1 := dk_seg dksX2_hedge_0 24 rfl rfl
theorem dX2_hedge_0 : decode cX2_hedge 0 = .ok (.iload_n 2, 1) := dk_28 (dk_at dksX2_hedge_0 0 rfl rfl)
theorem dX2_hedge_1 : decode cX2_hedge 1 = .ok (.ifCond .lt 9, 3) := dk_155 0 9 (dk_at dksX2_hedge_0 1 rfl rfl)
theorem dX2_hedge_4 : decode cX2_hedge 4 = .ok (.iload_n 2, 1) := dk_28 (dk_at dksX2_hedge_0 4 rfl rfl)
theorem dX2_hedge_5 : decode cX2_hedge 5 = .ok (.bipush 60, 2) := dk_16 60 (dk_at dksX2_hedge_0 5 rfl rfl)
theorem dX2_hedge_7 : decode cX2_hedge 7 = .ok (.if_icmp .le 7, 3) := dk_164 0 7 (dk_at dksX2_hedge_0 7 rfl rfl)
theorem dX2_hedge_10 : decode cX2_hedge 10 = .ok (.iconst 1, 1) := dk_4 (dk_at dksX2_hedge_0 10 rfl rfl)
theorem dX2_hedge_11 : decode cX2_hedge 11 = .ok (.goto 12, 3) := dk_167 0 12 (dk_at dksX2_hedge_0 11 rfl rfl)
theorem dX2_hedge_14 : decode cX2_hedge 14 = .ok (.aload_n 0, 1) := dk_42 (dk_at dksX2_hedge_0 14 rfl rfl)
theorem dX2_hedge_15 : decode cX2_hedge 15 = .ok (.iload_n 1, 1) := dk_27 (dk_at dksX2_hedge_0 15 rfl rfl)
theorem dX2_hedge_16 : decode cX2_hedge 16 = .ok (.iconst (-1), 1) := dk_2 (dk_at dksX2_hedge_0 16 rfl rfl)
theorem dX2_hedge_17 : decode cX2_hedge 17 = .ok (.iconst (-1), 1) := dk_2 (dk_at dksX2_hedge_0 17 rfl rfl)
theorem dX2_hedge_18 : decode cX2_hedge 18 = .ok (.iconst (-1), 1) := dk_2 (dk_at dksX2_hedge_0 18 rfl rfl)
theorem dX2_hedge_19 : decode cX2_hedge 19 = .ok (.iconst 1, 1) := dk_4 (dk_at dksX2_hedge_0 19 rfl rfl)
theorem dX2_hedge_20 : decode cX2_hedge 20 = .ok (.invokevirtual 159, 3) := dk_182 0 159 (dk_at dksX2_hedge_0 20 rfl rfl)
theorem dX2_hedge_23 : decode cX2_hedge 23 = .ok (.istore_n 3, 1) := dk_62 (dk_at dksX2_hedge_0 23 rfl rfl)
theorem dX2_hedge_24 : decode cX2_hedge 24 = .ok (.iload_n 3, 1) := dk_29 (dk_at dksX2_hedge_1 0 rfl rfl)
theorem dX2_hedge_25 : decode cX2_hedge 25 = .ok (.ifCond .le 11, 3) := dk_158 0 11 (dk_at dksX2_hedge_1 1 rfl rfl)
theorem dX2_hedge_28 : decode cX2_hedge 28 = .ok (.aload_n 0, 1) := dk_42 (dk_at dksX2_hedge_1 4 rfl rfl)
theorem dX2_hedge_29 : decode cX2_hedge 29 = .ok (.iload_n 3, 1) := dk_29 (dk_at dksX2_hedge_1 5 rfl rfl)
theorem dX2_hedge_30 : decode cX2_hedge 30 = .ok (.invokevirtual 147, 3) := dk_182 0 147 (dk_at dksX2_hedge_1 6 rfl rfl)
theorem dX2_hedge_33 : decode cX2_hedge 33 = .ok (.goto 14, 3) := dk_167 0 14 (dk_at dksX2_hedge_1 9 rfl rfl)
theorem dX2_hedge_36 : decode cX2_hedge 36 = .ok (.aload_n 0, 1) := dk_42 (dk_at dksX2_hedge_1 12 rfl rfl)
theorem dX2_hedge_37 : decode cX2_hedge 37 = .ok (.iconst 5, 1) := dk_8 (dk_at dksX2_hedge_1 13 rfl rfl)
theorem dX2_hedge_38 : decode cX2_hedge 38 = .ok (.iload_n 1, 1) := dk_27 (dk_at dksX2_hedge_1 14 rfl rfl)
theorem dX2_hedge_39 : decode cX2_hedge 39 = .ok (.iconst (-1), 1) := dk_2 (dk_at dksX2_hedge_1 15 rfl rfl)
theorem dX2_hedge_40 : decode cX2_hedge 40 = .ok (.iconst (-1), 1) := dk_2 (dk_at dksX2_hedge_1 16 rfl rfl)
theorem dX2_hedge_41 : decode cX2_hedge 41 = .ok (.iconst (-1), 1) := dk_2 (dk_at dksX2_hedge_1 17 rfl rfl)
theorem dX2_hedge_42 : decode cX2_hedge 42 = .ok (.iload_n 2, 1) := dk_28 (dk_at dksX2_hedge_1 18 rfl rfl)
theorem dX2_hedge_43 : decode cX2_hedge 43 = .ok (.iconst 0, 1) := dk_3 (dk_at dksX2_hedge_1 19 rfl rfl)
theorem dX2_hedge_44 : decode cX2_hedge 44 = .ok (.invokevirtual 155, 3) := dk_182 0 155 (dk_at dksX2_hedge_1 20 rfl rfl)
theorem dX2_hedge_47 : decode cX2_hedge 47 = .ok (.ireturn, 1) := dk_172 (dk_at dksX2_hedge_1 23 rfl rfl)
abbrev cX2_told : ByteArray := prog_13_method_43_code
def yX2_told : MethodName := ⟨RX2, "told", "(II)I"⟩
def dkwX2_told_9 : List UInt8 := [29, 172]
abbrev dktX2_told_9 : List UInt8 := dkwX2_told_9 ++ []
def dkwX2_told_8 : List UInt8 := [21, 4, 184, 0, 173, 47, 9, 148, 158, 0, 8, 21, 4, 167, 0, 4, 29, 62, 132, 4, 1, 167, 255, 207]
abbrev dktX2_told_8 : List UInt8 := dkwX2_told_8 ++ dktX2_told_9
def dkwX2_told_7 : List UInt8 := [162, 0, 48, 42, 180, 0, 66, 27, 21, 4, 184, 0, 173, 47, 9, 148, 157, 0, 19, 42, 180, 0, 69, 27]
abbrev dktX2_told_7 : List UInt8 := dkwX2_told_7 ++ dktX2_told_8
def dkwX2_told_6 : List UInt8 := [4, 96, 62, 132, 4, 1, 167, 255, 224, 29, 172, 42, 27, 182, 0, 233, 172, 3, 54, 4, 21, 4, 16, 121]
abbrev dktX2_told_6 : List UInt8 := dkwX2_told_6 ++ dktX2_told_7
def dkwX2_told_5 : List UInt8 := [7, 162, 0, 32, 29, 42, 180, 0, 27, 7, 27, 104, 21, 4, 96, 46, 2, 160, 0, 7, 3, 167, 0, 4]
abbrev dktX2_told_5 : List UInt8 := dkwX2_told_5 ++ dktX2_told_6
def dkwX2_told_4 : List UInt8 := [42, 180, 0, 136, 172, 42, 180, 0, 24, 27, 46, 172, 42, 180, 0, 36, 27, 46, 172, 3, 54, 4, 21, 4]
abbrev dktX2_told_4 : List UInt8 := dkwX2_told_4 ++ dktX2_told_5
def dkwX2_told_3 : List UInt8 := [170, 0, 0, 0, 0, 0, 0, 101, 0, 0, 0, 0, 0, 0, 0, 4, 0, 0, 0, 36, 0, 0, 0, 41, 0, 0, 0, 48, 0, 0, 0, 55, 0, 0, 0, 95]
abbrev dktX2_told_3 : List UInt8 := dkwX2_told_3 ++ dktX2_told_4
def dkwX2_told_2 : List UInt8 := [181, 0, 112, 3, 62, 28]
abbrev dktX2_told_2 : List UInt8 := dkwX2_told_2 ++ dktX2_told_3
def dkwX2_told_1 : List UInt8 := [8, 160, 0, 19, 42, 27, 182, 0, 230, 62, 29, 158, 0, 9, 42, 29, 182, 0, 147, 172, 42, 3]
abbrev dktX2_told_1 : List UInt8 := dkwX2_told_1 ++ dktX2_told_2
def dkwX2_told_0 : List UInt8 := [28, 155, 0, 16, 28, 8, 163, 0, 11, 42, 27, 182, 0, 139, 154, 0, 9, 42, 4, 182, 0, 147, 172, 28]
abbrev dktX2_told_0 : List UInt8 := dkwX2_told_0 ++ dktX2_told_1
theorem dksX2_told_0 : cX2_told.data.toList.drop 0 = dktX2_told_0 := by decide +kernel
theorem dksX2_told_1 : cX2_told.data.toList.drop 24 = dktX2_told_1 := dk_seg dksX2_told_0 24 rfl rfl
theorem dksX2_told_2 : cX2_told.data.toList.drop 46 = dktX2_told_2 := dk_seg dksX2_told_1 22 rfl rfl
theorem dksX2_told_3 : cX2_told.data.toList.drop 52 = dktX2_told_3 := dk_seg dksX2_told_2 6 rfl rfl
theorem dksX2_told_4 : cX2_told.data.toList.drop 88 = dktX2_told_4 := dk_seg dksX2_told_3 36 rfl rfl
theorem dksX2_told_5 : cX2_told.data.toList.drop 112 = dktX2_told_5 := dk_seg dksX2_told_4 24 rfl rfl
theorem dksX2_told_6 : cX2_told.data.toList.drop 136 = dktX2_told_6 := dk_seg dksX2_told_5 24 rfl rfl
theorem dksX2_told_7 : cX2_told.data.toList.drop 160 = dktX2_told_7 := dk_seg dksX2_told_6 24 rfl rfl
theorem dksX2_told_8 : cX2_told.data.toList.drop 184 = dktX2_told_8 := dk_seg dksX2_told_7 24 rfl rfl
theorem dksX2_told_9 : cX2_told.data.toList.drop 208 = dktX2_told_9 := dk_seg dksX2_told_8 24 rfl rfl
theorem dX2_told_0 : decode cX2_told 0 = .ok (.iload_n 2, 1) := dk_28 (dk_at dksX2_told_0 0 rfl rfl)
theorem dX2_told_1 : decode cX2_told 1 = .ok (.ifCond .lt 16, 3) := dk_155 0 16 (dk_at dksX2_told_0 1 rfl rfl)
theorem dX2_told_4 : decode cX2_told 4 = .ok (.iload_n 2, 1) := dk_28 (dk_at dksX2_told_0 4 rfl rfl)
theorem dX2_told_5 : decode cX2_told 5 = .ok (.iconst 5, 1) := dk_8 (dk_at dksX2_told_0 5 rfl rfl)
theorem dX2_told_6 : decode cX2_told 6 = .ok (.if_icmp .gt 11, 3) := dk_163 0 11 (dk_at dksX2_told_0 6 rfl rfl)
theorem dX2_told_9 : decode cX2_told 9 = .ok (.aload_n 0, 1) := dk_42 (dk_at dksX2_told_0 9 rfl rfl)
theorem dX2_told_10 : decode cX2_told 10 = .ok (.iload_n 1, 1) := dk_27 (dk_at dksX2_told_0 10 rfl rfl)
theorem dX2_told_11 : decode cX2_told 11 = .ok (.invokevirtual 139, 3) := dk_182 0 139 (dk_at dksX2_told_0 11 rfl rfl)
theorem dX2_told_14 : decode cX2_told 14 = .ok (.ifCond .ne 9, 3) := dk_154 0 9 (dk_at dksX2_told_0 14 rfl rfl)
theorem dX2_told_17 : decode cX2_told 17 = .ok (.aload_n 0, 1) := dk_42 (dk_at dksX2_told_0 17 rfl rfl)
theorem dX2_told_18 : decode cX2_told 18 = .ok (.iconst 1, 1) := dk_4 (dk_at dksX2_told_0 18 rfl rfl)
theorem dX2_told_19 : decode cX2_told 19 = .ok (.invokevirtual 147, 3) := dk_182 0 147 (dk_at dksX2_told_0 19 rfl rfl)
theorem dX2_told_22 : decode cX2_told 22 = .ok (.ireturn, 1) := dk_172 (dk_at dksX2_told_0 22 rfl rfl)
theorem dX2_told_23 : decode cX2_told 23 = .ok (.iload_n 2, 1) := dk_28 (dk_at dksX2_told_0 23 rfl rfl)
theorem dX2_told_24 : decode cX2_told 24 = .ok (.iconst 5, 1) := dk_8 (dk_at dksX2_told_1 0 rfl rfl)
theorem dX2_told_25 : decode cX2_told 25 = .ok (.if_icmp .ne 19, 3) := dk_160 0 19 (dk_at dksX2_told_1 1 rfl rfl)
theorem dX2_told_28 : decode cX2_told 28 = .ok (.aload_n 0, 1) := dk_42 (dk_at dksX2_told_1 4 rfl rfl)
theorem dX2_told_29 : decode cX2_told 29 = .ok (.iload_n 1, 1) := dk_27 (dk_at dksX2_told_1 5 rfl rfl)
theorem dX2_told_30 : decode cX2_told 30 = .ok (.invokevirtual 230, 3) := dk_182 0 230 (dk_at dksX2_told_1 6 rfl rfl)
theorem dX2_told_33 : decode cX2_told 33 = .ok (.istore_n 3, 1) := dk_62 (dk_at dksX2_told_1 9 rfl rfl)
theorem dX2_told_34 : decode cX2_told 34 = .ok (.iload_n 3, 1) := dk_29 (dk_at dksX2_told_1 10 rfl rfl)
theorem dX2_told_35 : decode cX2_told 35 = .ok (.ifCond .le 9, 3) := dk_158 0 9 (dk_at dksX2_told_1 11 rfl rfl)
theorem dX2_told_38 : decode cX2_told 38 = .ok (.aload_n 0, 1) := dk_42 (dk_at dksX2_told_1 14 rfl rfl)
theorem dX2_told_39 : decode cX2_told 39 = .ok (.iload_n 3, 1) := dk_29 (dk_at dksX2_told_1 15 rfl rfl)
theorem dX2_told_40 : decode cX2_told 40 = .ok (.invokevirtual 147, 3) := dk_182 0 147 (dk_at dksX2_told_1 16 rfl rfl)
theorem dX2_told_43 : decode cX2_told 43 = .ok (.ireturn, 1) := dk_172 (dk_at dksX2_told_1 19 rfl rfl)
theorem dX2_told_44 : decode cX2_told 44 = .ok (.aload_n 0, 1) := dk_42 (dk_at dksX2_told_1 20 rfl rfl)
theorem dX2_told_45 : decode cX2_told 45 = .ok (.iconst 0, 1) := dk_3 (dk_at dksX2_told_1 21 rfl rfl)
theorem dX2_told_46 : decode cX2_told 46 = .ok (.putfield 112, 3) := dk_181 0 112 (dk_at dksX2_told_2 0 rfl rfl)
theorem dX2_told_49 : decode cX2_told 49 = .ok (.iconst 0, 1) := dk_3 (dk_at dksX2_told_2 3 rfl rfl)
theorem dX2_told_50 : decode cX2_told 50 = .ok (.istore_n 3, 1) := dk_62 (dk_at dksX2_told_2 4 rfl rfl)
theorem dX2_told_51 : decode cX2_told 51 = .ok (.iload_n 2, 1) := dk_28 (dk_at dksX2_told_2 5 rfl rfl)
theorem dX2_told_52 : decode cX2_told 52 = .ok (.tableswitch 101 0 4 #[36, 41, 48, 55, 95], 36) := by decide +kernel
theorem dX2_told_88 : decode cX2_told 88 = .ok (.aload_n 0, 1) := dk_42 (dk_at dksX2_told_4 0 rfl rfl)
theorem dX2_told_89 : decode cX2_told 89 = .ok (.getfield 136, 3) := dk_180 0 136 (dk_at dksX2_told_4 1 rfl rfl)
theorem dX2_told_92 : decode cX2_told 92 = .ok (.ireturn, 1) := dk_172 (dk_at dksX2_told_4 4 rfl rfl)
theorem dX2_told_93 : decode cX2_told 93 = .ok (.aload_n 0, 1) := dk_42 (dk_at dksX2_told_4 5 rfl rfl)
theorem dX2_told_94 : decode cX2_told 94 = .ok (.getfield 24, 3) := dk_180 0 24 (dk_at dksX2_told_4 6 rfl rfl)
theorem dX2_told_97 : decode cX2_told 97 = .ok (.iload_n 1, 1) := dk_27 (dk_at dksX2_told_4 9 rfl rfl)
theorem dX2_told_98 : decode cX2_told 98 = .ok (.iaload, 1) := dk_46 (dk_at dksX2_told_4 10 rfl rfl)
theorem dX2_told_99 : decode cX2_told 99 = .ok (.ireturn, 1) := dk_172 (dk_at dksX2_told_4 11 rfl rfl)
theorem dX2_told_100 : decode cX2_told 100 = .ok (.aload_n 0, 1) := dk_42 (dk_at dksX2_told_4 12 rfl rfl)
theorem dX2_told_101 : decode cX2_told 101 = .ok (.getfield 36, 3) := dk_180 0 36 (dk_at dksX2_told_4 13 rfl rfl)
theorem dX2_told_104 : decode cX2_told 104 = .ok (.iload_n 1, 1) := dk_27 (dk_at dksX2_told_4 16 rfl rfl)
theorem dX2_told_105 : decode cX2_told 105 = .ok (.iaload, 1) := dk_46 (dk_at dksX2_told_4 17 rfl rfl)
theorem dX2_told_106 : decode cX2_told 106 = .ok (.ireturn, 1) := dk_172 (dk_at dksX2_told_4 18 rfl rfl)
theorem dX2_told_107 : decode cX2_told 107 = .ok (.iconst 0, 1) := dk_3 (dk_at dksX2_told_4 19 rfl rfl)
theorem dX2_told_108 : decode cX2_told 108 = .ok (.istore 4, 2) := dk_54 4 (dk_at dksX2_told_4 20 rfl rfl)
theorem dX2_told_110 : decode cX2_told 110 = .ok (.iload 4, 2) := dk_21 4 (dk_at dksX2_told_4 22 rfl rfl)
theorem dX2_told_112 : decode cX2_told 112 = .ok (.iconst 4, 1) := dk_7 (dk_at dksX2_told_5 0 rfl rfl)
theorem dX2_told_113 : decode cX2_told 113 = .ok (.if_icmp .ge 32, 3) := dk_162 0 32 (dk_at dksX2_told_5 1 rfl rfl)
theorem dX2_told_116 : decode cX2_told 116 = .ok (.iload_n 3, 1) := dk_29 (dk_at dksX2_told_5 4 rfl rfl)
theorem dX2_told_117 : decode cX2_told 117 = .ok (.aload_n 0, 1) := dk_42 (dk_at dksX2_told_5 5 rfl rfl)
theorem dX2_told_118 : decode cX2_told 118 = .ok (.getfield 27, 3) := dk_180 0 27 (dk_at dksX2_told_5 6 rfl rfl)
theorem dX2_told_121 : decode cX2_told 121 = .ok (.iconst 4, 1) := dk_7 (dk_at dksX2_told_5 9 rfl rfl)
theorem dX2_told_122 : decode cX2_told 122 = .ok (.iload_n 1, 1) := dk_27 (dk_at dksX2_told_5 10 rfl rfl)
theorem dX2_told_123 : decode cX2_told 123 = .ok (.imul, 1) := dk_104 (dk_at dksX2_told_5 11 rfl rfl)
theorem dX2_told_124 : decode cX2_told 124 = .ok (.iload 4, 2) := dk_21 4 (dk_at dksX2_told_5 12 rfl rfl)
theorem dX2_told_126 : decode cX2_told 126 = .ok (.iadd, 1) := dk_96 (dk_at dksX2_told_5 14 rfl rfl)
theorem dX2_told_127 : decode cX2_told 127 = .ok (.iaload, 1) := dk_46 (dk_at dksX2_told_5 15 rfl rfl)
theorem dX2_told_128 : decode cX2_told 128 = .ok (.iconst (-1), 1) := dk_2 (dk_at dksX2_told_5 16 rfl rfl)
theorem dX2_told_129 : decode cX2_told 129 = .ok (.if_icmp .ne 7, 3) := dk_160 0 7 (dk_at dksX2_told_5 17 rfl rfl)
theorem dX2_told_132 : decode cX2_told 132 = .ok (.iconst 0, 1) := dk_3 (dk_at dksX2_told_5 20 rfl rfl)
theorem dX2_told_133 : decode cX2_told 133 = .ok (.goto 4, 3) := dk_167 0 4 (dk_at dksX2_told_5 21 rfl rfl)
theorem dX2_told_136 : decode cX2_told 136 = .ok (.iconst 1, 1) := dk_4 (dk_at dksX2_told_6 0 rfl rfl)
theorem dX2_told_137 : decode cX2_told 137 = .ok (.iadd, 1) := dk_96 (dk_at dksX2_told_6 1 rfl rfl)
theorem dX2_told_138 : decode cX2_told 138 = .ok (.istore_n 3, 1) := dk_62 (dk_at dksX2_told_6 2 rfl rfl)
theorem dX2_told_139 : decode cX2_told 139 = .ok (.iinc 4 1, 3) := dk_132 4 1 (dk_at dksX2_told_6 3 rfl rfl)
theorem dX2_told_142 : decode cX2_told 142 = .ok (.goto (-32), 3) := dk_167 255 224 (dk_at dksX2_told_6 6 rfl rfl)
theorem dX2_told_145 : decode cX2_told 145 = .ok (.iload_n 3, 1) := dk_29 (dk_at dksX2_told_6 9 rfl rfl)
theorem dX2_told_146 : decode cX2_told 146 = .ok (.ireturn, 1) := dk_172 (dk_at dksX2_told_6 10 rfl rfl)
theorem dX2_told_147 : decode cX2_told 147 = .ok (.aload_n 0, 1) := dk_42 (dk_at dksX2_told_6 11 rfl rfl)
theorem dX2_told_148 : decode cX2_told 148 = .ok (.iload_n 1, 1) := dk_27 (dk_at dksX2_told_6 12 rfl rfl)
theorem dX2_told_149 : decode cX2_told 149 = .ok (.invokevirtual 233, 3) := dk_182 0 233 (dk_at dksX2_told_6 13 rfl rfl)
theorem dX2_told_152 : decode cX2_told 152 = .ok (.ireturn, 1) := dk_172 (dk_at dksX2_told_6 16 rfl rfl)
theorem dX2_told_153 : decode cX2_told 153 = .ok (.iconst 0, 1) := dk_3 (dk_at dksX2_told_6 17 rfl rfl)
theorem dX2_told_154 : decode cX2_told 154 = .ok (.istore 4, 2) := dk_54 4 (dk_at dksX2_told_6 18 rfl rfl)
theorem dX2_told_156 : decode cX2_told 156 = .ok (.iload 4, 2) := dk_21 4 (dk_at dksX2_told_6 20 rfl rfl)
theorem dX2_told_158 : decode cX2_told 158 = .ok (.bipush 121, 2) := dk_16 121 (dk_at dksX2_told_6 22 rfl rfl)
theorem dX2_told_160 : decode cX2_told 160 = .ok (.if_icmp .ge 48, 3) := dk_162 0 48 (dk_at dksX2_told_7 0 rfl rfl)
theorem dX2_told_163 : decode cX2_told 163 = .ok (.aload_n 0, 1) := dk_42 (dk_at dksX2_told_7 3 rfl rfl)
theorem dX2_told_164 : decode cX2_told 164 = .ok (.getfield 66, 3) := dk_180 0 66 (dk_at dksX2_told_7 4 rfl rfl)
theorem dX2_told_167 : decode cX2_told 167 = .ok (.iload_n 1, 1) := dk_27 (dk_at dksX2_told_7 7 rfl rfl)
theorem dX2_told_168 : decode cX2_told 168 = .ok (.iload 4, 2) := dk_21 4 (dk_at dksX2_told_7 8 rfl rfl)
theorem dX2_told_170 : decode cX2_told 170 = .ok (.invokestatic 173, 3) := dk_184 0 173 (dk_at dksX2_told_7 10 rfl rfl)
theorem dX2_told_173 : decode cX2_told 173 = .ok (.laload, 1) := dk_47 (dk_at dksX2_told_7 13 rfl rfl)
theorem dX2_told_174 : decode cX2_told 174 = .ok (.lconst 0, 1) := dk_9 (dk_at dksX2_told_7 14 rfl rfl)
theorem dX2_told_175 : decode cX2_told 175 = .ok (.lcmp, 1) := dk_148 (dk_at dksX2_told_7 15 rfl rfl)
theorem dX2_told_176 : decode cX2_told 176 = .ok (.ifCond .gt 19, 3) := dk_157 0 19 (dk_at dksX2_told_7 16 rfl rfl)
theorem dX2_told_179 : decode cX2_told 179 = .ok (.aload_n 0, 1) := dk_42 (dk_at dksX2_told_7 19 rfl rfl)
theorem dX2_told_180 : decode cX2_told 180 = .ok (.getfield 69, 3) := dk_180 0 69 (dk_at dksX2_told_7 20 rfl rfl)
theorem dX2_told_183 : decode cX2_told 183 = .ok (.iload_n 1, 1) := dk_27 (dk_at dksX2_told_7 23 rfl rfl)
theorem dX2_told_184 : decode cX2_told 184 = .ok (.iload 4, 2) := dk_21 4 (dk_at dksX2_told_8 0 rfl rfl)
theorem dX2_told_186 : decode cX2_told 186 = .ok (.invokestatic 173, 3) := dk_184 0 173 (dk_at dksX2_told_8 2 rfl rfl)
theorem dX2_told_189 : decode cX2_told 189 = .ok (.laload, 1) := dk_47 (dk_at dksX2_told_8 5 rfl rfl)
theorem dX2_told_190 : decode cX2_told 190 = .ok (.lconst 0, 1) := dk_9 (dk_at dksX2_told_8 6 rfl rfl)
theorem dX2_told_191 : decode cX2_told 191 = .ok (.lcmp, 1) := dk_148 (dk_at dksX2_told_8 7 rfl rfl)
theorem dX2_told_192 : decode cX2_told 192 = .ok (.ifCond .le 8, 3) := dk_158 0 8 (dk_at dksX2_told_8 8 rfl rfl)
theorem dX2_told_195 : decode cX2_told 195 = .ok (.iload 4, 2) := dk_21 4 (dk_at dksX2_told_8 11 rfl rfl)
theorem dX2_told_197 : decode cX2_told 197 = .ok (.goto 4, 3) := dk_167 0 4 (dk_at dksX2_told_8 13 rfl rfl)
theorem dX2_told_200 : decode cX2_told 200 = .ok (.iload_n 3, 1) := dk_29 (dk_at dksX2_told_8 16 rfl rfl)
theorem dX2_told_201 : decode cX2_told 201 = .ok (.istore_n 3, 1) := dk_62 (dk_at dksX2_told_8 17 rfl rfl)
theorem dX2_told_202 : decode cX2_told 202 = .ok (.iinc 4 1, 3) := dk_132 4 1 (dk_at dksX2_told_8 18 rfl rfl)
theorem dX2_told_205 : decode cX2_told 205 = .ok (.goto (-49), 3) := dk_167 255 207 (dk_at dksX2_told_8 21 rfl rfl)
theorem dX2_told_208 : decode cX2_told 208 = .ok (.iload_n 3, 1) := dk_29 (dk_at dksX2_told_9 0 rfl rfl)
theorem dX2_told_209 : decode cX2_told 209 = .ok (.ireturn, 1) := dk_172 (dk_at dksX2_told_9 1 rfl rfl)
abbrev cX2_wrongTable : ByteArray := prog_13_method_39_code
def yX2_wrongTable : MethodName := ⟨RX2, "wrongTable", "(I)I"⟩
def dkwX2_wrongTable_1 : List UInt8 := [51, 153, 0, 8, 16, 9, 167, 0, 4, 3, 172]
abbrev dktX2_wrongTable_1 : List UInt8 := dkwX2_wrongTable_1 ++ []
def dkwX2_wrongTable_0 : List UInt8 := [42, 27, 182, 0, 139, 154, 0, 5, 4, 172, 42, 182, 0, 220, 42, 27, 182, 0, 223, 42, 180, 0, 75, 27]
abbrev dktX2_wrongTable_0 : List UInt8 := dkwX2_wrongTable_0 ++ dktX2_wrongTable_1
theorem dksX2_wrongTable_0 : cX2_wrongTable.data.toList.drop 0 = dktX2_wrongTable_0 := by decide +kernel
theorem dksX2_wrongTable_1 : cX2_wrongTable.data.toList.drop 24 = dktX2_wrongTable_1 := dk_seg dksX2_wrongTable_0 24 rfl rfl
theorem dX2_wrongTable_0 : decode cX2_wrongTable 0 = .ok (.aload_n 0, 1) := dk_42 (dk_at dksX2_wrongTable_0 0 rfl rfl)
theorem dX2_wrongTable_1 : decode cX2_wrongTable 1 = .ok (.iload_n 1, 1) := dk_27 (dk_at dksX2_wrongTable_0 1 rfl rfl)
theorem dX2_wrongTable_2 : decode cX2_wrongTable 2 = .ok (.invokevirtual 139, 3) := dk_182 0 139 (dk_at dksX2_wrongTable_0 2 rfl rfl)
theorem dX2_wrongTable_5 : decode cX2_wrongTable 5 = .ok (.ifCond .ne 5, 3) := dk_154 0 5 (dk_at dksX2_wrongTable_0 5 rfl rfl)
theorem dX2_wrongTable_8 : decode cX2_wrongTable 8 = .ok (.iconst 1, 1) := dk_4 (dk_at dksX2_wrongTable_0 8 rfl rfl)
theorem dX2_wrongTable_9 : decode cX2_wrongTable 9 = .ok (.ireturn, 1) := dk_172 (dk_at dksX2_wrongTable_0 9 rfl rfl)
theorem dX2_wrongTable_10 : decode cX2_wrongTable 10 = .ok (.aload_n 0, 1) := dk_42 (dk_at dksX2_wrongTable_0 10 rfl rfl)
theorem dX2_wrongTable_11 : decode cX2_wrongTable 11 = .ok (.invokevirtual 220, 3) := dk_182 0 220 (dk_at dksX2_wrongTable_0 11 rfl rfl)
theorem dX2_wrongTable_14 : decode cX2_wrongTable 14 = .ok (.aload_n 0, 1) := dk_42 (dk_at dksX2_wrongTable_0 14 rfl rfl)
theorem dX2_wrongTable_15 : decode cX2_wrongTable 15 = .ok (.iload_n 1, 1) := dk_27 (dk_at dksX2_wrongTable_0 15 rfl rfl)
theorem dX2_wrongTable_16 : decode cX2_wrongTable 16 = .ok (.invokevirtual 223, 3) := dk_182 0 223 (dk_at dksX2_wrongTable_0 16 rfl rfl)
theorem dX2_wrongTable_19 : decode cX2_wrongTable 19 = .ok (.aload_n 0, 1) := dk_42 (dk_at dksX2_wrongTable_0 19 rfl rfl)
theorem dX2_wrongTable_20 : decode cX2_wrongTable 20 = .ok (.getfield 75, 3) := dk_180 0 75 (dk_at dksX2_wrongTable_0 20 rfl rfl)
theorem dX2_wrongTable_23 : decode cX2_wrongTable 23 = .ok (.iload_n 1, 1) := dk_27 (dk_at dksX2_wrongTable_0 23 rfl rfl)
theorem dX2_wrongTable_24 : decode cX2_wrongTable 24 = .ok (.baload, 1) := dk_51 (dk_at dksX2_wrongTable_1 0 rfl rfl)
theorem dX2_wrongTable_25 : decode cX2_wrongTable 25 = .ok (.ifCond .eq 8, 3) := dk_153 0 8 (dk_at dksX2_wrongTable_1 1 rfl rfl)
theorem dX2_wrongTable_28 : decode cX2_wrongTable 28 = .ok (.bipush 9, 2) := dk_16 9 (dk_at dksX2_wrongTable_1 4 rfl rfl)
theorem dX2_wrongTable_30 : decode cX2_wrongTable 30 = .ok (.goto 4, 3) := dk_167 0 4 (dk_at dksX2_wrongTable_1 6 rfl rfl)
theorem dX2_wrongTable_33 : decode cX2_wrongTable 33 = .ok (.iconst 0, 1) := dk_3 (dk_at dksX2_wrongTable_1 9 rfl rfl)
theorem dX2_wrongTable_34 : decode cX2_wrongTable 34 = .ok (.ireturn, 1) := dk_172 (dk_at dksX2_wrongTable_1 10 rfl rfl)
abbrev cX2_usual : ByteArray := prog_13_method_40_code
def yX2_usual : MethodName := ⟨RX2, "usual", "()V"⟩
def dkwX2_usual_0 : List UInt8 := [3, 60, 27, 42, 180, 0, 136, 162, 0, 16, 42, 180, 0, 48, 27, 3, 79, 132, 1, 1, 167, 255, 238, 177]
abbrev dktX2_usual_0 : List UInt8 := dkwX2_usual_0 ++ []
theorem dksX2_usual_0 : cX2_usual.data.toList.drop 0 = dktX2_usual_0 := by decide +kernel
theorem dX2_usual_0 : decode cX2_usual 0 = .ok (.iconst 0, 1) := dk_3 (dk_at dksX2_usual_0 0 rfl rfl)
theorem dX2_usual_1 : decode cX2_usual 1 = .ok (.istore_n 1, 1) := dk_60 (dk_at dksX2_usual_0 1 rfl rfl)
theorem dX2_usual_2 : decode cX2_usual 2 = .ok (.iload_n 1, 1) := dk_27 (dk_at dksX2_usual_0 2 rfl rfl)
theorem dX2_usual_3 : decode cX2_usual 3 = .ok (.aload_n 0, 1) := dk_42 (dk_at dksX2_usual_0 3 rfl rfl)
theorem dX2_usual_4 : decode cX2_usual 4 = .ok (.getfield 136, 3) := dk_180 0 136 (dk_at dksX2_usual_0 4 rfl rfl)
theorem dX2_usual_7 : decode cX2_usual 7 = .ok (.if_icmp .ge 16, 3) := dk_162 0 16 (dk_at dksX2_usual_0 7 rfl rfl)
theorem dX2_usual_10 : decode cX2_usual 10 = .ok (.aload_n 0, 1) := dk_42 (dk_at dksX2_usual_0 10 rfl rfl)
theorem dX2_usual_11 : decode cX2_usual 11 = .ok (.getfield 48, 3) := dk_180 0 48 (dk_at dksX2_usual_0 11 rfl rfl)
theorem dX2_usual_14 : decode cX2_usual 14 = .ok (.iload_n 1, 1) := dk_27 (dk_at dksX2_usual_0 14 rfl rfl)
theorem dX2_usual_15 : decode cX2_usual 15 = .ok (.iconst 0, 1) := dk_3 (dk_at dksX2_usual_0 15 rfl rfl)
theorem dX2_usual_16 : decode cX2_usual 16 = .ok (.iastore, 1) := dk_79 (dk_at dksX2_usual_0 16 rfl rfl)
theorem dX2_usual_17 : decode cX2_usual 17 = .ok (.iinc 1 1, 3) := dk_132 1 1 (dk_at dksX2_usual_0 17 rfl rfl)
theorem dX2_usual_20 : decode cX2_usual 20 = .ok (.goto (-18), 3) := dk_167 255 238 (dk_at dksX2_usual_0 20 rfl rfl)
theorem dX2_usual_23 : decode cX2_usual 23 = .ok (.return_, 1) := dk_177 (dk_at dksX2_usual_0 23 rfl rfl)
abbrev cX2_tables : ByteArray := prog_13_method_31_code
def yX2_tables : MethodName := ⟨RX2, "tables", "(I)V"⟩
def dkwX2_tables_5 : List UInt8 := [84, 167, 0, 14, 42, 28, 182, 0, 184, 42, 28, 33, 182, 0, 188, 132, 2, 1, 167, 255, 122, 177]
abbrev dktX2_tables_5 : List UInt8 := dkwX2_tables_5 ++ []
def dkwX2_tables_4 : List UInt8 := [42, 3, 181, 0, 165, 42, 28, 182, 0, 180, 66, 42, 180, 0, 165, 153, 0, 13, 42, 180, 0, 75, 28, 4]
abbrev dktX2_tables_4 : List UInt8 := dkwX2_tables_4 ++ dktX2_tables_5
def dkwX2_tables_3 : List UInt8 := [28, 51, 153, 0, 6, 167, 0, 58, 42, 42, 180, 0, 79, 182, 0, 176, 42, 42, 180, 0, 82, 182, 0, 176]
abbrev dktX2_tables_3 : List UInt8 := dkwX2_tables_3 ++ dktX2_tables_4
def dkwX2_tables_2 : List UInt8 := [29, 96, 46, 51, 153, 0, 10, 42, 180, 0, 75, 28, 4, 84, 132, 3, 1, 167, 255, 209, 42, 180, 0, 75]
abbrev dktX2_tables_2 : List UInt8 := dkwX2_tables_2 ++ dktX2_tables_3
def dkwX2_tables_1 : List UInt8 := [180, 0, 27, 7, 28, 104, 29, 96, 46, 2, 159, 0, 28, 42, 180, 0, 75, 42, 180, 0, 27, 7, 28, 104]
abbrev dktX2_tables_1 : List UInt8 := dkwX2_tables_1 ++ dktX2_tables_2
def dkwX2_tables_0 : List UInt8 := [3, 61, 28, 27, 163, 0, 135, 42, 180, 0, 75, 28, 3, 84, 3, 62, 29, 7, 162, 0, 48, 42]
abbrev dktX2_tables_0 : List UInt8 := dkwX2_tables_0 ++ dktX2_tables_1
theorem dksX2_tables_0 : cX2_tables.data.toList.drop 0 = dktX2_tables_0 := by decide +kernel
theorem dksX2_tables_1 : cX2_tables.data.toList.drop 22 = dktX2_tables_1 := dk_seg dksX2_tables_0 22 rfl rfl
theorem dksX2_tables_2 : cX2_tables.data.toList.drop 46 = dktX2_tables_2 := dk_seg dksX2_tables_1 24 rfl rfl
theorem dksX2_tables_3 : cX2_tables.data.toList.drop 70 = dktX2_tables_3 := dk_seg dksX2_tables_2 24 rfl rfl
theorem dksX2_tables_4 : cX2_tables.data.toList.drop 94 = dktX2_tables_4 := dk_seg dksX2_tables_3 24 rfl rfl
theorem dksX2_tables_5 : cX2_tables.data.toList.drop 118 = dktX2_tables_5 := dk_seg dksX2_tables_4 24 rfl rfl
theorem dX2_tables_0 : decode cX2_tables 0 = .ok (.iconst 0, 1) := dk_3 (dk_at dksX2_tables_0 0 rfl rfl)
theorem dX2_tables_1 : decode cX2_tables 1 = .ok (.istore_n 2, 1) := dk_61 (dk_at dksX2_tables_0 1 rfl rfl)
theorem dX2_tables_2 : decode cX2_tables 2 = .ok (.iload_n 2, 1) := dk_28 (dk_at dksX2_tables_0 2 rfl rfl)
theorem dX2_tables_3 : decode cX2_tables 3 = .ok (.iload_n 1, 1) := dk_27 (dk_at dksX2_tables_0 3 rfl rfl)
theorem dX2_tables_4 : decode cX2_tables 4 = .ok (.if_icmp .gt 135, 3) := dk_163 0 135 (dk_at dksX2_tables_0 4 rfl rfl)
theorem dX2_tables_7 : decode cX2_tables 7 = .ok (.aload_n 0, 1) := dk_42 (dk_at dksX2_tables_0 7 rfl rfl)
theorem dX2_tables_8 : decode cX2_tables 8 = .ok (.getfield 75, 3) := dk_180 0 75 (dk_at dksX2_tables_0 8 rfl rfl)
theorem dX2_tables_11 : decode cX2_tables 11 = .ok (.iload_n 2, 1) := dk_28 (dk_at dksX2_tables_0 11 rfl rfl)
theorem dX2_tables_12 : decode cX2_tables 12 = .ok (.iconst 0, 1) := dk_3 (dk_at dksX2_tables_0 12 rfl rfl)
theorem dX2_tables_13 : decode cX2_tables 13 = .ok (.bastore, 1) := dk_84 (dk_at dksX2_tables_0 13 rfl rfl)
theorem dX2_tables_14 : decode cX2_tables 14 = .ok (.iconst 0, 1) := dk_3 (dk_at dksX2_tables_0 14 rfl rfl)
theorem dX2_tables_15 : decode cX2_tables 15 = .ok (.istore_n 3, 1) := dk_62 (dk_at dksX2_tables_0 15 rfl rfl)
theorem dX2_tables_16 : decode cX2_tables 16 = .ok (.iload_n 3, 1) := dk_29 (dk_at dksX2_tables_0 16 rfl rfl)
theorem dX2_tables_17 : decode cX2_tables 17 = .ok (.iconst 4, 1) := dk_7 (dk_at dksX2_tables_0 17 rfl rfl)
theorem dX2_tables_18 : decode cX2_tables 18 = .ok (.if_icmp .ge 48, 3) := dk_162 0 48 (dk_at dksX2_tables_0 18 rfl rfl)
theorem dX2_tables_21 : decode cX2_tables 21 = .ok (.aload_n 0, 1) := dk_42 (dk_at dksX2_tables_0 21 rfl rfl)
theorem dX2_tables_22 : decode cX2_tables 22 = .ok (.getfield 27, 3) := dk_180 0 27 (dk_at dksX2_tables_1 0 rfl rfl)
theorem dX2_tables_25 : decode cX2_tables 25 = .ok (.iconst 4, 1) := dk_7 (dk_at dksX2_tables_1 3 rfl rfl)
theorem dX2_tables_26 : decode cX2_tables 26 = .ok (.iload_n 2, 1) := dk_28 (dk_at dksX2_tables_1 4 rfl rfl)
theorem dX2_tables_27 : decode cX2_tables 27 = .ok (.imul, 1) := dk_104 (dk_at dksX2_tables_1 5 rfl rfl)
theorem dX2_tables_28 : decode cX2_tables 28 = .ok (.iload_n 3, 1) := dk_29 (dk_at dksX2_tables_1 6 rfl rfl)
theorem dX2_tables_29 : decode cX2_tables 29 = .ok (.iadd, 1) := dk_96 (dk_at dksX2_tables_1 7 rfl rfl)
theorem dX2_tables_30 : decode cX2_tables 30 = .ok (.iaload, 1) := dk_46 (dk_at dksX2_tables_1 8 rfl rfl)
theorem dX2_tables_31 : decode cX2_tables 31 = .ok (.iconst (-1), 1) := dk_2 (dk_at dksX2_tables_1 9 rfl rfl)
theorem dX2_tables_32 : decode cX2_tables 32 = .ok (.if_icmp .eq 28, 3) := dk_159 0 28 (dk_at dksX2_tables_1 10 rfl rfl)
theorem dX2_tables_35 : decode cX2_tables 35 = .ok (.aload_n 0, 1) := dk_42 (dk_at dksX2_tables_1 13 rfl rfl)
theorem dX2_tables_36 : decode cX2_tables 36 = .ok (.getfield 75, 3) := dk_180 0 75 (dk_at dksX2_tables_1 14 rfl rfl)
theorem dX2_tables_39 : decode cX2_tables 39 = .ok (.aload_n 0, 1) := dk_42 (dk_at dksX2_tables_1 17 rfl rfl)
theorem dX2_tables_40 : decode cX2_tables 40 = .ok (.getfield 27, 3) := dk_180 0 27 (dk_at dksX2_tables_1 18 rfl rfl)
theorem dX2_tables_43 : decode cX2_tables 43 = .ok (.iconst 4, 1) := dk_7 (dk_at dksX2_tables_1 21 rfl rfl)
theorem dX2_tables_44 : decode cX2_tables 44 = .ok (.iload_n 2, 1) := dk_28 (dk_at dksX2_tables_1 22 rfl rfl)
theorem dX2_tables_45 : decode cX2_tables 45 = .ok (.imul, 1) := dk_104 (dk_at dksX2_tables_1 23 rfl rfl)
theorem dX2_tables_46 : decode cX2_tables 46 = .ok (.iload_n 3, 1) := dk_29 (dk_at dksX2_tables_2 0 rfl rfl)
theorem dX2_tables_47 : decode cX2_tables 47 = .ok (.iadd, 1) := dk_96 (dk_at dksX2_tables_2 1 rfl rfl)
theorem dX2_tables_48 : decode cX2_tables 48 = .ok (.iaload, 1) := dk_46 (dk_at dksX2_tables_2 2 rfl rfl)
theorem dX2_tables_49 : decode cX2_tables 49 = .ok (.baload, 1) := dk_51 (dk_at dksX2_tables_2 3 rfl rfl)
theorem dX2_tables_50 : decode cX2_tables 50 = .ok (.ifCond .eq 10, 3) := dk_153 0 10 (dk_at dksX2_tables_2 4 rfl rfl)
theorem dX2_tables_53 : decode cX2_tables 53 = .ok (.aload_n 0, 1) := dk_42 (dk_at dksX2_tables_2 7 rfl rfl)
theorem dX2_tables_54 : decode cX2_tables 54 = .ok (.getfield 75, 3) := dk_180 0 75 (dk_at dksX2_tables_2 8 rfl rfl)
theorem dX2_tables_57 : decode cX2_tables 57 = .ok (.iload_n 2, 1) := dk_28 (dk_at dksX2_tables_2 11 rfl rfl)
theorem dX2_tables_58 : decode cX2_tables 58 = .ok (.iconst 1, 1) := dk_4 (dk_at dksX2_tables_2 12 rfl rfl)
theorem dX2_tables_59 : decode cX2_tables 59 = .ok (.bastore, 1) := dk_84 (dk_at dksX2_tables_2 13 rfl rfl)
theorem dX2_tables_60 : decode cX2_tables 60 = .ok (.iinc 3 1, 3) := dk_132 3 1 (dk_at dksX2_tables_2 14 rfl rfl)
theorem dX2_tables_63 : decode cX2_tables 63 = .ok (.goto (-47), 3) := dk_167 255 209 (dk_at dksX2_tables_2 17 rfl rfl)
theorem dX2_tables_66 : decode cX2_tables 66 = .ok (.aload_n 0, 1) := dk_42 (dk_at dksX2_tables_2 20 rfl rfl)
theorem dX2_tables_67 : decode cX2_tables 67 = .ok (.getfield 75, 3) := dk_180 0 75 (dk_at dksX2_tables_2 21 rfl rfl)
theorem dX2_tables_70 : decode cX2_tables 70 = .ok (.iload_n 2, 1) := dk_28 (dk_at dksX2_tables_3 0 rfl rfl)
theorem dX2_tables_71 : decode cX2_tables 71 = .ok (.baload, 1) := dk_51 (dk_at dksX2_tables_3 1 rfl rfl)
theorem dX2_tables_72 : decode cX2_tables 72 = .ok (.ifCond .eq 6, 3) := dk_153 0 6 (dk_at dksX2_tables_3 2 rfl rfl)
theorem dX2_tables_75 : decode cX2_tables 75 = .ok (.goto 58, 3) := dk_167 0 58 (dk_at dksX2_tables_3 5 rfl rfl)
theorem dX2_tables_78 : decode cX2_tables 78 = .ok (.aload_n 0, 1) := dk_42 (dk_at dksX2_tables_3 8 rfl rfl)
theorem dX2_tables_79 : decode cX2_tables 79 = .ok (.aload_n 0, 1) := dk_42 (dk_at dksX2_tables_3 9 rfl rfl)
theorem dX2_tables_80 : decode cX2_tables 80 = .ok (.getfield 79, 3) := dk_180 0 79 (dk_at dksX2_tables_3 10 rfl rfl)
theorem dX2_tables_83 : decode cX2_tables 83 = .ok (.invokevirtual 176, 3) := dk_182 0 176 (dk_at dksX2_tables_3 13 rfl rfl)
theorem dX2_tables_86 : decode cX2_tables 86 = .ok (.aload_n 0, 1) := dk_42 (dk_at dksX2_tables_3 16 rfl rfl)
theorem dX2_tables_87 : decode cX2_tables 87 = .ok (.aload_n 0, 1) := dk_42 (dk_at dksX2_tables_3 17 rfl rfl)
theorem dX2_tables_88 : decode cX2_tables 88 = .ok (.getfield 82, 3) := dk_180 0 82 (dk_at dksX2_tables_3 18 rfl rfl)
theorem dX2_tables_91 : decode cX2_tables 91 = .ok (.invokevirtual 176, 3) := dk_182 0 176 (dk_at dksX2_tables_3 21 rfl rfl)
theorem dX2_tables_94 : decode cX2_tables 94 = .ok (.aload_n 0, 1) := dk_42 (dk_at dksX2_tables_4 0 rfl rfl)
theorem dX2_tables_95 : decode cX2_tables 95 = .ok (.iconst 0, 1) := dk_3 (dk_at dksX2_tables_4 1 rfl rfl)
theorem dX2_tables_96 : decode cX2_tables 96 = .ok (.putfield 165, 3) := dk_181 0 165 (dk_at dksX2_tables_4 2 rfl rfl)
theorem dX2_tables_99 : decode cX2_tables 99 = .ok (.aload_n 0, 1) := dk_42 (dk_at dksX2_tables_4 5 rfl rfl)
theorem dX2_tables_100 : decode cX2_tables 100 = .ok (.iload_n 2, 1) := dk_28 (dk_at dksX2_tables_4 6 rfl rfl)
theorem dX2_tables_101 : decode cX2_tables 101 = .ok (.invokevirtual 180, 3) := dk_182 0 180 (dk_at dksX2_tables_4 7 rfl rfl)
theorem dX2_tables_104 : decode cX2_tables 104 = .ok (.lstore_n 3, 1) := dk_66 (dk_at dksX2_tables_4 10 rfl rfl)
theorem dX2_tables_105 : decode cX2_tables 105 = .ok (.aload_n 0, 1) := dk_42 (dk_at dksX2_tables_4 11 rfl rfl)
theorem dX2_tables_106 : decode cX2_tables 106 = .ok (.getfield 165, 3) := dk_180 0 165 (dk_at dksX2_tables_4 12 rfl rfl)
theorem dX2_tables_109 : decode cX2_tables 109 = .ok (.ifCond .eq 13, 3) := dk_153 0 13 (dk_at dksX2_tables_4 15 rfl rfl)
theorem dX2_tables_112 : decode cX2_tables 112 = .ok (.aload_n 0, 1) := dk_42 (dk_at dksX2_tables_4 18 rfl rfl)
theorem dX2_tables_113 : decode cX2_tables 113 = .ok (.getfield 75, 3) := dk_180 0 75 (dk_at dksX2_tables_4 19 rfl rfl)
theorem dX2_tables_116 : decode cX2_tables 116 = .ok (.iload_n 2, 1) := dk_28 (dk_at dksX2_tables_4 22 rfl rfl)
theorem dX2_tables_117 : decode cX2_tables 117 = .ok (.iconst 1, 1) := dk_4 (dk_at dksX2_tables_4 23 rfl rfl)
theorem dX2_tables_118 : decode cX2_tables 118 = .ok (.bastore, 1) := dk_84 (dk_at dksX2_tables_5 0 rfl rfl)
theorem dX2_tables_119 : decode cX2_tables 119 = .ok (.goto 14, 3) := dk_167 0 14 (dk_at dksX2_tables_5 1 rfl rfl)
theorem dX2_tables_122 : decode cX2_tables 122 = .ok (.aload_n 0, 1) := dk_42 (dk_at dksX2_tables_5 4 rfl rfl)
theorem dX2_tables_123 : decode cX2_tables 123 = .ok (.iload_n 2, 1) := dk_28 (dk_at dksX2_tables_5 5 rfl rfl)
theorem dX2_tables_124 : decode cX2_tables 124 = .ok (.invokevirtual 184, 3) := dk_182 0 184 (dk_at dksX2_tables_5 6 rfl rfl)
theorem dX2_tables_127 : decode cX2_tables 127 = .ok (.aload_n 0, 1) := dk_42 (dk_at dksX2_tables_5 9 rfl rfl)
theorem dX2_tables_128 : decode cX2_tables 128 = .ok (.iload_n 2, 1) := dk_28 (dk_at dksX2_tables_5 10 rfl rfl)
theorem dX2_tables_129 : decode cX2_tables 129 = .ok (.lload_n 3, 1) := dk_33 (dk_at dksX2_tables_5 11 rfl rfl)
theorem dX2_tables_130 : decode cX2_tables 130 = .ok (.invokevirtual 188, 3) := dk_182 0 188 (dk_at dksX2_tables_5 12 rfl rfl)
theorem dX2_tables_133 : decode cX2_tables 133 = .ok (.iinc 2 1, 3) := dk_132 2 1 (dk_at dksX2_tables_5 15 rfl rfl)
theorem dX2_tables_136 : decode cX2_tables 136 = .ok (.goto (-134), 3) := dk_167 255 122 (dk_at dksX2_tables_5 18 rfl rfl)
theorem dX2_tables_139 : decode cX2_tables 139 = .ok (.return_, 1) := dk_177 (dk_at dksX2_tables_5 21 rfl rfl)
abbrev cX2_clear : ByteArray := prog_13_method_28_code
def yX2_clear : MethodName := ⟨RX2, "clear", "([J)V"⟩
def dkwX2_clear_0 : List UInt8 := [3, 61, 28, 43, 190, 162, 0, 13, 43, 28, 9, 80, 132, 2, 1, 167, 255, 243, 177]
abbrev dktX2_clear_0 : List UInt8 := dkwX2_clear_0 ++ []
theorem dksX2_clear_0 : cX2_clear.data.toList.drop 0 = dktX2_clear_0 := by decide +kernel
theorem dX2_clear_0 : decode cX2_clear 0 = .ok (.iconst 0, 1) := dk_3 (dk_at dksX2_clear_0 0 rfl rfl)
theorem dX2_clear_1 : decode cX2_clear 1 = .ok (.istore_n 2, 1) := dk_61 (dk_at dksX2_clear_0 1 rfl rfl)
theorem dX2_clear_2 : decode cX2_clear 2 = .ok (.iload_n 2, 1) := dk_28 (dk_at dksX2_clear_0 2 rfl rfl)
theorem dX2_clear_3 : decode cX2_clear 3 = .ok (.aload_n 1, 1) := dk_43 (dk_at dksX2_clear_0 3 rfl rfl)
theorem dX2_clear_4 : decode cX2_clear 4 = .ok (.arraylength, 1) := dk_190 (dk_at dksX2_clear_0 4 rfl rfl)
theorem dX2_clear_5 : decode cX2_clear 5 = .ok (.if_icmp .ge 13, 3) := dk_162 0 13 (dk_at dksX2_clear_0 5 rfl rfl)
theorem dX2_clear_8 : decode cX2_clear 8 = .ok (.aload_n 1, 1) := dk_43 (dk_at dksX2_clear_0 8 rfl rfl)
theorem dX2_clear_9 : decode cX2_clear 9 = .ok (.iload_n 2, 1) := dk_28 (dk_at dksX2_clear_0 9 rfl rfl)
theorem dX2_clear_10 : decode cX2_clear 10 = .ok (.lconst 0, 1) := dk_9 (dk_at dksX2_clear_0 10 rfl rfl)
theorem dX2_clear_11 : decode cX2_clear 11 = .ok (.lastore, 1) := dk_80 (dk_at dksX2_clear_0 11 rfl rfl)
theorem dX2_clear_12 : decode cX2_clear 12 = .ok (.iinc 2 1, 3) := dk_132 2 1 (dk_at dksX2_clear_0 12 rfl rfl)
theorem dX2_clear_15 : decode cX2_clear 15 = .ok (.goto (-13), 3) := dk_167 255 243 (dk_at dksX2_clear_0 15 rfl rfl)
theorem dX2_clear_18 : decode cX2_clear 18 = .ok (.return_, 1) := dk_177 (dk_at dksX2_clear_0 18 rfl rfl)
abbrev cX2_wholeOf : ByteArray := prog_13_method_32_code
def yX2_wholeOf : MethodName := ⟨RX2, "wholeOf", "(I)J"⟩
def dkwX2_wholeOf_7 : List UInt8 := [46, 6, 160, 0, 18, 42, 32, 42, 180, 0, 33, 27, 46, 133, 182, 0, 192, 167, 0, 4, 32, 173]
abbrev dktX2_wholeOf_7 : List UInt8 := dkwX2_wholeOf_7 ++ []
def dkwX2_wholeOf_6 : List UInt8 := [96, 46, 47, 182, 0, 192, 65, 132, 6, 1, 167, 255, 210, 132, 5, 1, 167, 255, 194, 42, 180, 0, 24, 27]
abbrev dktX2_wholeOf_6 : List UInt8 := dkwX2_wholeOf_6 ++ dktX2_wholeOf_7
def dkwX2_wholeOf_5 : List UInt8 := [104, 21, 6, 96, 46, 2, 159, 0, 25, 42, 32, 42, 180, 0, 72, 42, 180, 0, 27, 7, 27, 104, 21, 6]
abbrev dktX2_wholeOf_5 : List UInt8 := dkwX2_wholeOf_5 ++ dktX2_wholeOf_6
def dkwX2_wholeOf_4 : List UInt8 := [54, 5, 21, 5, 21, 4, 162, 0, 61, 3, 54, 6, 21, 6, 7, 162, 0, 46, 42, 180, 0, 27, 7, 27]
abbrev dktX2_wholeOf_4 : List UInt8 := dkwX2_wholeOf_4 ++ dktX2_wholeOf_5
def dkwX2_wholeOf_3 : List UInt8 := [4, 96, 167, 0, 18, 42, 180, 0, 24, 27, 46, 8, 160, 0, 7, 5, 167, 0, 4, 4, 54, 4, 3]
abbrev dktX2_wholeOf_3 : List UInt8 := dkwX2_wholeOf_3 ++ dktX2_wholeOf_4
def dkwX2_wholeOf_2 : List UInt8 := [132, 4, 1, 167, 255, 221, 32, 173, 42, 180, 0, 24, 27, 46, 7, 160, 0, 14, 42, 180, 0, 33, 27, 46]
abbrev dktX2_wholeOf_2 : List UInt8 := dkwX2_wholeOf_2 ++ dktX2_wholeOf_3
def dkwX2_wholeOf_1 : List UInt8 := [42, 180, 0, 45, 16, 60, 6, 27, 104, 42, 180, 0, 48, 27, 46, 96, 104, 21, 4, 96, 46, 133, 97, 65]
abbrev dktX2_wholeOf_1 : List UInt8 := dkwX2_wholeOf_1 ++ dktX2_wholeOf_2
def dkwX2_wholeOf_0 : List UInt8 := [10, 65, 42, 180, 0, 24, 27, 46, 154, 0, 48, 9, 65, 3, 54, 4, 21, 4, 16, 60, 162, 0, 34, 32]
abbrev dktX2_wholeOf_0 : List UInt8 := dkwX2_wholeOf_0 ++ dktX2_wholeOf_1
theorem dksX2_wholeOf_0 : cX2_wholeOf.data.toList.drop 0 = dktX2_wholeOf_0 := by decide +kernel
theorem dksX2_wholeOf_1 : cX2_wholeOf.data.toList.drop 24 = dktX2_wholeOf_1 := dk_seg dksX2_wholeOf_0 24 rfl rfl
theorem dksX2_wholeOf_2 : cX2_wholeOf.data.toList.drop 48 = dktX2_wholeOf_2 := dk_seg dksX2_wholeOf_1 24 rfl rfl
theorem dksX2_wholeOf_3 : cX2_wholeOf.data.toList.drop 72 = dktX2_wholeOf_3 := dk_seg dksX2_wholeOf_2 24 rfl rfl
theorem dksX2_wholeOf_4 : cX2_wholeOf.data.toList.drop 95 = dktX2_wholeOf_4 := dk_seg dksX2_wholeOf_3 23 rfl rfl
theorem dksX2_wholeOf_5 : cX2_wholeOf.data.toList.drop 119 = dktX2_wholeOf_5 := dk_seg dksX2_wholeOf_4 24 rfl rfl
theorem dksX2_wholeOf_6 : cX2_wholeOf.data.toList.drop 143 = dktX2_wholeOf_6 := dk_seg dksX2_wholeOf_5 24 rfl rfl
theorem dksX2_wholeOf_7 : cX2_wholeOf.data.toList.drop 167 = dktX2_wholeOf_7 := dk_seg dksX2_wholeOf_6 24 rfl rfl
theorem dX2_wholeOf_0 : decode cX2_wholeOf 0 = .ok (.lconst 1, 1) := dk_10 (dk_at dksX2_wholeOf_0 0 rfl rfl)
theorem dX2_wholeOf_1 : decode cX2_wholeOf 1 = .ok (.lstore_n 2, 1) := dk_65 (dk_at dksX2_wholeOf_0 1 rfl rfl)
theorem dX2_wholeOf_2 : decode cX2_wholeOf 2 = .ok (.aload_n 0, 1) := dk_42 (dk_at dksX2_wholeOf_0 2 rfl rfl)
theorem dX2_wholeOf_3 : decode cX2_wholeOf 3 = .ok (.getfield 24, 3) := dk_180 0 24 (dk_at dksX2_wholeOf_0 3 rfl rfl)
theorem dX2_wholeOf_6 : decode cX2_wholeOf 6 = .ok (.iload_n 1, 1) := dk_27 (dk_at dksX2_wholeOf_0 6 rfl rfl)
theorem dX2_wholeOf_7 : decode cX2_wholeOf 7 = .ok (.iaload, 1) := dk_46 (dk_at dksX2_wholeOf_0 7 rfl rfl)
theorem dX2_wholeOf_8 : decode cX2_wholeOf 8 = .ok (.ifCond .ne 48, 3) := dk_154 0 48 (dk_at dksX2_wholeOf_0 8 rfl rfl)
theorem dX2_wholeOf_11 : decode cX2_wholeOf 11 = .ok (.lconst 0, 1) := dk_9 (dk_at dksX2_wholeOf_0 11 rfl rfl)
theorem dX2_wholeOf_12 : decode cX2_wholeOf 12 = .ok (.lstore_n 2, 1) := dk_65 (dk_at dksX2_wholeOf_0 12 rfl rfl)
theorem dX2_wholeOf_13 : decode cX2_wholeOf 13 = .ok (.iconst 0, 1) := dk_3 (dk_at dksX2_wholeOf_0 13 rfl rfl)
theorem dX2_wholeOf_14 : decode cX2_wholeOf 14 = .ok (.istore 4, 2) := dk_54 4 (dk_at dksX2_wholeOf_0 14 rfl rfl)
theorem dX2_wholeOf_16 : decode cX2_wholeOf 16 = .ok (.iload 4, 2) := dk_21 4 (dk_at dksX2_wholeOf_0 16 rfl rfl)
theorem dX2_wholeOf_18 : decode cX2_wholeOf 18 = .ok (.bipush 60, 2) := dk_16 60 (dk_at dksX2_wholeOf_0 18 rfl rfl)
theorem dX2_wholeOf_20 : decode cX2_wholeOf 20 = .ok (.if_icmp .ge 34, 3) := dk_162 0 34 (dk_at dksX2_wholeOf_0 20 rfl rfl)
theorem dX2_wholeOf_23 : decode cX2_wholeOf 23 = .ok (.lload_n 2, 1) := dk_32 (dk_at dksX2_wholeOf_0 23 rfl rfl)
theorem dX2_wholeOf_24 : decode cX2_wholeOf 24 = .ok (.aload_n 0, 1) := dk_42 (dk_at dksX2_wholeOf_1 0 rfl rfl)
theorem dX2_wholeOf_25 : decode cX2_wholeOf 25 = .ok (.getfield 45, 3) := dk_180 0 45 (dk_at dksX2_wholeOf_1 1 rfl rfl)
theorem dX2_wholeOf_28 : decode cX2_wholeOf 28 = .ok (.bipush 60, 2) := dk_16 60 (dk_at dksX2_wholeOf_1 4 rfl rfl)
theorem dX2_wholeOf_30 : decode cX2_wholeOf 30 = .ok (.iconst 3, 1) := dk_6 (dk_at dksX2_wholeOf_1 6 rfl rfl)
theorem dX2_wholeOf_31 : decode cX2_wholeOf 31 = .ok (.iload_n 1, 1) := dk_27 (dk_at dksX2_wholeOf_1 7 rfl rfl)
theorem dX2_wholeOf_32 : decode cX2_wholeOf 32 = .ok (.imul, 1) := dk_104 (dk_at dksX2_wholeOf_1 8 rfl rfl)
theorem dX2_wholeOf_33 : decode cX2_wholeOf 33 = .ok (.aload_n 0, 1) := dk_42 (dk_at dksX2_wholeOf_1 9 rfl rfl)
theorem dX2_wholeOf_34 : decode cX2_wholeOf 34 = .ok (.getfield 48, 3) := dk_180 0 48 (dk_at dksX2_wholeOf_1 10 rfl rfl)
theorem dX2_wholeOf_37 : decode cX2_wholeOf 37 = .ok (.iload_n 1, 1) := dk_27 (dk_at dksX2_wholeOf_1 13 rfl rfl)
theorem dX2_wholeOf_38 : decode cX2_wholeOf 38 = .ok (.iaload, 1) := dk_46 (dk_at dksX2_wholeOf_1 14 rfl rfl)
theorem dX2_wholeOf_39 : decode cX2_wholeOf 39 = .ok (.iadd, 1) := dk_96 (dk_at dksX2_wholeOf_1 15 rfl rfl)
theorem dX2_wholeOf_40 : decode cX2_wholeOf 40 = .ok (.imul, 1) := dk_104 (dk_at dksX2_wholeOf_1 16 rfl rfl)
theorem dX2_wholeOf_41 : decode cX2_wholeOf 41 = .ok (.iload 4, 2) := dk_21 4 (dk_at dksX2_wholeOf_1 17 rfl rfl)
theorem dX2_wholeOf_43 : decode cX2_wholeOf 43 = .ok (.iadd, 1) := dk_96 (dk_at dksX2_wholeOf_1 19 rfl rfl)
theorem dX2_wholeOf_44 : decode cX2_wholeOf 44 = .ok (.iaload, 1) := dk_46 (dk_at dksX2_wholeOf_1 20 rfl rfl)
theorem dX2_wholeOf_45 : decode cX2_wholeOf 45 = .ok (.i2l, 1) := dk_133 (dk_at dksX2_wholeOf_1 21 rfl rfl)
theorem dX2_wholeOf_46 : decode cX2_wholeOf 46 = .ok (.ladd, 1) := dk_97 (dk_at dksX2_wholeOf_1 22 rfl rfl)
theorem dX2_wholeOf_47 : decode cX2_wholeOf 47 = .ok (.lstore_n 2, 1) := dk_65 (dk_at dksX2_wholeOf_1 23 rfl rfl)
theorem dX2_wholeOf_48 : decode cX2_wholeOf 48 = .ok (.iinc 4 1, 3) := dk_132 4 1 (dk_at dksX2_wholeOf_2 0 rfl rfl)
theorem dX2_wholeOf_51 : decode cX2_wholeOf 51 = .ok (.goto (-35), 3) := dk_167 255 221 (dk_at dksX2_wholeOf_2 3 rfl rfl)
theorem dX2_wholeOf_54 : decode cX2_wholeOf 54 = .ok (.lload_n 2, 1) := dk_32 (dk_at dksX2_wholeOf_2 6 rfl rfl)
theorem dX2_wholeOf_55 : decode cX2_wholeOf 55 = .ok (.lreturn, 1) := dk_173 (dk_at dksX2_wholeOf_2 7 rfl rfl)
theorem dX2_wholeOf_56 : decode cX2_wholeOf 56 = .ok (.aload_n 0, 1) := dk_42 (dk_at dksX2_wholeOf_2 8 rfl rfl)
theorem dX2_wholeOf_57 : decode cX2_wholeOf 57 = .ok (.getfield 24, 3) := dk_180 0 24 (dk_at dksX2_wholeOf_2 9 rfl rfl)
theorem dX2_wholeOf_60 : decode cX2_wholeOf 60 = .ok (.iload_n 1, 1) := dk_27 (dk_at dksX2_wholeOf_2 12 rfl rfl)
theorem dX2_wholeOf_61 : decode cX2_wholeOf 61 = .ok (.iaload, 1) := dk_46 (dk_at dksX2_wholeOf_2 13 rfl rfl)
theorem dX2_wholeOf_62 : decode cX2_wholeOf 62 = .ok (.iconst 4, 1) := dk_7 (dk_at dksX2_wholeOf_2 14 rfl rfl)
theorem dX2_wholeOf_63 : decode cX2_wholeOf 63 = .ok (.if_icmp .ne 14, 3) := dk_160 0 14 (dk_at dksX2_wholeOf_2 15 rfl rfl)
theorem dX2_wholeOf_66 : decode cX2_wholeOf 66 = .ok (.aload_n 0, 1) := dk_42 (dk_at dksX2_wholeOf_2 18 rfl rfl)
theorem dX2_wholeOf_67 : decode cX2_wholeOf 67 = .ok (.getfield 33, 3) := dk_180 0 33 (dk_at dksX2_wholeOf_2 19 rfl rfl)
theorem dX2_wholeOf_70 : decode cX2_wholeOf 70 = .ok (.iload_n 1, 1) := dk_27 (dk_at dksX2_wholeOf_2 22 rfl rfl)
theorem dX2_wholeOf_71 : decode cX2_wholeOf 71 = .ok (.iaload, 1) := dk_46 (dk_at dksX2_wholeOf_2 23 rfl rfl)
theorem dX2_wholeOf_72 : decode cX2_wholeOf 72 = .ok (.iconst 1, 1) := dk_4 (dk_at dksX2_wholeOf_3 0 rfl rfl)
theorem dX2_wholeOf_73 : decode cX2_wholeOf 73 = .ok (.iadd, 1) := dk_96 (dk_at dksX2_wholeOf_3 1 rfl rfl)
theorem dX2_wholeOf_74 : decode cX2_wholeOf 74 = .ok (.goto 18, 3) := dk_167 0 18 (dk_at dksX2_wholeOf_3 2 rfl rfl)
theorem dX2_wholeOf_77 : decode cX2_wholeOf 77 = .ok (.aload_n 0, 1) := dk_42 (dk_at dksX2_wholeOf_3 5 rfl rfl)
theorem dX2_wholeOf_78 : decode cX2_wholeOf 78 = .ok (.getfield 24, 3) := dk_180 0 24 (dk_at dksX2_wholeOf_3 6 rfl rfl)
theorem dX2_wholeOf_81 : decode cX2_wholeOf 81 = .ok (.iload_n 1, 1) := dk_27 (dk_at dksX2_wholeOf_3 9 rfl rfl)
theorem dX2_wholeOf_82 : decode cX2_wholeOf 82 = .ok (.iaload, 1) := dk_46 (dk_at dksX2_wholeOf_3 10 rfl rfl)
theorem dX2_wholeOf_83 : decode cX2_wholeOf 83 = .ok (.iconst 5, 1) := dk_8 (dk_at dksX2_wholeOf_3 11 rfl rfl)
theorem dX2_wholeOf_84 : decode cX2_wholeOf 84 = .ok (.if_icmp .ne 7, 3) := dk_160 0 7 (dk_at dksX2_wholeOf_3 12 rfl rfl)
theorem dX2_wholeOf_87 : decode cX2_wholeOf 87 = .ok (.iconst 2, 1) := dk_5 (dk_at dksX2_wholeOf_3 15 rfl rfl)
theorem dX2_wholeOf_88 : decode cX2_wholeOf 88 = .ok (.goto 4, 3) := dk_167 0 4 (dk_at dksX2_wholeOf_3 16 rfl rfl)
theorem dX2_wholeOf_91 : decode cX2_wholeOf 91 = .ok (.iconst 1, 1) := dk_4 (dk_at dksX2_wholeOf_3 19 rfl rfl)
theorem dX2_wholeOf_92 : decode cX2_wholeOf 92 = .ok (.istore 4, 2) := dk_54 4 (dk_at dksX2_wholeOf_3 20 rfl rfl)
theorem dX2_wholeOf_94 : decode cX2_wholeOf 94 = .ok (.iconst 0, 1) := dk_3 (dk_at dksX2_wholeOf_3 22 rfl rfl)
theorem dX2_wholeOf_95 : decode cX2_wholeOf 95 = .ok (.istore 5, 2) := dk_54 5 (dk_at dksX2_wholeOf_4 0 rfl rfl)
theorem dX2_wholeOf_97 : decode cX2_wholeOf 97 = .ok (.iload 5, 2) := dk_21 5 (dk_at dksX2_wholeOf_4 2 rfl rfl)
theorem dX2_wholeOf_99 : decode cX2_wholeOf 99 = .ok (.iload 4, 2) := dk_21 4 (dk_at dksX2_wholeOf_4 4 rfl rfl)
theorem dX2_wholeOf_101 : decode cX2_wholeOf 101 = .ok (.if_icmp .ge 61, 3) := dk_162 0 61 (dk_at dksX2_wholeOf_4 6 rfl rfl)
theorem dX2_wholeOf_104 : decode cX2_wholeOf 104 = .ok (.iconst 0, 1) := dk_3 (dk_at dksX2_wholeOf_4 9 rfl rfl)
theorem dX2_wholeOf_105 : decode cX2_wholeOf 105 = .ok (.istore 6, 2) := dk_54 6 (dk_at dksX2_wholeOf_4 10 rfl rfl)
theorem dX2_wholeOf_107 : decode cX2_wholeOf 107 = .ok (.iload 6, 2) := dk_21 6 (dk_at dksX2_wholeOf_4 12 rfl rfl)
theorem dX2_wholeOf_109 : decode cX2_wholeOf 109 = .ok (.iconst 4, 1) := dk_7 (dk_at dksX2_wholeOf_4 14 rfl rfl)
theorem dX2_wholeOf_110 : decode cX2_wholeOf 110 = .ok (.if_icmp .ge 46, 3) := dk_162 0 46 (dk_at dksX2_wholeOf_4 15 rfl rfl)
theorem dX2_wholeOf_113 : decode cX2_wholeOf 113 = .ok (.aload_n 0, 1) := dk_42 (dk_at dksX2_wholeOf_4 18 rfl rfl)
theorem dX2_wholeOf_114 : decode cX2_wholeOf 114 = .ok (.getfield 27, 3) := dk_180 0 27 (dk_at dksX2_wholeOf_4 19 rfl rfl)
theorem dX2_wholeOf_117 : decode cX2_wholeOf 117 = .ok (.iconst 4, 1) := dk_7 (dk_at dksX2_wholeOf_4 22 rfl rfl)
theorem dX2_wholeOf_118 : decode cX2_wholeOf 118 = .ok (.iload_n 1, 1) := dk_27 (dk_at dksX2_wholeOf_4 23 rfl rfl)
theorem dX2_wholeOf_119 : decode cX2_wholeOf 119 = .ok (.imul, 1) := dk_104 (dk_at dksX2_wholeOf_5 0 rfl rfl)
theorem dX2_wholeOf_120 : decode cX2_wholeOf 120 = .ok (.iload 6, 2) := dk_21 6 (dk_at dksX2_wholeOf_5 1 rfl rfl)
theorem dX2_wholeOf_122 : decode cX2_wholeOf 122 = .ok (.iadd, 1) := dk_96 (dk_at dksX2_wholeOf_5 3 rfl rfl)
theorem dX2_wholeOf_123 : decode cX2_wholeOf 123 = .ok (.iaload, 1) := dk_46 (dk_at dksX2_wholeOf_5 4 rfl rfl)
theorem dX2_wholeOf_124 : decode cX2_wholeOf 124 = .ok (.iconst (-1), 1) := dk_2 (dk_at dksX2_wholeOf_5 5 rfl rfl)
theorem dX2_wholeOf_125 : decode cX2_wholeOf 125 = .ok (.if_icmp .eq 25, 3) := dk_159 0 25 (dk_at dksX2_wholeOf_5 6 rfl rfl)
theorem dX2_wholeOf_128 : decode cX2_wholeOf 128 = .ok (.aload_n 0, 1) := dk_42 (dk_at dksX2_wholeOf_5 9 rfl rfl)
theorem dX2_wholeOf_129 : decode cX2_wholeOf 129 = .ok (.lload_n 2, 1) := dk_32 (dk_at dksX2_wholeOf_5 10 rfl rfl)
theorem dX2_wholeOf_130 : decode cX2_wholeOf 130 = .ok (.aload_n 0, 1) := dk_42 (dk_at dksX2_wholeOf_5 11 rfl rfl)
theorem dX2_wholeOf_131 : decode cX2_wholeOf 131 = .ok (.getfield 72, 3) := dk_180 0 72 (dk_at dksX2_wholeOf_5 12 rfl rfl)
theorem dX2_wholeOf_134 : decode cX2_wholeOf 134 = .ok (.aload_n 0, 1) := dk_42 (dk_at dksX2_wholeOf_5 15 rfl rfl)
theorem dX2_wholeOf_135 : decode cX2_wholeOf 135 = .ok (.getfield 27, 3) := dk_180 0 27 (dk_at dksX2_wholeOf_5 16 rfl rfl)
theorem dX2_wholeOf_138 : decode cX2_wholeOf 138 = .ok (.iconst 4, 1) := dk_7 (dk_at dksX2_wholeOf_5 19 rfl rfl)
theorem dX2_wholeOf_139 : decode cX2_wholeOf 139 = .ok (.iload_n 1, 1) := dk_27 (dk_at dksX2_wholeOf_5 20 rfl rfl)
theorem dX2_wholeOf_140 : decode cX2_wholeOf 140 = .ok (.imul, 1) := dk_104 (dk_at dksX2_wholeOf_5 21 rfl rfl)
theorem dX2_wholeOf_141 : decode cX2_wholeOf 141 = .ok (.iload 6, 2) := dk_21 6 (dk_at dksX2_wholeOf_5 22 rfl rfl)
theorem dX2_wholeOf_143 : decode cX2_wholeOf 143 = .ok (.iadd, 1) := dk_96 (dk_at dksX2_wholeOf_6 0 rfl rfl)
theorem dX2_wholeOf_144 : decode cX2_wholeOf 144 = .ok (.iaload, 1) := dk_46 (dk_at dksX2_wholeOf_6 1 rfl rfl)
theorem dX2_wholeOf_145 : decode cX2_wholeOf 145 = .ok (.laload, 1) := dk_47 (dk_at dksX2_wholeOf_6 2 rfl rfl)
theorem dX2_wholeOf_146 : decode cX2_wholeOf 146 = .ok (.invokevirtual 192, 3) := dk_182 0 192 (dk_at dksX2_wholeOf_6 3 rfl rfl)
theorem dX2_wholeOf_149 : decode cX2_wholeOf 149 = .ok (.lstore_n 2, 1) := dk_65 (dk_at dksX2_wholeOf_6 6 rfl rfl)
theorem dX2_wholeOf_150 : decode cX2_wholeOf 150 = .ok (.iinc 6 1, 3) := dk_132 6 1 (dk_at dksX2_wholeOf_6 7 rfl rfl)
theorem dX2_wholeOf_153 : decode cX2_wholeOf 153 = .ok (.goto (-46), 3) := dk_167 255 210 (dk_at dksX2_wholeOf_6 10 rfl rfl)
theorem dX2_wholeOf_156 : decode cX2_wholeOf 156 = .ok (.iinc 5 1, 3) := dk_132 5 1 (dk_at dksX2_wholeOf_6 13 rfl rfl)
theorem dX2_wholeOf_159 : decode cX2_wholeOf 159 = .ok (.goto (-62), 3) := dk_167 255 194 (dk_at dksX2_wholeOf_6 16 rfl rfl)
theorem dX2_wholeOf_162 : decode cX2_wholeOf 162 = .ok (.aload_n 0, 1) := dk_42 (dk_at dksX2_wholeOf_6 19 rfl rfl)
theorem dX2_wholeOf_163 : decode cX2_wholeOf 163 = .ok (.getfield 24, 3) := dk_180 0 24 (dk_at dksX2_wholeOf_6 20 rfl rfl)
theorem dX2_wholeOf_166 : decode cX2_wholeOf 166 = .ok (.iload_n 1, 1) := dk_27 (dk_at dksX2_wholeOf_6 23 rfl rfl)
theorem dX2_wholeOf_167 : decode cX2_wholeOf 167 = .ok (.iaload, 1) := dk_46 (dk_at dksX2_wholeOf_7 0 rfl rfl)
theorem dX2_wholeOf_168 : decode cX2_wholeOf 168 = .ok (.iconst 3, 1) := dk_6 (dk_at dksX2_wholeOf_7 1 rfl rfl)
theorem dX2_wholeOf_169 : decode cX2_wholeOf 169 = .ok (.if_icmp .ne 18, 3) := dk_160 0 18 (dk_at dksX2_wholeOf_7 2 rfl rfl)
theorem dX2_wholeOf_172 : decode cX2_wholeOf 172 = .ok (.aload_n 0, 1) := dk_42 (dk_at dksX2_wholeOf_7 5 rfl rfl)
theorem dX2_wholeOf_173 : decode cX2_wholeOf 173 = .ok (.lload_n 2, 1) := dk_32 (dk_at dksX2_wholeOf_7 6 rfl rfl)
theorem dX2_wholeOf_174 : decode cX2_wholeOf 174 = .ok (.aload_n 0, 1) := dk_42 (dk_at dksX2_wholeOf_7 7 rfl rfl)
theorem dX2_wholeOf_175 : decode cX2_wholeOf 175 = .ok (.getfield 33, 3) := dk_180 0 33 (dk_at dksX2_wholeOf_7 8 rfl rfl)
theorem dX2_wholeOf_178 : decode cX2_wholeOf 178 = .ok (.iload_n 1, 1) := dk_27 (dk_at dksX2_wholeOf_7 11 rfl rfl)
theorem dX2_wholeOf_179 : decode cX2_wholeOf 179 = .ok (.iaload, 1) := dk_46 (dk_at dksX2_wholeOf_7 12 rfl rfl)
theorem dX2_wholeOf_180 : decode cX2_wholeOf 180 = .ok (.i2l, 1) := dk_133 (dk_at dksX2_wholeOf_7 13 rfl rfl)
theorem dX2_wholeOf_181 : decode cX2_wholeOf 181 = .ok (.invokevirtual 192, 3) := dk_182 0 192 (dk_at dksX2_wholeOf_7 14 rfl rfl)
theorem dX2_wholeOf_184 : decode cX2_wholeOf 184 = .ok (.goto 4, 3) := dk_167 0 4 (dk_at dksX2_wholeOf_7 17 rfl rfl)
theorem dX2_wholeOf_187 : decode cX2_wholeOf 187 = .ok (.lload_n 2, 1) := dk_32 (dk_at dksX2_wholeOf_7 20 rfl rfl)
theorem dX2_wholeOf_188 : decode cX2_wholeOf 188 = .ok (.lreturn, 1) := dk_173 (dk_at dksX2_wholeOf_7 21 rfl rfl)
abbrev cX2_product : ByteArray := prog_13_method_27_code
def yX2_product : MethodName := ⟨RX2, "product", "(JJ)J"⟩
def dkwX2_product_1 : List UInt8 := [167, 0, 6, 31, 33, 105, 173]
abbrev dktX2_product_1 : List UInt8 := dkwX2_product_1 ++ []
def dkwX2_product_0 : List UInt8 := [31, 20, 0, 163, 33, 109, 148, 158, 0, 8, 42, 4, 181, 0, 165, 42, 180, 0, 165, 153, 0, 7, 10]
abbrev dktX2_product_0 : List UInt8 := dkwX2_product_0 ++ dktX2_product_1
theorem dksX2_product_0 : cX2_product.data.toList.drop 0 = dktX2_product_0 := by decide +kernel
theorem dksX2_product_1 : cX2_product.data.toList.drop 23 = dktX2_product_1 := dk_seg dksX2_product_0 23 rfl rfl
theorem dX2_product_0 : decode cX2_product 0 = .ok (.lload_n 1, 1) := dk_31 (dk_at dksX2_product_0 0 rfl rfl)
theorem dX2_product_1 : decode cX2_product 1 = .ok (.ldc2_w 163, 3) := dk_20 0 163 (dk_at dksX2_product_0 1 rfl rfl)
theorem dX2_product_4 : decode cX2_product 4 = .ok (.lload_n 3, 1) := dk_33 (dk_at dksX2_product_0 4 rfl rfl)
theorem dX2_product_5 : decode cX2_product 5 = .ok (.ldiv, 1) := dk_109 (dk_at dksX2_product_0 5 rfl rfl)
theorem dX2_product_6 : decode cX2_product 6 = .ok (.lcmp, 1) := dk_148 (dk_at dksX2_product_0 6 rfl rfl)
theorem dX2_product_7 : decode cX2_product 7 = .ok (.ifCond .le 8, 3) := dk_158 0 8 (dk_at dksX2_product_0 7 rfl rfl)
theorem dX2_product_10 : decode cX2_product 10 = .ok (.aload_n 0, 1) := dk_42 (dk_at dksX2_product_0 10 rfl rfl)
theorem dX2_product_11 : decode cX2_product 11 = .ok (.iconst 1, 1) := dk_4 (dk_at dksX2_product_0 11 rfl rfl)
theorem dX2_product_12 : decode cX2_product 12 = .ok (.putfield 165, 3) := dk_181 0 165 (dk_at dksX2_product_0 12 rfl rfl)
theorem dX2_product_15 : decode cX2_product 15 = .ok (.aload_n 0, 1) := dk_42 (dk_at dksX2_product_0 15 rfl rfl)
theorem dX2_product_16 : decode cX2_product 16 = .ok (.getfield 165, 3) := dk_180 0 165 (dk_at dksX2_product_0 16 rfl rfl)
theorem dX2_product_19 : decode cX2_product 19 = .ok (.ifCond .eq 7, 3) := dk_153 0 7 (dk_at dksX2_product_0 19 rfl rfl)
theorem dX2_product_22 : decode cX2_product 22 = .ok (.lconst 1, 1) := dk_10 (dk_at dksX2_product_0 22 rfl rfl)
theorem dX2_product_23 : decode cX2_product 23 = .ok (.goto 6, 3) := dk_167 0 6 (dk_at dksX2_product_1 0 rfl rfl)
theorem dX2_product_26 : decode cX2_product 26 = .ok (.lload_n 1, 1) := dk_31 (dk_at dksX2_product_1 3 rfl rfl)
theorem dX2_product_27 : decode cX2_product 27 = .ok (.lload_n 3, 1) := dk_33 (dk_at dksX2_product_1 4 rfl rfl)
theorem dX2_product_28 : decode cX2_product 28 = .ok (.lmul, 1) := dk_105 (dk_at dksX2_product_1 5 rfl rfl)
theorem dX2_product_29 : decode cX2_product 29 = .ok (.lreturn, 1) := dk_173 (dk_at dksX2_product_1 6 rfl rfl)
abbrev cX2_make : ByteArray := prog_13_method_33_code
def yX2_make : MethodName := ⟨RX2, "make", "(I)V"⟩
def dkwX2_make_12 : List UInt8 := [167, 0, 16, 42, 27, 182, 0, 202, 167, 0, 8, 42, 27, 182, 0, 205, 177]
abbrev dktX2_make_12 : List UInt8 := dkwX2_make_12 ++ []
def dkwX2_make_11 : List UInt8 := [180, 0, 30, 27, 46, 100, 133, 42, 180, 0, 82, 29, 47, 105, 97, 80, 132, 3, 1, 167, 255, 92]
abbrev dktX2_make_11 : List UInt8 := dkwX2_make_11 ++ dktX2_make_12
def dkwX2_make_10 : List UInt8 := [97, 80, 42, 180, 0, 82, 29, 42, 180, 0, 30, 27, 46, 133, 22, 6, 105, 42, 180, 0, 33, 27, 46, 42]
abbrev dktX2_make_10 : List UInt8 := dkwX2_make_10 ++ dktX2_make_11
def dkwX2_make_9 : List UInt8 := [22, 4, 105, 42, 180, 0, 33, 27, 46, 42, 180, 0, 30, 27, 46, 100, 133, 42, 180, 0, 79, 29, 47, 105]
abbrev dktX2_make_9 : List UInt8 := dkwX2_make_9 ++ dktX2_make_10
def dkwX2_make_8 : List UInt8 := [4, 96, 46, 47, 105, 167, 0, 4, 9, 55, 6, 42, 180, 0, 79, 29, 42, 180, 0, 30, 27, 46, 133]
abbrev dktX2_make_8 : List UInt8 := dkwX2_make_8 ++ dktX2_make_9
def dkwX2_make_7 : List UInt8 := [162, 0, 32, 42, 180, 0, 69, 28, 29, 184, 0, 173, 47, 42, 180, 0, 72, 42, 180, 0, 27, 7, 27, 104]
abbrev dktX2_make_7 : List UInt8 := dkwX2_make_7 ++ dktX2_make_8
def dkwX2_make_6 : List UInt8 := [180, 0, 72, 42, 180, 0, 27, 7, 27, 104, 4, 96, 46, 47, 105, 167, 0, 4, 9, 55, 4, 29, 16, 121]
abbrev dktX2_make_6 : List UInt8 := dkwX2_make_6 ++ dktX2_make_7
def dkwX2_make_5 : List UInt8 := [180, 0, 79, 190, 162, 0, 161, 29, 16, 121, 162, 0, 32, 42, 180, 0, 66, 28, 29, 184, 0, 173, 47, 42]
abbrev dktX2_make_5 : List UInt8 := dkwX2_make_5 ++ dktX2_make_6
def dkwX2_make_4 : List UInt8 := [182, 0, 195, 167, 0, 202, 42, 27, 182, 0, 199, 167, 0, 194, 42, 27, 5, 182, 0, 195, 3, 62, 29, 42]
abbrev dktX2_make_4 : List UInt8 := dkwX2_make_4 ++ dktX2_make_5
def dkwX2_make_3 : List UInt8 := [180, 0, 48, 27, 46, 96, 104, 29, 96, 46, 133, 80, 132, 3, 1, 167, 255, 220, 167, 0, 211, 42, 27, 7]
abbrev dktX2_make_3 : List UInt8 := dkwX2_make_3 ++ dktX2_make_4
def dkwX2_make_2 : List UInt8 := [3, 62, 29, 16, 60, 162, 0, 36, 42, 180, 0, 79, 29, 42, 180, 0, 45, 16, 60, 6, 27, 104, 42]
abbrev dktX2_make_2 : List UInt8 := dkwX2_make_2 ++ dktX2_make_3
def dkwX2_make_1 : List UInt8 := [170, 0, 0, 1, 24, 0, 0, 0, 0, 0, 0, 0, 4, 0, 0, 0, 33, 0, 0, 0, 77, 0, 0, 0, 86, 0, 0, 0, 94, 0, 0, 1, 16]
abbrev dktX2_make_1 : List UInt8 := dkwX2_make_1 ++ dktX2_make_2
def dkwX2_make_0 : List UInt8 := [42, 180, 0, 27, 7, 27, 104, 46, 61, 42, 180, 0, 24, 27, 46]
abbrev dktX2_make_0 : List UInt8 := dkwX2_make_0 ++ dktX2_make_1
theorem dksX2_make_0 : cX2_make.data.toList.drop 0 = dktX2_make_0 := by decide +kernel
theorem dksX2_make_1 : cX2_make.data.toList.drop 15 = dktX2_make_1 := dk_seg dksX2_make_0 15 rfl rfl
theorem dksX2_make_2 : cX2_make.data.toList.drop 48 = dktX2_make_2 := dk_seg dksX2_make_1 33 rfl rfl
theorem dksX2_make_3 : cX2_make.data.toList.drop 71 = dktX2_make_3 := dk_seg dksX2_make_2 23 rfl rfl
theorem dksX2_make_4 : cX2_make.data.toList.drop 95 = dktX2_make_4 := dk_seg dksX2_make_3 24 rfl rfl
theorem dksX2_make_5 : cX2_make.data.toList.drop 119 = dktX2_make_5 := dk_seg dksX2_make_4 24 rfl rfl
theorem dksX2_make_6 : cX2_make.data.toList.drop 143 = dktX2_make_6 := dk_seg dksX2_make_5 24 rfl rfl
theorem dksX2_make_7 : cX2_make.data.toList.drop 167 = dktX2_make_7 := dk_seg dksX2_make_6 24 rfl rfl
theorem dksX2_make_8 : cX2_make.data.toList.drop 191 = dktX2_make_8 := dk_seg dksX2_make_7 24 rfl rfl
theorem dksX2_make_9 : cX2_make.data.toList.drop 214 = dktX2_make_9 := dk_seg dksX2_make_8 23 rfl rfl
theorem dksX2_make_10 : cX2_make.data.toList.drop 238 = dktX2_make_10 := dk_seg dksX2_make_9 24 rfl rfl
theorem dksX2_make_11 : cX2_make.data.toList.drop 262 = dktX2_make_11 := dk_seg dksX2_make_10 24 rfl rfl
theorem dksX2_make_12 : cX2_make.data.toList.drop 284 = dktX2_make_12 := dk_seg dksX2_make_11 22 rfl rfl
theorem dX2_make_0 : decode cX2_make 0 = .ok (.aload_n 0, 1) := dk_42 (dk_at dksX2_make_0 0 rfl rfl)
theorem dX2_make_1 : decode cX2_make 1 = .ok (.getfield 27, 3) := dk_180 0 27 (dk_at dksX2_make_0 1 rfl rfl)
theorem dX2_make_4 : decode cX2_make 4 = .ok (.iconst 4, 1) := dk_7 (dk_at dksX2_make_0 4 rfl rfl)
theorem dX2_make_5 : decode cX2_make 5 = .ok (.iload_n 1, 1) := dk_27 (dk_at dksX2_make_0 5 rfl rfl)
theorem dX2_make_6 : decode cX2_make 6 = .ok (.imul, 1) := dk_104 (dk_at dksX2_make_0 6 rfl rfl)
theorem dX2_make_7 : decode cX2_make 7 = .ok (.iaload, 1) := dk_46 (dk_at dksX2_make_0 7 rfl rfl)
theorem dX2_make_8 : decode cX2_make 8 = .ok (.istore_n 2, 1) := dk_61 (dk_at dksX2_make_0 8 rfl rfl)
theorem dX2_make_9 : decode cX2_make 9 = .ok (.aload_n 0, 1) := dk_42 (dk_at dksX2_make_0 9 rfl rfl)
theorem dX2_make_10 : decode cX2_make 10 = .ok (.getfield 24, 3) := dk_180 0 24 (dk_at dksX2_make_0 10 rfl rfl)
theorem dX2_make_13 : decode cX2_make 13 = .ok (.iload_n 1, 1) := dk_27 (dk_at dksX2_make_0 13 rfl rfl)
theorem dX2_make_14 : decode cX2_make 14 = .ok (.iaload, 1) := dk_46 (dk_at dksX2_make_0 14 rfl rfl)
theorem dX2_make_15 : decode cX2_make 15 = .ok (.tableswitch 280 0 4 #[33, 77, 86, 94, 272], 33) := by decide +kernel
theorem dX2_make_48 : decode cX2_make 48 = .ok (.iconst 0, 1) := dk_3 (dk_at dksX2_make_2 0 rfl rfl)
theorem dX2_make_49 : decode cX2_make 49 = .ok (.istore_n 3, 1) := dk_62 (dk_at dksX2_make_2 1 rfl rfl)
theorem dX2_make_50 : decode cX2_make 50 = .ok (.iload_n 3, 1) := dk_29 (dk_at dksX2_make_2 2 rfl rfl)
theorem dX2_make_51 : decode cX2_make 51 = .ok (.bipush 60, 2) := dk_16 60 (dk_at dksX2_make_2 3 rfl rfl)
theorem dX2_make_53 : decode cX2_make 53 = .ok (.if_icmp .ge 36, 3) := dk_162 0 36 (dk_at dksX2_make_2 5 rfl rfl)
theorem dX2_make_56 : decode cX2_make 56 = .ok (.aload_n 0, 1) := dk_42 (dk_at dksX2_make_2 8 rfl rfl)
theorem dX2_make_57 : decode cX2_make 57 = .ok (.getfield 79, 3) := dk_180 0 79 (dk_at dksX2_make_2 9 rfl rfl)
theorem dX2_make_60 : decode cX2_make 60 = .ok (.iload_n 3, 1) := dk_29 (dk_at dksX2_make_2 12 rfl rfl)
theorem dX2_make_61 : decode cX2_make 61 = .ok (.aload_n 0, 1) := dk_42 (dk_at dksX2_make_2 13 rfl rfl)
theorem dX2_make_62 : decode cX2_make 62 = .ok (.getfield 45, 3) := dk_180 0 45 (dk_at dksX2_make_2 14 rfl rfl)
theorem dX2_make_65 : decode cX2_make 65 = .ok (.bipush 60, 2) := dk_16 60 (dk_at dksX2_make_2 17 rfl rfl)
theorem dX2_make_67 : decode cX2_make 67 = .ok (.iconst 3, 1) := dk_6 (dk_at dksX2_make_2 19 rfl rfl)
theorem dX2_make_68 : decode cX2_make 68 = .ok (.iload_n 1, 1) := dk_27 (dk_at dksX2_make_2 20 rfl rfl)
theorem dX2_make_69 : decode cX2_make 69 = .ok (.imul, 1) := dk_104 (dk_at dksX2_make_2 21 rfl rfl)
theorem dX2_make_70 : decode cX2_make 70 = .ok (.aload_n 0, 1) := dk_42 (dk_at dksX2_make_2 22 rfl rfl)
theorem dX2_make_71 : decode cX2_make 71 = .ok (.getfield 48, 3) := dk_180 0 48 (dk_at dksX2_make_3 0 rfl rfl)
theorem dX2_make_74 : decode cX2_make 74 = .ok (.iload_n 1, 1) := dk_27 (dk_at dksX2_make_3 3 rfl rfl)
theorem dX2_make_75 : decode cX2_make 75 = .ok (.iaload, 1) := dk_46 (dk_at dksX2_make_3 4 rfl rfl)
theorem dX2_make_76 : decode cX2_make 76 = .ok (.iadd, 1) := dk_96 (dk_at dksX2_make_3 5 rfl rfl)
theorem dX2_make_77 : decode cX2_make 77 = .ok (.imul, 1) := dk_104 (dk_at dksX2_make_3 6 rfl rfl)
theorem dX2_make_78 : decode cX2_make 78 = .ok (.iload_n 3, 1) := dk_29 (dk_at dksX2_make_3 7 rfl rfl)
theorem dX2_make_79 : decode cX2_make 79 = .ok (.iadd, 1) := dk_96 (dk_at dksX2_make_3 8 rfl rfl)
theorem dX2_make_80 : decode cX2_make 80 = .ok (.iaload, 1) := dk_46 (dk_at dksX2_make_3 9 rfl rfl)
theorem dX2_make_81 : decode cX2_make 81 = .ok (.i2l, 1) := dk_133 (dk_at dksX2_make_3 10 rfl rfl)
theorem dX2_make_82 : decode cX2_make 82 = .ok (.lastore, 1) := dk_80 (dk_at dksX2_make_3 11 rfl rfl)
theorem dX2_make_83 : decode cX2_make 83 = .ok (.iinc 3 1, 3) := dk_132 3 1 (dk_at dksX2_make_3 12 rfl rfl)
theorem dX2_make_86 : decode cX2_make 86 = .ok (.goto (-36), 3) := dk_167 255 220 (dk_at dksX2_make_3 15 rfl rfl)
theorem dX2_make_89 : decode cX2_make 89 = .ok (.goto 211, 3) := dk_167 0 211 (dk_at dksX2_make_3 18 rfl rfl)
theorem dX2_make_92 : decode cX2_make 92 = .ok (.aload_n 0, 1) := dk_42 (dk_at dksX2_make_3 21 rfl rfl)
theorem dX2_make_93 : decode cX2_make 93 = .ok (.iload_n 1, 1) := dk_27 (dk_at dksX2_make_3 22 rfl rfl)
theorem dX2_make_94 : decode cX2_make 94 = .ok (.iconst 4, 1) := dk_7 (dk_at dksX2_make_3 23 rfl rfl)
theorem dX2_make_95 : decode cX2_make 95 = .ok (.invokevirtual 195, 3) := dk_182 0 195 (dk_at dksX2_make_4 0 rfl rfl)
theorem dX2_make_98 : decode cX2_make 98 = .ok (.goto 202, 3) := dk_167 0 202 (dk_at dksX2_make_4 3 rfl rfl)
theorem dX2_make_101 : decode cX2_make 101 = .ok (.aload_n 0, 1) := dk_42 (dk_at dksX2_make_4 6 rfl rfl)
theorem dX2_make_102 : decode cX2_make 102 = .ok (.iload_n 1, 1) := dk_27 (dk_at dksX2_make_4 7 rfl rfl)
theorem dX2_make_103 : decode cX2_make 103 = .ok (.invokevirtual 199, 3) := dk_182 0 199 (dk_at dksX2_make_4 8 rfl rfl)
theorem dX2_make_106 : decode cX2_make 106 = .ok (.goto 194, 3) := dk_167 0 194 (dk_at dksX2_make_4 11 rfl rfl)
theorem dX2_make_109 : decode cX2_make 109 = .ok (.aload_n 0, 1) := dk_42 (dk_at dksX2_make_4 14 rfl rfl)
theorem dX2_make_110 : decode cX2_make 110 = .ok (.iload_n 1, 1) := dk_27 (dk_at dksX2_make_4 15 rfl rfl)
theorem dX2_make_111 : decode cX2_make 111 = .ok (.iconst 2, 1) := dk_5 (dk_at dksX2_make_4 16 rfl rfl)
theorem dX2_make_112 : decode cX2_make 112 = .ok (.invokevirtual 195, 3) := dk_182 0 195 (dk_at dksX2_make_4 17 rfl rfl)
theorem dX2_make_115 : decode cX2_make 115 = .ok (.iconst 0, 1) := dk_3 (dk_at dksX2_make_4 20 rfl rfl)
theorem dX2_make_116 : decode cX2_make 116 = .ok (.istore_n 3, 1) := dk_62 (dk_at dksX2_make_4 21 rfl rfl)
theorem dX2_make_117 : decode cX2_make 117 = .ok (.iload_n 3, 1) := dk_29 (dk_at dksX2_make_4 22 rfl rfl)
theorem dX2_make_118 : decode cX2_make 118 = .ok (.aload_n 0, 1) := dk_42 (dk_at dksX2_make_4 23 rfl rfl)
theorem dX2_make_119 : decode cX2_make 119 = .ok (.getfield 79, 3) := dk_180 0 79 (dk_at dksX2_make_5 0 rfl rfl)
theorem dX2_make_122 : decode cX2_make 122 = .ok (.arraylength, 1) := dk_190 (dk_at dksX2_make_5 3 rfl rfl)
theorem dX2_make_123 : decode cX2_make 123 = .ok (.if_icmp .ge 161, 3) := dk_162 0 161 (dk_at dksX2_make_5 4 rfl rfl)
theorem dX2_make_126 : decode cX2_make 126 = .ok (.iload_n 3, 1) := dk_29 (dk_at dksX2_make_5 7 rfl rfl)
theorem dX2_make_127 : decode cX2_make 127 = .ok (.bipush 121, 2) := dk_16 121 (dk_at dksX2_make_5 8 rfl rfl)
theorem dX2_make_129 : decode cX2_make 129 = .ok (.if_icmp .ge 32, 3) := dk_162 0 32 (dk_at dksX2_make_5 10 rfl rfl)
theorem dX2_make_132 : decode cX2_make 132 = .ok (.aload_n 0, 1) := dk_42 (dk_at dksX2_make_5 13 rfl rfl)
theorem dX2_make_133 : decode cX2_make 133 = .ok (.getfield 66, 3) := dk_180 0 66 (dk_at dksX2_make_5 14 rfl rfl)
theorem dX2_make_136 : decode cX2_make 136 = .ok (.iload_n 2, 1) := dk_28 (dk_at dksX2_make_5 17 rfl rfl)
theorem dX2_make_137 : decode cX2_make 137 = .ok (.iload_n 3, 1) := dk_29 (dk_at dksX2_make_5 18 rfl rfl)
theorem dX2_make_138 : decode cX2_make 138 = .ok (.invokestatic 173, 3) := dk_184 0 173 (dk_at dksX2_make_5 19 rfl rfl)
theorem dX2_make_141 : decode cX2_make 141 = .ok (.laload, 1) := dk_47 (dk_at dksX2_make_5 22 rfl rfl)
theorem dX2_make_142 : decode cX2_make 142 = .ok (.aload_n 0, 1) := dk_42 (dk_at dksX2_make_5 23 rfl rfl)
theorem dX2_make_143 : decode cX2_make 143 = .ok (.getfield 72, 3) := dk_180 0 72 (dk_at dksX2_make_6 0 rfl rfl)
theorem dX2_make_146 : decode cX2_make 146 = .ok (.aload_n 0, 1) := dk_42 (dk_at dksX2_make_6 3 rfl rfl)
theorem dX2_make_147 : decode cX2_make 147 = .ok (.getfield 27, 3) := dk_180 0 27 (dk_at dksX2_make_6 4 rfl rfl)
theorem dX2_make_150 : decode cX2_make 150 = .ok (.iconst 4, 1) := dk_7 (dk_at dksX2_make_6 7 rfl rfl)
theorem dX2_make_151 : decode cX2_make 151 = .ok (.iload_n 1, 1) := dk_27 (dk_at dksX2_make_6 8 rfl rfl)
theorem dX2_make_152 : decode cX2_make 152 = .ok (.imul, 1) := dk_104 (dk_at dksX2_make_6 9 rfl rfl)
theorem dX2_make_153 : decode cX2_make 153 = .ok (.iconst 1, 1) := dk_4 (dk_at dksX2_make_6 10 rfl rfl)
theorem dX2_make_154 : decode cX2_make 154 = .ok (.iadd, 1) := dk_96 (dk_at dksX2_make_6 11 rfl rfl)
theorem dX2_make_155 : decode cX2_make 155 = .ok (.iaload, 1) := dk_46 (dk_at dksX2_make_6 12 rfl rfl)
theorem dX2_make_156 : decode cX2_make 156 = .ok (.laload, 1) := dk_47 (dk_at dksX2_make_6 13 rfl rfl)
theorem dX2_make_157 : decode cX2_make 157 = .ok (.lmul, 1) := dk_105 (dk_at dksX2_make_6 14 rfl rfl)
theorem dX2_make_158 : decode cX2_make 158 = .ok (.goto 4, 3) := dk_167 0 4 (dk_at dksX2_make_6 15 rfl rfl)
theorem dX2_make_161 : decode cX2_make 161 = .ok (.lconst 0, 1) := dk_9 (dk_at dksX2_make_6 18 rfl rfl)
theorem dX2_make_162 : decode cX2_make 162 = .ok (.lstore 4, 2) := dk_55 4 (dk_at dksX2_make_6 19 rfl rfl)
theorem dX2_make_164 : decode cX2_make 164 = .ok (.iload_n 3, 1) := dk_29 (dk_at dksX2_make_6 21 rfl rfl)
theorem dX2_make_165 : decode cX2_make 165 = .ok (.bipush 121, 2) := dk_16 121 (dk_at dksX2_make_6 22 rfl rfl)
theorem dX2_make_167 : decode cX2_make 167 = .ok (.if_icmp .ge 32, 3) := dk_162 0 32 (dk_at dksX2_make_7 0 rfl rfl)
theorem dX2_make_170 : decode cX2_make 170 = .ok (.aload_n 0, 1) := dk_42 (dk_at dksX2_make_7 3 rfl rfl)
theorem dX2_make_171 : decode cX2_make 171 = .ok (.getfield 69, 3) := dk_180 0 69 (dk_at dksX2_make_7 4 rfl rfl)
theorem dX2_make_174 : decode cX2_make 174 = .ok (.iload_n 2, 1) := dk_28 (dk_at dksX2_make_7 7 rfl rfl)
theorem dX2_make_175 : decode cX2_make 175 = .ok (.iload_n 3, 1) := dk_29 (dk_at dksX2_make_7 8 rfl rfl)
theorem dX2_make_176 : decode cX2_make 176 = .ok (.invokestatic 173, 3) := dk_184 0 173 (dk_at dksX2_make_7 9 rfl rfl)
theorem dX2_make_179 : decode cX2_make 179 = .ok (.laload, 1) := dk_47 (dk_at dksX2_make_7 12 rfl rfl)
theorem dX2_make_180 : decode cX2_make 180 = .ok (.aload_n 0, 1) := dk_42 (dk_at dksX2_make_7 13 rfl rfl)
theorem dX2_make_181 : decode cX2_make 181 = .ok (.getfield 72, 3) := dk_180 0 72 (dk_at dksX2_make_7 14 rfl rfl)
theorem dX2_make_184 : decode cX2_make 184 = .ok (.aload_n 0, 1) := dk_42 (dk_at dksX2_make_7 17 rfl rfl)
theorem dX2_make_185 : decode cX2_make 185 = .ok (.getfield 27, 3) := dk_180 0 27 (dk_at dksX2_make_7 18 rfl rfl)
theorem dX2_make_188 : decode cX2_make 188 = .ok (.iconst 4, 1) := dk_7 (dk_at dksX2_make_7 21 rfl rfl)
theorem dX2_make_189 : decode cX2_make 189 = .ok (.iload_n 1, 1) := dk_27 (dk_at dksX2_make_7 22 rfl rfl)
theorem dX2_make_190 : decode cX2_make 190 = .ok (.imul, 1) := dk_104 (dk_at dksX2_make_7 23 rfl rfl)
theorem dX2_make_191 : decode cX2_make 191 = .ok (.iconst 1, 1) := dk_4 (dk_at dksX2_make_8 0 rfl rfl)
theorem dX2_make_192 : decode cX2_make 192 = .ok (.iadd, 1) := dk_96 (dk_at dksX2_make_8 1 rfl rfl)
theorem dX2_make_193 : decode cX2_make 193 = .ok (.iaload, 1) := dk_46 (dk_at dksX2_make_8 2 rfl rfl)
theorem dX2_make_194 : decode cX2_make 194 = .ok (.laload, 1) := dk_47 (dk_at dksX2_make_8 3 rfl rfl)
theorem dX2_make_195 : decode cX2_make 195 = .ok (.lmul, 1) := dk_105 (dk_at dksX2_make_8 4 rfl rfl)
theorem dX2_make_196 : decode cX2_make 196 = .ok (.goto 4, 3) := dk_167 0 4 (dk_at dksX2_make_8 5 rfl rfl)
theorem dX2_make_199 : decode cX2_make 199 = .ok (.lconst 0, 1) := dk_9 (dk_at dksX2_make_8 8 rfl rfl)
theorem dX2_make_200 : decode cX2_make 200 = .ok (.lstore 6, 2) := dk_55 6 (dk_at dksX2_make_8 9 rfl rfl)
theorem dX2_make_202 : decode cX2_make 202 = .ok (.aload_n 0, 1) := dk_42 (dk_at dksX2_make_8 11 rfl rfl)
theorem dX2_make_203 : decode cX2_make 203 = .ok (.getfield 79, 3) := dk_180 0 79 (dk_at dksX2_make_8 12 rfl rfl)
theorem dX2_make_206 : decode cX2_make 206 = .ok (.iload_n 3, 1) := dk_29 (dk_at dksX2_make_8 15 rfl rfl)
theorem dX2_make_207 : decode cX2_make 207 = .ok (.aload_n 0, 1) := dk_42 (dk_at dksX2_make_8 16 rfl rfl)
theorem dX2_make_208 : decode cX2_make 208 = .ok (.getfield 30, 3) := dk_180 0 30 (dk_at dksX2_make_8 17 rfl rfl)
theorem dX2_make_211 : decode cX2_make 211 = .ok (.iload_n 1, 1) := dk_27 (dk_at dksX2_make_8 20 rfl rfl)
theorem dX2_make_212 : decode cX2_make 212 = .ok (.iaload, 1) := dk_46 (dk_at dksX2_make_8 21 rfl rfl)
theorem dX2_make_213 : decode cX2_make 213 = .ok (.i2l, 1) := dk_133 (dk_at dksX2_make_8 22 rfl rfl)
theorem dX2_make_214 : decode cX2_make 214 = .ok (.lload 4, 2) := dk_22 4 (dk_at dksX2_make_9 0 rfl rfl)
theorem dX2_make_216 : decode cX2_make 216 = .ok (.lmul, 1) := dk_105 (dk_at dksX2_make_9 2 rfl rfl)
theorem dX2_make_217 : decode cX2_make 217 = .ok (.aload_n 0, 1) := dk_42 (dk_at dksX2_make_9 3 rfl rfl)
theorem dX2_make_218 : decode cX2_make 218 = .ok (.getfield 33, 3) := dk_180 0 33 (dk_at dksX2_make_9 4 rfl rfl)
theorem dX2_make_221 : decode cX2_make 221 = .ok (.iload_n 1, 1) := dk_27 (dk_at dksX2_make_9 7 rfl rfl)
theorem dX2_make_222 : decode cX2_make 222 = .ok (.iaload, 1) := dk_46 (dk_at dksX2_make_9 8 rfl rfl)
theorem dX2_make_223 : decode cX2_make 223 = .ok (.aload_n 0, 1) := dk_42 (dk_at dksX2_make_9 9 rfl rfl)
theorem dX2_make_224 : decode cX2_make 224 = .ok (.getfield 30, 3) := dk_180 0 30 (dk_at dksX2_make_9 10 rfl rfl)
theorem dX2_make_227 : decode cX2_make 227 = .ok (.iload_n 1, 1) := dk_27 (dk_at dksX2_make_9 13 rfl rfl)
theorem dX2_make_228 : decode cX2_make 228 = .ok (.iaload, 1) := dk_46 (dk_at dksX2_make_9 14 rfl rfl)
theorem dX2_make_229 : decode cX2_make 229 = .ok (.isub, 1) := dk_100 (dk_at dksX2_make_9 15 rfl rfl)
theorem dX2_make_230 : decode cX2_make 230 = .ok (.i2l, 1) := dk_133 (dk_at dksX2_make_9 16 rfl rfl)
theorem dX2_make_231 : decode cX2_make 231 = .ok (.aload_n 0, 1) := dk_42 (dk_at dksX2_make_9 17 rfl rfl)
theorem dX2_make_232 : decode cX2_make 232 = .ok (.getfield 79, 3) := dk_180 0 79 (dk_at dksX2_make_9 18 rfl rfl)
theorem dX2_make_235 : decode cX2_make 235 = .ok (.iload_n 3, 1) := dk_29 (dk_at dksX2_make_9 21 rfl rfl)
theorem dX2_make_236 : decode cX2_make 236 = .ok (.laload, 1) := dk_47 (dk_at dksX2_make_9 22 rfl rfl)
theorem dX2_make_237 : decode cX2_make 237 = .ok (.lmul, 1) := dk_105 (dk_at dksX2_make_9 23 rfl rfl)
theorem dX2_make_238 : decode cX2_make 238 = .ok (.ladd, 1) := dk_97 (dk_at dksX2_make_10 0 rfl rfl)
theorem dX2_make_239 : decode cX2_make 239 = .ok (.lastore, 1) := dk_80 (dk_at dksX2_make_10 1 rfl rfl)
theorem dX2_make_240 : decode cX2_make 240 = .ok (.aload_n 0, 1) := dk_42 (dk_at dksX2_make_10 2 rfl rfl)
theorem dX2_make_241 : decode cX2_make 241 = .ok (.getfield 82, 3) := dk_180 0 82 (dk_at dksX2_make_10 3 rfl rfl)
theorem dX2_make_244 : decode cX2_make 244 = .ok (.iload_n 3, 1) := dk_29 (dk_at dksX2_make_10 6 rfl rfl)
theorem dX2_make_245 : decode cX2_make 245 = .ok (.aload_n 0, 1) := dk_42 (dk_at dksX2_make_10 7 rfl rfl)
theorem dX2_make_246 : decode cX2_make 246 = .ok (.getfield 30, 3) := dk_180 0 30 (dk_at dksX2_make_10 8 rfl rfl)
theorem dX2_make_249 : decode cX2_make 249 = .ok (.iload_n 1, 1) := dk_27 (dk_at dksX2_make_10 11 rfl rfl)
theorem dX2_make_250 : decode cX2_make 250 = .ok (.iaload, 1) := dk_46 (dk_at dksX2_make_10 12 rfl rfl)
theorem dX2_make_251 : decode cX2_make 251 = .ok (.i2l, 1) := dk_133 (dk_at dksX2_make_10 13 rfl rfl)
theorem dX2_make_252 : decode cX2_make 252 = .ok (.lload 6, 2) := dk_22 6 (dk_at dksX2_make_10 14 rfl rfl)
theorem dX2_make_254 : decode cX2_make 254 = .ok (.lmul, 1) := dk_105 (dk_at dksX2_make_10 16 rfl rfl)
theorem dX2_make_255 : decode cX2_make 255 = .ok (.aload_n 0, 1) := dk_42 (dk_at dksX2_make_10 17 rfl rfl)
theorem dX2_make_256 : decode cX2_make 256 = .ok (.getfield 33, 3) := dk_180 0 33 (dk_at dksX2_make_10 18 rfl rfl)
theorem dX2_make_259 : decode cX2_make 259 = .ok (.iload_n 1, 1) := dk_27 (dk_at dksX2_make_10 21 rfl rfl)
theorem dX2_make_260 : decode cX2_make 260 = .ok (.iaload, 1) := dk_46 (dk_at dksX2_make_10 22 rfl rfl)
theorem dX2_make_261 : decode cX2_make 261 = .ok (.aload_n 0, 1) := dk_42 (dk_at dksX2_make_10 23 rfl rfl)
theorem dX2_make_262 : decode cX2_make 262 = .ok (.getfield 30, 3) := dk_180 0 30 (dk_at dksX2_make_11 0 rfl rfl)
theorem dX2_make_265 : decode cX2_make 265 = .ok (.iload_n 1, 1) := dk_27 (dk_at dksX2_make_11 3 rfl rfl)
theorem dX2_make_266 : decode cX2_make 266 = .ok (.iaload, 1) := dk_46 (dk_at dksX2_make_11 4 rfl rfl)
theorem dX2_make_267 : decode cX2_make 267 = .ok (.isub, 1) := dk_100 (dk_at dksX2_make_11 5 rfl rfl)
theorem dX2_make_268 : decode cX2_make 268 = .ok (.i2l, 1) := dk_133 (dk_at dksX2_make_11 6 rfl rfl)
theorem dX2_make_269 : decode cX2_make 269 = .ok (.aload_n 0, 1) := dk_42 (dk_at dksX2_make_11 7 rfl rfl)
theorem dX2_make_270 : decode cX2_make 270 = .ok (.getfield 82, 3) := dk_180 0 82 (dk_at dksX2_make_11 8 rfl rfl)
theorem dX2_make_273 : decode cX2_make 273 = .ok (.iload_n 3, 1) := dk_29 (dk_at dksX2_make_11 11 rfl rfl)
theorem dX2_make_274 : decode cX2_make 274 = .ok (.laload, 1) := dk_47 (dk_at dksX2_make_11 12 rfl rfl)
theorem dX2_make_275 : decode cX2_make 275 = .ok (.lmul, 1) := dk_105 (dk_at dksX2_make_11 13 rfl rfl)
theorem dX2_make_276 : decode cX2_make 276 = .ok (.ladd, 1) := dk_97 (dk_at dksX2_make_11 14 rfl rfl)
theorem dX2_make_277 : decode cX2_make 277 = .ok (.lastore, 1) := dk_80 (dk_at dksX2_make_11 15 rfl rfl)
theorem dX2_make_278 : decode cX2_make 278 = .ok (.iinc 3 1, 3) := dk_132 3 1 (dk_at dksX2_make_11 16 rfl rfl)
theorem dX2_make_281 : decode cX2_make 281 = .ok (.goto (-164), 3) := dk_167 255 92 (dk_at dksX2_make_11 19 rfl rfl)
theorem dX2_make_284 : decode cX2_make 284 = .ok (.goto 16, 3) := dk_167 0 16 (dk_at dksX2_make_12 0 rfl rfl)
theorem dX2_make_287 : decode cX2_make 287 = .ok (.aload_n 0, 1) := dk_42 (dk_at dksX2_make_12 3 rfl rfl)
theorem dX2_make_288 : decode cX2_make 288 = .ok (.iload_n 1, 1) := dk_27 (dk_at dksX2_make_12 4 rfl rfl)
theorem dX2_make_289 : decode cX2_make 289 = .ok (.invokevirtual 202, 3) := dk_182 0 202 (dk_at dksX2_make_12 5 rfl rfl)
theorem dX2_make_292 : decode cX2_make 292 = .ok (.goto 8, 3) := dk_167 0 8 (dk_at dksX2_make_12 8 rfl rfl)
theorem dX2_make_295 : decode cX2_make 295 = .ok (.aload_n 0, 1) := dk_42 (dk_at dksX2_make_12 11 rfl rfl)
theorem dX2_make_296 : decode cX2_make 296 = .ok (.iload_n 1, 1) := dk_27 (dk_at dksX2_make_12 12 rfl rfl)
theorem dX2_make_297 : decode cX2_make 297 = .ok (.invokevirtual 205, 3) := dk_182 0 205 (dk_at dksX2_make_12 13 rfl rfl)
theorem dX2_make_300 : decode cX2_make 300 = .ok (.return_, 1) := dk_177 (dk_at dksX2_make_12 16 rfl rfl)
abbrev cX2_makeRow : ByteArray := prog_13_method_34_code
def yX2_makeRow : MethodName := ⟨RX2, "makeRow", "(II)V"⟩
def dkwX2_makeRow_12 : List UInt8 := [167, 255, 232, 177]
abbrev dktX2_makeRow_12 : List UInt8 := dkwX2_makeRow_12 ++ []
def dkwX2_makeRow_11 : List UInt8 := [29, 42, 180, 0, 79, 190, 162, 0, 21, 42, 180, 0, 79, 29, 42, 180, 0, 85, 29, 47, 80, 132, 3, 1]
abbrev dktX2_makeRow_11 : List UInt8 := dkwX2_makeRow_11 ++ dktX2_makeRow_12
def dkwX2_makeRow_10 : List UInt8 := [21, 5, 42, 180, 0, 88, 21, 5, 47, 80, 132, 5, 1, 167, 255, 229, 132, 3, 1, 167, 255, 20, 3, 62]
abbrev dktX2_makeRow_10 : List UInt8 := dkwX2_makeRow_10 ++ dktX2_makeRow_11
def dkwX2_makeRow_9 : List UInt8 := [132, 5, 1, 167, 255, 137, 3, 54, 5, 21, 5, 42, 180, 0, 85, 190, 162, 0, 23, 42, 180, 0, 85]
abbrev dktX2_makeRow_9 : List UInt8 := dkwX2_makeRow_9 ++ dktX2_makeRow_10
def dkwX2_makeRow_8 : List UInt8 := [21, 5, 47, 42, 180, 0, 69, 21, 4, 21, 6, 184, 0, 173, 47, 105, 97, 80, 132, 6, 1, 167, 255, 169]
abbrev dktX2_makeRow_8 : List UInt8 := dkwX2_makeRow_8 ++ dktX2_makeRow_9
def dkwX2_makeRow_7 : List UInt8 := [21, 6, 184, 0, 173, 47, 105, 97, 80, 42, 180, 0, 82, 21, 5, 21, 6, 96, 92, 47, 42, 180, 0, 85]
abbrev dktX2_makeRow_7 : List UInt8 := dkwX2_makeRow_7 ++ dktX2_makeRow_8
def dkwX2_makeRow_6 : List UInt8 := [42, 180, 0, 88, 21, 5, 21, 6, 96, 92, 47, 42, 180, 0, 85, 21, 5, 47, 42, 180, 0, 66, 21, 4]
abbrev dktX2_makeRow_6 : List UInt8 := dkwX2_makeRow_6 ++ dktX2_makeRow_7
def dkwX2_makeRow_5 : List UInt8 := [167, 0, 96, 3, 54, 6, 21, 6, 16, 121, 162, 0, 86, 21, 5, 21, 6, 96, 17, 2, 88, 162, 0, 75]
abbrev dktX2_makeRow_5 : List UInt8 := dkwX2_makeRow_5 ++ dktX2_makeRow_6
def dkwX2_makeRow_4 : List UInt8 := [54, 5, 21, 5, 17, 1, 225, 162, 0, 117, 42, 180, 0, 85, 21, 5, 47, 9, 148, 154, 0, 6]
abbrev dktX2_makeRow_4 : List UInt8 := dkwX2_makeRow_4 ++ dktX2_makeRow_5
def dkwX2_makeRow_3 : List UInt8 := [180, 0, 82, 21, 5, 92, 47, 42, 180, 0, 72, 21, 4, 47, 105, 80, 132, 5, 1, 167, 255, 226, 3]
abbrev dktX2_makeRow_3 : List UInt8 := dkwX2_makeRow_3 ++ dktX2_makeRow_4
def dkwX2_makeRow_2 : List UInt8 := [54, 4, 42, 42, 180, 0, 88, 182, 0, 176, 3, 54, 5, 21, 5, 42, 180, 0, 82, 190, 162, 0, 26, 42]
abbrev dktX2_makeRow_2 : List UInt8 := dkwX2_makeRow_2 ++ dktX2_makeRow_3
def dkwX2_makeRow_1 : List UInt8 := [180, 0, 27, 7, 27, 104, 29, 96, 46, 2, 159, 0, 223, 42, 180, 0, 27, 7, 27, 104, 29, 96, 46]
abbrev dktX2_makeRow_1 : List UInt8 := dkwX2_makeRow_1 ++ dktX2_makeRow_2
def dkwX2_makeRow_0 : List UInt8 := [42, 42, 180, 0, 85, 182, 0, 176, 42, 180, 0, 85, 3, 10, 80, 3, 62, 29, 28, 162, 0, 237, 42]
abbrev dktX2_makeRow_0 : List UInt8 := dkwX2_makeRow_0 ++ dktX2_makeRow_1
theorem dksX2_makeRow_0 : cX2_makeRow.data.toList.drop 0 = dktX2_makeRow_0 := by decide +kernel
theorem dksX2_makeRow_1 : cX2_makeRow.data.toList.drop 23 = dktX2_makeRow_1 := dk_seg dksX2_makeRow_0 23 rfl rfl
theorem dksX2_makeRow_2 : cX2_makeRow.data.toList.drop 46 = dktX2_makeRow_2 := dk_seg dksX2_makeRow_1 23 rfl rfl
theorem dksX2_makeRow_3 : cX2_makeRow.data.toList.drop 70 = dktX2_makeRow_3 := dk_seg dksX2_makeRow_2 24 rfl rfl
theorem dksX2_makeRow_4 : cX2_makeRow.data.toList.drop 93 = dktX2_makeRow_4 := dk_seg dksX2_makeRow_3 23 rfl rfl
theorem dksX2_makeRow_5 : cX2_makeRow.data.toList.drop 115 = dktX2_makeRow_5 := dk_seg dksX2_makeRow_4 22 rfl rfl
theorem dksX2_makeRow_6 : cX2_makeRow.data.toList.drop 139 = dktX2_makeRow_6 := dk_seg dksX2_makeRow_5 24 rfl rfl
theorem dksX2_makeRow_7 : cX2_makeRow.data.toList.drop 163 = dktX2_makeRow_7 := dk_seg dksX2_makeRow_6 24 rfl rfl
theorem dksX2_makeRow_8 : cX2_makeRow.data.toList.drop 187 = dktX2_makeRow_8 := dk_seg dksX2_makeRow_7 24 rfl rfl
theorem dksX2_makeRow_9 : cX2_makeRow.data.toList.drop 211 = dktX2_makeRow_9 := dk_seg dksX2_makeRow_8 24 rfl rfl
theorem dksX2_makeRow_10 : cX2_makeRow.data.toList.drop 234 = dktX2_makeRow_10 := dk_seg dksX2_makeRow_9 23 rfl rfl
theorem dksX2_makeRow_11 : cX2_makeRow.data.toList.drop 258 = dktX2_makeRow_11 := dk_seg dksX2_makeRow_10 24 rfl rfl
theorem dksX2_makeRow_12 : cX2_makeRow.data.toList.drop 282 = dktX2_makeRow_12 := dk_seg dksX2_makeRow_11 24 rfl rfl
theorem dX2_makeRow_0 : decode cX2_makeRow 0 = .ok (.aload_n 0, 1) := dk_42 (dk_at dksX2_makeRow_0 0 rfl rfl)
theorem dX2_makeRow_1 : decode cX2_makeRow 1 = .ok (.aload_n 0, 1) := dk_42 (dk_at dksX2_makeRow_0 1 rfl rfl)
theorem dX2_makeRow_2 : decode cX2_makeRow 2 = .ok (.getfield 85, 3) := dk_180 0 85 (dk_at dksX2_makeRow_0 2 rfl rfl)
theorem dX2_makeRow_5 : decode cX2_makeRow 5 = .ok (.invokevirtual 176, 3) := dk_182 0 176 (dk_at dksX2_makeRow_0 5 rfl rfl)
theorem dX2_makeRow_8 : decode cX2_makeRow 8 = .ok (.aload_n 0, 1) := dk_42 (dk_at dksX2_makeRow_0 8 rfl rfl)
theorem dX2_makeRow_9 : decode cX2_makeRow 9 = .ok (.getfield 85, 3) := dk_180 0 85 (dk_at dksX2_makeRow_0 9 rfl rfl)
theorem dX2_makeRow_12 : decode cX2_makeRow 12 = .ok (.iconst 0, 1) := dk_3 (dk_at dksX2_makeRow_0 12 rfl rfl)
theorem dX2_makeRow_13 : decode cX2_makeRow 13 = .ok (.lconst 1, 1) := dk_10 (dk_at dksX2_makeRow_0 13 rfl rfl)
theorem dX2_makeRow_14 : decode cX2_makeRow 14 = .ok (.lastore, 1) := dk_80 (dk_at dksX2_makeRow_0 14 rfl rfl)
theorem dX2_makeRow_15 : decode cX2_makeRow 15 = .ok (.iconst 0, 1) := dk_3 (dk_at dksX2_makeRow_0 15 rfl rfl)
theorem dX2_makeRow_16 : decode cX2_makeRow 16 = .ok (.istore_n 3, 1) := dk_62 (dk_at dksX2_makeRow_0 16 rfl rfl)
theorem dX2_makeRow_17 : decode cX2_makeRow 17 = .ok (.iload_n 3, 1) := dk_29 (dk_at dksX2_makeRow_0 17 rfl rfl)
theorem dX2_makeRow_18 : decode cX2_makeRow 18 = .ok (.iload_n 2, 1) := dk_28 (dk_at dksX2_makeRow_0 18 rfl rfl)
theorem dX2_makeRow_19 : decode cX2_makeRow 19 = .ok (.if_icmp .ge 237, 3) := dk_162 0 237 (dk_at dksX2_makeRow_0 19 rfl rfl)
theorem dX2_makeRow_22 : decode cX2_makeRow 22 = .ok (.aload_n 0, 1) := dk_42 (dk_at dksX2_makeRow_0 22 rfl rfl)
theorem dX2_makeRow_23 : decode cX2_makeRow 23 = .ok (.getfield 27, 3) := dk_180 0 27 (dk_at dksX2_makeRow_1 0 rfl rfl)
theorem dX2_makeRow_26 : decode cX2_makeRow 26 = .ok (.iconst 4, 1) := dk_7 (dk_at dksX2_makeRow_1 3 rfl rfl)
theorem dX2_makeRow_27 : decode cX2_makeRow 27 = .ok (.iload_n 1, 1) := dk_27 (dk_at dksX2_makeRow_1 4 rfl rfl)
theorem dX2_makeRow_28 : decode cX2_makeRow 28 = .ok (.imul, 1) := dk_104 (dk_at dksX2_makeRow_1 5 rfl rfl)
theorem dX2_makeRow_29 : decode cX2_makeRow 29 = .ok (.iload_n 3, 1) := dk_29 (dk_at dksX2_makeRow_1 6 rfl rfl)
theorem dX2_makeRow_30 : decode cX2_makeRow 30 = .ok (.iadd, 1) := dk_96 (dk_at dksX2_makeRow_1 7 rfl rfl)
theorem dX2_makeRow_31 : decode cX2_makeRow 31 = .ok (.iaload, 1) := dk_46 (dk_at dksX2_makeRow_1 8 rfl rfl)
theorem dX2_makeRow_32 : decode cX2_makeRow 32 = .ok (.iconst (-1), 1) := dk_2 (dk_at dksX2_makeRow_1 9 rfl rfl)
theorem dX2_makeRow_33 : decode cX2_makeRow 33 = .ok (.if_icmp .eq 223, 3) := dk_159 0 223 (dk_at dksX2_makeRow_1 10 rfl rfl)
theorem dX2_makeRow_36 : decode cX2_makeRow 36 = .ok (.aload_n 0, 1) := dk_42 (dk_at dksX2_makeRow_1 13 rfl rfl)
theorem dX2_makeRow_37 : decode cX2_makeRow 37 = .ok (.getfield 27, 3) := dk_180 0 27 (dk_at dksX2_makeRow_1 14 rfl rfl)
theorem dX2_makeRow_40 : decode cX2_makeRow 40 = .ok (.iconst 4, 1) := dk_7 (dk_at dksX2_makeRow_1 17 rfl rfl)
theorem dX2_makeRow_41 : decode cX2_makeRow 41 = .ok (.iload_n 1, 1) := dk_27 (dk_at dksX2_makeRow_1 18 rfl rfl)
theorem dX2_makeRow_42 : decode cX2_makeRow 42 = .ok (.imul, 1) := dk_104 (dk_at dksX2_makeRow_1 19 rfl rfl)
theorem dX2_makeRow_43 : decode cX2_makeRow 43 = .ok (.iload_n 3, 1) := dk_29 (dk_at dksX2_makeRow_1 20 rfl rfl)
theorem dX2_makeRow_44 : decode cX2_makeRow 44 = .ok (.iadd, 1) := dk_96 (dk_at dksX2_makeRow_1 21 rfl rfl)
theorem dX2_makeRow_45 : decode cX2_makeRow 45 = .ok (.iaload, 1) := dk_46 (dk_at dksX2_makeRow_1 22 rfl rfl)
theorem dX2_makeRow_46 : decode cX2_makeRow 46 = .ok (.istore 4, 2) := dk_54 4 (dk_at dksX2_makeRow_2 0 rfl rfl)
theorem dX2_makeRow_48 : decode cX2_makeRow 48 = .ok (.aload_n 0, 1) := dk_42 (dk_at dksX2_makeRow_2 2 rfl rfl)
theorem dX2_makeRow_49 : decode cX2_makeRow 49 = .ok (.aload_n 0, 1) := dk_42 (dk_at dksX2_makeRow_2 3 rfl rfl)
theorem dX2_makeRow_50 : decode cX2_makeRow 50 = .ok (.getfield 88, 3) := dk_180 0 88 (dk_at dksX2_makeRow_2 4 rfl rfl)
theorem dX2_makeRow_53 : decode cX2_makeRow 53 = .ok (.invokevirtual 176, 3) := dk_182 0 176 (dk_at dksX2_makeRow_2 7 rfl rfl)
theorem dX2_makeRow_56 : decode cX2_makeRow 56 = .ok (.iconst 0, 1) := dk_3 (dk_at dksX2_makeRow_2 10 rfl rfl)
theorem dX2_makeRow_57 : decode cX2_makeRow 57 = .ok (.istore 5, 2) := dk_54 5 (dk_at dksX2_makeRow_2 11 rfl rfl)
theorem dX2_makeRow_59 : decode cX2_makeRow 59 = .ok (.iload 5, 2) := dk_21 5 (dk_at dksX2_makeRow_2 13 rfl rfl)
theorem dX2_makeRow_61 : decode cX2_makeRow 61 = .ok (.aload_n 0, 1) := dk_42 (dk_at dksX2_makeRow_2 15 rfl rfl)
theorem dX2_makeRow_62 : decode cX2_makeRow 62 = .ok (.getfield 82, 3) := dk_180 0 82 (dk_at dksX2_makeRow_2 16 rfl rfl)
theorem dX2_makeRow_65 : decode cX2_makeRow 65 = .ok (.arraylength, 1) := dk_190 (dk_at dksX2_makeRow_2 19 rfl rfl)
theorem dX2_makeRow_66 : decode cX2_makeRow 66 = .ok (.if_icmp .ge 26, 3) := dk_162 0 26 (dk_at dksX2_makeRow_2 20 rfl rfl)
theorem dX2_makeRow_69 : decode cX2_makeRow 69 = .ok (.aload_n 0, 1) := dk_42 (dk_at dksX2_makeRow_2 23 rfl rfl)
theorem dX2_makeRow_70 : decode cX2_makeRow 70 = .ok (.getfield 82, 3) := dk_180 0 82 (dk_at dksX2_makeRow_3 0 rfl rfl)
theorem dX2_makeRow_73 : decode cX2_makeRow 73 = .ok (.iload 5, 2) := dk_21 5 (dk_at dksX2_makeRow_3 3 rfl rfl)
theorem dX2_makeRow_75 : decode cX2_makeRow 75 = .ok (.dup2, 1) := dk_92 (dk_at dksX2_makeRow_3 5 rfl rfl)
theorem dX2_makeRow_76 : decode cX2_makeRow 76 = .ok (.laload, 1) := dk_47 (dk_at dksX2_makeRow_3 6 rfl rfl)
theorem dX2_makeRow_77 : decode cX2_makeRow 77 = .ok (.aload_n 0, 1) := dk_42 (dk_at dksX2_makeRow_3 7 rfl rfl)
theorem dX2_makeRow_78 : decode cX2_makeRow 78 = .ok (.getfield 72, 3) := dk_180 0 72 (dk_at dksX2_makeRow_3 8 rfl rfl)
theorem dX2_makeRow_81 : decode cX2_makeRow 81 = .ok (.iload 4, 2) := dk_21 4 (dk_at dksX2_makeRow_3 11 rfl rfl)
theorem dX2_makeRow_83 : decode cX2_makeRow 83 = .ok (.laload, 1) := dk_47 (dk_at dksX2_makeRow_3 13 rfl rfl)
theorem dX2_makeRow_84 : decode cX2_makeRow 84 = .ok (.lmul, 1) := dk_105 (dk_at dksX2_makeRow_3 14 rfl rfl)
theorem dX2_makeRow_85 : decode cX2_makeRow 85 = .ok (.lastore, 1) := dk_80 (dk_at dksX2_makeRow_3 15 rfl rfl)
theorem dX2_makeRow_86 : decode cX2_makeRow 86 = .ok (.iinc 5 1, 3) := dk_132 5 1 (dk_at dksX2_makeRow_3 16 rfl rfl)
theorem dX2_makeRow_89 : decode cX2_makeRow 89 = .ok (.goto (-30), 3) := dk_167 255 226 (dk_at dksX2_makeRow_3 19 rfl rfl)
theorem dX2_makeRow_92 : decode cX2_makeRow 92 = .ok (.iconst 0, 1) := dk_3 (dk_at dksX2_makeRow_3 22 rfl rfl)
theorem dX2_makeRow_93 : decode cX2_makeRow 93 = .ok (.istore 5, 2) := dk_54 5 (dk_at dksX2_makeRow_4 0 rfl rfl)
theorem dX2_makeRow_95 : decode cX2_makeRow 95 = .ok (.iload 5, 2) := dk_21 5 (dk_at dksX2_makeRow_4 2 rfl rfl)
theorem dX2_makeRow_97 : decode cX2_makeRow 97 = .ok (.sipush 481, 3) := dk_17 1 225 (dk_at dksX2_makeRow_4 4 rfl rfl)
theorem dX2_makeRow_100 : decode cX2_makeRow 100 = .ok (.if_icmp .ge 117, 3) := dk_162 0 117 (dk_at dksX2_makeRow_4 7 rfl rfl)
theorem dX2_makeRow_103 : decode cX2_makeRow 103 = .ok (.aload_n 0, 1) := dk_42 (dk_at dksX2_makeRow_4 10 rfl rfl)
theorem dX2_makeRow_104 : decode cX2_makeRow 104 = .ok (.getfield 85, 3) := dk_180 0 85 (dk_at dksX2_makeRow_4 11 rfl rfl)
theorem dX2_makeRow_107 : decode cX2_makeRow 107 = .ok (.iload 5, 2) := dk_21 5 (dk_at dksX2_makeRow_4 14 rfl rfl)
theorem dX2_makeRow_109 : decode cX2_makeRow 109 = .ok (.laload, 1) := dk_47 (dk_at dksX2_makeRow_4 16 rfl rfl)
theorem dX2_makeRow_110 : decode cX2_makeRow 110 = .ok (.lconst 0, 1) := dk_9 (dk_at dksX2_makeRow_4 17 rfl rfl)
theorem dX2_makeRow_111 : decode cX2_makeRow 111 = .ok (.lcmp, 1) := dk_148 (dk_at dksX2_makeRow_4 18 rfl rfl)
theorem dX2_makeRow_112 : decode cX2_makeRow 112 = .ok (.ifCond .ne 6, 3) := dk_154 0 6 (dk_at dksX2_makeRow_4 19 rfl rfl)
theorem dX2_makeRow_115 : decode cX2_makeRow 115 = .ok (.goto 96, 3) := dk_167 0 96 (dk_at dksX2_makeRow_5 0 rfl rfl)
theorem dX2_makeRow_118 : decode cX2_makeRow 118 = .ok (.iconst 0, 1) := dk_3 (dk_at dksX2_makeRow_5 3 rfl rfl)
theorem dX2_makeRow_119 : decode cX2_makeRow 119 = .ok (.istore 6, 2) := dk_54 6 (dk_at dksX2_makeRow_5 4 rfl rfl)
theorem dX2_makeRow_121 : decode cX2_makeRow 121 = .ok (.iload 6, 2) := dk_21 6 (dk_at dksX2_makeRow_5 6 rfl rfl)
theorem dX2_makeRow_123 : decode cX2_makeRow 123 = .ok (.bipush 121, 2) := dk_16 121 (dk_at dksX2_makeRow_5 8 rfl rfl)
theorem dX2_makeRow_125 : decode cX2_makeRow 125 = .ok (.if_icmp .ge 86, 3) := dk_162 0 86 (dk_at dksX2_makeRow_5 10 rfl rfl)
theorem dX2_makeRow_128 : decode cX2_makeRow 128 = .ok (.iload 5, 2) := dk_21 5 (dk_at dksX2_makeRow_5 13 rfl rfl)
theorem dX2_makeRow_130 : decode cX2_makeRow 130 = .ok (.iload 6, 2) := dk_21 6 (dk_at dksX2_makeRow_5 15 rfl rfl)
theorem dX2_makeRow_132 : decode cX2_makeRow 132 = .ok (.iadd, 1) := dk_96 (dk_at dksX2_makeRow_5 17 rfl rfl)
theorem dX2_makeRow_133 : decode cX2_makeRow 133 = .ok (.sipush 600, 3) := dk_17 2 88 (dk_at dksX2_makeRow_5 18 rfl rfl)
theorem dX2_makeRow_136 : decode cX2_makeRow 136 = .ok (.if_icmp .ge 75, 3) := dk_162 0 75 (dk_at dksX2_makeRow_5 21 rfl rfl)
theorem dX2_makeRow_139 : decode cX2_makeRow 139 = .ok (.aload_n 0, 1) := dk_42 (dk_at dksX2_makeRow_6 0 rfl rfl)
theorem dX2_makeRow_140 : decode cX2_makeRow 140 = .ok (.getfield 88, 3) := dk_180 0 88 (dk_at dksX2_makeRow_6 1 rfl rfl)
theorem dX2_makeRow_143 : decode cX2_makeRow 143 = .ok (.iload 5, 2) := dk_21 5 (dk_at dksX2_makeRow_6 4 rfl rfl)
theorem dX2_makeRow_145 : decode cX2_makeRow 145 = .ok (.iload 6, 2) := dk_21 6 (dk_at dksX2_makeRow_6 6 rfl rfl)
theorem dX2_makeRow_147 : decode cX2_makeRow 147 = .ok (.iadd, 1) := dk_96 (dk_at dksX2_makeRow_6 8 rfl rfl)
theorem dX2_makeRow_148 : decode cX2_makeRow 148 = .ok (.dup2, 1) := dk_92 (dk_at dksX2_makeRow_6 9 rfl rfl)
theorem dX2_makeRow_149 : decode cX2_makeRow 149 = .ok (.laload, 1) := dk_47 (dk_at dksX2_makeRow_6 10 rfl rfl)
theorem dX2_makeRow_150 : decode cX2_makeRow 150 = .ok (.aload_n 0, 1) := dk_42 (dk_at dksX2_makeRow_6 11 rfl rfl)
theorem dX2_makeRow_151 : decode cX2_makeRow 151 = .ok (.getfield 85, 3) := dk_180 0 85 (dk_at dksX2_makeRow_6 12 rfl rfl)
theorem dX2_makeRow_154 : decode cX2_makeRow 154 = .ok (.iload 5, 2) := dk_21 5 (dk_at dksX2_makeRow_6 15 rfl rfl)
theorem dX2_makeRow_156 : decode cX2_makeRow 156 = .ok (.laload, 1) := dk_47 (dk_at dksX2_makeRow_6 17 rfl rfl)
theorem dX2_makeRow_157 : decode cX2_makeRow 157 = .ok (.aload_n 0, 1) := dk_42 (dk_at dksX2_makeRow_6 18 rfl rfl)
theorem dX2_makeRow_158 : decode cX2_makeRow 158 = .ok (.getfield 66, 3) := dk_180 0 66 (dk_at dksX2_makeRow_6 19 rfl rfl)
theorem dX2_makeRow_161 : decode cX2_makeRow 161 = .ok (.iload 4, 2) := dk_21 4 (dk_at dksX2_makeRow_6 22 rfl rfl)
theorem dX2_makeRow_163 : decode cX2_makeRow 163 = .ok (.iload 6, 2) := dk_21 6 (dk_at dksX2_makeRow_7 0 rfl rfl)
theorem dX2_makeRow_165 : decode cX2_makeRow 165 = .ok (.invokestatic 173, 3) := dk_184 0 173 (dk_at dksX2_makeRow_7 2 rfl rfl)
theorem dX2_makeRow_168 : decode cX2_makeRow 168 = .ok (.laload, 1) := dk_47 (dk_at dksX2_makeRow_7 5 rfl rfl)
theorem dX2_makeRow_169 : decode cX2_makeRow 169 = .ok (.lmul, 1) := dk_105 (dk_at dksX2_makeRow_7 6 rfl rfl)
theorem dX2_makeRow_170 : decode cX2_makeRow 170 = .ok (.ladd, 1) := dk_97 (dk_at dksX2_makeRow_7 7 rfl rfl)
theorem dX2_makeRow_171 : decode cX2_makeRow 171 = .ok (.lastore, 1) := dk_80 (dk_at dksX2_makeRow_7 8 rfl rfl)
theorem dX2_makeRow_172 : decode cX2_makeRow 172 = .ok (.aload_n 0, 1) := dk_42 (dk_at dksX2_makeRow_7 9 rfl rfl)
theorem dX2_makeRow_173 : decode cX2_makeRow 173 = .ok (.getfield 82, 3) := dk_180 0 82 (dk_at dksX2_makeRow_7 10 rfl rfl)
theorem dX2_makeRow_176 : decode cX2_makeRow 176 = .ok (.iload 5, 2) := dk_21 5 (dk_at dksX2_makeRow_7 13 rfl rfl)
theorem dX2_makeRow_178 : decode cX2_makeRow 178 = .ok (.iload 6, 2) := dk_21 6 (dk_at dksX2_makeRow_7 15 rfl rfl)
theorem dX2_makeRow_180 : decode cX2_makeRow 180 = .ok (.iadd, 1) := dk_96 (dk_at dksX2_makeRow_7 17 rfl rfl)
theorem dX2_makeRow_181 : decode cX2_makeRow 181 = .ok (.dup2, 1) := dk_92 (dk_at dksX2_makeRow_7 18 rfl rfl)
theorem dX2_makeRow_182 : decode cX2_makeRow 182 = .ok (.laload, 1) := dk_47 (dk_at dksX2_makeRow_7 19 rfl rfl)
theorem dX2_makeRow_183 : decode cX2_makeRow 183 = .ok (.aload_n 0, 1) := dk_42 (dk_at dksX2_makeRow_7 20 rfl rfl)
theorem dX2_makeRow_184 : decode cX2_makeRow 184 = .ok (.getfield 85, 3) := dk_180 0 85 (dk_at dksX2_makeRow_7 21 rfl rfl)
theorem dX2_makeRow_187 : decode cX2_makeRow 187 = .ok (.iload 5, 2) := dk_21 5 (dk_at dksX2_makeRow_8 0 rfl rfl)
theorem dX2_makeRow_189 : decode cX2_makeRow 189 = .ok (.laload, 1) := dk_47 (dk_at dksX2_makeRow_8 2 rfl rfl)
theorem dX2_makeRow_190 : decode cX2_makeRow 190 = .ok (.aload_n 0, 1) := dk_42 (dk_at dksX2_makeRow_8 3 rfl rfl)
theorem dX2_makeRow_191 : decode cX2_makeRow 191 = .ok (.getfield 69, 3) := dk_180 0 69 (dk_at dksX2_makeRow_8 4 rfl rfl)
theorem dX2_makeRow_194 : decode cX2_makeRow 194 = .ok (.iload 4, 2) := dk_21 4 (dk_at dksX2_makeRow_8 7 rfl rfl)
theorem dX2_makeRow_196 : decode cX2_makeRow 196 = .ok (.iload 6, 2) := dk_21 6 (dk_at dksX2_makeRow_8 9 rfl rfl)
theorem dX2_makeRow_198 : decode cX2_makeRow 198 = .ok (.invokestatic 173, 3) := dk_184 0 173 (dk_at dksX2_makeRow_8 11 rfl rfl)
theorem dX2_makeRow_201 : decode cX2_makeRow 201 = .ok (.laload, 1) := dk_47 (dk_at dksX2_makeRow_8 14 rfl rfl)
theorem dX2_makeRow_202 : decode cX2_makeRow 202 = .ok (.lmul, 1) := dk_105 (dk_at dksX2_makeRow_8 15 rfl rfl)
theorem dX2_makeRow_203 : decode cX2_makeRow 203 = .ok (.ladd, 1) := dk_97 (dk_at dksX2_makeRow_8 16 rfl rfl)
theorem dX2_makeRow_204 : decode cX2_makeRow 204 = .ok (.lastore, 1) := dk_80 (dk_at dksX2_makeRow_8 17 rfl rfl)
theorem dX2_makeRow_205 : decode cX2_makeRow 205 = .ok (.iinc 6 1, 3) := dk_132 6 1 (dk_at dksX2_makeRow_8 18 rfl rfl)
theorem dX2_makeRow_208 : decode cX2_makeRow 208 = .ok (.goto (-87), 3) := dk_167 255 169 (dk_at dksX2_makeRow_8 21 rfl rfl)
theorem dX2_makeRow_211 : decode cX2_makeRow 211 = .ok (.iinc 5 1, 3) := dk_132 5 1 (dk_at dksX2_makeRow_9 0 rfl rfl)
theorem dX2_makeRow_214 : decode cX2_makeRow 214 = .ok (.goto (-119), 3) := dk_167 255 137 (dk_at dksX2_makeRow_9 3 rfl rfl)
theorem dX2_makeRow_217 : decode cX2_makeRow 217 = .ok (.iconst 0, 1) := dk_3 (dk_at dksX2_makeRow_9 6 rfl rfl)
theorem dX2_makeRow_218 : decode cX2_makeRow 218 = .ok (.istore 5, 2) := dk_54 5 (dk_at dksX2_makeRow_9 7 rfl rfl)
theorem dX2_makeRow_220 : decode cX2_makeRow 220 = .ok (.iload 5, 2) := dk_21 5 (dk_at dksX2_makeRow_9 9 rfl rfl)
theorem dX2_makeRow_222 : decode cX2_makeRow 222 = .ok (.aload_n 0, 1) := dk_42 (dk_at dksX2_makeRow_9 11 rfl rfl)
theorem dX2_makeRow_223 : decode cX2_makeRow 223 = .ok (.getfield 85, 3) := dk_180 0 85 (dk_at dksX2_makeRow_9 12 rfl rfl)
theorem dX2_makeRow_226 : decode cX2_makeRow 226 = .ok (.arraylength, 1) := dk_190 (dk_at dksX2_makeRow_9 15 rfl rfl)
theorem dX2_makeRow_227 : decode cX2_makeRow 227 = .ok (.if_icmp .ge 23, 3) := dk_162 0 23 (dk_at dksX2_makeRow_9 16 rfl rfl)
theorem dX2_makeRow_230 : decode cX2_makeRow 230 = .ok (.aload_n 0, 1) := dk_42 (dk_at dksX2_makeRow_9 19 rfl rfl)
theorem dX2_makeRow_231 : decode cX2_makeRow 231 = .ok (.getfield 85, 3) := dk_180 0 85 (dk_at dksX2_makeRow_9 20 rfl rfl)
theorem dX2_makeRow_234 : decode cX2_makeRow 234 = .ok (.iload 5, 2) := dk_21 5 (dk_at dksX2_makeRow_10 0 rfl rfl)
theorem dX2_makeRow_236 : decode cX2_makeRow 236 = .ok (.aload_n 0, 1) := dk_42 (dk_at dksX2_makeRow_10 2 rfl rfl)
theorem dX2_makeRow_237 : decode cX2_makeRow 237 = .ok (.getfield 88, 3) := dk_180 0 88 (dk_at dksX2_makeRow_10 3 rfl rfl)
theorem dX2_makeRow_240 : decode cX2_makeRow 240 = .ok (.iload 5, 2) := dk_21 5 (dk_at dksX2_makeRow_10 6 rfl rfl)
theorem dX2_makeRow_242 : decode cX2_makeRow 242 = .ok (.laload, 1) := dk_47 (dk_at dksX2_makeRow_10 8 rfl rfl)
theorem dX2_makeRow_243 : decode cX2_makeRow 243 = .ok (.lastore, 1) := dk_80 (dk_at dksX2_makeRow_10 9 rfl rfl)
theorem dX2_makeRow_244 : decode cX2_makeRow 244 = .ok (.iinc 5 1, 3) := dk_132 5 1 (dk_at dksX2_makeRow_10 10 rfl rfl)
theorem dX2_makeRow_247 : decode cX2_makeRow 247 = .ok (.goto (-27), 3) := dk_167 255 229 (dk_at dksX2_makeRow_10 13 rfl rfl)
theorem dX2_makeRow_250 : decode cX2_makeRow 250 = .ok (.iinc 3 1, 3) := dk_132 3 1 (dk_at dksX2_makeRow_10 16 rfl rfl)
theorem dX2_makeRow_253 : decode cX2_makeRow 253 = .ok (.goto (-236), 3) := dk_167 255 20 (dk_at dksX2_makeRow_10 19 rfl rfl)
theorem dX2_makeRow_256 : decode cX2_makeRow 256 = .ok (.iconst 0, 1) := dk_3 (dk_at dksX2_makeRow_10 22 rfl rfl)
theorem dX2_makeRow_257 : decode cX2_makeRow 257 = .ok (.istore_n 3, 1) := dk_62 (dk_at dksX2_makeRow_10 23 rfl rfl)
theorem dX2_makeRow_258 : decode cX2_makeRow 258 = .ok (.iload_n 3, 1) := dk_29 (dk_at dksX2_makeRow_11 0 rfl rfl)
theorem dX2_makeRow_259 : decode cX2_makeRow 259 = .ok (.aload_n 0, 1) := dk_42 (dk_at dksX2_makeRow_11 1 rfl rfl)
theorem dX2_makeRow_260 : decode cX2_makeRow 260 = .ok (.getfield 79, 3) := dk_180 0 79 (dk_at dksX2_makeRow_11 2 rfl rfl)
theorem dX2_makeRow_263 : decode cX2_makeRow 263 = .ok (.arraylength, 1) := dk_190 (dk_at dksX2_makeRow_11 5 rfl rfl)
theorem dX2_makeRow_264 : decode cX2_makeRow 264 = .ok (.if_icmp .ge 21, 3) := dk_162 0 21 (dk_at dksX2_makeRow_11 6 rfl rfl)
theorem dX2_makeRow_267 : decode cX2_makeRow 267 = .ok (.aload_n 0, 1) := dk_42 (dk_at dksX2_makeRow_11 9 rfl rfl)
theorem dX2_makeRow_268 : decode cX2_makeRow 268 = .ok (.getfield 79, 3) := dk_180 0 79 (dk_at dksX2_makeRow_11 10 rfl rfl)
theorem dX2_makeRow_271 : decode cX2_makeRow 271 = .ok (.iload_n 3, 1) := dk_29 (dk_at dksX2_makeRow_11 13 rfl rfl)
theorem dX2_makeRow_272 : decode cX2_makeRow 272 = .ok (.aload_n 0, 1) := dk_42 (dk_at dksX2_makeRow_11 14 rfl rfl)
theorem dX2_makeRow_273 : decode cX2_makeRow 273 = .ok (.getfield 85, 3) := dk_180 0 85 (dk_at dksX2_makeRow_11 15 rfl rfl)
theorem dX2_makeRow_276 : decode cX2_makeRow 276 = .ok (.iload_n 3, 1) := dk_29 (dk_at dksX2_makeRow_11 18 rfl rfl)
theorem dX2_makeRow_277 : decode cX2_makeRow 277 = .ok (.laload, 1) := dk_47 (dk_at dksX2_makeRow_11 19 rfl rfl)
theorem dX2_makeRow_278 : decode cX2_makeRow 278 = .ok (.lastore, 1) := dk_80 (dk_at dksX2_makeRow_11 20 rfl rfl)
theorem dX2_makeRow_279 : decode cX2_makeRow 279 = .ok (.iinc 3 1, 3) := dk_132 3 1 (dk_at dksX2_makeRow_11 21 rfl rfl)
theorem dX2_makeRow_282 : decode cX2_makeRow 282 = .ok (.goto (-24), 3) := dk_167 255 232 (dk_at dksX2_makeRow_12 0 rfl rfl)
theorem dX2_makeRow_285 : decode cX2_makeRow 285 = .ok (.return_, 1) := dk_177 (dk_at dksX2_makeRow_12 3 rfl rfl)
abbrev cX2_at : ByteArray := prog_13_method_26_code
def yX2_at : MethodName := ⟨RX2, "at", "(II)I"⟩
def dkwX2_at_0 : List UInt8 := [16, 121, 26, 104, 27, 96, 172]
abbrev dktX2_at_0 : List UInt8 := dkwX2_at_0 ++ []
theorem dksX2_at_0 : cX2_at.data.toList.drop 0 = dktX2_at_0 := by decide +kernel
theorem dX2_at_0 : decode cX2_at 0 = .ok (.bipush 121, 2) := dk_16 121 (dk_at dksX2_at_0 0 rfl rfl)
theorem dX2_at_2 : decode cX2_at 2 = .ok (.iload_n 0, 1) := dk_26 (dk_at dksX2_at_0 2 rfl rfl)
theorem dX2_at_3 : decode cX2_at 3 = .ok (.imul, 1) := dk_104 (dk_at dksX2_at_0 3 rfl rfl)
theorem dX2_at_4 : decode cX2_at 4 = .ok (.iload_n 1, 1) := dk_27 (dk_at dksX2_at_0 4 rfl rfl)
theorem dX2_at_5 : decode cX2_at 5 = .ok (.iadd, 1) := dk_96 (dk_at dksX2_at_0 5 rfl rfl)
theorem dX2_at_6 : decode cX2_at 6 = .ok (.ireturn, 1) := dk_172 (dk_at dksX2_at_0 6 rfl rfl)
abbrev cX2_makeFan : ByteArray := prog_13_method_36_code
def yX2_makeFan : MethodName := ⟨RX2, "makeFan", "(I)V"⟩
def dkwX2_makeFan_5 : List UInt8 := [180, 0, 82, 21, 6, 22, 7, 22, 4, 101, 80, 22, 7, 55, 4, 132, 6, 1, 167, 255, 130, 177]
abbrev dktX2_makeFan_5 : List UInt8 := dkwX2_makeFan_5 ++ []
def dkwX2_makeFan_4 : List UInt8 := [162, 0, 21, 22, 7, 42, 180, 0, 91, 21, 9, 47, 97, 55, 7, 132, 9, 1, 167, 255, 230, 42]
abbrev dktX2_makeFan_4 : List UInt8 := dkwX2_makeFan_4 ++ dktX2_makeFan_5
def dkwX2_makeFan_3 : List UInt8 := [42, 27, 21, 6, 4, 182, 0, 208, 9, 55, 7, 3, 54, 9, 21, 9, 42, 180, 0, 30, 27, 46]
abbrev dktX2_makeFan_3 : List UInt8 := dkwX2_makeFan_3 ++ dktX2_makeFan_4
def dkwX2_makeFan_2 : List UInt8 := [47, 97, 55, 7, 132, 9, 1, 167, 255, 235, 42, 180, 0, 79, 21, 6, 22, 7, 32, 101, 80, 22, 7, 65]
abbrev dktX2_makeFan_2 : List UInt8 := dkwX2_makeFan_2 ++ dktX2_makeFan_3
def dkwX2_makeFan_1 : List UInt8 := [55, 7, 42, 180, 0, 30, 27, 46, 54, 9, 21, 9, 8, 162, 0, 21, 22, 7, 42, 180, 0, 91, 21, 9]
abbrev dktX2_makeFan_1 : List UInt8 := dkwX2_makeFan_1 ++ dktX2_makeFan_2
def dkwX2_makeFan_0 : List UInt8 := [9, 65, 9, 55, 4, 3, 54, 6, 21, 6, 16, 121, 162, 0, 125, 42, 27, 21, 6, 3, 182, 0, 208, 9]
abbrev dktX2_makeFan_0 : List UInt8 := dkwX2_makeFan_0 ++ dktX2_makeFan_1
theorem dksX2_makeFan_0 : cX2_makeFan.data.toList.drop 0 = dktX2_makeFan_0 := by decide +kernel
theorem dksX2_makeFan_1 : cX2_makeFan.data.toList.drop 24 = dktX2_makeFan_1 := dk_seg dksX2_makeFan_0 24 rfl rfl
theorem dksX2_makeFan_2 : cX2_makeFan.data.toList.drop 48 = dktX2_makeFan_2 := dk_seg dksX2_makeFan_1 24 rfl rfl
theorem dksX2_makeFan_3 : cX2_makeFan.data.toList.drop 72 = dktX2_makeFan_3 := dk_seg dksX2_makeFan_2 24 rfl rfl
theorem dksX2_makeFan_4 : cX2_makeFan.data.toList.drop 94 = dktX2_makeFan_4 := dk_seg dksX2_makeFan_3 22 rfl rfl
theorem dksX2_makeFan_5 : cX2_makeFan.data.toList.drop 116 = dktX2_makeFan_5 := dk_seg dksX2_makeFan_4 22 rfl rfl
theorem dX2_makeFan_0 : decode cX2_makeFan 0 = .ok (.lconst 0, 1) := dk_9 (dk_at dksX2_makeFan_0 0 rfl rfl)
theorem dX2_makeFan_1 : decode cX2_makeFan 1 = .ok (.lstore_n 2, 1) := dk_65 (dk_at dksX2_makeFan_0 1 rfl rfl)
theorem dX2_makeFan_2 : decode cX2_makeFan 2 = .ok (.lconst 0, 1) := dk_9 (dk_at dksX2_makeFan_0 2 rfl rfl)
theorem dX2_makeFan_3 : decode cX2_makeFan 3 = .ok (.lstore 4, 2) := dk_55 4 (dk_at dksX2_makeFan_0 3 rfl rfl)
theorem dX2_makeFan_5 : decode cX2_makeFan 5 = .ok (.iconst 0, 1) := dk_3 (dk_at dksX2_makeFan_0 5 rfl rfl)
theorem dX2_makeFan_6 : decode cX2_makeFan 6 = .ok (.istore 6, 2) := dk_54 6 (dk_at dksX2_makeFan_0 6 rfl rfl)
theorem dX2_makeFan_8 : decode cX2_makeFan 8 = .ok (.iload 6, 2) := dk_21 6 (dk_at dksX2_makeFan_0 8 rfl rfl)
theorem dX2_makeFan_10 : decode cX2_makeFan 10 = .ok (.bipush 121, 2) := dk_16 121 (dk_at dksX2_makeFan_0 10 rfl rfl)
theorem dX2_makeFan_12 : decode cX2_makeFan 12 = .ok (.if_icmp .ge 125, 3) := dk_162 0 125 (dk_at dksX2_makeFan_0 12 rfl rfl)
theorem dX2_makeFan_15 : decode cX2_makeFan 15 = .ok (.aload_n 0, 1) := dk_42 (dk_at dksX2_makeFan_0 15 rfl rfl)
theorem dX2_makeFan_16 : decode cX2_makeFan 16 = .ok (.iload_n 1, 1) := dk_27 (dk_at dksX2_makeFan_0 16 rfl rfl)
theorem dX2_makeFan_17 : decode cX2_makeFan 17 = .ok (.iload 6, 2) := dk_21 6 (dk_at dksX2_makeFan_0 17 rfl rfl)
theorem dX2_makeFan_19 : decode cX2_makeFan 19 = .ok (.iconst 0, 1) := dk_3 (dk_at dksX2_makeFan_0 19 rfl rfl)
theorem dX2_makeFan_20 : decode cX2_makeFan 20 = .ok (.invokevirtual 208, 3) := dk_182 0 208 (dk_at dksX2_makeFan_0 20 rfl rfl)
theorem dX2_makeFan_23 : decode cX2_makeFan 23 = .ok (.lconst 0, 1) := dk_9 (dk_at dksX2_makeFan_0 23 rfl rfl)
theorem dX2_makeFan_24 : decode cX2_makeFan 24 = .ok (.lstore 7, 2) := dk_55 7 (dk_at dksX2_makeFan_1 0 rfl rfl)
theorem dX2_makeFan_26 : decode cX2_makeFan 26 = .ok (.aload_n 0, 1) := dk_42 (dk_at dksX2_makeFan_1 2 rfl rfl)
theorem dX2_makeFan_27 : decode cX2_makeFan 27 = .ok (.getfield 30, 3) := dk_180 0 30 (dk_at dksX2_makeFan_1 3 rfl rfl)
theorem dX2_makeFan_30 : decode cX2_makeFan 30 = .ok (.iload_n 1, 1) := dk_27 (dk_at dksX2_makeFan_1 6 rfl rfl)
theorem dX2_makeFan_31 : decode cX2_makeFan 31 = .ok (.iaload, 1) := dk_46 (dk_at dksX2_makeFan_1 7 rfl rfl)
theorem dX2_makeFan_32 : decode cX2_makeFan 32 = .ok (.istore 9, 2) := dk_54 9 (dk_at dksX2_makeFan_1 8 rfl rfl)
theorem dX2_makeFan_34 : decode cX2_makeFan 34 = .ok (.iload 9, 2) := dk_21 9 (dk_at dksX2_makeFan_1 10 rfl rfl)
theorem dX2_makeFan_36 : decode cX2_makeFan 36 = .ok (.iconst 5, 1) := dk_8 (dk_at dksX2_makeFan_1 12 rfl rfl)
theorem dX2_makeFan_37 : decode cX2_makeFan 37 = .ok (.if_icmp .ge 21, 3) := dk_162 0 21 (dk_at dksX2_makeFan_1 13 rfl rfl)
theorem dX2_makeFan_40 : decode cX2_makeFan 40 = .ok (.lload 7, 2) := dk_22 7 (dk_at dksX2_makeFan_1 16 rfl rfl)
theorem dX2_makeFan_42 : decode cX2_makeFan 42 = .ok (.aload_n 0, 1) := dk_42 (dk_at dksX2_makeFan_1 18 rfl rfl)
theorem dX2_makeFan_43 : decode cX2_makeFan 43 = .ok (.getfield 91, 3) := dk_180 0 91 (dk_at dksX2_makeFan_1 19 rfl rfl)
theorem dX2_makeFan_46 : decode cX2_makeFan 46 = .ok (.iload 9, 2) := dk_21 9 (dk_at dksX2_makeFan_1 22 rfl rfl)
theorem dX2_makeFan_48 : decode cX2_makeFan 48 = .ok (.laload, 1) := dk_47 (dk_at dksX2_makeFan_2 0 rfl rfl)
theorem dX2_makeFan_49 : decode cX2_makeFan 49 = .ok (.ladd, 1) := dk_97 (dk_at dksX2_makeFan_2 1 rfl rfl)
theorem dX2_makeFan_50 : decode cX2_makeFan 50 = .ok (.lstore 7, 2) := dk_55 7 (dk_at dksX2_makeFan_2 2 rfl rfl)
theorem dX2_makeFan_52 : decode cX2_makeFan 52 = .ok (.iinc 9 1, 3) := dk_132 9 1 (dk_at dksX2_makeFan_2 4 rfl rfl)
theorem dX2_makeFan_55 : decode cX2_makeFan 55 = .ok (.goto (-21), 3) := dk_167 255 235 (dk_at dksX2_makeFan_2 7 rfl rfl)
theorem dX2_makeFan_58 : decode cX2_makeFan 58 = .ok (.aload_n 0, 1) := dk_42 (dk_at dksX2_makeFan_2 10 rfl rfl)
theorem dX2_makeFan_59 : decode cX2_makeFan 59 = .ok (.getfield 79, 3) := dk_180 0 79 (dk_at dksX2_makeFan_2 11 rfl rfl)
theorem dX2_makeFan_62 : decode cX2_makeFan 62 = .ok (.iload 6, 2) := dk_21 6 (dk_at dksX2_makeFan_2 14 rfl rfl)
theorem dX2_makeFan_64 : decode cX2_makeFan 64 = .ok (.lload 7, 2) := dk_22 7 (dk_at dksX2_makeFan_2 16 rfl rfl)
theorem dX2_makeFan_66 : decode cX2_makeFan 66 = .ok (.lload_n 2, 1) := dk_32 (dk_at dksX2_makeFan_2 18 rfl rfl)
theorem dX2_makeFan_67 : decode cX2_makeFan 67 = .ok (.lsub, 1) := dk_101 (dk_at dksX2_makeFan_2 19 rfl rfl)
theorem dX2_makeFan_68 : decode cX2_makeFan 68 = .ok (.lastore, 1) := dk_80 (dk_at dksX2_makeFan_2 20 rfl rfl)
theorem dX2_makeFan_69 : decode cX2_makeFan 69 = .ok (.lload 7, 2) := dk_22 7 (dk_at dksX2_makeFan_2 21 rfl rfl)
theorem dX2_makeFan_71 : decode cX2_makeFan 71 = .ok (.lstore_n 2, 1) := dk_65 (dk_at dksX2_makeFan_2 23 rfl rfl)
theorem dX2_makeFan_72 : decode cX2_makeFan 72 = .ok (.aload_n 0, 1) := dk_42 (dk_at dksX2_makeFan_3 0 rfl rfl)
theorem dX2_makeFan_73 : decode cX2_makeFan 73 = .ok (.iload_n 1, 1) := dk_27 (dk_at dksX2_makeFan_3 1 rfl rfl)
theorem dX2_makeFan_74 : decode cX2_makeFan 74 = .ok (.iload 6, 2) := dk_21 6 (dk_at dksX2_makeFan_3 2 rfl rfl)
theorem dX2_makeFan_76 : decode cX2_makeFan 76 = .ok (.iconst 1, 1) := dk_4 (dk_at dksX2_makeFan_3 4 rfl rfl)
theorem dX2_makeFan_77 : decode cX2_makeFan 77 = .ok (.invokevirtual 208, 3) := dk_182 0 208 (dk_at dksX2_makeFan_3 5 rfl rfl)
theorem dX2_makeFan_80 : decode cX2_makeFan 80 = .ok (.lconst 0, 1) := dk_9 (dk_at dksX2_makeFan_3 8 rfl rfl)
theorem dX2_makeFan_81 : decode cX2_makeFan 81 = .ok (.lstore 7, 2) := dk_55 7 (dk_at dksX2_makeFan_3 9 rfl rfl)
theorem dX2_makeFan_83 : decode cX2_makeFan 83 = .ok (.iconst 0, 1) := dk_3 (dk_at dksX2_makeFan_3 11 rfl rfl)
theorem dX2_makeFan_84 : decode cX2_makeFan 84 = .ok (.istore 9, 2) := dk_54 9 (dk_at dksX2_makeFan_3 12 rfl rfl)
theorem dX2_makeFan_86 : decode cX2_makeFan 86 = .ok (.iload 9, 2) := dk_21 9 (dk_at dksX2_makeFan_3 14 rfl rfl)
theorem dX2_makeFan_88 : decode cX2_makeFan 88 = .ok (.aload_n 0, 1) := dk_42 (dk_at dksX2_makeFan_3 16 rfl rfl)
theorem dX2_makeFan_89 : decode cX2_makeFan 89 = .ok (.getfield 30, 3) := dk_180 0 30 (dk_at dksX2_makeFan_3 17 rfl rfl)
theorem dX2_makeFan_92 : decode cX2_makeFan 92 = .ok (.iload_n 1, 1) := dk_27 (dk_at dksX2_makeFan_3 20 rfl rfl)
theorem dX2_makeFan_93 : decode cX2_makeFan 93 = .ok (.iaload, 1) := dk_46 (dk_at dksX2_makeFan_3 21 rfl rfl)
theorem dX2_makeFan_94 : decode cX2_makeFan 94 = .ok (.if_icmp .ge 21, 3) := dk_162 0 21 (dk_at dksX2_makeFan_4 0 rfl rfl)
theorem dX2_makeFan_97 : decode cX2_makeFan 97 = .ok (.lload 7, 2) := dk_22 7 (dk_at dksX2_makeFan_4 3 rfl rfl)
theorem dX2_makeFan_99 : decode cX2_makeFan 99 = .ok (.aload_n 0, 1) := dk_42 (dk_at dksX2_makeFan_4 5 rfl rfl)
theorem dX2_makeFan_100 : decode cX2_makeFan 100 = .ok (.getfield 91, 3) := dk_180 0 91 (dk_at dksX2_makeFan_4 6 rfl rfl)
theorem dX2_makeFan_103 : decode cX2_makeFan 103 = .ok (.iload 9, 2) := dk_21 9 (dk_at dksX2_makeFan_4 9 rfl rfl)
theorem dX2_makeFan_105 : decode cX2_makeFan 105 = .ok (.laload, 1) := dk_47 (dk_at dksX2_makeFan_4 11 rfl rfl)
theorem dX2_makeFan_106 : decode cX2_makeFan 106 = .ok (.ladd, 1) := dk_97 (dk_at dksX2_makeFan_4 12 rfl rfl)
theorem dX2_makeFan_107 : decode cX2_makeFan 107 = .ok (.lstore 7, 2) := dk_55 7 (dk_at dksX2_makeFan_4 13 rfl rfl)
theorem dX2_makeFan_109 : decode cX2_makeFan 109 = .ok (.iinc 9 1, 3) := dk_132 9 1 (dk_at dksX2_makeFan_4 15 rfl rfl)
theorem dX2_makeFan_112 : decode cX2_makeFan 112 = .ok (.goto (-26), 3) := dk_167 255 230 (dk_at dksX2_makeFan_4 18 rfl rfl)
theorem dX2_makeFan_115 : decode cX2_makeFan 115 = .ok (.aload_n 0, 1) := dk_42 (dk_at dksX2_makeFan_4 21 rfl rfl)
theorem dX2_makeFan_116 : decode cX2_makeFan 116 = .ok (.getfield 82, 3) := dk_180 0 82 (dk_at dksX2_makeFan_5 0 rfl rfl)
theorem dX2_makeFan_119 : decode cX2_makeFan 119 = .ok (.iload 6, 2) := dk_21 6 (dk_at dksX2_makeFan_5 3 rfl rfl)
theorem dX2_makeFan_121 : decode cX2_makeFan 121 = .ok (.lload 7, 2) := dk_22 7 (dk_at dksX2_makeFan_5 5 rfl rfl)
theorem dX2_makeFan_123 : decode cX2_makeFan 123 = .ok (.lload 4, 2) := dk_22 4 (dk_at dksX2_makeFan_5 7 rfl rfl)
theorem dX2_makeFan_125 : decode cX2_makeFan 125 = .ok (.lsub, 1) := dk_101 (dk_at dksX2_makeFan_5 9 rfl rfl)
theorem dX2_makeFan_126 : decode cX2_makeFan 126 = .ok (.lastore, 1) := dk_80 (dk_at dksX2_makeFan_5 10 rfl rfl)
theorem dX2_makeFan_127 : decode cX2_makeFan 127 = .ok (.lload 7, 2) := dk_22 7 (dk_at dksX2_makeFan_5 11 rfl rfl)
theorem dX2_makeFan_129 : decode cX2_makeFan 129 = .ok (.lstore 4, 2) := dk_55 4 (dk_at dksX2_makeFan_5 13 rfl rfl)
theorem dX2_makeFan_131 : decode cX2_makeFan 131 = .ok (.iinc 6 1, 3) := dk_132 6 1 (dk_at dksX2_makeFan_5 15 rfl rfl)
theorem dX2_makeFan_134 : decode cX2_makeFan 134 = .ok (.goto (-126), 3) := dk_167 255 130 (dk_at dksX2_makeFan_5 18 rfl rfl)
theorem dX2_makeFan_137 : decode cX2_makeFan 137 = .ok (.return_, 1) := dk_177 (dk_at dksX2_makeFan_5 21 rfl rfl)
abbrev cX2_count : ByteArray := prog_13_method_35_code
def yX2_count : MethodName := ⟨RX2, "count", "(IIZ)V"⟩
def dkwX2_count_9 : List UInt8 := [132, 4, 1, 167, 255, 77, 177]
abbrev dktX2_count_9 : List UInt8 := dkwX2_count_9 ++ []
def dkwX2_count_8 : List UInt8 := [180, 0, 91, 21, 10, 4, 100, 47, 22, 6, 105, 167, 0, 4, 9, 97, 80, 132, 10, 255, 167, 255, 209]
abbrev dktX2_count_8 : List UInt8 := dkwX2_count_8 ++ dktX2_count_9
def dkwX2_count_7 : List UInt8 := [42, 180, 0, 91, 21, 10, 42, 180, 0, 91, 21, 10, 47, 22, 8, 105, 21, 10, 158, 0, 18, 42]
abbrev dktX2_count_7 : List UInt8 := dkwX2_count_7 ++ dktX2_count_8
def dkwX2_count_6 : List UInt8 := [21, 10, 184, 0, 173, 47, 117, 97, 55, 8, 132, 10, 1, 167, 255, 193, 7, 54, 10, 21, 10, 155, 0, 48]
abbrev dktX2_count_6 : List UInt8 := dkwX2_count_6 ++ dktX2_count_7
def dkwX2_count_5 : List UInt8 := [153, 0, 18, 42, 180, 0, 69, 21, 5, 21, 10, 184, 0, 173, 47, 167, 0, 16, 42, 180, 0, 66, 21, 5]
abbrev dktX2_count_5 : List UInt8 := dkwX2_count_5 ++ dktX2_count_6
def dkwX2_count_4 : List UInt8 := [163, 0, 63, 22, 6, 42, 180, 0, 66, 21, 5, 21, 10, 184, 0, 173, 47, 97, 55, 6, 22, 8, 29]
abbrev dktX2_count_4 : List UInt8 := dkwX2_count_4 ++ dktX2_count_5
def dkwX2_count_3 : List UInt8 := [29, 153, 0, 7, 9, 167, 0, 10, 42, 180, 0, 72, 21, 5, 47, 55, 8, 3, 54, 10, 21, 10, 28]
abbrev dktX2_count_3 : List UInt8 := dkwX2_count_3 ++ dktX2_count_4
def dkwX2_count_2 : List UInt8 := [21, 4, 96, 46, 2, 159, 0, 164, 42, 180, 0, 27, 7, 27, 104, 21, 4, 96, 46, 54, 5, 9, 55, 6]
abbrev dktX2_count_2 : List UInt8 := dkwX2_count_2 ++ dktX2_count_3
def dkwX2_count_1 : List UInt8 := [9, 80, 132, 4, 1, 167, 255, 230, 3, 54, 4, 21, 4, 7, 162, 0, 179, 42, 180, 0, 27, 7, 27, 104]
abbrev dktX2_count_1 : List UInt8 := dkwX2_count_1 ++ dktX2_count_2
def dkwX2_count_0 : List UInt8 := [3, 54, 4, 21, 4, 8, 162, 0, 26, 42, 180, 0, 91, 21, 4, 21, 4, 154, 0, 7, 10, 167, 0, 4]
abbrev dktX2_count_0 : List UInt8 := dkwX2_count_0 ++ dktX2_count_1
theorem dksX2_count_0 : cX2_count.data.toList.drop 0 = dktX2_count_0 := by decide +kernel
theorem dksX2_count_1 : cX2_count.data.toList.drop 24 = dktX2_count_1 := dk_seg dksX2_count_0 24 rfl rfl
theorem dksX2_count_2 : cX2_count.data.toList.drop 48 = dktX2_count_2 := dk_seg dksX2_count_1 24 rfl rfl
theorem dksX2_count_3 : cX2_count.data.toList.drop 72 = dktX2_count_3 := dk_seg dksX2_count_2 24 rfl rfl
theorem dksX2_count_4 : cX2_count.data.toList.drop 95 = dktX2_count_4 := dk_seg dksX2_count_3 23 rfl rfl
theorem dksX2_count_5 : cX2_count.data.toList.drop 118 = dktX2_count_5 := dk_seg dksX2_count_4 23 rfl rfl
theorem dksX2_count_6 : cX2_count.data.toList.drop 142 = dktX2_count_6 := dk_seg dksX2_count_5 24 rfl rfl
theorem dksX2_count_7 : cX2_count.data.toList.drop 166 = dktX2_count_7 := dk_seg dksX2_count_6 24 rfl rfl
theorem dksX2_count_8 : cX2_count.data.toList.drop 188 = dktX2_count_8 := dk_seg dksX2_count_7 22 rfl rfl
theorem dksX2_count_9 : cX2_count.data.toList.drop 211 = dktX2_count_9 := dk_seg dksX2_count_8 23 rfl rfl
theorem dX2_count_0 : decode cX2_count 0 = .ok (.iconst 0, 1) := dk_3 (dk_at dksX2_count_0 0 rfl rfl)
theorem dX2_count_1 : decode cX2_count 1 = .ok (.istore 4, 2) := dk_54 4 (dk_at dksX2_count_0 1 rfl rfl)
theorem dX2_count_3 : decode cX2_count 3 = .ok (.iload 4, 2) := dk_21 4 (dk_at dksX2_count_0 3 rfl rfl)
theorem dX2_count_5 : decode cX2_count 5 = .ok (.iconst 5, 1) := dk_8 (dk_at dksX2_count_0 5 rfl rfl)
theorem dX2_count_6 : decode cX2_count 6 = .ok (.if_icmp .ge 26, 3) := dk_162 0 26 (dk_at dksX2_count_0 6 rfl rfl)
theorem dX2_count_9 : decode cX2_count 9 = .ok (.aload_n 0, 1) := dk_42 (dk_at dksX2_count_0 9 rfl rfl)
theorem dX2_count_10 : decode cX2_count 10 = .ok (.getfield 91, 3) := dk_180 0 91 (dk_at dksX2_count_0 10 rfl rfl)
theorem dX2_count_13 : decode cX2_count 13 = .ok (.iload 4, 2) := dk_21 4 (dk_at dksX2_count_0 13 rfl rfl)
theorem dX2_count_15 : decode cX2_count 15 = .ok (.iload 4, 2) := dk_21 4 (dk_at dksX2_count_0 15 rfl rfl)
theorem dX2_count_17 : decode cX2_count 17 = .ok (.ifCond .ne 7, 3) := dk_154 0 7 (dk_at dksX2_count_0 17 rfl rfl)
theorem dX2_count_20 : decode cX2_count 20 = .ok (.lconst 1, 1) := dk_10 (dk_at dksX2_count_0 20 rfl rfl)
theorem dX2_count_21 : decode cX2_count 21 = .ok (.goto 4, 3) := dk_167 0 4 (dk_at dksX2_count_0 21 rfl rfl)
theorem dX2_count_24 : decode cX2_count 24 = .ok (.lconst 0, 1) := dk_9 (dk_at dksX2_count_1 0 rfl rfl)
theorem dX2_count_25 : decode cX2_count 25 = .ok (.lastore, 1) := dk_80 (dk_at dksX2_count_1 1 rfl rfl)
theorem dX2_count_26 : decode cX2_count 26 = .ok (.iinc 4 1, 3) := dk_132 4 1 (dk_at dksX2_count_1 2 rfl rfl)
theorem dX2_count_29 : decode cX2_count 29 = .ok (.goto (-26), 3) := dk_167 255 230 (dk_at dksX2_count_1 5 rfl rfl)
theorem dX2_count_32 : decode cX2_count 32 = .ok (.iconst 0, 1) := dk_3 (dk_at dksX2_count_1 8 rfl rfl)
theorem dX2_count_33 : decode cX2_count 33 = .ok (.istore 4, 2) := dk_54 4 (dk_at dksX2_count_1 9 rfl rfl)
theorem dX2_count_35 : decode cX2_count 35 = .ok (.iload 4, 2) := dk_21 4 (dk_at dksX2_count_1 11 rfl rfl)
theorem dX2_count_37 : decode cX2_count 37 = .ok (.iconst 4, 1) := dk_7 (dk_at dksX2_count_1 13 rfl rfl)
theorem dX2_count_38 : decode cX2_count 38 = .ok (.if_icmp .ge 179, 3) := dk_162 0 179 (dk_at dksX2_count_1 14 rfl rfl)
theorem dX2_count_41 : decode cX2_count 41 = .ok (.aload_n 0, 1) := dk_42 (dk_at dksX2_count_1 17 rfl rfl)
theorem dX2_count_42 : decode cX2_count 42 = .ok (.getfield 27, 3) := dk_180 0 27 (dk_at dksX2_count_1 18 rfl rfl)
theorem dX2_count_45 : decode cX2_count 45 = .ok (.iconst 4, 1) := dk_7 (dk_at dksX2_count_1 21 rfl rfl)
theorem dX2_count_46 : decode cX2_count 46 = .ok (.iload_n 1, 1) := dk_27 (dk_at dksX2_count_1 22 rfl rfl)
theorem dX2_count_47 : decode cX2_count 47 = .ok (.imul, 1) := dk_104 (dk_at dksX2_count_1 23 rfl rfl)
theorem dX2_count_48 : decode cX2_count 48 = .ok (.iload 4, 2) := dk_21 4 (dk_at dksX2_count_2 0 rfl rfl)
theorem dX2_count_50 : decode cX2_count 50 = .ok (.iadd, 1) := dk_96 (dk_at dksX2_count_2 2 rfl rfl)
theorem dX2_count_51 : decode cX2_count 51 = .ok (.iaload, 1) := dk_46 (dk_at dksX2_count_2 3 rfl rfl)
theorem dX2_count_52 : decode cX2_count 52 = .ok (.iconst (-1), 1) := dk_2 (dk_at dksX2_count_2 4 rfl rfl)
theorem dX2_count_53 : decode cX2_count 53 = .ok (.if_icmp .eq 164, 3) := dk_159 0 164 (dk_at dksX2_count_2 5 rfl rfl)
theorem dX2_count_56 : decode cX2_count 56 = .ok (.aload_n 0, 1) := dk_42 (dk_at dksX2_count_2 8 rfl rfl)
theorem dX2_count_57 : decode cX2_count 57 = .ok (.getfield 27, 3) := dk_180 0 27 (dk_at dksX2_count_2 9 rfl rfl)
theorem dX2_count_60 : decode cX2_count 60 = .ok (.iconst 4, 1) := dk_7 (dk_at dksX2_count_2 12 rfl rfl)
theorem dX2_count_61 : decode cX2_count 61 = .ok (.iload_n 1, 1) := dk_27 (dk_at dksX2_count_2 13 rfl rfl)
theorem dX2_count_62 : decode cX2_count 62 = .ok (.imul, 1) := dk_104 (dk_at dksX2_count_2 14 rfl rfl)
theorem dX2_count_63 : decode cX2_count 63 = .ok (.iload 4, 2) := dk_21 4 (dk_at dksX2_count_2 15 rfl rfl)
theorem dX2_count_65 : decode cX2_count 65 = .ok (.iadd, 1) := dk_96 (dk_at dksX2_count_2 17 rfl rfl)
theorem dX2_count_66 : decode cX2_count 66 = .ok (.iaload, 1) := dk_46 (dk_at dksX2_count_2 18 rfl rfl)
theorem dX2_count_67 : decode cX2_count 67 = .ok (.istore 5, 2) := dk_54 5 (dk_at dksX2_count_2 19 rfl rfl)
theorem dX2_count_69 : decode cX2_count 69 = .ok (.lconst 0, 1) := dk_9 (dk_at dksX2_count_2 21 rfl rfl)
theorem dX2_count_70 : decode cX2_count 70 = .ok (.lstore 6, 2) := dk_55 6 (dk_at dksX2_count_2 22 rfl rfl)
theorem dX2_count_72 : decode cX2_count 72 = .ok (.iload_n 3, 1) := dk_29 (dk_at dksX2_count_3 0 rfl rfl)
theorem dX2_count_73 : decode cX2_count 73 = .ok (.ifCond .eq 7, 3) := dk_153 0 7 (dk_at dksX2_count_3 1 rfl rfl)
theorem dX2_count_76 : decode cX2_count 76 = .ok (.lconst 0, 1) := dk_9 (dk_at dksX2_count_3 4 rfl rfl)
theorem dX2_count_77 : decode cX2_count 77 = .ok (.goto 10, 3) := dk_167 0 10 (dk_at dksX2_count_3 5 rfl rfl)
theorem dX2_count_80 : decode cX2_count 80 = .ok (.aload_n 0, 1) := dk_42 (dk_at dksX2_count_3 8 rfl rfl)
theorem dX2_count_81 : decode cX2_count 81 = .ok (.getfield 72, 3) := dk_180 0 72 (dk_at dksX2_count_3 9 rfl rfl)
theorem dX2_count_84 : decode cX2_count 84 = .ok (.iload 5, 2) := dk_21 5 (dk_at dksX2_count_3 12 rfl rfl)
theorem dX2_count_86 : decode cX2_count 86 = .ok (.laload, 1) := dk_47 (dk_at dksX2_count_3 14 rfl rfl)
theorem dX2_count_87 : decode cX2_count 87 = .ok (.lstore 8, 2) := dk_55 8 (dk_at dksX2_count_3 15 rfl rfl)
theorem dX2_count_89 : decode cX2_count 89 = .ok (.iconst 0, 1) := dk_3 (dk_at dksX2_count_3 17 rfl rfl)
theorem dX2_count_90 : decode cX2_count 90 = .ok (.istore 10, 2) := dk_54 10 (dk_at dksX2_count_3 18 rfl rfl)
theorem dX2_count_92 : decode cX2_count 92 = .ok (.iload 10, 2) := dk_21 10 (dk_at dksX2_count_3 20 rfl rfl)
theorem dX2_count_94 : decode cX2_count 94 = .ok (.iload_n 2, 1) := dk_28 (dk_at dksX2_count_3 22 rfl rfl)
theorem dX2_count_95 : decode cX2_count 95 = .ok (.if_icmp .gt 63, 3) := dk_163 0 63 (dk_at dksX2_count_4 0 rfl rfl)
theorem dX2_count_98 : decode cX2_count 98 = .ok (.lload 6, 2) := dk_22 6 (dk_at dksX2_count_4 3 rfl rfl)
theorem dX2_count_100 : decode cX2_count 100 = .ok (.aload_n 0, 1) := dk_42 (dk_at dksX2_count_4 5 rfl rfl)
theorem dX2_count_101 : decode cX2_count 101 = .ok (.getfield 66, 3) := dk_180 0 66 (dk_at dksX2_count_4 6 rfl rfl)
theorem dX2_count_104 : decode cX2_count 104 = .ok (.iload 5, 2) := dk_21 5 (dk_at dksX2_count_4 9 rfl rfl)
theorem dX2_count_106 : decode cX2_count 106 = .ok (.iload 10, 2) := dk_21 10 (dk_at dksX2_count_4 11 rfl rfl)
theorem dX2_count_108 : decode cX2_count 108 = .ok (.invokestatic 173, 3) := dk_184 0 173 (dk_at dksX2_count_4 13 rfl rfl)
theorem dX2_count_111 : decode cX2_count 111 = .ok (.laload, 1) := dk_47 (dk_at dksX2_count_4 16 rfl rfl)
theorem dX2_count_112 : decode cX2_count 112 = .ok (.ladd, 1) := dk_97 (dk_at dksX2_count_4 17 rfl rfl)
theorem dX2_count_113 : decode cX2_count 113 = .ok (.lstore 6, 2) := dk_55 6 (dk_at dksX2_count_4 18 rfl rfl)
theorem dX2_count_115 : decode cX2_count 115 = .ok (.lload 8, 2) := dk_22 8 (dk_at dksX2_count_4 20 rfl rfl)
theorem dX2_count_117 : decode cX2_count 117 = .ok (.iload_n 3, 1) := dk_29 (dk_at dksX2_count_4 22 rfl rfl)
theorem dX2_count_118 : decode cX2_count 118 = .ok (.ifCond .eq 18, 3) := dk_153 0 18 (dk_at dksX2_count_5 0 rfl rfl)
theorem dX2_count_121 : decode cX2_count 121 = .ok (.aload_n 0, 1) := dk_42 (dk_at dksX2_count_5 3 rfl rfl)
theorem dX2_count_122 : decode cX2_count 122 = .ok (.getfield 69, 3) := dk_180 0 69 (dk_at dksX2_count_5 4 rfl rfl)
theorem dX2_count_125 : decode cX2_count 125 = .ok (.iload 5, 2) := dk_21 5 (dk_at dksX2_count_5 7 rfl rfl)
theorem dX2_count_127 : decode cX2_count 127 = .ok (.iload 10, 2) := dk_21 10 (dk_at dksX2_count_5 9 rfl rfl)
theorem dX2_count_129 : decode cX2_count 129 = .ok (.invokestatic 173, 3) := dk_184 0 173 (dk_at dksX2_count_5 11 rfl rfl)
theorem dX2_count_132 : decode cX2_count 132 = .ok (.laload, 1) := dk_47 (dk_at dksX2_count_5 14 rfl rfl)
theorem dX2_count_133 : decode cX2_count 133 = .ok (.goto 16, 3) := dk_167 0 16 (dk_at dksX2_count_5 15 rfl rfl)
theorem dX2_count_136 : decode cX2_count 136 = .ok (.aload_n 0, 1) := dk_42 (dk_at dksX2_count_5 18 rfl rfl)
theorem dX2_count_137 : decode cX2_count 137 = .ok (.getfield 66, 3) := dk_180 0 66 (dk_at dksX2_count_5 19 rfl rfl)
theorem dX2_count_140 : decode cX2_count 140 = .ok (.iload 5, 2) := dk_21 5 (dk_at dksX2_count_5 22 rfl rfl)
theorem dX2_count_142 : decode cX2_count 142 = .ok (.iload 10, 2) := dk_21 10 (dk_at dksX2_count_6 0 rfl rfl)
theorem dX2_count_144 : decode cX2_count 144 = .ok (.invokestatic 173, 3) := dk_184 0 173 (dk_at dksX2_count_6 2 rfl rfl)
theorem dX2_count_147 : decode cX2_count 147 = .ok (.laload, 1) := dk_47 (dk_at dksX2_count_6 5 rfl rfl)
theorem dX2_count_148 : decode cX2_count 148 = .ok (.lneg, 1) := dk_117 (dk_at dksX2_count_6 6 rfl rfl)
theorem dX2_count_149 : decode cX2_count 149 = .ok (.ladd, 1) := dk_97 (dk_at dksX2_count_6 7 rfl rfl)
theorem dX2_count_150 : decode cX2_count 150 = .ok (.lstore 8, 2) := dk_55 8 (dk_at dksX2_count_6 8 rfl rfl)
theorem dX2_count_152 : decode cX2_count 152 = .ok (.iinc 10 1, 3) := dk_132 10 1 (dk_at dksX2_count_6 10 rfl rfl)
theorem dX2_count_155 : decode cX2_count 155 = .ok (.goto (-63), 3) := dk_167 255 193 (dk_at dksX2_count_6 13 rfl rfl)
theorem dX2_count_158 : decode cX2_count 158 = .ok (.iconst 4, 1) := dk_7 (dk_at dksX2_count_6 16 rfl rfl)
theorem dX2_count_159 : decode cX2_count 159 = .ok (.istore 10, 2) := dk_54 10 (dk_at dksX2_count_6 17 rfl rfl)
theorem dX2_count_161 : decode cX2_count 161 = .ok (.iload 10, 2) := dk_21 10 (dk_at dksX2_count_6 19 rfl rfl)
theorem dX2_count_163 : decode cX2_count 163 = .ok (.ifCond .lt 48, 3) := dk_155 0 48 (dk_at dksX2_count_6 21 rfl rfl)
theorem dX2_count_166 : decode cX2_count 166 = .ok (.aload_n 0, 1) := dk_42 (dk_at dksX2_count_7 0 rfl rfl)
theorem dX2_count_167 : decode cX2_count 167 = .ok (.getfield 91, 3) := dk_180 0 91 (dk_at dksX2_count_7 1 rfl rfl)
theorem dX2_count_170 : decode cX2_count 170 = .ok (.iload 10, 2) := dk_21 10 (dk_at dksX2_count_7 4 rfl rfl)
theorem dX2_count_172 : decode cX2_count 172 = .ok (.aload_n 0, 1) := dk_42 (dk_at dksX2_count_7 6 rfl rfl)
theorem dX2_count_173 : decode cX2_count 173 = .ok (.getfield 91, 3) := dk_180 0 91 (dk_at dksX2_count_7 7 rfl rfl)
theorem dX2_count_176 : decode cX2_count 176 = .ok (.iload 10, 2) := dk_21 10 (dk_at dksX2_count_7 10 rfl rfl)
theorem dX2_count_178 : decode cX2_count 178 = .ok (.laload, 1) := dk_47 (dk_at dksX2_count_7 12 rfl rfl)
theorem dX2_count_179 : decode cX2_count 179 = .ok (.lload 8, 2) := dk_22 8 (dk_at dksX2_count_7 13 rfl rfl)
theorem dX2_count_181 : decode cX2_count 181 = .ok (.lmul, 1) := dk_105 (dk_at dksX2_count_7 15 rfl rfl)
theorem dX2_count_182 : decode cX2_count 182 = .ok (.iload 10, 2) := dk_21 10 (dk_at dksX2_count_7 16 rfl rfl)
theorem dX2_count_184 : decode cX2_count 184 = .ok (.ifCond .le 18, 3) := dk_158 0 18 (dk_at dksX2_count_7 18 rfl rfl)
theorem dX2_count_187 : decode cX2_count 187 = .ok (.aload_n 0, 1) := dk_42 (dk_at dksX2_count_7 21 rfl rfl)
theorem dX2_count_188 : decode cX2_count 188 = .ok (.getfield 91, 3) := dk_180 0 91 (dk_at dksX2_count_8 0 rfl rfl)
theorem dX2_count_191 : decode cX2_count 191 = .ok (.iload 10, 2) := dk_21 10 (dk_at dksX2_count_8 3 rfl rfl)
theorem dX2_count_193 : decode cX2_count 193 = .ok (.iconst 1, 1) := dk_4 (dk_at dksX2_count_8 5 rfl rfl)
theorem dX2_count_194 : decode cX2_count 194 = .ok (.isub, 1) := dk_100 (dk_at dksX2_count_8 6 rfl rfl)
theorem dX2_count_195 : decode cX2_count 195 = .ok (.laload, 1) := dk_47 (dk_at dksX2_count_8 7 rfl rfl)
theorem dX2_count_196 : decode cX2_count 196 = .ok (.lload 6, 2) := dk_22 6 (dk_at dksX2_count_8 8 rfl rfl)
theorem dX2_count_198 : decode cX2_count 198 = .ok (.lmul, 1) := dk_105 (dk_at dksX2_count_8 10 rfl rfl)
theorem dX2_count_199 : decode cX2_count 199 = .ok (.goto 4, 3) := dk_167 0 4 (dk_at dksX2_count_8 11 rfl rfl)
theorem dX2_count_202 : decode cX2_count 202 = .ok (.lconst 0, 1) := dk_9 (dk_at dksX2_count_8 14 rfl rfl)
theorem dX2_count_203 : decode cX2_count 203 = .ok (.ladd, 1) := dk_97 (dk_at dksX2_count_8 15 rfl rfl)
theorem dX2_count_204 : decode cX2_count 204 = .ok (.lastore, 1) := dk_80 (dk_at dksX2_count_8 16 rfl rfl)
theorem dX2_count_205 : decode cX2_count 205 = .ok (.iinc 10 (-1), 3) := dk_132 10 255 (dk_at dksX2_count_8 17 rfl rfl)
theorem dX2_count_208 : decode cX2_count 208 = .ok (.goto (-47), 3) := dk_167 255 209 (dk_at dksX2_count_8 20 rfl rfl)
theorem dX2_count_211 : decode cX2_count 211 = .ok (.iinc 4 1, 3) := dk_132 4 1 (dk_at dksX2_count_9 0 rfl rfl)
theorem dX2_count_214 : decode cX2_count 214 = .ok (.goto (-179), 3) := dk_167 255 77 (dk_at dksX2_count_9 3 rfl rfl)
theorem dX2_count_217 : decode cX2_count 217 = .ok (.return_, 1) := dk_177 (dk_at dksX2_count_9 6 rfl rfl)
abbrev cX2_makeRetry : ByteArray := prog_13_method_37_code
def yX2_makeRetry : MethodName := ⟨RX2, "makeRetry", "(I)V"⟩
def dkwX2_makeRetry_13 : List UInt8 := [21, 5, 42, 180, 0, 85, 21, 5, 47, 80, 132, 5, 1, 167, 255, 229, 177]
abbrev dktX2_makeRetry_13 : List UInt8 := dkwX2_makeRetry_13 ++ []
def dkwX2_makeRetry_12 : List UInt8 := [132, 5, 1, 167, 255, 13, 3, 54, 5, 21, 5, 42, 180, 0, 82, 190, 162, 0, 23, 42, 180, 0, 82]
abbrev dktX2_makeRetry_12 : List UInt8 := dkwX2_makeRetry_12 ++ dktX2_makeRetry_13
def dkwX2_makeRetry_11 : List UInt8 := [190, 162, 0, 23, 42, 180, 0, 85, 21, 6, 42, 180, 0, 88, 21, 6, 47, 80, 132, 6, 1, 167, 255, 229]
abbrev dktX2_makeRetry_11 : List UInt8 := dkwX2_makeRetry_11 ++ dktX2_makeRetry_12
def dkwX2_makeRetry_10 : List UInt8 := [105, 97, 80, 132, 7, 1, 167, 255, 138, 132, 6, 1, 167, 255, 105, 3, 54, 6, 21, 6, 42, 180, 0, 85]
abbrev dktX2_makeRetry_10 : List UInt8 := dkwX2_makeRetry_10 ++ dktX2_makeRetry_11
def dkwX2_makeRetry_9 : List UInt8 := [184, 0, 212, 96, 92, 47, 42, 180, 0, 85, 21, 6, 47, 42, 180, 0, 69, 28, 21, 7, 184, 0, 173, 47]
abbrev dktX2_makeRetry_9 : List UInt8 := dkwX2_makeRetry_9 ++ dktX2_makeRetry_10
def dkwX2_makeRetry_8 : List UInt8 := [42, 180, 0, 66, 28, 21, 7, 184, 0, 173, 47, 105, 97, 80, 42, 180, 0, 88, 21, 6, 21, 7, 29]
abbrev dktX2_makeRetry_8 : List UInt8 := dkwX2_makeRetry_8 ++ dktX2_makeRetry_9
def dkwX2_makeRetry_7 : List UInt8 := [47, 105, 97, 80, 167, 0, 34, 42, 180, 0, 88, 21, 6, 29, 96, 92, 47, 42, 180, 0, 85, 21, 6, 47]
abbrev dktX2_makeRetry_7 : List UInt8 := dkwX2_makeRetry_7 ++ dktX2_makeRetry_8
def dkwX2_makeRetry_6 : List UInt8 := [21, 6, 21, 7, 96, 92, 47, 42, 180, 0, 85, 21, 6, 47, 42, 180, 0, 66, 28, 21, 7, 184, 0, 173]
abbrev dktX2_makeRetry_6 : List UInt8 := dkwX2_makeRetry_6 ++ dktX2_makeRetry_7
def dkwX2_makeRetry_5 : List UInt8 := [167, 0, 127, 3, 54, 7, 21, 7, 16, 121, 162, 0, 117, 21, 7, 29, 163, 0, 38, 42, 180, 0, 79]
abbrev dktX2_makeRetry_5 : List UInt8 := dkwX2_makeRetry_5 ++ dktX2_makeRetry_6
def dkwX2_makeRetry_4 : List UInt8 := [54, 6, 21, 6, 29, 21, 5, 104, 163, 0, 148, 42, 180, 0, 85, 21, 6, 47, 9, 148, 154, 0, 6]
abbrev dktX2_makeRetry_4 : List UInt8 := dkwX2_makeRetry_4 ++ dktX2_makeRetry_5
def dkwX2_makeRetry_3 : List UInt8 := [42, 180, 0, 79, 21, 6, 92, 47, 42, 180, 0, 72, 28, 47, 105, 80, 132, 6, 1, 167, 255, 227, 3]
abbrev dktX2_makeRetry_3 : List UInt8 := dkwX2_makeRetry_3 ++ dktX2_makeRetry_4
def dkwX2_makeRetry_2 : List UInt8 := [162, 0, 242, 42, 42, 180, 0, 88, 182, 0, 176, 3, 54, 6, 21, 6, 42, 180, 0, 79, 190, 162, 0, 25]
abbrev dktX2_makeRetry_2 : List UInt8 := dkwX2_makeRetry_2 ++ dktX2_makeRetry_3
def dkwX2_makeRetry_1 : List UInt8 := [54, 4, 42, 42, 180, 0, 85, 182, 0, 176, 42, 180, 0, 85, 3, 10, 80, 3, 54, 5, 21, 5, 21, 4]
abbrev dktX2_makeRetry_1 : List UInt8 := dkwX2_makeRetry_1 ++ dktX2_makeRetry_2
def dkwX2_makeRetry_0 : List UInt8 := [42, 180, 0, 27, 7, 27, 104, 46, 61, 42, 180, 0, 30, 27, 46, 62, 42, 180, 0, 33, 27, 46, 4, 96]
abbrev dktX2_makeRetry_0 : List UInt8 := dkwX2_makeRetry_0 ++ dktX2_makeRetry_1
theorem dksX2_makeRetry_0 : cX2_makeRetry.data.toList.drop 0 = dktX2_makeRetry_0 := by decide +kernel
theorem dksX2_makeRetry_1 : cX2_makeRetry.data.toList.drop 24 = dktX2_makeRetry_1 := dk_seg dksX2_makeRetry_0 24 rfl rfl
theorem dksX2_makeRetry_2 : cX2_makeRetry.data.toList.drop 48 = dktX2_makeRetry_2 := dk_seg dksX2_makeRetry_1 24 rfl rfl
theorem dksX2_makeRetry_3 : cX2_makeRetry.data.toList.drop 72 = dktX2_makeRetry_3 := dk_seg dksX2_makeRetry_2 24 rfl rfl
theorem dksX2_makeRetry_4 : cX2_makeRetry.data.toList.drop 95 = dktX2_makeRetry_4 := dk_seg dksX2_makeRetry_3 23 rfl rfl
theorem dksX2_makeRetry_5 : cX2_makeRetry.data.toList.drop 118 = dktX2_makeRetry_5 := dk_seg dksX2_makeRetry_4 23 rfl rfl
theorem dksX2_makeRetry_6 : cX2_makeRetry.data.toList.drop 141 = dktX2_makeRetry_6 := dk_seg dksX2_makeRetry_5 23 rfl rfl
theorem dksX2_makeRetry_7 : cX2_makeRetry.data.toList.drop 165 = dktX2_makeRetry_7 := dk_seg dksX2_makeRetry_6 24 rfl rfl
theorem dksX2_makeRetry_8 : cX2_makeRetry.data.toList.drop 189 = dktX2_makeRetry_8 := dk_seg dksX2_makeRetry_7 24 rfl rfl
theorem dksX2_makeRetry_9 : cX2_makeRetry.data.toList.drop 212 = dktX2_makeRetry_9 := dk_seg dksX2_makeRetry_8 23 rfl rfl
theorem dksX2_makeRetry_10 : cX2_makeRetry.data.toList.drop 236 = dktX2_makeRetry_10 := dk_seg dksX2_makeRetry_9 24 rfl rfl
theorem dksX2_makeRetry_11 : cX2_makeRetry.data.toList.drop 260 = dktX2_makeRetry_11 := dk_seg dksX2_makeRetry_10 24 rfl rfl
theorem dksX2_makeRetry_12 : cX2_makeRetry.data.toList.drop 284 = dktX2_makeRetry_12 := dk_seg dksX2_makeRetry_11 24 rfl rfl
theorem dksX2_makeRetry_13 : cX2_makeRetry.data.toList.drop 307 = dktX2_makeRetry_13 := dk_seg dksX2_makeRetry_12 23 rfl rfl
theorem dX2_makeRetry_0 : decode cX2_makeRetry 0 = .ok (.aload_n 0, 1) := dk_42 (dk_at dksX2_makeRetry_0 0 rfl rfl)
theorem dX2_makeRetry_1 : decode cX2_makeRetry 1 = .ok (.getfield 27, 3) := dk_180 0 27 (dk_at dksX2_makeRetry_0 1 rfl rfl)
theorem dX2_makeRetry_4 : decode cX2_makeRetry 4 = .ok (.iconst 4, 1) := dk_7 (dk_at dksX2_makeRetry_0 4 rfl rfl)
theorem dX2_makeRetry_5 : decode cX2_makeRetry 5 = .ok (.iload_n 1, 1) := dk_27 (dk_at dksX2_makeRetry_0 5 rfl rfl)
theorem dX2_makeRetry_6 : decode cX2_makeRetry 6 = .ok (.imul, 1) := dk_104 (dk_at dksX2_makeRetry_0 6 rfl rfl)
theorem dX2_makeRetry_7 : decode cX2_makeRetry 7 = .ok (.iaload, 1) := dk_46 (dk_at dksX2_makeRetry_0 7 rfl rfl)
theorem dX2_makeRetry_8 : decode cX2_makeRetry 8 = .ok (.istore_n 2, 1) := dk_61 (dk_at dksX2_makeRetry_0 8 rfl rfl)
theorem dX2_makeRetry_9 : decode cX2_makeRetry 9 = .ok (.aload_n 0, 1) := dk_42 (dk_at dksX2_makeRetry_0 9 rfl rfl)
theorem dX2_makeRetry_10 : decode cX2_makeRetry 10 = .ok (.getfield 30, 3) := dk_180 0 30 (dk_at dksX2_makeRetry_0 10 rfl rfl)
theorem dX2_makeRetry_13 : decode cX2_makeRetry 13 = .ok (.iload_n 1, 1) := dk_27 (dk_at dksX2_makeRetry_0 13 rfl rfl)
theorem dX2_makeRetry_14 : decode cX2_makeRetry 14 = .ok (.iaload, 1) := dk_46 (dk_at dksX2_makeRetry_0 14 rfl rfl)
theorem dX2_makeRetry_15 : decode cX2_makeRetry 15 = .ok (.istore_n 3, 1) := dk_62 (dk_at dksX2_makeRetry_0 15 rfl rfl)
theorem dX2_makeRetry_16 : decode cX2_makeRetry 16 = .ok (.aload_n 0, 1) := dk_42 (dk_at dksX2_makeRetry_0 16 rfl rfl)
theorem dX2_makeRetry_17 : decode cX2_makeRetry 17 = .ok (.getfield 33, 3) := dk_180 0 33 (dk_at dksX2_makeRetry_0 17 rfl rfl)
theorem dX2_makeRetry_20 : decode cX2_makeRetry 20 = .ok (.iload_n 1, 1) := dk_27 (dk_at dksX2_makeRetry_0 20 rfl rfl)
theorem dX2_makeRetry_21 : decode cX2_makeRetry 21 = .ok (.iaload, 1) := dk_46 (dk_at dksX2_makeRetry_0 21 rfl rfl)
theorem dX2_makeRetry_22 : decode cX2_makeRetry 22 = .ok (.iconst 1, 1) := dk_4 (dk_at dksX2_makeRetry_0 22 rfl rfl)
theorem dX2_makeRetry_23 : decode cX2_makeRetry 23 = .ok (.iadd, 1) := dk_96 (dk_at dksX2_makeRetry_0 23 rfl rfl)
theorem dX2_makeRetry_24 : decode cX2_makeRetry 24 = .ok (.istore 4, 2) := dk_54 4 (dk_at dksX2_makeRetry_1 0 rfl rfl)
theorem dX2_makeRetry_26 : decode cX2_makeRetry 26 = .ok (.aload_n 0, 1) := dk_42 (dk_at dksX2_makeRetry_1 2 rfl rfl)
theorem dX2_makeRetry_27 : decode cX2_makeRetry 27 = .ok (.aload_n 0, 1) := dk_42 (dk_at dksX2_makeRetry_1 3 rfl rfl)
theorem dX2_makeRetry_28 : decode cX2_makeRetry 28 = .ok (.getfield 85, 3) := dk_180 0 85 (dk_at dksX2_makeRetry_1 4 rfl rfl)
theorem dX2_makeRetry_31 : decode cX2_makeRetry 31 = .ok (.invokevirtual 176, 3) := dk_182 0 176 (dk_at dksX2_makeRetry_1 7 rfl rfl)
theorem dX2_makeRetry_34 : decode cX2_makeRetry 34 = .ok (.aload_n 0, 1) := dk_42 (dk_at dksX2_makeRetry_1 10 rfl rfl)
theorem dX2_makeRetry_35 : decode cX2_makeRetry 35 = .ok (.getfield 85, 3) := dk_180 0 85 (dk_at dksX2_makeRetry_1 11 rfl rfl)
theorem dX2_makeRetry_38 : decode cX2_makeRetry 38 = .ok (.iconst 0, 1) := dk_3 (dk_at dksX2_makeRetry_1 14 rfl rfl)
theorem dX2_makeRetry_39 : decode cX2_makeRetry 39 = .ok (.lconst 1, 1) := dk_10 (dk_at dksX2_makeRetry_1 15 rfl rfl)
theorem dX2_makeRetry_40 : decode cX2_makeRetry 40 = .ok (.lastore, 1) := dk_80 (dk_at dksX2_makeRetry_1 16 rfl rfl)
theorem dX2_makeRetry_41 : decode cX2_makeRetry 41 = .ok (.iconst 0, 1) := dk_3 (dk_at dksX2_makeRetry_1 17 rfl rfl)
theorem dX2_makeRetry_42 : decode cX2_makeRetry 42 = .ok (.istore 5, 2) := dk_54 5 (dk_at dksX2_makeRetry_1 18 rfl rfl)
theorem dX2_makeRetry_44 : decode cX2_makeRetry 44 = .ok (.iload 5, 2) := dk_21 5 (dk_at dksX2_makeRetry_1 20 rfl rfl)
theorem dX2_makeRetry_46 : decode cX2_makeRetry 46 = .ok (.iload 4, 2) := dk_21 4 (dk_at dksX2_makeRetry_1 22 rfl rfl)
theorem dX2_makeRetry_48 : decode cX2_makeRetry 48 = .ok (.if_icmp .ge 242, 3) := dk_162 0 242 (dk_at dksX2_makeRetry_2 0 rfl rfl)
theorem dX2_makeRetry_51 : decode cX2_makeRetry 51 = .ok (.aload_n 0, 1) := dk_42 (dk_at dksX2_makeRetry_2 3 rfl rfl)
theorem dX2_makeRetry_52 : decode cX2_makeRetry 52 = .ok (.aload_n 0, 1) := dk_42 (dk_at dksX2_makeRetry_2 4 rfl rfl)
theorem dX2_makeRetry_53 : decode cX2_makeRetry 53 = .ok (.getfield 88, 3) := dk_180 0 88 (dk_at dksX2_makeRetry_2 5 rfl rfl)
theorem dX2_makeRetry_56 : decode cX2_makeRetry 56 = .ok (.invokevirtual 176, 3) := dk_182 0 176 (dk_at dksX2_makeRetry_2 8 rfl rfl)
theorem dX2_makeRetry_59 : decode cX2_makeRetry 59 = .ok (.iconst 0, 1) := dk_3 (dk_at dksX2_makeRetry_2 11 rfl rfl)
theorem dX2_makeRetry_60 : decode cX2_makeRetry 60 = .ok (.istore 6, 2) := dk_54 6 (dk_at dksX2_makeRetry_2 12 rfl rfl)
theorem dX2_makeRetry_62 : decode cX2_makeRetry 62 = .ok (.iload 6, 2) := dk_21 6 (dk_at dksX2_makeRetry_2 14 rfl rfl)
theorem dX2_makeRetry_64 : decode cX2_makeRetry 64 = .ok (.aload_n 0, 1) := dk_42 (dk_at dksX2_makeRetry_2 16 rfl rfl)
theorem dX2_makeRetry_65 : decode cX2_makeRetry 65 = .ok (.getfield 79, 3) := dk_180 0 79 (dk_at dksX2_makeRetry_2 17 rfl rfl)
theorem dX2_makeRetry_68 : decode cX2_makeRetry 68 = .ok (.arraylength, 1) := dk_190 (dk_at dksX2_makeRetry_2 20 rfl rfl)
theorem dX2_makeRetry_69 : decode cX2_makeRetry 69 = .ok (.if_icmp .ge 25, 3) := dk_162 0 25 (dk_at dksX2_makeRetry_2 21 rfl rfl)
theorem dX2_makeRetry_72 : decode cX2_makeRetry 72 = .ok (.aload_n 0, 1) := dk_42 (dk_at dksX2_makeRetry_3 0 rfl rfl)
theorem dX2_makeRetry_73 : decode cX2_makeRetry 73 = .ok (.getfield 79, 3) := dk_180 0 79 (dk_at dksX2_makeRetry_3 1 rfl rfl)
theorem dX2_makeRetry_76 : decode cX2_makeRetry 76 = .ok (.iload 6, 2) := dk_21 6 (dk_at dksX2_makeRetry_3 4 rfl rfl)
theorem dX2_makeRetry_78 : decode cX2_makeRetry 78 = .ok (.dup2, 1) := dk_92 (dk_at dksX2_makeRetry_3 6 rfl rfl)
theorem dX2_makeRetry_79 : decode cX2_makeRetry 79 = .ok (.laload, 1) := dk_47 (dk_at dksX2_makeRetry_3 7 rfl rfl)
theorem dX2_makeRetry_80 : decode cX2_makeRetry 80 = .ok (.aload_n 0, 1) := dk_42 (dk_at dksX2_makeRetry_3 8 rfl rfl)
theorem dX2_makeRetry_81 : decode cX2_makeRetry 81 = .ok (.getfield 72, 3) := dk_180 0 72 (dk_at dksX2_makeRetry_3 9 rfl rfl)
theorem dX2_makeRetry_84 : decode cX2_makeRetry 84 = .ok (.iload_n 2, 1) := dk_28 (dk_at dksX2_makeRetry_3 12 rfl rfl)
theorem dX2_makeRetry_85 : decode cX2_makeRetry 85 = .ok (.laload, 1) := dk_47 (dk_at dksX2_makeRetry_3 13 rfl rfl)
theorem dX2_makeRetry_86 : decode cX2_makeRetry 86 = .ok (.lmul, 1) := dk_105 (dk_at dksX2_makeRetry_3 14 rfl rfl)
theorem dX2_makeRetry_87 : decode cX2_makeRetry 87 = .ok (.lastore, 1) := dk_80 (dk_at dksX2_makeRetry_3 15 rfl rfl)
theorem dX2_makeRetry_88 : decode cX2_makeRetry 88 = .ok (.iinc 6 1, 3) := dk_132 6 1 (dk_at dksX2_makeRetry_3 16 rfl rfl)
theorem dX2_makeRetry_91 : decode cX2_makeRetry 91 = .ok (.goto (-29), 3) := dk_167 255 227 (dk_at dksX2_makeRetry_3 19 rfl rfl)
theorem dX2_makeRetry_94 : decode cX2_makeRetry 94 = .ok (.iconst 0, 1) := dk_3 (dk_at dksX2_makeRetry_3 22 rfl rfl)
theorem dX2_makeRetry_95 : decode cX2_makeRetry 95 = .ok (.istore 6, 2) := dk_54 6 (dk_at dksX2_makeRetry_4 0 rfl rfl)
theorem dX2_makeRetry_97 : decode cX2_makeRetry 97 = .ok (.iload 6, 2) := dk_21 6 (dk_at dksX2_makeRetry_4 2 rfl rfl)
theorem dX2_makeRetry_99 : decode cX2_makeRetry 99 = .ok (.iload_n 3, 1) := dk_29 (dk_at dksX2_makeRetry_4 4 rfl rfl)
theorem dX2_makeRetry_100 : decode cX2_makeRetry 100 = .ok (.iload 5, 2) := dk_21 5 (dk_at dksX2_makeRetry_4 5 rfl rfl)
theorem dX2_makeRetry_102 : decode cX2_makeRetry 102 = .ok (.imul, 1) := dk_104 (dk_at dksX2_makeRetry_4 7 rfl rfl)
theorem dX2_makeRetry_103 : decode cX2_makeRetry 103 = .ok (.if_icmp .gt 148, 3) := dk_163 0 148 (dk_at dksX2_makeRetry_4 8 rfl rfl)
theorem dX2_makeRetry_106 : decode cX2_makeRetry 106 = .ok (.aload_n 0, 1) := dk_42 (dk_at dksX2_makeRetry_4 11 rfl rfl)
theorem dX2_makeRetry_107 : decode cX2_makeRetry 107 = .ok (.getfield 85, 3) := dk_180 0 85 (dk_at dksX2_makeRetry_4 12 rfl rfl)
theorem dX2_makeRetry_110 : decode cX2_makeRetry 110 = .ok (.iload 6, 2) := dk_21 6 (dk_at dksX2_makeRetry_4 15 rfl rfl)
theorem dX2_makeRetry_112 : decode cX2_makeRetry 112 = .ok (.laload, 1) := dk_47 (dk_at dksX2_makeRetry_4 17 rfl rfl)
theorem dX2_makeRetry_113 : decode cX2_makeRetry 113 = .ok (.lconst 0, 1) := dk_9 (dk_at dksX2_makeRetry_4 18 rfl rfl)
theorem dX2_makeRetry_114 : decode cX2_makeRetry 114 = .ok (.lcmp, 1) := dk_148 (dk_at dksX2_makeRetry_4 19 rfl rfl)
theorem dX2_makeRetry_115 : decode cX2_makeRetry 115 = .ok (.ifCond .ne 6, 3) := dk_154 0 6 (dk_at dksX2_makeRetry_4 20 rfl rfl)
theorem dX2_makeRetry_118 : decode cX2_makeRetry 118 = .ok (.goto 127, 3) := dk_167 0 127 (dk_at dksX2_makeRetry_5 0 rfl rfl)
theorem dX2_makeRetry_121 : decode cX2_makeRetry 121 = .ok (.iconst 0, 1) := dk_3 (dk_at dksX2_makeRetry_5 3 rfl rfl)
theorem dX2_makeRetry_122 : decode cX2_makeRetry 122 = .ok (.istore 7, 2) := dk_54 7 (dk_at dksX2_makeRetry_5 4 rfl rfl)
theorem dX2_makeRetry_124 : decode cX2_makeRetry 124 = .ok (.iload 7, 2) := dk_21 7 (dk_at dksX2_makeRetry_5 6 rfl rfl)
theorem dX2_makeRetry_126 : decode cX2_makeRetry 126 = .ok (.bipush 121, 2) := dk_16 121 (dk_at dksX2_makeRetry_5 8 rfl rfl)
theorem dX2_makeRetry_128 : decode cX2_makeRetry 128 = .ok (.if_icmp .ge 117, 3) := dk_162 0 117 (dk_at dksX2_makeRetry_5 10 rfl rfl)
theorem dX2_makeRetry_131 : decode cX2_makeRetry 131 = .ok (.iload 7, 2) := dk_21 7 (dk_at dksX2_makeRetry_5 13 rfl rfl)
theorem dX2_makeRetry_133 : decode cX2_makeRetry 133 = .ok (.iload_n 3, 1) := dk_29 (dk_at dksX2_makeRetry_5 15 rfl rfl)
theorem dX2_makeRetry_134 : decode cX2_makeRetry 134 = .ok (.if_icmp .gt 38, 3) := dk_163 0 38 (dk_at dksX2_makeRetry_5 16 rfl rfl)
theorem dX2_makeRetry_137 : decode cX2_makeRetry 137 = .ok (.aload_n 0, 1) := dk_42 (dk_at dksX2_makeRetry_5 19 rfl rfl)
theorem dX2_makeRetry_138 : decode cX2_makeRetry 138 = .ok (.getfield 79, 3) := dk_180 0 79 (dk_at dksX2_makeRetry_5 20 rfl rfl)
theorem dX2_makeRetry_141 : decode cX2_makeRetry 141 = .ok (.iload 6, 2) := dk_21 6 (dk_at dksX2_makeRetry_6 0 rfl rfl)
theorem dX2_makeRetry_143 : decode cX2_makeRetry 143 = .ok (.iload 7, 2) := dk_21 7 (dk_at dksX2_makeRetry_6 2 rfl rfl)
theorem dX2_makeRetry_145 : decode cX2_makeRetry 145 = .ok (.iadd, 1) := dk_96 (dk_at dksX2_makeRetry_6 4 rfl rfl)
theorem dX2_makeRetry_146 : decode cX2_makeRetry 146 = .ok (.dup2, 1) := dk_92 (dk_at dksX2_makeRetry_6 5 rfl rfl)
theorem dX2_makeRetry_147 : decode cX2_makeRetry 147 = .ok (.laload, 1) := dk_47 (dk_at dksX2_makeRetry_6 6 rfl rfl)
theorem dX2_makeRetry_148 : decode cX2_makeRetry 148 = .ok (.aload_n 0, 1) := dk_42 (dk_at dksX2_makeRetry_6 7 rfl rfl)
theorem dX2_makeRetry_149 : decode cX2_makeRetry 149 = .ok (.getfield 85, 3) := dk_180 0 85 (dk_at dksX2_makeRetry_6 8 rfl rfl)
theorem dX2_makeRetry_152 : decode cX2_makeRetry 152 = .ok (.iload 6, 2) := dk_21 6 (dk_at dksX2_makeRetry_6 11 rfl rfl)
theorem dX2_makeRetry_154 : decode cX2_makeRetry 154 = .ok (.laload, 1) := dk_47 (dk_at dksX2_makeRetry_6 13 rfl rfl)
theorem dX2_makeRetry_155 : decode cX2_makeRetry 155 = .ok (.aload_n 0, 1) := dk_42 (dk_at dksX2_makeRetry_6 14 rfl rfl)
theorem dX2_makeRetry_156 : decode cX2_makeRetry 156 = .ok (.getfield 66, 3) := dk_180 0 66 (dk_at dksX2_makeRetry_6 15 rfl rfl)
theorem dX2_makeRetry_159 : decode cX2_makeRetry 159 = .ok (.iload_n 2, 1) := dk_28 (dk_at dksX2_makeRetry_6 18 rfl rfl)
theorem dX2_makeRetry_160 : decode cX2_makeRetry 160 = .ok (.iload 7, 2) := dk_21 7 (dk_at dksX2_makeRetry_6 19 rfl rfl)
theorem dX2_makeRetry_162 : decode cX2_makeRetry 162 = .ok (.invokestatic 173, 3) := dk_184 0 173 (dk_at dksX2_makeRetry_6 21 rfl rfl)
theorem dX2_makeRetry_165 : decode cX2_makeRetry 165 = .ok (.laload, 1) := dk_47 (dk_at dksX2_makeRetry_7 0 rfl rfl)
theorem dX2_makeRetry_166 : decode cX2_makeRetry 166 = .ok (.lmul, 1) := dk_105 (dk_at dksX2_makeRetry_7 1 rfl rfl)
theorem dX2_makeRetry_167 : decode cX2_makeRetry 167 = .ok (.ladd, 1) := dk_97 (dk_at dksX2_makeRetry_7 2 rfl rfl)
theorem dX2_makeRetry_168 : decode cX2_makeRetry 168 = .ok (.lastore, 1) := dk_80 (dk_at dksX2_makeRetry_7 3 rfl rfl)
theorem dX2_makeRetry_169 : decode cX2_makeRetry 169 = .ok (.goto 34, 3) := dk_167 0 34 (dk_at dksX2_makeRetry_7 4 rfl rfl)
theorem dX2_makeRetry_172 : decode cX2_makeRetry 172 = .ok (.aload_n 0, 1) := dk_42 (dk_at dksX2_makeRetry_7 7 rfl rfl)
theorem dX2_makeRetry_173 : decode cX2_makeRetry 173 = .ok (.getfield 88, 3) := dk_180 0 88 (dk_at dksX2_makeRetry_7 8 rfl rfl)
theorem dX2_makeRetry_176 : decode cX2_makeRetry 176 = .ok (.iload 6, 2) := dk_21 6 (dk_at dksX2_makeRetry_7 11 rfl rfl)
theorem dX2_makeRetry_178 : decode cX2_makeRetry 178 = .ok (.iload_n 3, 1) := dk_29 (dk_at dksX2_makeRetry_7 13 rfl rfl)
theorem dX2_makeRetry_179 : decode cX2_makeRetry 179 = .ok (.iadd, 1) := dk_96 (dk_at dksX2_makeRetry_7 14 rfl rfl)
theorem dX2_makeRetry_180 : decode cX2_makeRetry 180 = .ok (.dup2, 1) := dk_92 (dk_at dksX2_makeRetry_7 15 rfl rfl)
theorem dX2_makeRetry_181 : decode cX2_makeRetry 181 = .ok (.laload, 1) := dk_47 (dk_at dksX2_makeRetry_7 16 rfl rfl)
theorem dX2_makeRetry_182 : decode cX2_makeRetry 182 = .ok (.aload_n 0, 1) := dk_42 (dk_at dksX2_makeRetry_7 17 rfl rfl)
theorem dX2_makeRetry_183 : decode cX2_makeRetry 183 = .ok (.getfield 85, 3) := dk_180 0 85 (dk_at dksX2_makeRetry_7 18 rfl rfl)
theorem dX2_makeRetry_186 : decode cX2_makeRetry 186 = .ok (.iload 6, 2) := dk_21 6 (dk_at dksX2_makeRetry_7 21 rfl rfl)
theorem dX2_makeRetry_188 : decode cX2_makeRetry 188 = .ok (.laload, 1) := dk_47 (dk_at dksX2_makeRetry_7 23 rfl rfl)
theorem dX2_makeRetry_189 : decode cX2_makeRetry 189 = .ok (.aload_n 0, 1) := dk_42 (dk_at dksX2_makeRetry_8 0 rfl rfl)
theorem dX2_makeRetry_190 : decode cX2_makeRetry 190 = .ok (.getfield 66, 3) := dk_180 0 66 (dk_at dksX2_makeRetry_8 1 rfl rfl)
theorem dX2_makeRetry_193 : decode cX2_makeRetry 193 = .ok (.iload_n 2, 1) := dk_28 (dk_at dksX2_makeRetry_8 4 rfl rfl)
theorem dX2_makeRetry_194 : decode cX2_makeRetry 194 = .ok (.iload 7, 2) := dk_21 7 (dk_at dksX2_makeRetry_8 5 rfl rfl)
theorem dX2_makeRetry_196 : decode cX2_makeRetry 196 = .ok (.invokestatic 173, 3) := dk_184 0 173 (dk_at dksX2_makeRetry_8 7 rfl rfl)
theorem dX2_makeRetry_199 : decode cX2_makeRetry 199 = .ok (.laload, 1) := dk_47 (dk_at dksX2_makeRetry_8 10 rfl rfl)
theorem dX2_makeRetry_200 : decode cX2_makeRetry 200 = .ok (.lmul, 1) := dk_105 (dk_at dksX2_makeRetry_8 11 rfl rfl)
theorem dX2_makeRetry_201 : decode cX2_makeRetry 201 = .ok (.ladd, 1) := dk_97 (dk_at dksX2_makeRetry_8 12 rfl rfl)
theorem dX2_makeRetry_202 : decode cX2_makeRetry 202 = .ok (.lastore, 1) := dk_80 (dk_at dksX2_makeRetry_8 13 rfl rfl)
theorem dX2_makeRetry_203 : decode cX2_makeRetry 203 = .ok (.aload_n 0, 1) := dk_42 (dk_at dksX2_makeRetry_8 14 rfl rfl)
theorem dX2_makeRetry_204 : decode cX2_makeRetry 204 = .ok (.getfield 88, 3) := dk_180 0 88 (dk_at dksX2_makeRetry_8 15 rfl rfl)
theorem dX2_makeRetry_207 : decode cX2_makeRetry 207 = .ok (.iload 6, 2) := dk_21 6 (dk_at dksX2_makeRetry_8 18 rfl rfl)
theorem dX2_makeRetry_209 : decode cX2_makeRetry 209 = .ok (.iload 7, 2) := dk_21 7 (dk_at dksX2_makeRetry_8 20 rfl rfl)
theorem dX2_makeRetry_211 : decode cX2_makeRetry 211 = .ok (.iload_n 3, 1) := dk_29 (dk_at dksX2_makeRetry_8 22 rfl rfl)
theorem dX2_makeRetry_212 : decode cX2_makeRetry 212 = .ok (.invokestatic 212, 3) := dk_184 0 212 (dk_at dksX2_makeRetry_9 0 rfl rfl)
theorem dX2_makeRetry_215 : decode cX2_makeRetry 215 = .ok (.iadd, 1) := dk_96 (dk_at dksX2_makeRetry_9 3 rfl rfl)
theorem dX2_makeRetry_216 : decode cX2_makeRetry 216 = .ok (.dup2, 1) := dk_92 (dk_at dksX2_makeRetry_9 4 rfl rfl)
theorem dX2_makeRetry_217 : decode cX2_makeRetry 217 = .ok (.laload, 1) := dk_47 (dk_at dksX2_makeRetry_9 5 rfl rfl)
theorem dX2_makeRetry_218 : decode cX2_makeRetry 218 = .ok (.aload_n 0, 1) := dk_42 (dk_at dksX2_makeRetry_9 6 rfl rfl)
theorem dX2_makeRetry_219 : decode cX2_makeRetry 219 = .ok (.getfield 85, 3) := dk_180 0 85 (dk_at dksX2_makeRetry_9 7 rfl rfl)
theorem dX2_makeRetry_222 : decode cX2_makeRetry 222 = .ok (.iload 6, 2) := dk_21 6 (dk_at dksX2_makeRetry_9 10 rfl rfl)
theorem dX2_makeRetry_224 : decode cX2_makeRetry 224 = .ok (.laload, 1) := dk_47 (dk_at dksX2_makeRetry_9 12 rfl rfl)
theorem dX2_makeRetry_225 : decode cX2_makeRetry 225 = .ok (.aload_n 0, 1) := dk_42 (dk_at dksX2_makeRetry_9 13 rfl rfl)
theorem dX2_makeRetry_226 : decode cX2_makeRetry 226 = .ok (.getfield 69, 3) := dk_180 0 69 (dk_at dksX2_makeRetry_9 14 rfl rfl)
theorem dX2_makeRetry_229 : decode cX2_makeRetry 229 = .ok (.iload_n 2, 1) := dk_28 (dk_at dksX2_makeRetry_9 17 rfl rfl)
theorem dX2_makeRetry_230 : decode cX2_makeRetry 230 = .ok (.iload 7, 2) := dk_21 7 (dk_at dksX2_makeRetry_9 18 rfl rfl)
theorem dX2_makeRetry_232 : decode cX2_makeRetry 232 = .ok (.invokestatic 173, 3) := dk_184 0 173 (dk_at dksX2_makeRetry_9 20 rfl rfl)
theorem dX2_makeRetry_235 : decode cX2_makeRetry 235 = .ok (.laload, 1) := dk_47 (dk_at dksX2_makeRetry_9 23 rfl rfl)
theorem dX2_makeRetry_236 : decode cX2_makeRetry 236 = .ok (.lmul, 1) := dk_105 (dk_at dksX2_makeRetry_10 0 rfl rfl)
theorem dX2_makeRetry_237 : decode cX2_makeRetry 237 = .ok (.ladd, 1) := dk_97 (dk_at dksX2_makeRetry_10 1 rfl rfl)
theorem dX2_makeRetry_238 : decode cX2_makeRetry 238 = .ok (.lastore, 1) := dk_80 (dk_at dksX2_makeRetry_10 2 rfl rfl)
theorem dX2_makeRetry_239 : decode cX2_makeRetry 239 = .ok (.iinc 7 1, 3) := dk_132 7 1 (dk_at dksX2_makeRetry_10 3 rfl rfl)
theorem dX2_makeRetry_242 : decode cX2_makeRetry 242 = .ok (.goto (-118), 3) := dk_167 255 138 (dk_at dksX2_makeRetry_10 6 rfl rfl)
theorem dX2_makeRetry_245 : decode cX2_makeRetry 245 = .ok (.iinc 6 1, 3) := dk_132 6 1 (dk_at dksX2_makeRetry_10 9 rfl rfl)
theorem dX2_makeRetry_248 : decode cX2_makeRetry 248 = .ok (.goto (-151), 3) := dk_167 255 105 (dk_at dksX2_makeRetry_10 12 rfl rfl)
theorem dX2_makeRetry_251 : decode cX2_makeRetry 251 = .ok (.iconst 0, 1) := dk_3 (dk_at dksX2_makeRetry_10 15 rfl rfl)
theorem dX2_makeRetry_252 : decode cX2_makeRetry 252 = .ok (.istore 6, 2) := dk_54 6 (dk_at dksX2_makeRetry_10 16 rfl rfl)
theorem dX2_makeRetry_254 : decode cX2_makeRetry 254 = .ok (.iload 6, 2) := dk_21 6 (dk_at dksX2_makeRetry_10 18 rfl rfl)
theorem dX2_makeRetry_256 : decode cX2_makeRetry 256 = .ok (.aload_n 0, 1) := dk_42 (dk_at dksX2_makeRetry_10 20 rfl rfl)
theorem dX2_makeRetry_257 : decode cX2_makeRetry 257 = .ok (.getfield 85, 3) := dk_180 0 85 (dk_at dksX2_makeRetry_10 21 rfl rfl)
theorem dX2_makeRetry_260 : decode cX2_makeRetry 260 = .ok (.arraylength, 1) := dk_190 (dk_at dksX2_makeRetry_11 0 rfl rfl)
theorem dX2_makeRetry_261 : decode cX2_makeRetry 261 = .ok (.if_icmp .ge 23, 3) := dk_162 0 23 (dk_at dksX2_makeRetry_11 1 rfl rfl)
theorem dX2_makeRetry_264 : decode cX2_makeRetry 264 = .ok (.aload_n 0, 1) := dk_42 (dk_at dksX2_makeRetry_11 4 rfl rfl)
theorem dX2_makeRetry_265 : decode cX2_makeRetry 265 = .ok (.getfield 85, 3) := dk_180 0 85 (dk_at dksX2_makeRetry_11 5 rfl rfl)
theorem dX2_makeRetry_268 : decode cX2_makeRetry 268 = .ok (.iload 6, 2) := dk_21 6 (dk_at dksX2_makeRetry_11 8 rfl rfl)
theorem dX2_makeRetry_270 : decode cX2_makeRetry 270 = .ok (.aload_n 0, 1) := dk_42 (dk_at dksX2_makeRetry_11 10 rfl rfl)
theorem dX2_makeRetry_271 : decode cX2_makeRetry 271 = .ok (.getfield 88, 3) := dk_180 0 88 (dk_at dksX2_makeRetry_11 11 rfl rfl)
theorem dX2_makeRetry_274 : decode cX2_makeRetry 274 = .ok (.iload 6, 2) := dk_21 6 (dk_at dksX2_makeRetry_11 14 rfl rfl)
theorem dX2_makeRetry_276 : decode cX2_makeRetry 276 = .ok (.laload, 1) := dk_47 (dk_at dksX2_makeRetry_11 16 rfl rfl)
theorem dX2_makeRetry_277 : decode cX2_makeRetry 277 = .ok (.lastore, 1) := dk_80 (dk_at dksX2_makeRetry_11 17 rfl rfl)
theorem dX2_makeRetry_278 : decode cX2_makeRetry 278 = .ok (.iinc 6 1, 3) := dk_132 6 1 (dk_at dksX2_makeRetry_11 18 rfl rfl)
theorem dX2_makeRetry_281 : decode cX2_makeRetry 281 = .ok (.goto (-27), 3) := dk_167 255 229 (dk_at dksX2_makeRetry_11 21 rfl rfl)
theorem dX2_makeRetry_284 : decode cX2_makeRetry 284 = .ok (.iinc 5 1, 3) := dk_132 5 1 (dk_at dksX2_makeRetry_12 0 rfl rfl)
theorem dX2_makeRetry_287 : decode cX2_makeRetry 287 = .ok (.goto (-243), 3) := dk_167 255 13 (dk_at dksX2_makeRetry_12 3 rfl rfl)
theorem dX2_makeRetry_290 : decode cX2_makeRetry 290 = .ok (.iconst 0, 1) := dk_3 (dk_at dksX2_makeRetry_12 6 rfl rfl)
theorem dX2_makeRetry_291 : decode cX2_makeRetry 291 = .ok (.istore 5, 2) := dk_54 5 (dk_at dksX2_makeRetry_12 7 rfl rfl)
theorem dX2_makeRetry_293 : decode cX2_makeRetry 293 = .ok (.iload 5, 2) := dk_21 5 (dk_at dksX2_makeRetry_12 9 rfl rfl)
theorem dX2_makeRetry_295 : decode cX2_makeRetry 295 = .ok (.aload_n 0, 1) := dk_42 (dk_at dksX2_makeRetry_12 11 rfl rfl)
theorem dX2_makeRetry_296 : decode cX2_makeRetry 296 = .ok (.getfield 82, 3) := dk_180 0 82 (dk_at dksX2_makeRetry_12 12 rfl rfl)
theorem dX2_makeRetry_299 : decode cX2_makeRetry 299 = .ok (.arraylength, 1) := dk_190 (dk_at dksX2_makeRetry_12 15 rfl rfl)
theorem dX2_makeRetry_300 : decode cX2_makeRetry 300 = .ok (.if_icmp .ge 23, 3) := dk_162 0 23 (dk_at dksX2_makeRetry_12 16 rfl rfl)
theorem dX2_makeRetry_303 : decode cX2_makeRetry 303 = .ok (.aload_n 0, 1) := dk_42 (dk_at dksX2_makeRetry_12 19 rfl rfl)
theorem dX2_makeRetry_304 : decode cX2_makeRetry 304 = .ok (.getfield 82, 3) := dk_180 0 82 (dk_at dksX2_makeRetry_12 20 rfl rfl)
theorem dX2_makeRetry_307 : decode cX2_makeRetry 307 = .ok (.iload 5, 2) := dk_21 5 (dk_at dksX2_makeRetry_13 0 rfl rfl)
theorem dX2_makeRetry_309 : decode cX2_makeRetry 309 = .ok (.aload_n 0, 1) := dk_42 (dk_at dksX2_makeRetry_13 2 rfl rfl)
theorem dX2_makeRetry_310 : decode cX2_makeRetry 310 = .ok (.getfield 85, 3) := dk_180 0 85 (dk_at dksX2_makeRetry_13 3 rfl rfl)
theorem dX2_makeRetry_313 : decode cX2_makeRetry 313 = .ok (.iload 5, 2) := dk_21 5 (dk_at dksX2_makeRetry_13 6 rfl rfl)
theorem dX2_makeRetry_315 : decode cX2_makeRetry 315 = .ok (.laload, 1) := dk_47 (dk_at dksX2_makeRetry_13 8 rfl rfl)
theorem dX2_makeRetry_316 : decode cX2_makeRetry 316 = .ok (.lastore, 1) := dk_80 (dk_at dksX2_makeRetry_13 9 rfl rfl)
theorem dX2_makeRetry_317 : decode cX2_makeRetry 317 = .ok (.iinc 5 1, 3) := dk_132 5 1 (dk_at dksX2_makeRetry_13 10 rfl rfl)
theorem dX2_makeRetry_320 : decode cX2_makeRetry 320 = .ok (.goto (-27), 3) := dk_167 255 229 (dk_at dksX2_makeRetry_13 13 rfl rfl)
theorem dX2_makeRetry_323 : decode cX2_makeRetry 323 = .ok (.return_, 1) := dk_177 (dk_at dksX2_makeRetry_13 16 rfl rfl)
abbrev cX2_makeHedge : ByteArray := prog_13_method_38_code
def yX2_makeHedge : MethodName := ⟨RX2, "makeHedge", "(I)V"⟩
def dkwX2_makeHedge_11 : List UInt8 := [167, 255, 17, 177]
abbrev dktX2_makeHedge_11 : List UInt8 := dkwX2_makeHedge_11 ++ []
def dkwX2_makeHedge_10 : List UInt8 := [47, 42, 180, 0, 69, 28, 21, 5, 184, 0, 173, 47, 105, 97, 80, 132, 5, 1, 167, 255, 98, 132, 4, 1]
abbrev dktX2_makeHedge_10 : List UInt8 := dkwX2_makeHedge_10 ++ dktX2_makeHedge_11
def dkwX2_makeHedge_9 : List UInt8 := [180, 0, 82, 21, 4, 29, 21, 5, 96, 184, 0, 217, 92, 47, 42, 180, 0, 69, 28, 21, 4, 184, 0, 173]
abbrev dktX2_makeHedge_9 : List UInt8 := dkwX2_makeHedge_9 ++ dktX2_makeHedge_10
def dkwX2_makeHedge_8 : List UInt8 := [28, 21, 4, 184, 0, 173, 47, 42, 180, 0, 66, 28, 21, 5, 184, 0, 173, 47, 105, 97, 80, 42]
abbrev dktX2_makeHedge_8 : List UInt8 := dkwX2_makeHedge_8 ++ dktX2_makeHedge_9
def dkwX2_makeHedge_7 : List UInt8 := [28, 21, 5, 184, 0, 173, 47, 105, 97, 80, 42, 180, 0, 79, 29, 21, 5, 96, 92, 47, 42, 180, 0, 69]
abbrev dktX2_makeHedge_7 : List UInt8 := dkwX2_makeHedge_7 ++ dktX2_makeHedge_8
def dkwX2_makeHedge_6 : List UInt8 := [80, 42, 180, 0, 79, 21, 4, 92, 47, 42, 180, 0, 66, 28, 21, 4, 184, 0, 173, 47, 42, 180, 0, 69]
abbrev dktX2_makeHedge_6 : List UInt8 := dkwX2_makeHedge_6 ++ dktX2_makeHedge_7
def dkwX2_makeHedge_5 : List UInt8 := [42, 180, 0, 66, 28, 21, 4, 184, 0, 173, 47, 42, 180, 0, 66, 28, 21, 5, 184, 0, 173, 47, 105, 97]
abbrev dktX2_makeHedge_5 : List UInt8 := dkwX2_makeHedge_5 ++ dktX2_makeHedge_6
def dkwX2_makeHedge_4 : List UInt8 := [54, 5, 21, 5, 16, 121, 162, 0, 157, 42, 180, 0, 79, 21, 4, 29, 21, 5, 96, 184, 0, 212, 92, 47]
abbrev dktX2_makeHedge_4 : List UInt8 := dkwX2_makeHedge_4 ++ dktX2_makeHedge_5
def dkwX2_makeHedge_3 : List UInt8 := [180, 0, 69, 28, 21, 4, 184, 0, 173, 47, 42, 180, 0, 72, 28, 47, 105, 97, 80, 167, 0, 167, 3]
abbrev dktX2_makeHedge_3 : List UInt8 := dkwX2_makeHedge_3 ++ dktX2_makeHedge_4
def dkwX2_makeHedge_2 : List UInt8 := [184, 0, 173, 47, 42, 180, 0, 72, 28, 47, 105, 97, 80, 42, 180, 0, 82, 21, 4, 92, 47, 42]
abbrev dktX2_makeHedge_2 : List UInt8 := dkwX2_makeHedge_2 ++ dktX2_makeHedge_3
def dkwX2_makeHedge_1 : List UInt8 := [162, 0, 238, 21, 4, 29, 163, 0, 62, 42, 180, 0, 79, 21, 4, 92, 47, 42, 180, 0, 66, 28, 21, 4]
abbrev dktX2_makeHedge_1 : List UInt8 := dkwX2_makeHedge_1 ++ dktX2_makeHedge_2
def dkwX2_makeHedge_0 : List UInt8 := [42, 180, 0, 27, 7, 27, 104, 46, 61, 42, 180, 0, 30, 27, 46, 62, 3, 54, 4, 21, 4, 16, 121]
abbrev dktX2_makeHedge_0 : List UInt8 := dkwX2_makeHedge_0 ++ dktX2_makeHedge_1
theorem dksX2_makeHedge_0 : cX2_makeHedge.data.toList.drop 0 = dktX2_makeHedge_0 := by decide +kernel
theorem dksX2_makeHedge_1 : cX2_makeHedge.data.toList.drop 23 = dktX2_makeHedge_1 := dk_seg dksX2_makeHedge_0 23 rfl rfl
theorem dksX2_makeHedge_2 : cX2_makeHedge.data.toList.drop 47 = dktX2_makeHedge_2 := dk_seg dksX2_makeHedge_1 24 rfl rfl
theorem dksX2_makeHedge_3 : cX2_makeHedge.data.toList.drop 69 = dktX2_makeHedge_3 := dk_seg dksX2_makeHedge_2 22 rfl rfl
theorem dksX2_makeHedge_4 : cX2_makeHedge.data.toList.drop 92 = dktX2_makeHedge_4 := dk_seg dksX2_makeHedge_3 23 rfl rfl
theorem dksX2_makeHedge_5 : cX2_makeHedge.data.toList.drop 116 = dktX2_makeHedge_5 := dk_seg dksX2_makeHedge_4 24 rfl rfl
theorem dksX2_makeHedge_6 : cX2_makeHedge.data.toList.drop 140 = dktX2_makeHedge_6 := dk_seg dksX2_makeHedge_5 24 rfl rfl
theorem dksX2_makeHedge_7 : cX2_makeHedge.data.toList.drop 164 = dktX2_makeHedge_7 := dk_seg dksX2_makeHedge_6 24 rfl rfl
theorem dksX2_makeHedge_8 : cX2_makeHedge.data.toList.drop 188 = dktX2_makeHedge_8 := dk_seg dksX2_makeHedge_7 24 rfl rfl
theorem dksX2_makeHedge_9 : cX2_makeHedge.data.toList.drop 210 = dktX2_makeHedge_9 := dk_seg dksX2_makeHedge_8 22 rfl rfl
theorem dksX2_makeHedge_10 : cX2_makeHedge.data.toList.drop 234 = dktX2_makeHedge_10 := dk_seg dksX2_makeHedge_9 24 rfl rfl
theorem dksX2_makeHedge_11 : cX2_makeHedge.data.toList.drop 258 = dktX2_makeHedge_11 := dk_seg dksX2_makeHedge_10 24 rfl rfl
theorem dX2_makeHedge_0 : decode cX2_makeHedge 0 = .ok (.aload_n 0, 1) := dk_42 (dk_at dksX2_makeHedge_0 0 rfl rfl)
theorem dX2_makeHedge_1 : decode cX2_makeHedge 1 = .ok (.getfield 27, 3) := dk_180 0 27 (dk_at dksX2_makeHedge_0 1 rfl rfl)
theorem dX2_makeHedge_4 : decode cX2_makeHedge 4 = .ok (.iconst 4, 1) := dk_7 (dk_at dksX2_makeHedge_0 4 rfl rfl)
theorem dX2_makeHedge_5 : decode cX2_makeHedge 5 = .ok (.iload_n 1, 1) := dk_27 (dk_at dksX2_makeHedge_0 5 rfl rfl)
theorem dX2_makeHedge_6 : decode cX2_makeHedge 6 = .ok (.imul, 1) := dk_104 (dk_at dksX2_makeHedge_0 6 rfl rfl)
theorem dX2_makeHedge_7 : decode cX2_makeHedge 7 = .ok (.iaload, 1) := dk_46 (dk_at dksX2_makeHedge_0 7 rfl rfl)
theorem dX2_makeHedge_8 : decode cX2_makeHedge 8 = .ok (.istore_n 2, 1) := dk_61 (dk_at dksX2_makeHedge_0 8 rfl rfl)
theorem dX2_makeHedge_9 : decode cX2_makeHedge 9 = .ok (.aload_n 0, 1) := dk_42 (dk_at dksX2_makeHedge_0 9 rfl rfl)
theorem dX2_makeHedge_10 : decode cX2_makeHedge 10 = .ok (.getfield 30, 3) := dk_180 0 30 (dk_at dksX2_makeHedge_0 10 rfl rfl)
theorem dX2_makeHedge_13 : decode cX2_makeHedge 13 = .ok (.iload_n 1, 1) := dk_27 (dk_at dksX2_makeHedge_0 13 rfl rfl)
theorem dX2_makeHedge_14 : decode cX2_makeHedge 14 = .ok (.iaload, 1) := dk_46 (dk_at dksX2_makeHedge_0 14 rfl rfl)
theorem dX2_makeHedge_15 : decode cX2_makeHedge 15 = .ok (.istore_n 3, 1) := dk_62 (dk_at dksX2_makeHedge_0 15 rfl rfl)
theorem dX2_makeHedge_16 : decode cX2_makeHedge 16 = .ok (.iconst 0, 1) := dk_3 (dk_at dksX2_makeHedge_0 16 rfl rfl)
theorem dX2_makeHedge_17 : decode cX2_makeHedge 17 = .ok (.istore 4, 2) := dk_54 4 (dk_at dksX2_makeHedge_0 17 rfl rfl)
theorem dX2_makeHedge_19 : decode cX2_makeHedge 19 = .ok (.iload 4, 2) := dk_21 4 (dk_at dksX2_makeHedge_0 19 rfl rfl)
theorem dX2_makeHedge_21 : decode cX2_makeHedge 21 = .ok (.bipush 121, 2) := dk_16 121 (dk_at dksX2_makeHedge_0 21 rfl rfl)
theorem dX2_makeHedge_23 : decode cX2_makeHedge 23 = .ok (.if_icmp .ge 238, 3) := dk_162 0 238 (dk_at dksX2_makeHedge_1 0 rfl rfl)
theorem dX2_makeHedge_26 : decode cX2_makeHedge 26 = .ok (.iload 4, 2) := dk_21 4 (dk_at dksX2_makeHedge_1 3 rfl rfl)
theorem dX2_makeHedge_28 : decode cX2_makeHedge 28 = .ok (.iload_n 3, 1) := dk_29 (dk_at dksX2_makeHedge_1 5 rfl rfl)
theorem dX2_makeHedge_29 : decode cX2_makeHedge 29 = .ok (.if_icmp .gt 62, 3) := dk_163 0 62 (dk_at dksX2_makeHedge_1 6 rfl rfl)
theorem dX2_makeHedge_32 : decode cX2_makeHedge 32 = .ok (.aload_n 0, 1) := dk_42 (dk_at dksX2_makeHedge_1 9 rfl rfl)
theorem dX2_makeHedge_33 : decode cX2_makeHedge 33 = .ok (.getfield 79, 3) := dk_180 0 79 (dk_at dksX2_makeHedge_1 10 rfl rfl)
theorem dX2_makeHedge_36 : decode cX2_makeHedge 36 = .ok (.iload 4, 2) := dk_21 4 (dk_at dksX2_makeHedge_1 13 rfl rfl)
theorem dX2_makeHedge_38 : decode cX2_makeHedge 38 = .ok (.dup2, 1) := dk_92 (dk_at dksX2_makeHedge_1 15 rfl rfl)
theorem dX2_makeHedge_39 : decode cX2_makeHedge 39 = .ok (.laload, 1) := dk_47 (dk_at dksX2_makeHedge_1 16 rfl rfl)
theorem dX2_makeHedge_40 : decode cX2_makeHedge 40 = .ok (.aload_n 0, 1) := dk_42 (dk_at dksX2_makeHedge_1 17 rfl rfl)
theorem dX2_makeHedge_41 : decode cX2_makeHedge 41 = .ok (.getfield 66, 3) := dk_180 0 66 (dk_at dksX2_makeHedge_1 18 rfl rfl)
theorem dX2_makeHedge_44 : decode cX2_makeHedge 44 = .ok (.iload_n 2, 1) := dk_28 (dk_at dksX2_makeHedge_1 21 rfl rfl)
theorem dX2_makeHedge_45 : decode cX2_makeHedge 45 = .ok (.iload 4, 2) := dk_21 4 (dk_at dksX2_makeHedge_1 22 rfl rfl)
theorem dX2_makeHedge_47 : decode cX2_makeHedge 47 = .ok (.invokestatic 173, 3) := dk_184 0 173 (dk_at dksX2_makeHedge_2 0 rfl rfl)
theorem dX2_makeHedge_50 : decode cX2_makeHedge 50 = .ok (.laload, 1) := dk_47 (dk_at dksX2_makeHedge_2 3 rfl rfl)
theorem dX2_makeHedge_51 : decode cX2_makeHedge 51 = .ok (.aload_n 0, 1) := dk_42 (dk_at dksX2_makeHedge_2 4 rfl rfl)
theorem dX2_makeHedge_52 : decode cX2_makeHedge 52 = .ok (.getfield 72, 3) := dk_180 0 72 (dk_at dksX2_makeHedge_2 5 rfl rfl)
theorem dX2_makeHedge_55 : decode cX2_makeHedge 55 = .ok (.iload_n 2, 1) := dk_28 (dk_at dksX2_makeHedge_2 8 rfl rfl)
theorem dX2_makeHedge_56 : decode cX2_makeHedge 56 = .ok (.laload, 1) := dk_47 (dk_at dksX2_makeHedge_2 9 rfl rfl)
theorem dX2_makeHedge_57 : decode cX2_makeHedge 57 = .ok (.lmul, 1) := dk_105 (dk_at dksX2_makeHedge_2 10 rfl rfl)
theorem dX2_makeHedge_58 : decode cX2_makeHedge 58 = .ok (.ladd, 1) := dk_97 (dk_at dksX2_makeHedge_2 11 rfl rfl)
theorem dX2_makeHedge_59 : decode cX2_makeHedge 59 = .ok (.lastore, 1) := dk_80 (dk_at dksX2_makeHedge_2 12 rfl rfl)
theorem dX2_makeHedge_60 : decode cX2_makeHedge 60 = .ok (.aload_n 0, 1) := dk_42 (dk_at dksX2_makeHedge_2 13 rfl rfl)
theorem dX2_makeHedge_61 : decode cX2_makeHedge 61 = .ok (.getfield 82, 3) := dk_180 0 82 (dk_at dksX2_makeHedge_2 14 rfl rfl)
theorem dX2_makeHedge_64 : decode cX2_makeHedge 64 = .ok (.iload 4, 2) := dk_21 4 (dk_at dksX2_makeHedge_2 17 rfl rfl)
theorem dX2_makeHedge_66 : decode cX2_makeHedge 66 = .ok (.dup2, 1) := dk_92 (dk_at dksX2_makeHedge_2 19 rfl rfl)
theorem dX2_makeHedge_67 : decode cX2_makeHedge 67 = .ok (.laload, 1) := dk_47 (dk_at dksX2_makeHedge_2 20 rfl rfl)
theorem dX2_makeHedge_68 : decode cX2_makeHedge 68 = .ok (.aload_n 0, 1) := dk_42 (dk_at dksX2_makeHedge_2 21 rfl rfl)
theorem dX2_makeHedge_69 : decode cX2_makeHedge 69 = .ok (.getfield 69, 3) := dk_180 0 69 (dk_at dksX2_makeHedge_3 0 rfl rfl)
theorem dX2_makeHedge_72 : decode cX2_makeHedge 72 = .ok (.iload_n 2, 1) := dk_28 (dk_at dksX2_makeHedge_3 3 rfl rfl)
theorem dX2_makeHedge_73 : decode cX2_makeHedge 73 = .ok (.iload 4, 2) := dk_21 4 (dk_at dksX2_makeHedge_3 4 rfl rfl)
theorem dX2_makeHedge_75 : decode cX2_makeHedge 75 = .ok (.invokestatic 173, 3) := dk_184 0 173 (dk_at dksX2_makeHedge_3 6 rfl rfl)
theorem dX2_makeHedge_78 : decode cX2_makeHedge 78 = .ok (.laload, 1) := dk_47 (dk_at dksX2_makeHedge_3 9 rfl rfl)
theorem dX2_makeHedge_79 : decode cX2_makeHedge 79 = .ok (.aload_n 0, 1) := dk_42 (dk_at dksX2_makeHedge_3 10 rfl rfl)
theorem dX2_makeHedge_80 : decode cX2_makeHedge 80 = .ok (.getfield 72, 3) := dk_180 0 72 (dk_at dksX2_makeHedge_3 11 rfl rfl)
theorem dX2_makeHedge_83 : decode cX2_makeHedge 83 = .ok (.iload_n 2, 1) := dk_28 (dk_at dksX2_makeHedge_3 14 rfl rfl)
theorem dX2_makeHedge_84 : decode cX2_makeHedge 84 = .ok (.laload, 1) := dk_47 (dk_at dksX2_makeHedge_3 15 rfl rfl)
theorem dX2_makeHedge_85 : decode cX2_makeHedge 85 = .ok (.lmul, 1) := dk_105 (dk_at dksX2_makeHedge_3 16 rfl rfl)
theorem dX2_makeHedge_86 : decode cX2_makeHedge 86 = .ok (.ladd, 1) := dk_97 (dk_at dksX2_makeHedge_3 17 rfl rfl)
theorem dX2_makeHedge_87 : decode cX2_makeHedge 87 = .ok (.lastore, 1) := dk_80 (dk_at dksX2_makeHedge_3 18 rfl rfl)
theorem dX2_makeHedge_88 : decode cX2_makeHedge 88 = .ok (.goto 167, 3) := dk_167 0 167 (dk_at dksX2_makeHedge_3 19 rfl rfl)
theorem dX2_makeHedge_91 : decode cX2_makeHedge 91 = .ok (.iconst 0, 1) := dk_3 (dk_at dksX2_makeHedge_3 22 rfl rfl)
theorem dX2_makeHedge_92 : decode cX2_makeHedge 92 = .ok (.istore 5, 2) := dk_54 5 (dk_at dksX2_makeHedge_4 0 rfl rfl)
theorem dX2_makeHedge_94 : decode cX2_makeHedge 94 = .ok (.iload 5, 2) := dk_21 5 (dk_at dksX2_makeHedge_4 2 rfl rfl)
theorem dX2_makeHedge_96 : decode cX2_makeHedge 96 = .ok (.bipush 121, 2) := dk_16 121 (dk_at dksX2_makeHedge_4 4 rfl rfl)
theorem dX2_makeHedge_98 : decode cX2_makeHedge 98 = .ok (.if_icmp .ge 157, 3) := dk_162 0 157 (dk_at dksX2_makeHedge_4 6 rfl rfl)
theorem dX2_makeHedge_101 : decode cX2_makeHedge 101 = .ok (.aload_n 0, 1) := dk_42 (dk_at dksX2_makeHedge_4 9 rfl rfl)
theorem dX2_makeHedge_102 : decode cX2_makeHedge 102 = .ok (.getfield 79, 3) := dk_180 0 79 (dk_at dksX2_makeHedge_4 10 rfl rfl)
theorem dX2_makeHedge_105 : decode cX2_makeHedge 105 = .ok (.iload 4, 2) := dk_21 4 (dk_at dksX2_makeHedge_4 13 rfl rfl)
theorem dX2_makeHedge_107 : decode cX2_makeHedge 107 = .ok (.iload_n 3, 1) := dk_29 (dk_at dksX2_makeHedge_4 15 rfl rfl)
theorem dX2_makeHedge_108 : decode cX2_makeHedge 108 = .ok (.iload 5, 2) := dk_21 5 (dk_at dksX2_makeHedge_4 16 rfl rfl)
theorem dX2_makeHedge_110 : decode cX2_makeHedge 110 = .ok (.iadd, 1) := dk_96 (dk_at dksX2_makeHedge_4 18 rfl rfl)
theorem dX2_makeHedge_111 : decode cX2_makeHedge 111 = .ok (.invokestatic 212, 3) := dk_184 0 212 (dk_at dksX2_makeHedge_4 19 rfl rfl)
theorem dX2_makeHedge_114 : decode cX2_makeHedge 114 = .ok (.dup2, 1) := dk_92 (dk_at dksX2_makeHedge_4 22 rfl rfl)
theorem dX2_makeHedge_115 : decode cX2_makeHedge 115 = .ok (.laload, 1) := dk_47 (dk_at dksX2_makeHedge_4 23 rfl rfl)
theorem dX2_makeHedge_116 : decode cX2_makeHedge 116 = .ok (.aload_n 0, 1) := dk_42 (dk_at dksX2_makeHedge_5 0 rfl rfl)
theorem dX2_makeHedge_117 : decode cX2_makeHedge 117 = .ok (.getfield 66, 3) := dk_180 0 66 (dk_at dksX2_makeHedge_5 1 rfl rfl)
theorem dX2_makeHedge_120 : decode cX2_makeHedge 120 = .ok (.iload_n 2, 1) := dk_28 (dk_at dksX2_makeHedge_5 4 rfl rfl)
theorem dX2_makeHedge_121 : decode cX2_makeHedge 121 = .ok (.iload 4, 2) := dk_21 4 (dk_at dksX2_makeHedge_5 5 rfl rfl)
theorem dX2_makeHedge_123 : decode cX2_makeHedge 123 = .ok (.invokestatic 173, 3) := dk_184 0 173 (dk_at dksX2_makeHedge_5 7 rfl rfl)
theorem dX2_makeHedge_126 : decode cX2_makeHedge 126 = .ok (.laload, 1) := dk_47 (dk_at dksX2_makeHedge_5 10 rfl rfl)
theorem dX2_makeHedge_127 : decode cX2_makeHedge 127 = .ok (.aload_n 0, 1) := dk_42 (dk_at dksX2_makeHedge_5 11 rfl rfl)
theorem dX2_makeHedge_128 : decode cX2_makeHedge 128 = .ok (.getfield 66, 3) := dk_180 0 66 (dk_at dksX2_makeHedge_5 12 rfl rfl)
theorem dX2_makeHedge_131 : decode cX2_makeHedge 131 = .ok (.iload_n 2, 1) := dk_28 (dk_at dksX2_makeHedge_5 15 rfl rfl)
theorem dX2_makeHedge_132 : decode cX2_makeHedge 132 = .ok (.iload 5, 2) := dk_21 5 (dk_at dksX2_makeHedge_5 16 rfl rfl)
theorem dX2_makeHedge_134 : decode cX2_makeHedge 134 = .ok (.invokestatic 173, 3) := dk_184 0 173 (dk_at dksX2_makeHedge_5 18 rfl rfl)
theorem dX2_makeHedge_137 : decode cX2_makeHedge 137 = .ok (.laload, 1) := dk_47 (dk_at dksX2_makeHedge_5 21 rfl rfl)
theorem dX2_makeHedge_138 : decode cX2_makeHedge 138 = .ok (.lmul, 1) := dk_105 (dk_at dksX2_makeHedge_5 22 rfl rfl)
theorem dX2_makeHedge_139 : decode cX2_makeHedge 139 = .ok (.ladd, 1) := dk_97 (dk_at dksX2_makeHedge_5 23 rfl rfl)
theorem dX2_makeHedge_140 : decode cX2_makeHedge 140 = .ok (.lastore, 1) := dk_80 (dk_at dksX2_makeHedge_6 0 rfl rfl)
theorem dX2_makeHedge_141 : decode cX2_makeHedge 141 = .ok (.aload_n 0, 1) := dk_42 (dk_at dksX2_makeHedge_6 1 rfl rfl)
theorem dX2_makeHedge_142 : decode cX2_makeHedge 142 = .ok (.getfield 79, 3) := dk_180 0 79 (dk_at dksX2_makeHedge_6 2 rfl rfl)
theorem dX2_makeHedge_145 : decode cX2_makeHedge 145 = .ok (.iload 4, 2) := dk_21 4 (dk_at dksX2_makeHedge_6 5 rfl rfl)
theorem dX2_makeHedge_147 : decode cX2_makeHedge 147 = .ok (.dup2, 1) := dk_92 (dk_at dksX2_makeHedge_6 7 rfl rfl)
theorem dX2_makeHedge_148 : decode cX2_makeHedge 148 = .ok (.laload, 1) := dk_47 (dk_at dksX2_makeHedge_6 8 rfl rfl)
theorem dX2_makeHedge_149 : decode cX2_makeHedge 149 = .ok (.aload_n 0, 1) := dk_42 (dk_at dksX2_makeHedge_6 9 rfl rfl)
theorem dX2_makeHedge_150 : decode cX2_makeHedge 150 = .ok (.getfield 66, 3) := dk_180 0 66 (dk_at dksX2_makeHedge_6 10 rfl rfl)
theorem dX2_makeHedge_153 : decode cX2_makeHedge 153 = .ok (.iload_n 2, 1) := dk_28 (dk_at dksX2_makeHedge_6 13 rfl rfl)
theorem dX2_makeHedge_154 : decode cX2_makeHedge 154 = .ok (.iload 4, 2) := dk_21 4 (dk_at dksX2_makeHedge_6 14 rfl rfl)
theorem dX2_makeHedge_156 : decode cX2_makeHedge 156 = .ok (.invokestatic 173, 3) := dk_184 0 173 (dk_at dksX2_makeHedge_6 16 rfl rfl)
theorem dX2_makeHedge_159 : decode cX2_makeHedge 159 = .ok (.laload, 1) := dk_47 (dk_at dksX2_makeHedge_6 19 rfl rfl)
theorem dX2_makeHedge_160 : decode cX2_makeHedge 160 = .ok (.aload_n 0, 1) := dk_42 (dk_at dksX2_makeHedge_6 20 rfl rfl)
theorem dX2_makeHedge_161 : decode cX2_makeHedge 161 = .ok (.getfield 69, 3) := dk_180 0 69 (dk_at dksX2_makeHedge_6 21 rfl rfl)
theorem dX2_makeHedge_164 : decode cX2_makeHedge 164 = .ok (.iload_n 2, 1) := dk_28 (dk_at dksX2_makeHedge_7 0 rfl rfl)
theorem dX2_makeHedge_165 : decode cX2_makeHedge 165 = .ok (.iload 5, 2) := dk_21 5 (dk_at dksX2_makeHedge_7 1 rfl rfl)
theorem dX2_makeHedge_167 : decode cX2_makeHedge 167 = .ok (.invokestatic 173, 3) := dk_184 0 173 (dk_at dksX2_makeHedge_7 3 rfl rfl)
theorem dX2_makeHedge_170 : decode cX2_makeHedge 170 = .ok (.laload, 1) := dk_47 (dk_at dksX2_makeHedge_7 6 rfl rfl)
theorem dX2_makeHedge_171 : decode cX2_makeHedge 171 = .ok (.lmul, 1) := dk_105 (dk_at dksX2_makeHedge_7 7 rfl rfl)
theorem dX2_makeHedge_172 : decode cX2_makeHedge 172 = .ok (.ladd, 1) := dk_97 (dk_at dksX2_makeHedge_7 8 rfl rfl)
theorem dX2_makeHedge_173 : decode cX2_makeHedge 173 = .ok (.lastore, 1) := dk_80 (dk_at dksX2_makeHedge_7 9 rfl rfl)
theorem dX2_makeHedge_174 : decode cX2_makeHedge 174 = .ok (.aload_n 0, 1) := dk_42 (dk_at dksX2_makeHedge_7 10 rfl rfl)
theorem dX2_makeHedge_175 : decode cX2_makeHedge 175 = .ok (.getfield 79, 3) := dk_180 0 79 (dk_at dksX2_makeHedge_7 11 rfl rfl)
theorem dX2_makeHedge_178 : decode cX2_makeHedge 178 = .ok (.iload_n 3, 1) := dk_29 (dk_at dksX2_makeHedge_7 14 rfl rfl)
theorem dX2_makeHedge_179 : decode cX2_makeHedge 179 = .ok (.iload 5, 2) := dk_21 5 (dk_at dksX2_makeHedge_7 15 rfl rfl)
theorem dX2_makeHedge_181 : decode cX2_makeHedge 181 = .ok (.iadd, 1) := dk_96 (dk_at dksX2_makeHedge_7 17 rfl rfl)
theorem dX2_makeHedge_182 : decode cX2_makeHedge 182 = .ok (.dup2, 1) := dk_92 (dk_at dksX2_makeHedge_7 18 rfl rfl)
theorem dX2_makeHedge_183 : decode cX2_makeHedge 183 = .ok (.laload, 1) := dk_47 (dk_at dksX2_makeHedge_7 19 rfl rfl)
theorem dX2_makeHedge_184 : decode cX2_makeHedge 184 = .ok (.aload_n 0, 1) := dk_42 (dk_at dksX2_makeHedge_7 20 rfl rfl)
theorem dX2_makeHedge_185 : decode cX2_makeHedge 185 = .ok (.getfield 69, 3) := dk_180 0 69 (dk_at dksX2_makeHedge_7 21 rfl rfl)
theorem dX2_makeHedge_188 : decode cX2_makeHedge 188 = .ok (.iload_n 2, 1) := dk_28 (dk_at dksX2_makeHedge_8 0 rfl rfl)
theorem dX2_makeHedge_189 : decode cX2_makeHedge 189 = .ok (.iload 4, 2) := dk_21 4 (dk_at dksX2_makeHedge_8 1 rfl rfl)
theorem dX2_makeHedge_191 : decode cX2_makeHedge 191 = .ok (.invokestatic 173, 3) := dk_184 0 173 (dk_at dksX2_makeHedge_8 3 rfl rfl)
theorem dX2_makeHedge_194 : decode cX2_makeHedge 194 = .ok (.laload, 1) := dk_47 (dk_at dksX2_makeHedge_8 6 rfl rfl)
theorem dX2_makeHedge_195 : decode cX2_makeHedge 195 = .ok (.aload_n 0, 1) := dk_42 (dk_at dksX2_makeHedge_8 7 rfl rfl)
theorem dX2_makeHedge_196 : decode cX2_makeHedge 196 = .ok (.getfield 66, 3) := dk_180 0 66 (dk_at dksX2_makeHedge_8 8 rfl rfl)
theorem dX2_makeHedge_199 : decode cX2_makeHedge 199 = .ok (.iload_n 2, 1) := dk_28 (dk_at dksX2_makeHedge_8 11 rfl rfl)
theorem dX2_makeHedge_200 : decode cX2_makeHedge 200 = .ok (.iload 5, 2) := dk_21 5 (dk_at dksX2_makeHedge_8 12 rfl rfl)
theorem dX2_makeHedge_202 : decode cX2_makeHedge 202 = .ok (.invokestatic 173, 3) := dk_184 0 173 (dk_at dksX2_makeHedge_8 14 rfl rfl)
theorem dX2_makeHedge_205 : decode cX2_makeHedge 205 = .ok (.laload, 1) := dk_47 (dk_at dksX2_makeHedge_8 17 rfl rfl)
theorem dX2_makeHedge_206 : decode cX2_makeHedge 206 = .ok (.lmul, 1) := dk_105 (dk_at dksX2_makeHedge_8 18 rfl rfl)
theorem dX2_makeHedge_207 : decode cX2_makeHedge 207 = .ok (.ladd, 1) := dk_97 (dk_at dksX2_makeHedge_8 19 rfl rfl)
theorem dX2_makeHedge_208 : decode cX2_makeHedge 208 = .ok (.lastore, 1) := dk_80 (dk_at dksX2_makeHedge_8 20 rfl rfl)
theorem dX2_makeHedge_209 : decode cX2_makeHedge 209 = .ok (.aload_n 0, 1) := dk_42 (dk_at dksX2_makeHedge_8 21 rfl rfl)
theorem dX2_makeHedge_210 : decode cX2_makeHedge 210 = .ok (.getfield 82, 3) := dk_180 0 82 (dk_at dksX2_makeHedge_9 0 rfl rfl)
theorem dX2_makeHedge_213 : decode cX2_makeHedge 213 = .ok (.iload 4, 2) := dk_21 4 (dk_at dksX2_makeHedge_9 3 rfl rfl)
theorem dX2_makeHedge_215 : decode cX2_makeHedge 215 = .ok (.iload_n 3, 1) := dk_29 (dk_at dksX2_makeHedge_9 5 rfl rfl)
theorem dX2_makeHedge_216 : decode cX2_makeHedge 216 = .ok (.iload 5, 2) := dk_21 5 (dk_at dksX2_makeHedge_9 6 rfl rfl)
theorem dX2_makeHedge_218 : decode cX2_makeHedge 218 = .ok (.iadd, 1) := dk_96 (dk_at dksX2_makeHedge_9 8 rfl rfl)
theorem dX2_makeHedge_219 : decode cX2_makeHedge 219 = .ok (.invokestatic 217, 3) := dk_184 0 217 (dk_at dksX2_makeHedge_9 9 rfl rfl)
theorem dX2_makeHedge_222 : decode cX2_makeHedge 222 = .ok (.dup2, 1) := dk_92 (dk_at dksX2_makeHedge_9 12 rfl rfl)
theorem dX2_makeHedge_223 : decode cX2_makeHedge 223 = .ok (.laload, 1) := dk_47 (dk_at dksX2_makeHedge_9 13 rfl rfl)
theorem dX2_makeHedge_224 : decode cX2_makeHedge 224 = .ok (.aload_n 0, 1) := dk_42 (dk_at dksX2_makeHedge_9 14 rfl rfl)
theorem dX2_makeHedge_225 : decode cX2_makeHedge 225 = .ok (.getfield 69, 3) := dk_180 0 69 (dk_at dksX2_makeHedge_9 15 rfl rfl)
theorem dX2_makeHedge_228 : decode cX2_makeHedge 228 = .ok (.iload_n 2, 1) := dk_28 (dk_at dksX2_makeHedge_9 18 rfl rfl)
theorem dX2_makeHedge_229 : decode cX2_makeHedge 229 = .ok (.iload 4, 2) := dk_21 4 (dk_at dksX2_makeHedge_9 19 rfl rfl)
theorem dX2_makeHedge_231 : decode cX2_makeHedge 231 = .ok (.invokestatic 173, 3) := dk_184 0 173 (dk_at dksX2_makeHedge_9 21 rfl rfl)
theorem dX2_makeHedge_234 : decode cX2_makeHedge 234 = .ok (.laload, 1) := dk_47 (dk_at dksX2_makeHedge_10 0 rfl rfl)
theorem dX2_makeHedge_235 : decode cX2_makeHedge 235 = .ok (.aload_n 0, 1) := dk_42 (dk_at dksX2_makeHedge_10 1 rfl rfl)
theorem dX2_makeHedge_236 : decode cX2_makeHedge 236 = .ok (.getfield 69, 3) := dk_180 0 69 (dk_at dksX2_makeHedge_10 2 rfl rfl)
theorem dX2_makeHedge_239 : decode cX2_makeHedge 239 = .ok (.iload_n 2, 1) := dk_28 (dk_at dksX2_makeHedge_10 5 rfl rfl)
theorem dX2_makeHedge_240 : decode cX2_makeHedge 240 = .ok (.iload 5, 2) := dk_21 5 (dk_at dksX2_makeHedge_10 6 rfl rfl)
theorem dX2_makeHedge_242 : decode cX2_makeHedge 242 = .ok (.invokestatic 173, 3) := dk_184 0 173 (dk_at dksX2_makeHedge_10 8 rfl rfl)
theorem dX2_makeHedge_245 : decode cX2_makeHedge 245 = .ok (.laload, 1) := dk_47 (dk_at dksX2_makeHedge_10 11 rfl rfl)
theorem dX2_makeHedge_246 : decode cX2_makeHedge 246 = .ok (.lmul, 1) := dk_105 (dk_at dksX2_makeHedge_10 12 rfl rfl)
theorem dX2_makeHedge_247 : decode cX2_makeHedge 247 = .ok (.ladd, 1) := dk_97 (dk_at dksX2_makeHedge_10 13 rfl rfl)
theorem dX2_makeHedge_248 : decode cX2_makeHedge 248 = .ok (.lastore, 1) := dk_80 (dk_at dksX2_makeHedge_10 14 rfl rfl)
theorem dX2_makeHedge_249 : decode cX2_makeHedge 249 = .ok (.iinc 5 1, 3) := dk_132 5 1 (dk_at dksX2_makeHedge_10 15 rfl rfl)
theorem dX2_makeHedge_252 : decode cX2_makeHedge 252 = .ok (.goto (-158), 3) := dk_167 255 98 (dk_at dksX2_makeHedge_10 18 rfl rfl)
theorem dX2_makeHedge_255 : decode cX2_makeHedge 255 = .ok (.iinc 4 1, 3) := dk_132 4 1 (dk_at dksX2_makeHedge_10 21 rfl rfl)
theorem dX2_makeHedge_258 : decode cX2_makeHedge 258 = .ok (.goto (-239), 3) := dk_167 255 17 (dk_at dksX2_makeHedge_11 0 rfl rfl)
theorem dX2_makeHedge_261 : decode cX2_makeHedge 261 = .ok (.return_, 1) := dk_177 (dk_at dksX2_makeHedge_11 3 rfl rfl)
abbrev cX2_settle : ByteArray := prog_13_method_30_code
def yX2_settle : MethodName := ⟨RX2, "settle", "(IJ)V"⟩
def dkwX2_settle_7 : List UInt8 := [180, 0, 72, 27, 32, 22, 4, 109, 80, 177]
abbrev dktX2_settle_7 : List UInt8 := dkwX2_settle_7 ++ []
def dkwX2_settle_6 : List UInt8 := [27, 21, 7, 184, 0, 173, 42, 180, 0, 82, 21, 7, 47, 22, 4, 109, 80, 132, 7, 1, 167, 255, 199, 42]
abbrev dktX2_settle_6 : List UInt8 := dkwX2_settle_6 ++ dktX2_settle_7
def dkwX2_settle_5 : List UInt8 := [180, 0, 66, 27, 21, 7, 184, 0, 173, 42, 180, 0, 79, 21, 7, 47, 22, 4, 109, 80, 42, 180, 0, 69]
abbrev dktX2_settle_5 : List UInt8 := dkwX2_settle_5 ++ dktX2_settle_6
def dkwX2_settle_4 : List UInt8 := [42, 180, 0, 75, 27, 21, 6, 84, 3, 54, 7, 21, 7, 16, 121, 162, 0, 56, 21, 6, 154, 0, 51, 42]
abbrev dktX2_settle_4 : List UInt8 := dkwX2_settle_4 ++ dktX2_settle_5
def dkwX2_settle_3 : List UInt8 := [180, 0, 82, 21, 7, 47, 9, 148, 158, 0, 7, 4, 167, 0, 4, 3, 54, 6, 132, 7, 1, 167, 255, 176]
abbrev dktX2_settle_3 : List UInt8 := dkwX2_settle_3 ++ dktX2_settle_4
def dkwX2_settle_2 : List UInt8 := [154, 0, 34, 21, 7, 16, 121, 161, 0, 31, 42, 180, 0, 79, 21, 7, 47, 9, 148, 157, 0, 15, 42]
abbrev dktX2_settle_2 : List UInt8 := dkwX2_settle_2 ++ dktX2_settle_3
def dkwX2_settle_1 : List UInt8 := [180, 0, 79, 21, 7, 47, 184, 0, 169, 42, 180, 0, 82, 21, 7, 47, 184, 0, 169, 55, 4, 21, 6]
abbrev dktX2_settle_1 : List UInt8 := dkwX2_settle_1 ++ dktX2_settle_2
def dkwX2_settle_0 : List UInt8 := [32, 55, 4, 3, 54, 6, 3, 54, 7, 21, 7, 42, 180, 0, 79, 190, 162, 0, 76, 22, 4, 42]
abbrev dktX2_settle_0 : List UInt8 := dkwX2_settle_0 ++ dktX2_settle_1
theorem dksX2_settle_0 : cX2_settle.data.toList.drop 0 = dktX2_settle_0 := by decide +kernel
theorem dksX2_settle_1 : cX2_settle.data.toList.drop 22 = dktX2_settle_1 := dk_seg dksX2_settle_0 22 rfl rfl
theorem dksX2_settle_2 : cX2_settle.data.toList.drop 45 = dktX2_settle_2 := dk_seg dksX2_settle_1 23 rfl rfl
theorem dksX2_settle_3 : cX2_settle.data.toList.drop 68 = dktX2_settle_3 := dk_seg dksX2_settle_2 23 rfl rfl
theorem dksX2_settle_4 : cX2_settle.data.toList.drop 92 = dktX2_settle_4 := dk_seg dksX2_settle_3 24 rfl rfl
theorem dksX2_settle_5 : cX2_settle.data.toList.drop 116 = dktX2_settle_5 := dk_seg dksX2_settle_4 24 rfl rfl
theorem dksX2_settle_6 : cX2_settle.data.toList.drop 140 = dktX2_settle_6 := dk_seg dksX2_settle_5 24 rfl rfl
theorem dksX2_settle_7 : cX2_settle.data.toList.drop 164 = dktX2_settle_7 := dk_seg dksX2_settle_6 24 rfl rfl
theorem dX2_settle_0 : decode cX2_settle 0 = .ok (.lload_n 2, 1) := dk_32 (dk_at dksX2_settle_0 0 rfl rfl)
theorem dX2_settle_1 : decode cX2_settle 1 = .ok (.lstore 4, 2) := dk_55 4 (dk_at dksX2_settle_0 1 rfl rfl)
theorem dX2_settle_3 : decode cX2_settle 3 = .ok (.iconst 0, 1) := dk_3 (dk_at dksX2_settle_0 3 rfl rfl)
theorem dX2_settle_4 : decode cX2_settle 4 = .ok (.istore 6, 2) := dk_54 6 (dk_at dksX2_settle_0 4 rfl rfl)
theorem dX2_settle_6 : decode cX2_settle 6 = .ok (.iconst 0, 1) := dk_3 (dk_at dksX2_settle_0 6 rfl rfl)
theorem dX2_settle_7 : decode cX2_settle 7 = .ok (.istore 7, 2) := dk_54 7 (dk_at dksX2_settle_0 7 rfl rfl)
theorem dX2_settle_9 : decode cX2_settle 9 = .ok (.iload 7, 2) := dk_21 7 (dk_at dksX2_settle_0 9 rfl rfl)
theorem dX2_settle_11 : decode cX2_settle 11 = .ok (.aload_n 0, 1) := dk_42 (dk_at dksX2_settle_0 11 rfl rfl)
theorem dX2_settle_12 : decode cX2_settle 12 = .ok (.getfield 79, 3) := dk_180 0 79 (dk_at dksX2_settle_0 12 rfl rfl)
theorem dX2_settle_15 : decode cX2_settle 15 = .ok (.arraylength, 1) := dk_190 (dk_at dksX2_settle_0 15 rfl rfl)
theorem dX2_settle_16 : decode cX2_settle 16 = .ok (.if_icmp .ge 76, 3) := dk_162 0 76 (dk_at dksX2_settle_0 16 rfl rfl)
theorem dX2_settle_19 : decode cX2_settle 19 = .ok (.lload 4, 2) := dk_22 4 (dk_at dksX2_settle_0 19 rfl rfl)
theorem dX2_settle_21 : decode cX2_settle 21 = .ok (.aload_n 0, 1) := dk_42 (dk_at dksX2_settle_0 21 rfl rfl)
theorem dX2_settle_22 : decode cX2_settle 22 = .ok (.getfield 79, 3) := dk_180 0 79 (dk_at dksX2_settle_1 0 rfl rfl)
theorem dX2_settle_25 : decode cX2_settle 25 = .ok (.iload 7, 2) := dk_21 7 (dk_at dksX2_settle_1 3 rfl rfl)
theorem dX2_settle_27 : decode cX2_settle 27 = .ok (.laload, 1) := dk_47 (dk_at dksX2_settle_1 5 rfl rfl)
theorem dX2_settle_28 : decode cX2_settle 28 = .ok (.invokestatic 169, 3) := dk_184 0 169 (dk_at dksX2_settle_1 6 rfl rfl)
theorem dX2_settle_31 : decode cX2_settle 31 = .ok (.aload_n 0, 1) := dk_42 (dk_at dksX2_settle_1 9 rfl rfl)
theorem dX2_settle_32 : decode cX2_settle 32 = .ok (.getfield 82, 3) := dk_180 0 82 (dk_at dksX2_settle_1 10 rfl rfl)
theorem dX2_settle_35 : decode cX2_settle 35 = .ok (.iload 7, 2) := dk_21 7 (dk_at dksX2_settle_1 13 rfl rfl)
theorem dX2_settle_37 : decode cX2_settle 37 = .ok (.laload, 1) := dk_47 (dk_at dksX2_settle_1 15 rfl rfl)
theorem dX2_settle_38 : decode cX2_settle 38 = .ok (.invokestatic 169, 3) := dk_184 0 169 (dk_at dksX2_settle_1 16 rfl rfl)
theorem dX2_settle_41 : decode cX2_settle 41 = .ok (.lstore 4, 2) := dk_55 4 (dk_at dksX2_settle_1 19 rfl rfl)
theorem dX2_settle_43 : decode cX2_settle 43 = .ok (.iload 6, 2) := dk_21 6 (dk_at dksX2_settle_1 21 rfl rfl)
theorem dX2_settle_45 : decode cX2_settle 45 = .ok (.ifCond .ne 34, 3) := dk_154 0 34 (dk_at dksX2_settle_2 0 rfl rfl)
theorem dX2_settle_48 : decode cX2_settle 48 = .ok (.iload 7, 2) := dk_21 7 (dk_at dksX2_settle_2 3 rfl rfl)
theorem dX2_settle_50 : decode cX2_settle 50 = .ok (.bipush 121, 2) := dk_16 121 (dk_at dksX2_settle_2 5 rfl rfl)
theorem dX2_settle_52 : decode cX2_settle 52 = .ok (.if_icmp .lt 31, 3) := dk_161 0 31 (dk_at dksX2_settle_2 7 rfl rfl)
theorem dX2_settle_55 : decode cX2_settle 55 = .ok (.aload_n 0, 1) := dk_42 (dk_at dksX2_settle_2 10 rfl rfl)
theorem dX2_settle_56 : decode cX2_settle 56 = .ok (.getfield 79, 3) := dk_180 0 79 (dk_at dksX2_settle_2 11 rfl rfl)
theorem dX2_settle_59 : decode cX2_settle 59 = .ok (.iload 7, 2) := dk_21 7 (dk_at dksX2_settle_2 14 rfl rfl)
theorem dX2_settle_61 : decode cX2_settle 61 = .ok (.laload, 1) := dk_47 (dk_at dksX2_settle_2 16 rfl rfl)
theorem dX2_settle_62 : decode cX2_settle 62 = .ok (.lconst 0, 1) := dk_9 (dk_at dksX2_settle_2 17 rfl rfl)
theorem dX2_settle_63 : decode cX2_settle 63 = .ok (.lcmp, 1) := dk_148 (dk_at dksX2_settle_2 18 rfl rfl)
theorem dX2_settle_64 : decode cX2_settle 64 = .ok (.ifCond .gt 15, 3) := dk_157 0 15 (dk_at dksX2_settle_2 19 rfl rfl)
theorem dX2_settle_67 : decode cX2_settle 67 = .ok (.aload_n 0, 1) := dk_42 (dk_at dksX2_settle_2 22 rfl rfl)
theorem dX2_settle_68 : decode cX2_settle 68 = .ok (.getfield 82, 3) := dk_180 0 82 (dk_at dksX2_settle_3 0 rfl rfl)
theorem dX2_settle_71 : decode cX2_settle 71 = .ok (.iload 7, 2) := dk_21 7 (dk_at dksX2_settle_3 3 rfl rfl)
theorem dX2_settle_73 : decode cX2_settle 73 = .ok (.laload, 1) := dk_47 (dk_at dksX2_settle_3 5 rfl rfl)
theorem dX2_settle_74 : decode cX2_settle 74 = .ok (.lconst 0, 1) := dk_9 (dk_at dksX2_settle_3 6 rfl rfl)
theorem dX2_settle_75 : decode cX2_settle 75 = .ok (.lcmp, 1) := dk_148 (dk_at dksX2_settle_3 7 rfl rfl)
theorem dX2_settle_76 : decode cX2_settle 76 = .ok (.ifCond .le 7, 3) := dk_158 0 7 (dk_at dksX2_settle_3 8 rfl rfl)
theorem dX2_settle_79 : decode cX2_settle 79 = .ok (.iconst 1, 1) := dk_4 (dk_at dksX2_settle_3 11 rfl rfl)
theorem dX2_settle_80 : decode cX2_settle 80 = .ok (.goto 4, 3) := dk_167 0 4 (dk_at dksX2_settle_3 12 rfl rfl)
theorem dX2_settle_83 : decode cX2_settle 83 = .ok (.iconst 0, 1) := dk_3 (dk_at dksX2_settle_3 15 rfl rfl)
theorem dX2_settle_84 : decode cX2_settle 84 = .ok (.istore 6, 2) := dk_54 6 (dk_at dksX2_settle_3 16 rfl rfl)
theorem dX2_settle_86 : decode cX2_settle 86 = .ok (.iinc 7 1, 3) := dk_132 7 1 (dk_at dksX2_settle_3 18 rfl rfl)
theorem dX2_settle_89 : decode cX2_settle 89 = .ok (.goto (-80), 3) := dk_167 255 176 (dk_at dksX2_settle_3 21 rfl rfl)
theorem dX2_settle_92 : decode cX2_settle 92 = .ok (.aload_n 0, 1) := dk_42 (dk_at dksX2_settle_4 0 rfl rfl)
theorem dX2_settle_93 : decode cX2_settle 93 = .ok (.getfield 75, 3) := dk_180 0 75 (dk_at dksX2_settle_4 1 rfl rfl)
theorem dX2_settle_96 : decode cX2_settle 96 = .ok (.iload_n 1, 1) := dk_27 (dk_at dksX2_settle_4 4 rfl rfl)
theorem dX2_settle_97 : decode cX2_settle 97 = .ok (.iload 6, 2) := dk_21 6 (dk_at dksX2_settle_4 5 rfl rfl)
theorem dX2_settle_99 : decode cX2_settle 99 = .ok (.bastore, 1) := dk_84 (dk_at dksX2_settle_4 7 rfl rfl)
theorem dX2_settle_100 : decode cX2_settle 100 = .ok (.iconst 0, 1) := dk_3 (dk_at dksX2_settle_4 8 rfl rfl)
theorem dX2_settle_101 : decode cX2_settle 101 = .ok (.istore 7, 2) := dk_54 7 (dk_at dksX2_settle_4 9 rfl rfl)
theorem dX2_settle_103 : decode cX2_settle 103 = .ok (.iload 7, 2) := dk_21 7 (dk_at dksX2_settle_4 11 rfl rfl)
theorem dX2_settle_105 : decode cX2_settle 105 = .ok (.bipush 121, 2) := dk_16 121 (dk_at dksX2_settle_4 13 rfl rfl)
theorem dX2_settle_107 : decode cX2_settle 107 = .ok (.if_icmp .ge 56, 3) := dk_162 0 56 (dk_at dksX2_settle_4 15 rfl rfl)
theorem dX2_settle_110 : decode cX2_settle 110 = .ok (.iload 6, 2) := dk_21 6 (dk_at dksX2_settle_4 18 rfl rfl)
theorem dX2_settle_112 : decode cX2_settle 112 = .ok (.ifCond .ne 51, 3) := dk_154 0 51 (dk_at dksX2_settle_4 20 rfl rfl)
theorem dX2_settle_115 : decode cX2_settle 115 = .ok (.aload_n 0, 1) := dk_42 (dk_at dksX2_settle_4 23 rfl rfl)
theorem dX2_settle_116 : decode cX2_settle 116 = .ok (.getfield 66, 3) := dk_180 0 66 (dk_at dksX2_settle_5 0 rfl rfl)
theorem dX2_settle_119 : decode cX2_settle 119 = .ok (.iload_n 1, 1) := dk_27 (dk_at dksX2_settle_5 3 rfl rfl)
theorem dX2_settle_120 : decode cX2_settle 120 = .ok (.iload 7, 2) := dk_21 7 (dk_at dksX2_settle_5 4 rfl rfl)
theorem dX2_settle_122 : decode cX2_settle 122 = .ok (.invokestatic 173, 3) := dk_184 0 173 (dk_at dksX2_settle_5 6 rfl rfl)
theorem dX2_settle_125 : decode cX2_settle 125 = .ok (.aload_n 0, 1) := dk_42 (dk_at dksX2_settle_5 9 rfl rfl)
theorem dX2_settle_126 : decode cX2_settle 126 = .ok (.getfield 79, 3) := dk_180 0 79 (dk_at dksX2_settle_5 10 rfl rfl)
theorem dX2_settle_129 : decode cX2_settle 129 = .ok (.iload 7, 2) := dk_21 7 (dk_at dksX2_settle_5 13 rfl rfl)
theorem dX2_settle_131 : decode cX2_settle 131 = .ok (.laload, 1) := dk_47 (dk_at dksX2_settle_5 15 rfl rfl)
theorem dX2_settle_132 : decode cX2_settle 132 = .ok (.lload 4, 2) := dk_22 4 (dk_at dksX2_settle_5 16 rfl rfl)
theorem dX2_settle_134 : decode cX2_settle 134 = .ok (.ldiv, 1) := dk_109 (dk_at dksX2_settle_5 18 rfl rfl)
theorem dX2_settle_135 : decode cX2_settle 135 = .ok (.lastore, 1) := dk_80 (dk_at dksX2_settle_5 19 rfl rfl)
theorem dX2_settle_136 : decode cX2_settle 136 = .ok (.aload_n 0, 1) := dk_42 (dk_at dksX2_settle_5 20 rfl rfl)
theorem dX2_settle_137 : decode cX2_settle 137 = .ok (.getfield 69, 3) := dk_180 0 69 (dk_at dksX2_settle_5 21 rfl rfl)
theorem dX2_settle_140 : decode cX2_settle 140 = .ok (.iload_n 1, 1) := dk_27 (dk_at dksX2_settle_6 0 rfl rfl)
theorem dX2_settle_141 : decode cX2_settle 141 = .ok (.iload 7, 2) := dk_21 7 (dk_at dksX2_settle_6 1 rfl rfl)
theorem dX2_settle_143 : decode cX2_settle 143 = .ok (.invokestatic 173, 3) := dk_184 0 173 (dk_at dksX2_settle_6 3 rfl rfl)
theorem dX2_settle_146 : decode cX2_settle 146 = .ok (.aload_n 0, 1) := dk_42 (dk_at dksX2_settle_6 6 rfl rfl)
theorem dX2_settle_147 : decode cX2_settle 147 = .ok (.getfield 82, 3) := dk_180 0 82 (dk_at dksX2_settle_6 7 rfl rfl)
theorem dX2_settle_150 : decode cX2_settle 150 = .ok (.iload 7, 2) := dk_21 7 (dk_at dksX2_settle_6 10 rfl rfl)
theorem dX2_settle_152 : decode cX2_settle 152 = .ok (.laload, 1) := dk_47 (dk_at dksX2_settle_6 12 rfl rfl)
theorem dX2_settle_153 : decode cX2_settle 153 = .ok (.lload 4, 2) := dk_22 4 (dk_at dksX2_settle_6 13 rfl rfl)
theorem dX2_settle_155 : decode cX2_settle 155 = .ok (.ldiv, 1) := dk_109 (dk_at dksX2_settle_6 15 rfl rfl)
theorem dX2_settle_156 : decode cX2_settle 156 = .ok (.lastore, 1) := dk_80 (dk_at dksX2_settle_6 16 rfl rfl)
theorem dX2_settle_157 : decode cX2_settle 157 = .ok (.iinc 7 1, 3) := dk_132 7 1 (dk_at dksX2_settle_6 17 rfl rfl)
theorem dX2_settle_160 : decode cX2_settle 160 = .ok (.goto (-57), 3) := dk_167 255 199 (dk_at dksX2_settle_6 20 rfl rfl)
theorem dX2_settle_163 : decode cX2_settle 163 = .ok (.aload_n 0, 1) := dk_42 (dk_at dksX2_settle_6 23 rfl rfl)
theorem dX2_settle_164 : decode cX2_settle 164 = .ok (.getfield 72, 3) := dk_180 0 72 (dk_at dksX2_settle_7 0 rfl rfl)
theorem dX2_settle_167 : decode cX2_settle 167 = .ok (.iload_n 1, 1) := dk_27 (dk_at dksX2_settle_7 3 rfl rfl)
theorem dX2_settle_168 : decode cX2_settle 168 = .ok (.lload_n 2, 1) := dk_32 (dk_at dksX2_settle_7 4 rfl rfl)
theorem dX2_settle_169 : decode cX2_settle 169 = .ok (.lload 4, 2) := dk_22 4 (dk_at dksX2_settle_7 5 rfl rfl)
theorem dX2_settle_171 : decode cX2_settle 171 = .ok (.ldiv, 1) := dk_109 (dk_at dksX2_settle_7 7 rfl rfl)
theorem dX2_settle_172 : decode cX2_settle 172 = .ok (.lastore, 1) := dk_80 (dk_at dksX2_settle_7 8 rfl rfl)
theorem dX2_settle_173 : decode cX2_settle 173 = .ok (.return_, 1) := dk_177 (dk_at dksX2_settle_7 9 rfl rfl)
abbrev cX2_common : ByteArray := prog_13_method_29_code
def yX2_common : MethodName := ⟨RX2, "common", "(JJ)J"⟩
def dkwX2_common_1 : List UInt8 := [22, 8, 55, 6, 167, 255, 234, 22, 4, 173]
abbrev dktX2_common_1 : List UInt8 := dkwX2_common_1 ++ []
def dkwX2_common_0 : List UInt8 := [30, 55, 4, 32, 55, 6, 22, 6, 9, 148, 153, 0, 21, 22, 4, 22, 6, 113, 55, 8, 22, 6, 55, 4]
abbrev dktX2_common_0 : List UInt8 := dkwX2_common_0 ++ dktX2_common_1
theorem dksX2_common_0 : cX2_common.data.toList.drop 0 = dktX2_common_0 := by decide +kernel
theorem dksX2_common_1 : cX2_common.data.toList.drop 24 = dktX2_common_1 := dk_seg dksX2_common_0 24 rfl rfl
theorem dX2_common_0 : decode cX2_common 0 = .ok (.lload_n 0, 1) := dk_30 (dk_at dksX2_common_0 0 rfl rfl)
theorem dX2_common_1 : decode cX2_common 1 = .ok (.lstore 4, 2) := dk_55 4 (dk_at dksX2_common_0 1 rfl rfl)
theorem dX2_common_3 : decode cX2_common 3 = .ok (.lload_n 2, 1) := dk_32 (dk_at dksX2_common_0 3 rfl rfl)
theorem dX2_common_4 : decode cX2_common 4 = .ok (.lstore 6, 2) := dk_55 6 (dk_at dksX2_common_0 4 rfl rfl)
theorem dX2_common_6 : decode cX2_common 6 = .ok (.lload 6, 2) := dk_22 6 (dk_at dksX2_common_0 6 rfl rfl)
theorem dX2_common_8 : decode cX2_common 8 = .ok (.lconst 0, 1) := dk_9 (dk_at dksX2_common_0 8 rfl rfl)
theorem dX2_common_9 : decode cX2_common 9 = .ok (.lcmp, 1) := dk_148 (dk_at dksX2_common_0 9 rfl rfl)
theorem dX2_common_10 : decode cX2_common 10 = .ok (.ifCond .eq 21, 3) := dk_153 0 21 (dk_at dksX2_common_0 10 rfl rfl)
theorem dX2_common_13 : decode cX2_common 13 = .ok (.lload 4, 2) := dk_22 4 (dk_at dksX2_common_0 13 rfl rfl)
theorem dX2_common_15 : decode cX2_common 15 = .ok (.lload 6, 2) := dk_22 6 (dk_at dksX2_common_0 15 rfl rfl)
theorem dX2_common_17 : decode cX2_common 17 = .ok (.lrem, 1) := dk_113 (dk_at dksX2_common_0 17 rfl rfl)
theorem dX2_common_18 : decode cX2_common 18 = .ok (.lstore 8, 2) := dk_55 8 (dk_at dksX2_common_0 18 rfl rfl)
theorem dX2_common_20 : decode cX2_common 20 = .ok (.lload 6, 2) := dk_22 6 (dk_at dksX2_common_0 20 rfl rfl)
theorem dX2_common_22 : decode cX2_common 22 = .ok (.lstore 4, 2) := dk_55 4 (dk_at dksX2_common_0 22 rfl rfl)
theorem dX2_common_24 : decode cX2_common 24 = .ok (.lload 8, 2) := dk_22 8 (dk_at dksX2_common_1 0 rfl rfl)
theorem dX2_common_26 : decode cX2_common 26 = .ok (.lstore 6, 2) := dk_55 6 (dk_at dksX2_common_1 2 rfl rfl)
theorem dX2_common_28 : decode cX2_common 28 = .ok (.goto (-22), 3) := dk_167 255 234 (dk_at dksX2_common_1 4 rfl rfl)
theorem dX2_common_31 : decode cX2_common 31 = .ok (.lload 4, 2) := dk_22 4 (dk_at dksX2_common_1 7 rfl rfl)
theorem dX2_common_33 : decode cX2_common 33 = .ok (.lreturn, 1) := dk_173 (dk_at dksX2_common_1 9 rfl rfl)
abbrev cX2_leaves : ByteArray := prog_13_method_42_code
def yX2_leaves : MethodName := ⟨RX2, "leaves", "(I)I"⟩
def dkwX2_leaves_1 : List UInt8 := [29, 182, 0, 226, 153, 0, 7, 4, 167, 0, 4, 3, 96, 61, 132, 3, 1, 167, 255, 219, 28, 172]
abbrev dktX2_leaves_1 : List UInt8 := dkwX2_leaves_1 ++ []
def dkwX2_leaves_0 : List UInt8 := [3, 61, 3, 62, 29, 42, 180, 0, 136, 162, 0, 35, 28, 42, 180, 0, 24, 29, 46, 154, 0, 16, 42, 27]
abbrev dktX2_leaves_0 : List UInt8 := dkwX2_leaves_0 ++ dktX2_leaves_1
theorem dksX2_leaves_0 : cX2_leaves.data.toList.drop 0 = dktX2_leaves_0 := by decide +kernel
theorem dksX2_leaves_1 : cX2_leaves.data.toList.drop 24 = dktX2_leaves_1 := dk_seg dksX2_leaves_0 24 rfl rfl
theorem dX2_leaves_0 : decode cX2_leaves 0 = .ok (.iconst 0, 1) := dk_3 (dk_at dksX2_leaves_0 0 rfl rfl)
theorem dX2_leaves_1 : decode cX2_leaves 1 = .ok (.istore_n 2, 1) := dk_61 (dk_at dksX2_leaves_0 1 rfl rfl)
theorem dX2_leaves_2 : decode cX2_leaves 2 = .ok (.iconst 0, 1) := dk_3 (dk_at dksX2_leaves_0 2 rfl rfl)
theorem dX2_leaves_3 : decode cX2_leaves 3 = .ok (.istore_n 3, 1) := dk_62 (dk_at dksX2_leaves_0 3 rfl rfl)
theorem dX2_leaves_4 : decode cX2_leaves 4 = .ok (.iload_n 3, 1) := dk_29 (dk_at dksX2_leaves_0 4 rfl rfl)
theorem dX2_leaves_5 : decode cX2_leaves 5 = .ok (.aload_n 0, 1) := dk_42 (dk_at dksX2_leaves_0 5 rfl rfl)
theorem dX2_leaves_6 : decode cX2_leaves 6 = .ok (.getfield 136, 3) := dk_180 0 136 (dk_at dksX2_leaves_0 6 rfl rfl)
theorem dX2_leaves_9 : decode cX2_leaves 9 = .ok (.if_icmp .ge 35, 3) := dk_162 0 35 (dk_at dksX2_leaves_0 9 rfl rfl)
theorem dX2_leaves_12 : decode cX2_leaves 12 = .ok (.iload_n 2, 1) := dk_28 (dk_at dksX2_leaves_0 12 rfl rfl)
theorem dX2_leaves_13 : decode cX2_leaves 13 = .ok (.aload_n 0, 1) := dk_42 (dk_at dksX2_leaves_0 13 rfl rfl)
theorem dX2_leaves_14 : decode cX2_leaves 14 = .ok (.getfield 24, 3) := dk_180 0 24 (dk_at dksX2_leaves_0 14 rfl rfl)
theorem dX2_leaves_17 : decode cX2_leaves 17 = .ok (.iload_n 3, 1) := dk_29 (dk_at dksX2_leaves_0 17 rfl rfl)
theorem dX2_leaves_18 : decode cX2_leaves 18 = .ok (.iaload, 1) := dk_46 (dk_at dksX2_leaves_0 18 rfl rfl)
theorem dX2_leaves_19 : decode cX2_leaves 19 = .ok (.ifCond .ne 16, 3) := dk_154 0 16 (dk_at dksX2_leaves_0 19 rfl rfl)
theorem dX2_leaves_22 : decode cX2_leaves 22 = .ok (.aload_n 0, 1) := dk_42 (dk_at dksX2_leaves_0 22 rfl rfl)
theorem dX2_leaves_23 : decode cX2_leaves 23 = .ok (.iload_n 1, 1) := dk_27 (dk_at dksX2_leaves_0 23 rfl rfl)
theorem dX2_leaves_24 : decode cX2_leaves 24 = .ok (.iload_n 3, 1) := dk_29 (dk_at dksX2_leaves_1 0 rfl rfl)
theorem dX2_leaves_25 : decode cX2_leaves 25 = .ok (.invokevirtual 226, 3) := dk_182 0 226 (dk_at dksX2_leaves_1 1 rfl rfl)
theorem dX2_leaves_28 : decode cX2_leaves 28 = .ok (.ifCond .eq 7, 3) := dk_153 0 7 (dk_at dksX2_leaves_1 4 rfl rfl)
theorem dX2_leaves_31 : decode cX2_leaves 31 = .ok (.iconst 1, 1) := dk_4 (dk_at dksX2_leaves_1 7 rfl rfl)
theorem dX2_leaves_32 : decode cX2_leaves 32 = .ok (.goto 4, 3) := dk_167 0 4 (dk_at dksX2_leaves_1 8 rfl rfl)
theorem dX2_leaves_35 : decode cX2_leaves 35 = .ok (.iconst 0, 1) := dk_3 (dk_at dksX2_leaves_1 11 rfl rfl)
theorem dX2_leaves_36 : decode cX2_leaves 36 = .ok (.iadd, 1) := dk_96 (dk_at dksX2_leaves_1 12 rfl rfl)
theorem dX2_leaves_37 : decode cX2_leaves 37 = .ok (.istore_n 2, 1) := dk_61 (dk_at dksX2_leaves_1 13 rfl rfl)
theorem dX2_leaves_38 : decode cX2_leaves 38 = .ok (.iinc 3 1, 3) := dk_132 3 1 (dk_at dksX2_leaves_1 14 rfl rfl)
theorem dX2_leaves_41 : decode cX2_leaves 41 = .ok (.goto (-37), 3) := dk_167 255 219 (dk_at dksX2_leaves_1 17 rfl rfl)
theorem dX2_leaves_44 : decode cX2_leaves 44 = .ok (.iload_n 2, 1) := dk_28 (dk_at dksX2_leaves_1 20 rfl rfl)
theorem dX2_leaves_45 : decode cX2_leaves 45 = .ok (.ireturn, 1) := dk_172 (dk_at dksX2_leaves_1 21 rfl rfl)
abbrev cX2_has : ByteArray := prog_13_method_41_code
def yX2_has : MethodName := ⟨RX2, "has", "(II)Z"⟩
def dkwX2_has_1 : List UInt8 := [160, 0, 7, 4, 167, 0, 4, 3, 172]
abbrev dktX2_has_1 : List UInt8 := dkwX2_has_1 ++ []
def dkwX2_has_0 : List UInt8 := [28, 62, 29, 2, 159, 0, 18, 29, 27, 159, 0, 13, 42, 180, 0, 36, 29, 46, 62, 167, 255, 239, 29, 27]
abbrev dktX2_has_0 : List UInt8 := dkwX2_has_0 ++ dktX2_has_1
theorem dksX2_has_0 : cX2_has.data.toList.drop 0 = dktX2_has_0 := by decide +kernel
theorem dksX2_has_1 : cX2_has.data.toList.drop 24 = dktX2_has_1 := dk_seg dksX2_has_0 24 rfl rfl
theorem dX2_has_0 : decode cX2_has 0 = .ok (.iload_n 2, 1) := dk_28 (dk_at dksX2_has_0 0 rfl rfl)
theorem dX2_has_1 : decode cX2_has 1 = .ok (.istore_n 3, 1) := dk_62 (dk_at dksX2_has_0 1 rfl rfl)
theorem dX2_has_2 : decode cX2_has 2 = .ok (.iload_n 3, 1) := dk_29 (dk_at dksX2_has_0 2 rfl rfl)
theorem dX2_has_3 : decode cX2_has 3 = .ok (.iconst (-1), 1) := dk_2 (dk_at dksX2_has_0 3 rfl rfl)
theorem dX2_has_4 : decode cX2_has 4 = .ok (.if_icmp .eq 18, 3) := dk_159 0 18 (dk_at dksX2_has_0 4 rfl rfl)
theorem dX2_has_7 : decode cX2_has 7 = .ok (.iload_n 3, 1) := dk_29 (dk_at dksX2_has_0 7 rfl rfl)
theorem dX2_has_8 : decode cX2_has 8 = .ok (.iload_n 1, 1) := dk_27 (dk_at dksX2_has_0 8 rfl rfl)
theorem dX2_has_9 : decode cX2_has 9 = .ok (.if_icmp .eq 13, 3) := dk_159 0 13 (dk_at dksX2_has_0 9 rfl rfl)
theorem dX2_has_12 : decode cX2_has 12 = .ok (.aload_n 0, 1) := dk_42 (dk_at dksX2_has_0 12 rfl rfl)
theorem dX2_has_13 : decode cX2_has 13 = .ok (.getfield 36, 3) := dk_180 0 36 (dk_at dksX2_has_0 13 rfl rfl)
theorem dX2_has_16 : decode cX2_has 16 = .ok (.iload_n 3, 1) := dk_29 (dk_at dksX2_has_0 16 rfl rfl)
theorem dX2_has_17 : decode cX2_has 17 = .ok (.iaload, 1) := dk_46 (dk_at dksX2_has_0 17 rfl rfl)
theorem dX2_has_18 : decode cX2_has 18 = .ok (.istore_n 3, 1) := dk_62 (dk_at dksX2_has_0 18 rfl rfl)
theorem dX2_has_19 : decode cX2_has 19 = .ok (.goto (-17), 3) := dk_167 255 239 (dk_at dksX2_has_0 19 rfl rfl)
theorem dX2_has_22 : decode cX2_has 22 = .ok (.iload_n 3, 1) := dk_29 (dk_at dksX2_has_0 22 rfl rfl)
theorem dX2_has_23 : decode cX2_has 23 = .ok (.iload_n 1, 1) := dk_27 (dk_at dksX2_has_0 23 rfl rfl)
theorem dX2_has_24 : decode cX2_has 24 = .ok (.if_icmp .ne 7, 3) := dk_160 0 7 (dk_at dksX2_has_1 0 rfl rfl)
theorem dX2_has_27 : decode cX2_has 27 = .ok (.iconst 1, 1) := dk_4 (dk_at dksX2_has_1 3 rfl rfl)
theorem dX2_has_28 : decode cX2_has 28 = .ok (.goto 4, 3) := dk_167 0 4 (dk_at dksX2_has_1 4 rfl rfl)
theorem dX2_has_31 : decode cX2_has 31 = .ok (.iconst 0, 1) := dk_3 (dk_at dksX2_has_1 7 rfl rfl)
theorem dX2_has_32 : decode cX2_has 32 = .ok (.ireturn, 1) := dk_172 (dk_at dksX2_has_1 8 rfl rfl)
abbrev cX2_weight : ByteArray := prog_13_method_44_code
def yX2_weight : MethodName := ⟨RX2, "weight", "(IIZ)J"⟩
def dkwX2_weight_2 : List UInt8 := [27, 28, 184, 0, 173, 47, 167, 0, 13, 42, 180, 0, 69, 27, 28, 184, 0, 173, 47, 173]
abbrev dktX2_weight_2 : List UInt8 := dkwX2_weight_2 ++ []
def dkwX2_weight_1 : List UInt8 := [158, 0, 11, 42, 21, 4, 182, 0, 147, 133, 173, 42, 3, 181, 0, 112, 29, 153, 0, 16, 42, 180, 0, 66]
abbrev dktX2_weight_1 : List UInt8 := dkwX2_weight_1 ++ dktX2_weight_2
def dkwX2_weight_0 : List UInt8 := [28, 155, 0, 9, 28, 16, 121, 161, 0, 7, 4, 167, 0, 8, 42, 27, 182, 0, 230, 54, 4, 21, 4]
abbrev dktX2_weight_0 : List UInt8 := dkwX2_weight_0 ++ dktX2_weight_1
theorem dksX2_weight_0 : cX2_weight.data.toList.drop 0 = dktX2_weight_0 := by decide +kernel
theorem dksX2_weight_1 : cX2_weight.data.toList.drop 23 = dktX2_weight_1 := dk_seg dksX2_weight_0 23 rfl rfl
theorem dksX2_weight_2 : cX2_weight.data.toList.drop 47 = dktX2_weight_2 := dk_seg dksX2_weight_1 24 rfl rfl
theorem dX2_weight_0 : decode cX2_weight 0 = .ok (.iload_n 2, 1) := dk_28 (dk_at dksX2_weight_0 0 rfl rfl)
theorem dX2_weight_1 : decode cX2_weight 1 = .ok (.ifCond .lt 9, 3) := dk_155 0 9 (dk_at dksX2_weight_0 1 rfl rfl)
theorem dX2_weight_4 : decode cX2_weight 4 = .ok (.iload_n 2, 1) := dk_28 (dk_at dksX2_weight_0 4 rfl rfl)
theorem dX2_weight_5 : decode cX2_weight 5 = .ok (.bipush 121, 2) := dk_16 121 (dk_at dksX2_weight_0 5 rfl rfl)
theorem dX2_weight_7 : decode cX2_weight 7 = .ok (.if_icmp .lt 7, 3) := dk_161 0 7 (dk_at dksX2_weight_0 7 rfl rfl)
theorem dX2_weight_10 : decode cX2_weight 10 = .ok (.iconst 1, 1) := dk_4 (dk_at dksX2_weight_0 10 rfl rfl)
theorem dX2_weight_11 : decode cX2_weight 11 = .ok (.goto 8, 3) := dk_167 0 8 (dk_at dksX2_weight_0 11 rfl rfl)
theorem dX2_weight_14 : decode cX2_weight 14 = .ok (.aload_n 0, 1) := dk_42 (dk_at dksX2_weight_0 14 rfl rfl)
theorem dX2_weight_15 : decode cX2_weight 15 = .ok (.iload_n 1, 1) := dk_27 (dk_at dksX2_weight_0 15 rfl rfl)
theorem dX2_weight_16 : decode cX2_weight 16 = .ok (.invokevirtual 230, 3) := dk_182 0 230 (dk_at dksX2_weight_0 16 rfl rfl)
theorem dX2_weight_19 : decode cX2_weight 19 = .ok (.istore 4, 2) := dk_54 4 (dk_at dksX2_weight_0 19 rfl rfl)
theorem dX2_weight_21 : decode cX2_weight 21 = .ok (.iload 4, 2) := dk_21 4 (dk_at dksX2_weight_0 21 rfl rfl)
theorem dX2_weight_23 : decode cX2_weight 23 = .ok (.ifCond .le 11, 3) := dk_158 0 11 (dk_at dksX2_weight_1 0 rfl rfl)
theorem dX2_weight_26 : decode cX2_weight 26 = .ok (.aload_n 0, 1) := dk_42 (dk_at dksX2_weight_1 3 rfl rfl)
theorem dX2_weight_27 : decode cX2_weight 27 = .ok (.iload 4, 2) := dk_21 4 (dk_at dksX2_weight_1 4 rfl rfl)
theorem dX2_weight_29 : decode cX2_weight 29 = .ok (.invokevirtual 147, 3) := dk_182 0 147 (dk_at dksX2_weight_1 6 rfl rfl)
theorem dX2_weight_32 : decode cX2_weight 32 = .ok (.i2l, 1) := dk_133 (dk_at dksX2_weight_1 9 rfl rfl)
theorem dX2_weight_33 : decode cX2_weight 33 = .ok (.lreturn, 1) := dk_173 (dk_at dksX2_weight_1 10 rfl rfl)
theorem dX2_weight_34 : decode cX2_weight 34 = .ok (.aload_n 0, 1) := dk_42 (dk_at dksX2_weight_1 11 rfl rfl)
theorem dX2_weight_35 : decode cX2_weight 35 = .ok (.iconst 0, 1) := dk_3 (dk_at dksX2_weight_1 12 rfl rfl)
theorem dX2_weight_36 : decode cX2_weight 36 = .ok (.putfield 112, 3) := dk_181 0 112 (dk_at dksX2_weight_1 13 rfl rfl)
theorem dX2_weight_39 : decode cX2_weight 39 = .ok (.iload_n 3, 1) := dk_29 (dk_at dksX2_weight_1 16 rfl rfl)
theorem dX2_weight_40 : decode cX2_weight 40 = .ok (.ifCond .eq 16, 3) := dk_153 0 16 (dk_at dksX2_weight_1 17 rfl rfl)
theorem dX2_weight_43 : decode cX2_weight 43 = .ok (.aload_n 0, 1) := dk_42 (dk_at dksX2_weight_1 20 rfl rfl)
theorem dX2_weight_44 : decode cX2_weight 44 = .ok (.getfield 66, 3) := dk_180 0 66 (dk_at dksX2_weight_1 21 rfl rfl)
theorem dX2_weight_47 : decode cX2_weight 47 = .ok (.iload_n 1, 1) := dk_27 (dk_at dksX2_weight_2 0 rfl rfl)
theorem dX2_weight_48 : decode cX2_weight 48 = .ok (.iload_n 2, 1) := dk_28 (dk_at dksX2_weight_2 1 rfl rfl)
theorem dX2_weight_49 : decode cX2_weight 49 = .ok (.invokestatic 173, 3) := dk_184 0 173 (dk_at dksX2_weight_2 2 rfl rfl)
theorem dX2_weight_52 : decode cX2_weight 52 = .ok (.laload, 1) := dk_47 (dk_at dksX2_weight_2 5 rfl rfl)
theorem dX2_weight_53 : decode cX2_weight 53 = .ok (.goto 13, 3) := dk_167 0 13 (dk_at dksX2_weight_2 6 rfl rfl)
theorem dX2_weight_56 : decode cX2_weight 56 = .ok (.aload_n 0, 1) := dk_42 (dk_at dksX2_weight_2 9 rfl rfl)
theorem dX2_weight_57 : decode cX2_weight 57 = .ok (.getfield 69, 3) := dk_180 0 69 (dk_at dksX2_weight_2 10 rfl rfl)
theorem dX2_weight_60 : decode cX2_weight 60 = .ok (.iload_n 1, 1) := dk_27 (dk_at dksX2_weight_2 13 rfl rfl)
theorem dX2_weight_61 : decode cX2_weight 61 = .ok (.iload_n 2, 1) := dk_28 (dk_at dksX2_weight_2 14 rfl rfl)
theorem dX2_weight_62 : decode cX2_weight 62 = .ok (.invokestatic 173, 3) := dk_184 0 173 (dk_at dksX2_weight_2 15 rfl rfl)
theorem dX2_weight_65 : decode cX2_weight 65 = .ok (.laload, 1) := dk_47 (dk_at dksX2_weight_2 18 rfl rfl)
theorem dX2_weight_66 : decode cX2_weight 66 = .ok (.lreturn, 1) := dk_173 (dk_at dksX2_weight_2 19 rfl rfl)
abbrev cX2_whole : ByteArray := prog_13_method_45_code
def yX2_whole : MethodName := ⟨RX2, "whole", "(I)J"⟩
def dkwX2_whole_1 : List UInt8 := [180, 0, 72, 27, 47, 173]
abbrev dktX2_whole_1 : List UInt8 := dkwX2_whole_1 ++ []
def dkwX2_whole_0 : List UInt8 := [42, 27, 182, 0, 230, 61, 28, 158, 0, 10, 42, 28, 182, 0, 147, 133, 173, 42, 3, 181, 0, 112, 42]
abbrev dktX2_whole_0 : List UInt8 := dkwX2_whole_0 ++ dktX2_whole_1
theorem dksX2_whole_0 : cX2_whole.data.toList.drop 0 = dktX2_whole_0 := by decide +kernel
theorem dksX2_whole_1 : cX2_whole.data.toList.drop 23 = dktX2_whole_1 := dk_seg dksX2_whole_0 23 rfl rfl
theorem dX2_whole_0 : decode cX2_whole 0 = .ok (.aload_n 0, 1) := dk_42 (dk_at dksX2_whole_0 0 rfl rfl)
theorem dX2_whole_1 : decode cX2_whole 1 = .ok (.iload_n 1, 1) := dk_27 (dk_at dksX2_whole_0 1 rfl rfl)
theorem dX2_whole_2 : decode cX2_whole 2 = .ok (.invokevirtual 230, 3) := dk_182 0 230 (dk_at dksX2_whole_0 2 rfl rfl)
theorem dX2_whole_5 : decode cX2_whole 5 = .ok (.istore_n 2, 1) := dk_61 (dk_at dksX2_whole_0 5 rfl rfl)
theorem dX2_whole_6 : decode cX2_whole 6 = .ok (.iload_n 2, 1) := dk_28 (dk_at dksX2_whole_0 6 rfl rfl)
theorem dX2_whole_7 : decode cX2_whole 7 = .ok (.ifCond .le 10, 3) := dk_158 0 10 (dk_at dksX2_whole_0 7 rfl rfl)
theorem dX2_whole_10 : decode cX2_whole 10 = .ok (.aload_n 0, 1) := dk_42 (dk_at dksX2_whole_0 10 rfl rfl)
theorem dX2_whole_11 : decode cX2_whole 11 = .ok (.iload_n 2, 1) := dk_28 (dk_at dksX2_whole_0 11 rfl rfl)
theorem dX2_whole_12 : decode cX2_whole 12 = .ok (.invokevirtual 147, 3) := dk_182 0 147 (dk_at dksX2_whole_0 12 rfl rfl)
theorem dX2_whole_15 : decode cX2_whole 15 = .ok (.i2l, 1) := dk_133 (dk_at dksX2_whole_0 15 rfl rfl)
theorem dX2_whole_16 : decode cX2_whole 16 = .ok (.lreturn, 1) := dk_173 (dk_at dksX2_whole_0 16 rfl rfl)
theorem dX2_whole_17 : decode cX2_whole 17 = .ok (.aload_n 0, 1) := dk_42 (dk_at dksX2_whole_0 17 rfl rfl)
theorem dX2_whole_18 : decode cX2_whole 18 = .ok (.iconst 0, 1) := dk_3 (dk_at dksX2_whole_0 18 rfl rfl)
theorem dX2_whole_19 : decode cX2_whole 19 = .ok (.putfield 112, 3) := dk_181 0 112 (dk_at dksX2_whole_0 19 rfl rfl)
theorem dX2_whole_22 : decode cX2_whole 22 = .ok (.aload_n 0, 1) := dk_42 (dk_at dksX2_whole_0 22 rfl rfl)
theorem dX2_whole_23 : decode cX2_whole 23 = .ok (.getfield 72, 3) := dk_180 0 72 (dk_at dksX2_whole_1 0 rfl rfl)
theorem dX2_whole_26 : decode cX2_whole 26 = .ok (.iload_n 1, 1) := dk_27 (dk_at dksX2_whole_1 3 rfl rfl)
theorem dX2_whole_27 : decode cX2_whole 27 = .ok (.laload, 1) := dk_47 (dk_at dksX2_whole_1 4 rfl rfl)
theorem dX2_whole_28 : decode cX2_whole 28 = .ok (.lreturn, 1) := dk_173 (dk_at dksX2_whole_1 5 rfl rfl)
abbrev cX2_by : ByteArray := prog_13_method_48_code
def yX2_by : MethodName := ⟨RX2, "by", "(II)I"⟩
def dkwX2_by_1 : List UInt8 := [42, 29, 182, 0, 147, 172, 42, 42, 27, 28, 182, 0, 236, 42, 180, 0, 72, 27, 47, 182, 0, 240, 172]
abbrev dktX2_by_1 : List UInt8 := dkwX2_by_1 ++ []
def dkwX2_by_0 : List UInt8 := [28, 155, 0, 9, 28, 16, 121, 161, 0, 7, 4, 167, 0, 8, 42, 27, 182, 0, 230, 62, 29, 158, 0, 9]
abbrev dktX2_by_0 : List UInt8 := dkwX2_by_0 ++ dktX2_by_1
theorem dksX2_by_0 : cX2_by.data.toList.drop 0 = dktX2_by_0 := by decide +kernel
theorem dksX2_by_1 : cX2_by.data.toList.drop 24 = dktX2_by_1 := dk_seg dksX2_by_0 24 rfl rfl
theorem dX2_by_0 : decode cX2_by 0 = .ok (.iload_n 2, 1) := dk_28 (dk_at dksX2_by_0 0 rfl rfl)
theorem dX2_by_1 : decode cX2_by 1 = .ok (.ifCond .lt 9, 3) := dk_155 0 9 (dk_at dksX2_by_0 1 rfl rfl)
theorem dX2_by_4 : decode cX2_by 4 = .ok (.iload_n 2, 1) := dk_28 (dk_at dksX2_by_0 4 rfl rfl)
theorem dX2_by_5 : decode cX2_by 5 = .ok (.bipush 121, 2) := dk_16 121 (dk_at dksX2_by_0 5 rfl rfl)
theorem dX2_by_7 : decode cX2_by 7 = .ok (.if_icmp .lt 7, 3) := dk_161 0 7 (dk_at dksX2_by_0 7 rfl rfl)
theorem dX2_by_10 : decode cX2_by 10 = .ok (.iconst 1, 1) := dk_4 (dk_at dksX2_by_0 10 rfl rfl)
theorem dX2_by_11 : decode cX2_by 11 = .ok (.goto 8, 3) := dk_167 0 8 (dk_at dksX2_by_0 11 rfl rfl)
theorem dX2_by_14 : decode cX2_by 14 = .ok (.aload_n 0, 1) := dk_42 (dk_at dksX2_by_0 14 rfl rfl)
theorem dX2_by_15 : decode cX2_by 15 = .ok (.iload_n 1, 1) := dk_27 (dk_at dksX2_by_0 15 rfl rfl)
theorem dX2_by_16 : decode cX2_by 16 = .ok (.invokevirtual 230, 3) := dk_182 0 230 (dk_at dksX2_by_0 16 rfl rfl)
theorem dX2_by_19 : decode cX2_by 19 = .ok (.istore_n 3, 1) := dk_62 (dk_at dksX2_by_0 19 rfl rfl)
theorem dX2_by_20 : decode cX2_by 20 = .ok (.iload_n 3, 1) := dk_29 (dk_at dksX2_by_0 20 rfl rfl)
theorem dX2_by_21 : decode cX2_by 21 = .ok (.ifCond .le 9, 3) := dk_158 0 9 (dk_at dksX2_by_0 21 rfl rfl)
theorem dX2_by_24 : decode cX2_by 24 = .ok (.aload_n 0, 1) := dk_42 (dk_at dksX2_by_1 0 rfl rfl)
theorem dX2_by_25 : decode cX2_by 25 = .ok (.iload_n 3, 1) := dk_29 (dk_at dksX2_by_1 1 rfl rfl)
theorem dX2_by_26 : decode cX2_by 26 = .ok (.invokevirtual 147, 3) := dk_182 0 147 (dk_at dksX2_by_1 2 rfl rfl)
theorem dX2_by_29 : decode cX2_by 29 = .ok (.ireturn, 1) := dk_172 (dk_at dksX2_by_1 5 rfl rfl)
theorem dX2_by_30 : decode cX2_by 30 = .ok (.aload_n 0, 1) := dk_42 (dk_at dksX2_by_1 6 rfl rfl)
theorem dX2_by_31 : decode cX2_by 31 = .ok (.aload_n 0, 1) := dk_42 (dk_at dksX2_by_1 7 rfl rfl)
theorem dX2_by_32 : decode cX2_by 32 = .ok (.iload_n 1, 1) := dk_27 (dk_at dksX2_by_1 8 rfl rfl)
theorem dX2_by_33 : decode cX2_by 33 = .ok (.iload_n 2, 1) := dk_28 (dk_at dksX2_by_1 9 rfl rfl)
theorem dX2_by_34 : decode cX2_by 34 = .ok (.invokevirtual 236, 3) := dk_182 0 236 (dk_at dksX2_by_1 10 rfl rfl)
theorem dX2_by_37 : decode cX2_by 37 = .ok (.aload_n 0, 1) := dk_42 (dk_at dksX2_by_1 13 rfl rfl)
theorem dX2_by_38 : decode cX2_by 38 = .ok (.getfield 72, 3) := dk_180 0 72 (dk_at dksX2_by_1 14 rfl rfl)
theorem dX2_by_41 : decode cX2_by 41 = .ok (.iload_n 1, 1) := dk_27 (dk_at dksX2_by_1 17 rfl rfl)
theorem dX2_by_42 : decode cX2_by 42 = .ok (.laload, 1) := dk_47 (dk_at dksX2_by_1 18 rfl rfl)
theorem dX2_by_43 : decode cX2_by 43 = .ok (.invokevirtual 240, 3) := dk_182 0 240 (dk_at dksX2_by_1 19 rfl rfl)
theorem dX2_by_46 : decode cX2_by 46 = .ok (.ireturn, 1) := dk_172 (dk_at dksX2_by_1 22 rfl rfl)
abbrev cX2_by0 : ByteArray := prog_13_method_47_code
def yX2_by0 : MethodName := ⟨RX2, "by0", "(II)J"⟩
def dkwX2_by0_1 : List UInt8 := [66, 132, 5, 1, 167, 255, 233, 33, 173]
abbrev dktX2_by0_1 : List UInt8 := dkwX2_by0_1 ++ []
def dkwX2_by0_0 : List UInt8 := [9, 66, 3, 54, 5, 21, 5, 28, 163, 0, 23, 33, 42, 180, 0, 66, 27, 21, 5, 184, 0, 173, 47, 97]
abbrev dktX2_by0_0 : List UInt8 := dkwX2_by0_0 ++ dktX2_by0_1
theorem dksX2_by0_0 : cX2_by0.data.toList.drop 0 = dktX2_by0_0 := by decide +kernel
theorem dksX2_by0_1 : cX2_by0.data.toList.drop 24 = dktX2_by0_1 := dk_seg dksX2_by0_0 24 rfl rfl
theorem dX2_by0_0 : decode cX2_by0 0 = .ok (.lconst 0, 1) := dk_9 (dk_at dksX2_by0_0 0 rfl rfl)
theorem dX2_by0_1 : decode cX2_by0 1 = .ok (.lstore_n 3, 1) := dk_66 (dk_at dksX2_by0_0 1 rfl rfl)
theorem dX2_by0_2 : decode cX2_by0 2 = .ok (.iconst 0, 1) := dk_3 (dk_at dksX2_by0_0 2 rfl rfl)
theorem dX2_by0_3 : decode cX2_by0 3 = .ok (.istore 5, 2) := dk_54 5 (dk_at dksX2_by0_0 3 rfl rfl)
theorem dX2_by0_5 : decode cX2_by0 5 = .ok (.iload 5, 2) := dk_21 5 (dk_at dksX2_by0_0 5 rfl rfl)
theorem dX2_by0_7 : decode cX2_by0 7 = .ok (.iload_n 2, 1) := dk_28 (dk_at dksX2_by0_0 7 rfl rfl)
theorem dX2_by0_8 : decode cX2_by0 8 = .ok (.if_icmp .gt 23, 3) := dk_163 0 23 (dk_at dksX2_by0_0 8 rfl rfl)
theorem dX2_by0_11 : decode cX2_by0 11 = .ok (.lload_n 3, 1) := dk_33 (dk_at dksX2_by0_0 11 rfl rfl)
theorem dX2_by0_12 : decode cX2_by0 12 = .ok (.aload_n 0, 1) := dk_42 (dk_at dksX2_by0_0 12 rfl rfl)
theorem dX2_by0_13 : decode cX2_by0 13 = .ok (.getfield 66, 3) := dk_180 0 66 (dk_at dksX2_by0_0 13 rfl rfl)
theorem dX2_by0_16 : decode cX2_by0 16 = .ok (.iload_n 1, 1) := dk_27 (dk_at dksX2_by0_0 16 rfl rfl)
theorem dX2_by0_17 : decode cX2_by0 17 = .ok (.iload 5, 2) := dk_21 5 (dk_at dksX2_by0_0 17 rfl rfl)
theorem dX2_by0_19 : decode cX2_by0 19 = .ok (.invokestatic 173, 3) := dk_184 0 173 (dk_at dksX2_by0_0 19 rfl rfl)
theorem dX2_by0_22 : decode cX2_by0 22 = .ok (.laload, 1) := dk_47 (dk_at dksX2_by0_0 22 rfl rfl)
theorem dX2_by0_23 : decode cX2_by0 23 = .ok (.ladd, 1) := dk_97 (dk_at dksX2_by0_0 23 rfl rfl)
theorem dX2_by0_24 : decode cX2_by0 24 = .ok (.lstore_n 3, 1) := dk_66 (dk_at dksX2_by0_1 0 rfl rfl)
theorem dX2_by0_25 : decode cX2_by0 25 = .ok (.iinc 5 1, 3) := dk_132 5 1 (dk_at dksX2_by0_1 1 rfl rfl)
theorem dX2_by0_28 : decode cX2_by0 28 = .ok (.goto (-23), 3) := dk_167 255 233 (dk_at dksX2_by0_1 4 rfl rfl)
theorem dX2_by0_31 : decode cX2_by0 31 = .ok (.lload_n 3, 1) := dk_33 (dk_at dksX2_by0_1 7 rfl rfl)
theorem dX2_by0_32 : decode cX2_by0 32 = .ok (.lreturn, 1) := dk_173 (dk_at dksX2_by0_1 8 rfl rfl)
abbrev cX2_tells : ByteArray := prog_13_method_46_code
def yX2_tells : MethodName := ⟨RX2, "tells", "(JJ)I"⟩
def dkwX2_tells_1 : List UInt8 := [3, 181, 0, 112, 31, 9, 148, 158, 0, 7, 4, 167, 0, 4, 3, 172]
abbrev dktX2_tells_1 : List UInt8 := dkwX2_tells_1 ++ []
def dkwX2_tells_0 : List UInt8 := [31, 33, 184, 0, 169, 55, 5, 42, 31, 22, 5, 109, 181, 0, 116, 42, 33, 22, 5, 109, 181, 0, 7, 42]
abbrev dktX2_tells_0 : List UInt8 := dkwX2_tells_0 ++ dktX2_tells_1
theorem dksX2_tells_0 : cX2_tells.data.toList.drop 0 = dktX2_tells_0 := by decide +kernel
theorem dksX2_tells_1 : cX2_tells.data.toList.drop 24 = dktX2_tells_1 := dk_seg dksX2_tells_0 24 rfl rfl
theorem dX2_tells_0 : decode cX2_tells 0 = .ok (.lload_n 1, 1) := dk_31 (dk_at dksX2_tells_0 0 rfl rfl)
theorem dX2_tells_1 : decode cX2_tells 1 = .ok (.lload_n 3, 1) := dk_33 (dk_at dksX2_tells_0 1 rfl rfl)
theorem dX2_tells_2 : decode cX2_tells 2 = .ok (.invokestatic 169, 3) := dk_184 0 169 (dk_at dksX2_tells_0 2 rfl rfl)
theorem dX2_tells_5 : decode cX2_tells 5 = .ok (.lstore 5, 2) := dk_55 5 (dk_at dksX2_tells_0 5 rfl rfl)
theorem dX2_tells_7 : decode cX2_tells 7 = .ok (.aload_n 0, 1) := dk_42 (dk_at dksX2_tells_0 7 rfl rfl)
theorem dX2_tells_8 : decode cX2_tells 8 = .ok (.lload_n 1, 1) := dk_31 (dk_at dksX2_tells_0 8 rfl rfl)
theorem dX2_tells_9 : decode cX2_tells 9 = .ok (.lload 5, 2) := dk_22 5 (dk_at dksX2_tells_0 9 rfl rfl)
theorem dX2_tells_11 : decode cX2_tells 11 = .ok (.ldiv, 1) := dk_109 (dk_at dksX2_tells_0 11 rfl rfl)
theorem dX2_tells_12 : decode cX2_tells 12 = .ok (.putfield 116, 3) := dk_181 0 116 (dk_at dksX2_tells_0 12 rfl rfl)
theorem dX2_tells_15 : decode cX2_tells 15 = .ok (.aload_n 0, 1) := dk_42 (dk_at dksX2_tells_0 15 rfl rfl)
theorem dX2_tells_16 : decode cX2_tells 16 = .ok (.lload_n 3, 1) := dk_33 (dk_at dksX2_tells_0 16 rfl rfl)
theorem dX2_tells_17 : decode cX2_tells 17 = .ok (.lload 5, 2) := dk_22 5 (dk_at dksX2_tells_0 17 rfl rfl)
theorem dX2_tells_19 : decode cX2_tells 19 = .ok (.ldiv, 1) := dk_109 (dk_at dksX2_tells_0 19 rfl rfl)
theorem dX2_tells_20 : decode cX2_tells 20 = .ok (.putfield 7, 3) := dk_181 0 7 (dk_at dksX2_tells_0 20 rfl rfl)
theorem dX2_tells_23 : decode cX2_tells 23 = .ok (.aload_n 0, 1) := dk_42 (dk_at dksX2_tells_0 23 rfl rfl)
theorem dX2_tells_24 : decode cX2_tells 24 = .ok (.iconst 0, 1) := dk_3 (dk_at dksX2_tells_1 0 rfl rfl)
theorem dX2_tells_25 : decode cX2_tells 25 = .ok (.putfield 112, 3) := dk_181 0 112 (dk_at dksX2_tells_1 1 rfl rfl)
theorem dX2_tells_28 : decode cX2_tells 28 = .ok (.lload_n 1, 1) := dk_31 (dk_at dksX2_tells_1 4 rfl rfl)
theorem dX2_tells_29 : decode cX2_tells 29 = .ok (.lconst 0, 1) := dk_9 (dk_at dksX2_tells_1 5 rfl rfl)
theorem dX2_tells_30 : decode cX2_tells 30 = .ok (.lcmp, 1) := dk_148 (dk_at dksX2_tells_1 6 rfl rfl)
theorem dX2_tells_31 : decode cX2_tells 31 = .ok (.ifCond .le 7, 3) := dk_158 0 7 (dk_at dksX2_tells_1 7 rfl rfl)
theorem dX2_tells_34 : decode cX2_tells 34 = .ok (.iconst 1, 1) := dk_4 (dk_at dksX2_tells_1 10 rfl rfl)
theorem dX2_tells_35 : decode cX2_tells 35 = .ok (.goto 4, 3) := dk_167 0 4 (dk_at dksX2_tells_1 11 rfl rfl)
theorem dX2_tells_38 : decode cX2_tells 38 = .ok (.iconst 0, 1) := dk_3 (dk_at dksX2_tells_1 14 rfl rfl)
theorem dX2_tells_39 : decode cX2_tells 39 = .ok (.ireturn, 1) := dk_172 (dk_at dksX2_tells_1 15 rfl rfl)
abbrev cX2_fails : ByteArray := prog_13_method_49_code
def yX2_fails : MethodName := ⟨RX2, "fails", "(I)I"⟩
def dkwX2_fails_1 : List UInt8 := [27, 16, 120, 182, 0, 236, 101, 42, 180, 0, 72, 27, 47, 182, 0, 240, 172]
abbrev dktX2_fails_1 : List UInt8 := dkwX2_fails_1 ++ []
def dkwX2_fails_0 : List UInt8 := [42, 27, 182, 0, 230, 61, 28, 158, 0, 9, 42, 28, 182, 0, 147, 172, 42, 42, 180, 0, 72, 27, 47, 42]
abbrev dktX2_fails_0 : List UInt8 := dkwX2_fails_0 ++ dktX2_fails_1
theorem dksX2_fails_0 : cX2_fails.data.toList.drop 0 = dktX2_fails_0 := by decide +kernel
theorem dksX2_fails_1 : cX2_fails.data.toList.drop 24 = dktX2_fails_1 := dk_seg dksX2_fails_0 24 rfl rfl
theorem dX2_fails_0 : decode cX2_fails 0 = .ok (.aload_n 0, 1) := dk_42 (dk_at dksX2_fails_0 0 rfl rfl)
theorem dX2_fails_1 : decode cX2_fails 1 = .ok (.iload_n 1, 1) := dk_27 (dk_at dksX2_fails_0 1 rfl rfl)
theorem dX2_fails_2 : decode cX2_fails 2 = .ok (.invokevirtual 230, 3) := dk_182 0 230 (dk_at dksX2_fails_0 2 rfl rfl)
theorem dX2_fails_5 : decode cX2_fails 5 = .ok (.istore_n 2, 1) := dk_61 (dk_at dksX2_fails_0 5 rfl rfl)
theorem dX2_fails_6 : decode cX2_fails 6 = .ok (.iload_n 2, 1) := dk_28 (dk_at dksX2_fails_0 6 rfl rfl)
theorem dX2_fails_7 : decode cX2_fails 7 = .ok (.ifCond .le 9, 3) := dk_158 0 9 (dk_at dksX2_fails_0 7 rfl rfl)
theorem dX2_fails_10 : decode cX2_fails 10 = .ok (.aload_n 0, 1) := dk_42 (dk_at dksX2_fails_0 10 rfl rfl)
theorem dX2_fails_11 : decode cX2_fails 11 = .ok (.iload_n 2, 1) := dk_28 (dk_at dksX2_fails_0 11 rfl rfl)
theorem dX2_fails_12 : decode cX2_fails 12 = .ok (.invokevirtual 147, 3) := dk_182 0 147 (dk_at dksX2_fails_0 12 rfl rfl)
theorem dX2_fails_15 : decode cX2_fails 15 = .ok (.ireturn, 1) := dk_172 (dk_at dksX2_fails_0 15 rfl rfl)
theorem dX2_fails_16 : decode cX2_fails 16 = .ok (.aload_n 0, 1) := dk_42 (dk_at dksX2_fails_0 16 rfl rfl)
theorem dX2_fails_17 : decode cX2_fails 17 = .ok (.aload_n 0, 1) := dk_42 (dk_at dksX2_fails_0 17 rfl rfl)
theorem dX2_fails_18 : decode cX2_fails 18 = .ok (.getfield 72, 3) := dk_180 0 72 (dk_at dksX2_fails_0 18 rfl rfl)
theorem dX2_fails_21 : decode cX2_fails 21 = .ok (.iload_n 1, 1) := dk_27 (dk_at dksX2_fails_0 21 rfl rfl)
theorem dX2_fails_22 : decode cX2_fails 22 = .ok (.laload, 1) := dk_47 (dk_at dksX2_fails_0 22 rfl rfl)
theorem dX2_fails_23 : decode cX2_fails 23 = .ok (.aload_n 0, 1) := dk_42 (dk_at dksX2_fails_0 23 rfl rfl)
theorem dX2_fails_24 : decode cX2_fails 24 = .ok (.iload_n 1, 1) := dk_27 (dk_at dksX2_fails_1 0 rfl rfl)
theorem dX2_fails_25 : decode cX2_fails 25 = .ok (.bipush 120, 2) := dk_16 120 (dk_at dksX2_fails_1 1 rfl rfl)
theorem dX2_fails_27 : decode cX2_fails 27 = .ok (.invokevirtual 236, 3) := dk_182 0 236 (dk_at dksX2_fails_1 3 rfl rfl)
theorem dX2_fails_30 : decode cX2_fails 30 = .ok (.lsub, 1) := dk_101 (dk_at dksX2_fails_1 6 rfl rfl)
theorem dX2_fails_31 : decode cX2_fails 31 = .ok (.aload_n 0, 1) := dk_42 (dk_at dksX2_fails_1 7 rfl rfl)
theorem dX2_fails_32 : decode cX2_fails 32 = .ok (.getfield 72, 3) := dk_180 0 72 (dk_at dksX2_fails_1 8 rfl rfl)
theorem dX2_fails_35 : decode cX2_fails 35 = .ok (.iload_n 1, 1) := dk_27 (dk_at dksX2_fails_1 11 rfl rfl)
theorem dX2_fails_36 : decode cX2_fails 36 = .ok (.laload, 1) := dk_47 (dk_at dksX2_fails_1 12 rfl rfl)
theorem dX2_fails_37 : decode cX2_fails 37 = .ok (.invokevirtual 240, 3) := dk_182 0 240 (dk_at dksX2_fails_1 13 rfl rfl)
theorem dX2_fails_40 : decode cX2_fails 40 = .ok (.ireturn, 1) := dk_172 (dk_at dksX2_fails_1 16 rfl rfl)
abbrev cX2_promise : ByteArray := prog_13_method_52_code
def yX2_promise : MethodName := ⟨RX2, "promise", "(III)I"⟩
def dkwX2_promise_3 : List UInt8 := [132, 5, 1, 167, 255, 220, 42, 16, 6, 182, 0, 147, 172]
abbrev dktX2_promise_3 : List UInt8 := dkwX2_promise_3 ++ []
def dkwX2_promise_2 : List UInt8 := [21, 5, 182, 0, 236, 42, 180, 0, 72, 27, 47, 28, 133, 29, 133, 184, 0, 248, 153, 0, 6, 21, 5, 172]
abbrev dktX2_promise_2 : List UInt8 := dkwX2_promise_2 ++ dktX2_promise_3
def dkwX2_promise_1 : List UInt8 := [42, 21, 4, 182, 0, 147, 172, 42, 3, 181, 0, 112, 3, 54, 5, 21, 5, 16, 121, 162, 0, 35, 42, 27]
abbrev dktX2_promise_1 : List UInt8 := dkwX2_promise_1 ++ dktX2_promise_2
def dkwX2_promise_0 : List UInt8 := [28, 29, 184, 0, 245, 154, 0, 7, 4, 167, 0, 8, 42, 27, 182, 0, 230, 54, 4, 21, 4, 158, 0, 10]
abbrev dktX2_promise_0 : List UInt8 := dkwX2_promise_0 ++ dktX2_promise_1
theorem dksX2_promise_0 : cX2_promise.data.toList.drop 0 = dktX2_promise_0 := by decide +kernel
theorem dksX2_promise_1 : cX2_promise.data.toList.drop 24 = dktX2_promise_1 := dk_seg dksX2_promise_0 24 rfl rfl
theorem dksX2_promise_2 : cX2_promise.data.toList.drop 48 = dktX2_promise_2 := dk_seg dksX2_promise_1 24 rfl rfl
theorem dksX2_promise_3 : cX2_promise.data.toList.drop 72 = dktX2_promise_3 := dk_seg dksX2_promise_2 24 rfl rfl
theorem dX2_promise_0 : decode cX2_promise 0 = .ok (.iload_n 2, 1) := dk_28 (dk_at dksX2_promise_0 0 rfl rfl)
theorem dX2_promise_1 : decode cX2_promise 1 = .ok (.iload_n 3, 1) := dk_29 (dk_at dksX2_promise_0 1 rfl rfl)
theorem dX2_promise_2 : decode cX2_promise 2 = .ok (.invokestatic 245, 3) := dk_184 0 245 (dk_at dksX2_promise_0 2 rfl rfl)
theorem dX2_promise_5 : decode cX2_promise 5 = .ok (.ifCond .ne 7, 3) := dk_154 0 7 (dk_at dksX2_promise_0 5 rfl rfl)
theorem dX2_promise_8 : decode cX2_promise 8 = .ok (.iconst 1, 1) := dk_4 (dk_at dksX2_promise_0 8 rfl rfl)
theorem dX2_promise_9 : decode cX2_promise 9 = .ok (.goto 8, 3) := dk_167 0 8 (dk_at dksX2_promise_0 9 rfl rfl)
theorem dX2_promise_12 : decode cX2_promise 12 = .ok (.aload_n 0, 1) := dk_42 (dk_at dksX2_promise_0 12 rfl rfl)
theorem dX2_promise_13 : decode cX2_promise 13 = .ok (.iload_n 1, 1) := dk_27 (dk_at dksX2_promise_0 13 rfl rfl)
theorem dX2_promise_14 : decode cX2_promise 14 = .ok (.invokevirtual 230, 3) := dk_182 0 230 (dk_at dksX2_promise_0 14 rfl rfl)
theorem dX2_promise_17 : decode cX2_promise 17 = .ok (.istore 4, 2) := dk_54 4 (dk_at dksX2_promise_0 17 rfl rfl)
theorem dX2_promise_19 : decode cX2_promise 19 = .ok (.iload 4, 2) := dk_21 4 (dk_at dksX2_promise_0 19 rfl rfl)
theorem dX2_promise_21 : decode cX2_promise 21 = .ok (.ifCond .le 10, 3) := dk_158 0 10 (dk_at dksX2_promise_0 21 rfl rfl)
theorem dX2_promise_24 : decode cX2_promise 24 = .ok (.aload_n 0, 1) := dk_42 (dk_at dksX2_promise_1 0 rfl rfl)
theorem dX2_promise_25 : decode cX2_promise 25 = .ok (.iload 4, 2) := dk_21 4 (dk_at dksX2_promise_1 1 rfl rfl)
theorem dX2_promise_27 : decode cX2_promise 27 = .ok (.invokevirtual 147, 3) := dk_182 0 147 (dk_at dksX2_promise_1 3 rfl rfl)
theorem dX2_promise_30 : decode cX2_promise 30 = .ok (.ireturn, 1) := dk_172 (dk_at dksX2_promise_1 6 rfl rfl)
theorem dX2_promise_31 : decode cX2_promise 31 = .ok (.aload_n 0, 1) := dk_42 (dk_at dksX2_promise_1 7 rfl rfl)
theorem dX2_promise_32 : decode cX2_promise 32 = .ok (.iconst 0, 1) := dk_3 (dk_at dksX2_promise_1 8 rfl rfl)
theorem dX2_promise_33 : decode cX2_promise 33 = .ok (.putfield 112, 3) := dk_181 0 112 (dk_at dksX2_promise_1 9 rfl rfl)
theorem dX2_promise_36 : decode cX2_promise 36 = .ok (.iconst 0, 1) := dk_3 (dk_at dksX2_promise_1 12 rfl rfl)
theorem dX2_promise_37 : decode cX2_promise 37 = .ok (.istore 5, 2) := dk_54 5 (dk_at dksX2_promise_1 13 rfl rfl)
theorem dX2_promise_39 : decode cX2_promise 39 = .ok (.iload 5, 2) := dk_21 5 (dk_at dksX2_promise_1 15 rfl rfl)
theorem dX2_promise_41 : decode cX2_promise 41 = .ok (.bipush 121, 2) := dk_16 121 (dk_at dksX2_promise_1 17 rfl rfl)
theorem dX2_promise_43 : decode cX2_promise 43 = .ok (.if_icmp .ge 35, 3) := dk_162 0 35 (dk_at dksX2_promise_1 19 rfl rfl)
theorem dX2_promise_46 : decode cX2_promise 46 = .ok (.aload_n 0, 1) := dk_42 (dk_at dksX2_promise_1 22 rfl rfl)
theorem dX2_promise_47 : decode cX2_promise 47 = .ok (.iload_n 1, 1) := dk_27 (dk_at dksX2_promise_1 23 rfl rfl)
theorem dX2_promise_48 : decode cX2_promise 48 = .ok (.iload 5, 2) := dk_21 5 (dk_at dksX2_promise_2 0 rfl rfl)
theorem dX2_promise_50 : decode cX2_promise 50 = .ok (.invokevirtual 236, 3) := dk_182 0 236 (dk_at dksX2_promise_2 2 rfl rfl)
theorem dX2_promise_53 : decode cX2_promise 53 = .ok (.aload_n 0, 1) := dk_42 (dk_at dksX2_promise_2 5 rfl rfl)
theorem dX2_promise_54 : decode cX2_promise 54 = .ok (.getfield 72, 3) := dk_180 0 72 (dk_at dksX2_promise_2 6 rfl rfl)
theorem dX2_promise_57 : decode cX2_promise 57 = .ok (.iload_n 1, 1) := dk_27 (dk_at dksX2_promise_2 9 rfl rfl)
theorem dX2_promise_58 : decode cX2_promise 58 = .ok (.laload, 1) := dk_47 (dk_at dksX2_promise_2 10 rfl rfl)
theorem dX2_promise_59 : decode cX2_promise 59 = .ok (.iload_n 2, 1) := dk_28 (dk_at dksX2_promise_2 11 rfl rfl)
theorem dX2_promise_60 : decode cX2_promise 60 = .ok (.i2l, 1) := dk_133 (dk_at dksX2_promise_2 12 rfl rfl)
theorem dX2_promise_61 : decode cX2_promise 61 = .ok (.iload_n 3, 1) := dk_29 (dk_at dksX2_promise_2 13 rfl rfl)
theorem dX2_promise_62 : decode cX2_promise 62 = .ok (.i2l, 1) := dk_133 (dk_at dksX2_promise_2 14 rfl rfl)
theorem dX2_promise_63 : decode cX2_promise 63 = .ok (.invokestatic 248, 3) := dk_184 0 248 (dk_at dksX2_promise_2 15 rfl rfl)
theorem dX2_promise_66 : decode cX2_promise 66 = .ok (.ifCond .eq 6, 3) := dk_153 0 6 (dk_at dksX2_promise_2 18 rfl rfl)
theorem dX2_promise_69 : decode cX2_promise 69 = .ok (.iload 5, 2) := dk_21 5 (dk_at dksX2_promise_2 21 rfl rfl)
theorem dX2_promise_71 : decode cX2_promise 71 = .ok (.ireturn, 1) := dk_172 (dk_at dksX2_promise_2 23 rfl rfl)
theorem dX2_promise_72 : decode cX2_promise 72 = .ok (.iinc 5 1, 3) := dk_132 5 1 (dk_at dksX2_promise_3 0 rfl rfl)
theorem dX2_promise_75 : decode cX2_promise 75 = .ok (.goto (-36), 3) := dk_167 255 220 (dk_at dksX2_promise_3 3 rfl rfl)
theorem dX2_promise_78 : decode cX2_promise 78 = .ok (.aload_n 0, 1) := dk_42 (dk_at dksX2_promise_3 6 rfl rfl)
theorem dX2_promise_79 : decode cX2_promise 79 = .ok (.bipush 6, 2) := dk_16 6 (dk_at dksX2_promise_3 7 rfl rfl)
theorem dX2_promise_81 : decode cX2_promise 81 = .ok (.invokevirtual 147, 3) := dk_182 0 147 (dk_at dksX2_promise_3 9 rfl rfl)
theorem dX2_promise_84 : decode cX2_promise 84 = .ok (.ireturn, 1) := dk_172 (dk_at dksX2_promise_3 12 rfl rfl)
abbrev cX2_isShare : ByteArray := prog_13_method_51_code
def yX2_isShare : MethodName := ⟨RX2, "isShare", "(II)Z"⟩
def dkwX2_isShare_1 : List UInt8 := [3, 172]
abbrev dktX2_isShare_1 : List UInt8 := dkwX2_isShare_1 ++ []
def dkwX2_isShare_0 : List UInt8 := [27, 4, 161, 0, 22, 27, 18, 244, 163, 0, 16, 26, 155, 0, 12, 26, 27, 163, 0, 7, 4, 167, 0, 4]
abbrev dktX2_isShare_0 : List UInt8 := dkwX2_isShare_0 ++ dktX2_isShare_1
theorem dksX2_isShare_0 : cX2_isShare.data.toList.drop 0 = dktX2_isShare_0 := by decide +kernel
theorem dksX2_isShare_1 : cX2_isShare.data.toList.drop 24 = dktX2_isShare_1 := dk_seg dksX2_isShare_0 24 rfl rfl
theorem dX2_isShare_0 : decode cX2_isShare 0 = .ok (.iload_n 1, 1) := dk_27 (dk_at dksX2_isShare_0 0 rfl rfl)
theorem dX2_isShare_1 : decode cX2_isShare 1 = .ok (.iconst 1, 1) := dk_4 (dk_at dksX2_isShare_0 1 rfl rfl)
theorem dX2_isShare_2 : decode cX2_isShare 2 = .ok (.if_icmp .lt 22, 3) := dk_161 0 22 (dk_at dksX2_isShare_0 2 rfl rfl)
theorem dX2_isShare_5 : decode cX2_isShare 5 = .ok (.iload_n 1, 1) := dk_27 (dk_at dksX2_isShare_0 5 rfl rfl)
theorem dX2_isShare_6 : decode cX2_isShare 6 = .ok (.ldc 244, 2) := dk_18 244 (dk_at dksX2_isShare_0 6 rfl rfl)
theorem dX2_isShare_8 : decode cX2_isShare 8 = .ok (.if_icmp .gt 16, 3) := dk_163 0 16 (dk_at dksX2_isShare_0 8 rfl rfl)
theorem dX2_isShare_11 : decode cX2_isShare 11 = .ok (.iload_n 0, 1) := dk_26 (dk_at dksX2_isShare_0 11 rfl rfl)
theorem dX2_isShare_12 : decode cX2_isShare 12 = .ok (.ifCond .lt 12, 3) := dk_155 0 12 (dk_at dksX2_isShare_0 12 rfl rfl)
theorem dX2_isShare_15 : decode cX2_isShare 15 = .ok (.iload_n 0, 1) := dk_26 (dk_at dksX2_isShare_0 15 rfl rfl)
theorem dX2_isShare_16 : decode cX2_isShare 16 = .ok (.iload_n 1, 1) := dk_27 (dk_at dksX2_isShare_0 16 rfl rfl)
theorem dX2_isShare_17 : decode cX2_isShare 17 = .ok (.if_icmp .gt 7, 3) := dk_163 0 7 (dk_at dksX2_isShare_0 17 rfl rfl)
theorem dX2_isShare_20 : decode cX2_isShare 20 = .ok (.iconst 1, 1) := dk_4 (dk_at dksX2_isShare_0 20 rfl rfl)
theorem dX2_isShare_21 : decode cX2_isShare 21 = .ok (.goto 4, 3) := dk_167 0 4 (dk_at dksX2_isShare_0 21 rfl rfl)
theorem dX2_isShare_24 : decode cX2_isShare 24 = .ok (.iconst 0, 1) := dk_3 (dk_at dksX2_isShare_1 0 rfl rfl)
theorem dX2_isShare_25 : decode cX2_isShare 25 = .ok (.ireturn, 1) := dk_172 (dk_at dksX2_isShare_1 1 rfl rfl)
abbrev cX2_isEnough : ByteArray := prog_13_method_50_code
def yX2_isEnough : MethodName := ⟨RX2, "isEnough", "(JJJJ)Z"⟩
def dkwX2_isEnough_7 : List UInt8 := [167, 0, 4, 3, 54, 16, 132, 17, 1, 167, 255, 104, 4, 172]
abbrev dktX2_isEnough_7 : List UInt8 := dkwX2_isEnough_7 ++ []
def dkwX2_isEnough_6 : List UInt8 := [3, 172, 22, 10, 55, 8, 22, 22, 55, 10, 22, 14, 55, 12, 22, 24, 55, 14, 21, 16, 154, 0, 7, 4]
abbrev dktX2_isEnough_6 : List UInt8 := dkwX2_isEnough_6 ++ dktX2_isEnough_7
def dkwX2_isEnough_5 : List UInt8 := [154, 0, 26, 22, 22, 9, 148, 158, 0, 7, 4, 167, 0, 4, 3, 21, 16, 159, 0, 7, 4, 167, 0, 4]
abbrev dktX2_isEnough_5 : List UInt8 := dkwX2_isEnough_5 ++ dktX2_isEnough_6
def dkwX2_isEnough_4 : List UInt8 := [154, 0, 12, 22, 24, 9, 148, 154, 0, 5, 4, 172, 22, 22, 9, 148, 153, 0, 10, 22, 24, 9, 148]
abbrev dktX2_isEnough_4 : List UInt8 := dkwX2_isEnough_4 ++ dktX2_isEnough_5
def dkwX2_isEnough_3 : List UInt8 := [167, 0, 4, 3, 172, 22, 8, 22, 10, 113, 55, 22, 22, 12, 22, 14, 113, 55, 24, 22, 22, 9, 148]
abbrev dktX2_isEnough_3 : List UInt8 := dkwX2_isEnough_3 ++ dktX2_isEnough_4
def dkwX2_isEnough_2 : List UInt8 := [148, 153, 0, 27, 22, 18, 22, 20, 148, 158, 0, 7, 4, 167, 0, 4, 3, 21, 16, 159, 0, 7, 4]
abbrev dktX2_isEnough_2 : List UInt8 := dkwX2_isEnough_2 ++ dktX2_isEnough_3
def dkwX2_isEnough_1 : List UInt8 := [17, 0, 200, 162, 0, 150, 22, 8, 22, 10, 109, 55, 18, 22, 12, 22, 14, 109, 55, 20, 22, 18, 22, 20]
abbrev dktX2_isEnough_1 : List UInt8 := dkwX2_isEnough_1 ++ dktX2_isEnough_2
def dkwX2_isEnough_0 : List UInt8 := [30, 55, 8, 32, 55, 10, 22, 4, 55, 12, 22, 6, 55, 14, 3, 54, 16, 3, 54, 17, 21, 17]
abbrev dktX2_isEnough_0 : List UInt8 := dkwX2_isEnough_0 ++ dktX2_isEnough_1
theorem dksX2_isEnough_0 : cX2_isEnough.data.toList.drop 0 = dktX2_isEnough_0 := by decide +kernel
theorem dksX2_isEnough_1 : cX2_isEnough.data.toList.drop 22 = dktX2_isEnough_1 := dk_seg dksX2_isEnough_0 22 rfl rfl
theorem dksX2_isEnough_2 : cX2_isEnough.data.toList.drop 46 = dktX2_isEnough_2 := dk_seg dksX2_isEnough_1 24 rfl rfl
theorem dksX2_isEnough_3 : cX2_isEnough.data.toList.drop 69 = dktX2_isEnough_3 := dk_seg dksX2_isEnough_2 23 rfl rfl
theorem dksX2_isEnough_4 : cX2_isEnough.data.toList.drop 92 = dktX2_isEnough_4 := dk_seg dksX2_isEnough_3 23 rfl rfl
theorem dksX2_isEnough_5 : cX2_isEnough.data.toList.drop 115 = dktX2_isEnough_5 := dk_seg dksX2_isEnough_4 23 rfl rfl
theorem dksX2_isEnough_6 : cX2_isEnough.data.toList.drop 139 = dktX2_isEnough_6 := dk_seg dksX2_isEnough_5 24 rfl rfl
theorem dksX2_isEnough_7 : cX2_isEnough.data.toList.drop 163 = dktX2_isEnough_7 := dk_seg dksX2_isEnough_6 24 rfl rfl
theorem dX2_isEnough_0 : decode cX2_isEnough 0 = .ok (.lload_n 0, 1) := dk_30 (dk_at dksX2_isEnough_0 0 rfl rfl)
theorem dX2_isEnough_1 : decode cX2_isEnough 1 = .ok (.lstore 8, 2) := dk_55 8 (dk_at dksX2_isEnough_0 1 rfl rfl)
theorem dX2_isEnough_3 : decode cX2_isEnough 3 = .ok (.lload_n 2, 1) := dk_32 (dk_at dksX2_isEnough_0 3 rfl rfl)
theorem dX2_isEnough_4 : decode cX2_isEnough 4 = .ok (.lstore 10, 2) := dk_55 10 (dk_at dksX2_isEnough_0 4 rfl rfl)
theorem dX2_isEnough_6 : decode cX2_isEnough 6 = .ok (.lload 4, 2) := dk_22 4 (dk_at dksX2_isEnough_0 6 rfl rfl)
theorem dX2_isEnough_8 : decode cX2_isEnough 8 = .ok (.lstore 12, 2) := dk_55 12 (dk_at dksX2_isEnough_0 8 rfl rfl)
theorem dX2_isEnough_10 : decode cX2_isEnough 10 = .ok (.lload 6, 2) := dk_22 6 (dk_at dksX2_isEnough_0 10 rfl rfl)
theorem dX2_isEnough_12 : decode cX2_isEnough 12 = .ok (.lstore 14, 2) := dk_55 14 (dk_at dksX2_isEnough_0 12 rfl rfl)
theorem dX2_isEnough_14 : decode cX2_isEnough 14 = .ok (.iconst 0, 1) := dk_3 (dk_at dksX2_isEnough_0 14 rfl rfl)
theorem dX2_isEnough_15 : decode cX2_isEnough 15 = .ok (.istore 16, 2) := dk_54 16 (dk_at dksX2_isEnough_0 15 rfl rfl)
theorem dX2_isEnough_17 : decode cX2_isEnough 17 = .ok (.iconst 0, 1) := dk_3 (dk_at dksX2_isEnough_0 17 rfl rfl)
theorem dX2_isEnough_18 : decode cX2_isEnough 18 = .ok (.istore 17, 2) := dk_54 17 (dk_at dksX2_isEnough_0 18 rfl rfl)
theorem dX2_isEnough_20 : decode cX2_isEnough 20 = .ok (.iload 17, 2) := dk_21 17 (dk_at dksX2_isEnough_0 20 rfl rfl)
theorem dX2_isEnough_22 : decode cX2_isEnough 22 = .ok (.sipush 200, 3) := dk_17 0 200 (dk_at dksX2_isEnough_1 0 rfl rfl)
theorem dX2_isEnough_25 : decode cX2_isEnough 25 = .ok (.if_icmp .ge 150, 3) := dk_162 0 150 (dk_at dksX2_isEnough_1 3 rfl rfl)
theorem dX2_isEnough_28 : decode cX2_isEnough 28 = .ok (.lload 8, 2) := dk_22 8 (dk_at dksX2_isEnough_1 6 rfl rfl)
theorem dX2_isEnough_30 : decode cX2_isEnough 30 = .ok (.lload 10, 2) := dk_22 10 (dk_at dksX2_isEnough_1 8 rfl rfl)
theorem dX2_isEnough_32 : decode cX2_isEnough 32 = .ok (.ldiv, 1) := dk_109 (dk_at dksX2_isEnough_1 10 rfl rfl)
theorem dX2_isEnough_33 : decode cX2_isEnough 33 = .ok (.lstore 18, 2) := dk_55 18 (dk_at dksX2_isEnough_1 11 rfl rfl)
theorem dX2_isEnough_35 : decode cX2_isEnough 35 = .ok (.lload 12, 2) := dk_22 12 (dk_at dksX2_isEnough_1 13 rfl rfl)
theorem dX2_isEnough_37 : decode cX2_isEnough 37 = .ok (.lload 14, 2) := dk_22 14 (dk_at dksX2_isEnough_1 15 rfl rfl)
theorem dX2_isEnough_39 : decode cX2_isEnough 39 = .ok (.ldiv, 1) := dk_109 (dk_at dksX2_isEnough_1 17 rfl rfl)
theorem dX2_isEnough_40 : decode cX2_isEnough 40 = .ok (.lstore 20, 2) := dk_55 20 (dk_at dksX2_isEnough_1 18 rfl rfl)
theorem dX2_isEnough_42 : decode cX2_isEnough 42 = .ok (.lload 18, 2) := dk_22 18 (dk_at dksX2_isEnough_1 20 rfl rfl)
theorem dX2_isEnough_44 : decode cX2_isEnough 44 = .ok (.lload 20, 2) := dk_22 20 (dk_at dksX2_isEnough_1 22 rfl rfl)
theorem dX2_isEnough_46 : decode cX2_isEnough 46 = .ok (.lcmp, 1) := dk_148 (dk_at dksX2_isEnough_2 0 rfl rfl)
theorem dX2_isEnough_47 : decode cX2_isEnough 47 = .ok (.ifCond .eq 27, 3) := dk_153 0 27 (dk_at dksX2_isEnough_2 1 rfl rfl)
theorem dX2_isEnough_50 : decode cX2_isEnough 50 = .ok (.lload 18, 2) := dk_22 18 (dk_at dksX2_isEnough_2 4 rfl rfl)
theorem dX2_isEnough_52 : decode cX2_isEnough 52 = .ok (.lload 20, 2) := dk_22 20 (dk_at dksX2_isEnough_2 6 rfl rfl)
theorem dX2_isEnough_54 : decode cX2_isEnough 54 = .ok (.lcmp, 1) := dk_148 (dk_at dksX2_isEnough_2 8 rfl rfl)
theorem dX2_isEnough_55 : decode cX2_isEnough 55 = .ok (.ifCond .le 7, 3) := dk_158 0 7 (dk_at dksX2_isEnough_2 9 rfl rfl)
theorem dX2_isEnough_58 : decode cX2_isEnough 58 = .ok (.iconst 1, 1) := dk_4 (dk_at dksX2_isEnough_2 12 rfl rfl)
theorem dX2_isEnough_59 : decode cX2_isEnough 59 = .ok (.goto 4, 3) := dk_167 0 4 (dk_at dksX2_isEnough_2 13 rfl rfl)
theorem dX2_isEnough_62 : decode cX2_isEnough 62 = .ok (.iconst 0, 1) := dk_3 (dk_at dksX2_isEnough_2 16 rfl rfl)
theorem dX2_isEnough_63 : decode cX2_isEnough 63 = .ok (.iload 16, 2) := dk_21 16 (dk_at dksX2_isEnough_2 17 rfl rfl)
theorem dX2_isEnough_65 : decode cX2_isEnough 65 = .ok (.if_icmp .eq 7, 3) := dk_159 0 7 (dk_at dksX2_isEnough_2 19 rfl rfl)
theorem dX2_isEnough_68 : decode cX2_isEnough 68 = .ok (.iconst 1, 1) := dk_4 (dk_at dksX2_isEnough_2 22 rfl rfl)
theorem dX2_isEnough_69 : decode cX2_isEnough 69 = .ok (.goto 4, 3) := dk_167 0 4 (dk_at dksX2_isEnough_3 0 rfl rfl)
theorem dX2_isEnough_72 : decode cX2_isEnough 72 = .ok (.iconst 0, 1) := dk_3 (dk_at dksX2_isEnough_3 3 rfl rfl)
theorem dX2_isEnough_73 : decode cX2_isEnough 73 = .ok (.ireturn, 1) := dk_172 (dk_at dksX2_isEnough_3 4 rfl rfl)
theorem dX2_isEnough_74 : decode cX2_isEnough 74 = .ok (.lload 8, 2) := dk_22 8 (dk_at dksX2_isEnough_3 5 rfl rfl)
theorem dX2_isEnough_76 : decode cX2_isEnough 76 = .ok (.lload 10, 2) := dk_22 10 (dk_at dksX2_isEnough_3 7 rfl rfl)
theorem dX2_isEnough_78 : decode cX2_isEnough 78 = .ok (.lrem, 1) := dk_113 (dk_at dksX2_isEnough_3 9 rfl rfl)
theorem dX2_isEnough_79 : decode cX2_isEnough 79 = .ok (.lstore 22, 2) := dk_55 22 (dk_at dksX2_isEnough_3 10 rfl rfl)
theorem dX2_isEnough_81 : decode cX2_isEnough 81 = .ok (.lload 12, 2) := dk_22 12 (dk_at dksX2_isEnough_3 12 rfl rfl)
theorem dX2_isEnough_83 : decode cX2_isEnough 83 = .ok (.lload 14, 2) := dk_22 14 (dk_at dksX2_isEnough_3 14 rfl rfl)
theorem dX2_isEnough_85 : decode cX2_isEnough 85 = .ok (.lrem, 1) := dk_113 (dk_at dksX2_isEnough_3 16 rfl rfl)
theorem dX2_isEnough_86 : decode cX2_isEnough 86 = .ok (.lstore 24, 2) := dk_55 24 (dk_at dksX2_isEnough_3 17 rfl rfl)
theorem dX2_isEnough_88 : decode cX2_isEnough 88 = .ok (.lload 22, 2) := dk_22 22 (dk_at dksX2_isEnough_3 19 rfl rfl)
theorem dX2_isEnough_90 : decode cX2_isEnough 90 = .ok (.lconst 0, 1) := dk_9 (dk_at dksX2_isEnough_3 21 rfl rfl)
theorem dX2_isEnough_91 : decode cX2_isEnough 91 = .ok (.lcmp, 1) := dk_148 (dk_at dksX2_isEnough_3 22 rfl rfl)
theorem dX2_isEnough_92 : decode cX2_isEnough 92 = .ok (.ifCond .ne 12, 3) := dk_154 0 12 (dk_at dksX2_isEnough_4 0 rfl rfl)
theorem dX2_isEnough_95 : decode cX2_isEnough 95 = .ok (.lload 24, 2) := dk_22 24 (dk_at dksX2_isEnough_4 3 rfl rfl)
theorem dX2_isEnough_97 : decode cX2_isEnough 97 = .ok (.lconst 0, 1) := dk_9 (dk_at dksX2_isEnough_4 5 rfl rfl)
theorem dX2_isEnough_98 : decode cX2_isEnough 98 = .ok (.lcmp, 1) := dk_148 (dk_at dksX2_isEnough_4 6 rfl rfl)
theorem dX2_isEnough_99 : decode cX2_isEnough 99 = .ok (.ifCond .ne 5, 3) := dk_154 0 5 (dk_at dksX2_isEnough_4 7 rfl rfl)
theorem dX2_isEnough_102 : decode cX2_isEnough 102 = .ok (.iconst 1, 1) := dk_4 (dk_at dksX2_isEnough_4 10 rfl rfl)
theorem dX2_isEnough_103 : decode cX2_isEnough 103 = .ok (.ireturn, 1) := dk_172 (dk_at dksX2_isEnough_4 11 rfl rfl)
theorem dX2_isEnough_104 : decode cX2_isEnough 104 = .ok (.lload 22, 2) := dk_22 22 (dk_at dksX2_isEnough_4 12 rfl rfl)
theorem dX2_isEnough_106 : decode cX2_isEnough 106 = .ok (.lconst 0, 1) := dk_9 (dk_at dksX2_isEnough_4 14 rfl rfl)
theorem dX2_isEnough_107 : decode cX2_isEnough 107 = .ok (.lcmp, 1) := dk_148 (dk_at dksX2_isEnough_4 15 rfl rfl)
theorem dX2_isEnough_108 : decode cX2_isEnough 108 = .ok (.ifCond .eq 10, 3) := dk_153 0 10 (dk_at dksX2_isEnough_4 16 rfl rfl)
theorem dX2_isEnough_111 : decode cX2_isEnough 111 = .ok (.lload 24, 2) := dk_22 24 (dk_at dksX2_isEnough_4 19 rfl rfl)
theorem dX2_isEnough_113 : decode cX2_isEnough 113 = .ok (.lconst 0, 1) := dk_9 (dk_at dksX2_isEnough_4 21 rfl rfl)
theorem dX2_isEnough_114 : decode cX2_isEnough 114 = .ok (.lcmp, 1) := dk_148 (dk_at dksX2_isEnough_4 22 rfl rfl)
theorem dX2_isEnough_115 : decode cX2_isEnough 115 = .ok (.ifCond .ne 26, 3) := dk_154 0 26 (dk_at dksX2_isEnough_5 0 rfl rfl)
theorem dX2_isEnough_118 : decode cX2_isEnough 118 = .ok (.lload 22, 2) := dk_22 22 (dk_at dksX2_isEnough_5 3 rfl rfl)
theorem dX2_isEnough_120 : decode cX2_isEnough 120 = .ok (.lconst 0, 1) := dk_9 (dk_at dksX2_isEnough_5 5 rfl rfl)
theorem dX2_isEnough_121 : decode cX2_isEnough 121 = .ok (.lcmp, 1) := dk_148 (dk_at dksX2_isEnough_5 6 rfl rfl)
theorem dX2_isEnough_122 : decode cX2_isEnough 122 = .ok (.ifCond .le 7, 3) := dk_158 0 7 (dk_at dksX2_isEnough_5 7 rfl rfl)
theorem dX2_isEnough_125 : decode cX2_isEnough 125 = .ok (.iconst 1, 1) := dk_4 (dk_at dksX2_isEnough_5 10 rfl rfl)
theorem dX2_isEnough_126 : decode cX2_isEnough 126 = .ok (.goto 4, 3) := dk_167 0 4 (dk_at dksX2_isEnough_5 11 rfl rfl)
theorem dX2_isEnough_129 : decode cX2_isEnough 129 = .ok (.iconst 0, 1) := dk_3 (dk_at dksX2_isEnough_5 14 rfl rfl)
theorem dX2_isEnough_130 : decode cX2_isEnough 130 = .ok (.iload 16, 2) := dk_21 16 (dk_at dksX2_isEnough_5 15 rfl rfl)
theorem dX2_isEnough_132 : decode cX2_isEnough 132 = .ok (.if_icmp .eq 7, 3) := dk_159 0 7 (dk_at dksX2_isEnough_5 17 rfl rfl)
theorem dX2_isEnough_135 : decode cX2_isEnough 135 = .ok (.iconst 1, 1) := dk_4 (dk_at dksX2_isEnough_5 20 rfl rfl)
theorem dX2_isEnough_136 : decode cX2_isEnough 136 = .ok (.goto 4, 3) := dk_167 0 4 (dk_at dksX2_isEnough_5 21 rfl rfl)
theorem dX2_isEnough_139 : decode cX2_isEnough 139 = .ok (.iconst 0, 1) := dk_3 (dk_at dksX2_isEnough_6 0 rfl rfl)
theorem dX2_isEnough_140 : decode cX2_isEnough 140 = .ok (.ireturn, 1) := dk_172 (dk_at dksX2_isEnough_6 1 rfl rfl)
theorem dX2_isEnough_141 : decode cX2_isEnough 141 = .ok (.lload 10, 2) := dk_22 10 (dk_at dksX2_isEnough_6 2 rfl rfl)
theorem dX2_isEnough_143 : decode cX2_isEnough 143 = .ok (.lstore 8, 2) := dk_55 8 (dk_at dksX2_isEnough_6 4 rfl rfl)
theorem dX2_isEnough_145 : decode cX2_isEnough 145 = .ok (.lload 22, 2) := dk_22 22 (dk_at dksX2_isEnough_6 6 rfl rfl)
theorem dX2_isEnough_147 : decode cX2_isEnough 147 = .ok (.lstore 10, 2) := dk_55 10 (dk_at dksX2_isEnough_6 8 rfl rfl)
theorem dX2_isEnough_149 : decode cX2_isEnough 149 = .ok (.lload 14, 2) := dk_22 14 (dk_at dksX2_isEnough_6 10 rfl rfl)
theorem dX2_isEnough_151 : decode cX2_isEnough 151 = .ok (.lstore 12, 2) := dk_55 12 (dk_at dksX2_isEnough_6 12 rfl rfl)
theorem dX2_isEnough_153 : decode cX2_isEnough 153 = .ok (.lload 24, 2) := dk_22 24 (dk_at dksX2_isEnough_6 14 rfl rfl)
theorem dX2_isEnough_155 : decode cX2_isEnough 155 = .ok (.lstore 14, 2) := dk_55 14 (dk_at dksX2_isEnough_6 16 rfl rfl)
theorem dX2_isEnough_157 : decode cX2_isEnough 157 = .ok (.iload 16, 2) := dk_21 16 (dk_at dksX2_isEnough_6 18 rfl rfl)
theorem dX2_isEnough_159 : decode cX2_isEnough 159 = .ok (.ifCond .ne 7, 3) := dk_154 0 7 (dk_at dksX2_isEnough_6 20 rfl rfl)
theorem dX2_isEnough_162 : decode cX2_isEnough 162 = .ok (.iconst 1, 1) := dk_4 (dk_at dksX2_isEnough_6 23 rfl rfl)
theorem dX2_isEnough_163 : decode cX2_isEnough 163 = .ok (.goto 4, 3) := dk_167 0 4 (dk_at dksX2_isEnough_7 0 rfl rfl)
theorem dX2_isEnough_166 : decode cX2_isEnough 166 = .ok (.iconst 0, 1) := dk_3 (dk_at dksX2_isEnough_7 3 rfl rfl)
theorem dX2_isEnough_167 : decode cX2_isEnough 167 = .ok (.istore 16, 2) := dk_54 16 (dk_at dksX2_isEnough_7 4 rfl rfl)
theorem dX2_isEnough_169 : decode cX2_isEnough 169 = .ok (.iinc 17 1, 3) := dk_132 17 1 (dk_at dksX2_isEnough_7 6 rfl rfl)
theorem dX2_isEnough_172 : decode cX2_isEnough 172 = .ok (.goto (-152), 3) := dk_167 255 104 (dk_at dksX2_isEnough_7 9 rfl rfl)
theorem dX2_isEnough_175 : decode cX2_isEnough 175 = .ok (.iconst 1, 1) := dk_4 (dk_at dksX2_isEnough_7 12 rfl rfl)
theorem dX2_isEnough_176 : decode cX2_isEnough 176 = .ok (.ireturn, 1) := dk_172 (dk_at dksX2_isEnough_7 13 rfl rfl)
abbrev cX2_bound : ByteArray := prog_13_method_57_code
def yX2_bound : MethodName := ⟨RX2, "bound", "(II)I"⟩
def dkwX2_bound_2 : List UInt8 := [180, 0, 94, 27, 28, 184, 0, 173, 47, 42, 180, 0, 97, 27, 47, 182, 0, 240, 172]
abbrev dktX2_bound_2 : List UInt8 := dkwX2_bound_2 ++ []
def dkwX2_bound_1 : List UInt8 := [42, 27, 182, 1, 11, 154, 0, 6, 16, 9, 62, 29, 158, 0, 9, 42, 29, 182, 0, 147, 172, 42, 42]
abbrev dktX2_bound_1 : List UInt8 := dkwX2_bound_1 ++ dktX2_bound_2
def dkwX2_bound_0 : List UInt8 := [28, 155, 0, 9, 28, 16, 121, 161, 0, 7, 4, 167, 0, 8, 42, 27, 182, 0, 230, 62, 29, 154, 0, 14]
abbrev dktX2_bound_0 : List UInt8 := dkwX2_bound_0 ++ dktX2_bound_1
theorem dksX2_bound_0 : cX2_bound.data.toList.drop 0 = dktX2_bound_0 := by decide +kernel
theorem dksX2_bound_1 : cX2_bound.data.toList.drop 24 = dktX2_bound_1 := dk_seg dksX2_bound_0 24 rfl rfl
theorem dksX2_bound_2 : cX2_bound.data.toList.drop 47 = dktX2_bound_2 := dk_seg dksX2_bound_1 23 rfl rfl
theorem dX2_bound_0 : decode cX2_bound 0 = .ok (.iload_n 2, 1) := dk_28 (dk_at dksX2_bound_0 0 rfl rfl)
theorem dX2_bound_1 : decode cX2_bound 1 = .ok (.ifCond .lt 9, 3) := dk_155 0 9 (dk_at dksX2_bound_0 1 rfl rfl)
theorem dX2_bound_4 : decode cX2_bound 4 = .ok (.iload_n 2, 1) := dk_28 (dk_at dksX2_bound_0 4 rfl rfl)
theorem dX2_bound_5 : decode cX2_bound 5 = .ok (.bipush 121, 2) := dk_16 121 (dk_at dksX2_bound_0 5 rfl rfl)
theorem dX2_bound_7 : decode cX2_bound 7 = .ok (.if_icmp .lt 7, 3) := dk_161 0 7 (dk_at dksX2_bound_0 7 rfl rfl)
theorem dX2_bound_10 : decode cX2_bound 10 = .ok (.iconst 1, 1) := dk_4 (dk_at dksX2_bound_0 10 rfl rfl)
theorem dX2_bound_11 : decode cX2_bound 11 = .ok (.goto 8, 3) := dk_167 0 8 (dk_at dksX2_bound_0 11 rfl rfl)
theorem dX2_bound_14 : decode cX2_bound 14 = .ok (.aload_n 0, 1) := dk_42 (dk_at dksX2_bound_0 14 rfl rfl)
theorem dX2_bound_15 : decode cX2_bound 15 = .ok (.iload_n 1, 1) := dk_27 (dk_at dksX2_bound_0 15 rfl rfl)
theorem dX2_bound_16 : decode cX2_bound 16 = .ok (.invokevirtual 230, 3) := dk_182 0 230 (dk_at dksX2_bound_0 16 rfl rfl)
theorem dX2_bound_19 : decode cX2_bound 19 = .ok (.istore_n 3, 1) := dk_62 (dk_at dksX2_bound_0 19 rfl rfl)
theorem dX2_bound_20 : decode cX2_bound 20 = .ok (.iload_n 3, 1) := dk_29 (dk_at dksX2_bound_0 20 rfl rfl)
theorem dX2_bound_21 : decode cX2_bound 21 = .ok (.ifCond .ne 14, 3) := dk_154 0 14 (dk_at dksX2_bound_0 21 rfl rfl)
theorem dX2_bound_24 : decode cX2_bound 24 = .ok (.aload_n 0, 1) := dk_42 (dk_at dksX2_bound_1 0 rfl rfl)
theorem dX2_bound_25 : decode cX2_bound 25 = .ok (.iload_n 1, 1) := dk_27 (dk_at dksX2_bound_1 1 rfl rfl)
theorem dX2_bound_26 : decode cX2_bound 26 = .ok (.invokevirtual 267, 3) := dk_182 1 11 (dk_at dksX2_bound_1 2 rfl rfl)
theorem dX2_bound_29 : decode cX2_bound 29 = .ok (.ifCond .ne 6, 3) := dk_154 0 6 (dk_at dksX2_bound_1 5 rfl rfl)
theorem dX2_bound_32 : decode cX2_bound 32 = .ok (.bipush 9, 2) := dk_16 9 (dk_at dksX2_bound_1 8 rfl rfl)
theorem dX2_bound_34 : decode cX2_bound 34 = .ok (.istore_n 3, 1) := dk_62 (dk_at dksX2_bound_1 10 rfl rfl)
theorem dX2_bound_35 : decode cX2_bound 35 = .ok (.iload_n 3, 1) := dk_29 (dk_at dksX2_bound_1 11 rfl rfl)
theorem dX2_bound_36 : decode cX2_bound 36 = .ok (.ifCond .le 9, 3) := dk_158 0 9 (dk_at dksX2_bound_1 12 rfl rfl)
theorem dX2_bound_39 : decode cX2_bound 39 = .ok (.aload_n 0, 1) := dk_42 (dk_at dksX2_bound_1 15 rfl rfl)
theorem dX2_bound_40 : decode cX2_bound 40 = .ok (.iload_n 3, 1) := dk_29 (dk_at dksX2_bound_1 16 rfl rfl)
theorem dX2_bound_41 : decode cX2_bound 41 = .ok (.invokevirtual 147, 3) := dk_182 0 147 (dk_at dksX2_bound_1 17 rfl rfl)
theorem dX2_bound_44 : decode cX2_bound 44 = .ok (.ireturn, 1) := dk_172 (dk_at dksX2_bound_1 20 rfl rfl)
theorem dX2_bound_45 : decode cX2_bound 45 = .ok (.aload_n 0, 1) := dk_42 (dk_at dksX2_bound_1 21 rfl rfl)
theorem dX2_bound_46 : decode cX2_bound 46 = .ok (.aload_n 0, 1) := dk_42 (dk_at dksX2_bound_1 22 rfl rfl)
theorem dX2_bound_47 : decode cX2_bound 47 = .ok (.getfield 94, 3) := dk_180 0 94 (dk_at dksX2_bound_2 0 rfl rfl)
theorem dX2_bound_50 : decode cX2_bound 50 = .ok (.iload_n 1, 1) := dk_27 (dk_at dksX2_bound_2 3 rfl rfl)
theorem dX2_bound_51 : decode cX2_bound 51 = .ok (.iload_n 2, 1) := dk_28 (dk_at dksX2_bound_2 4 rfl rfl)
theorem dX2_bound_52 : decode cX2_bound 52 = .ok (.invokestatic 173, 3) := dk_184 0 173 (dk_at dksX2_bound_2 5 rfl rfl)
theorem dX2_bound_55 : decode cX2_bound 55 = .ok (.laload, 1) := dk_47 (dk_at dksX2_bound_2 8 rfl rfl)
theorem dX2_bound_56 : decode cX2_bound 56 = .ok (.aload_n 0, 1) := dk_42 (dk_at dksX2_bound_2 9 rfl rfl)
theorem dX2_bound_57 : decode cX2_bound 57 = .ok (.getfield 97, 3) := dk_180 0 97 (dk_at dksX2_bound_2 10 rfl rfl)
theorem dX2_bound_60 : decode cX2_bound 60 = .ok (.iload_n 1, 1) := dk_27 (dk_at dksX2_bound_2 13 rfl rfl)
theorem dX2_bound_61 : decode cX2_bound 61 = .ok (.laload, 1) := dk_47 (dk_at dksX2_bound_2 14 rfl rfl)
theorem dX2_bound_62 : decode cX2_bound 62 = .ok (.invokevirtual 240, 3) := dk_182 0 240 (dk_at dksX2_bound_2 15 rfl rfl)
theorem dX2_bound_65 : decode cX2_bound 65 = .ok (.ireturn, 1) := dk_172 (dk_at dksX2_bound_2 18 rfl rfl)
abbrev cX2_bounds : ByteArray := prog_13_method_53_code
def yX2_bounds : MethodName := ⟨RX2, "bounds", "(I)Z"⟩
def dkwX2_bounds_16 : List UInt8 := [132, 2, 1, 167, 254, 228, 4, 172]
abbrev dktX2_bounds_16 : List UInt8 := dkwX2_bounds_16 ++ []
def dkwX2_bounds_15 : List UInt8 := [182, 1, 6, 167, 0, 12, 33, 42, 28, 21, 5, 182, 0, 236, 101, 80, 132, 5, 1, 167, 255, 206]
abbrev dktX2_bounds_15 : List UInt8 := dkwX2_bounds_15 ++ dktX2_bounds_16
def dkwX2_bounds_14 : List UInt8 := [180, 0, 94, 28, 21, 5, 184, 0, 173, 42, 180, 0, 24, 28, 46, 5, 160, 0, 13, 42, 28, 21, 5]
abbrev dktX2_bounds_14 : List UInt8 := dkwX2_bounds_14 ++ dktX2_bounds_15
def dkwX2_bounds_13 : List UInt8 := [160, 0, 11, 42, 28, 182, 1, 3, 167, 0, 59, 3, 54, 5, 21, 5, 16, 121, 162, 0, 49, 42]
abbrev dktX2_bounds_13 : List UInt8 := dkwX2_bounds_13 ++ dktX2_bounds_14
def dkwX2_bounds_12 : List UInt8 := [20, 1, 1, 148, 155, 0, 5, 3, 172, 42, 180, 0, 97, 28, 33, 80, 42, 180, 0, 24, 28, 46, 4]
abbrev dktX2_bounds_12 : List UInt8 := dkwX2_bounds_12 ++ dktX2_bounds_13
def dkwX2_bounds_11 : List UInt8 := [54, 5, 33, 20, 0, 252, 21, 5, 133, 109, 148, 158, 0, 5, 3, 172, 33, 21, 5, 133, 105, 66, 33]
abbrev dktX2_bounds_11 : List UInt8 := dkwX2_bounds_11 ++ dktX2_bounds_12
def dkwX2_bounds_10 : List UInt8 := [42, 180, 0, 24, 28, 46, 5, 160, 0, 39, 42, 28, 182, 0, 254, 42, 180, 0, 30, 28, 46, 100, 4, 96]
abbrev dktX2_bounds_10 : List UInt8 := dkwX2_bounds_10 ++ dktX2_bounds_11
def dkwX2_bounds_9 : List UInt8 := [42, 180, 0, 97, 42, 180, 0, 27, 7, 28, 104, 21, 5, 96, 46, 47, 105, 66, 132, 5, 1, 167, 255, 166]
abbrev dktX2_bounds_9 : List UInt8 := dkwX2_bounds_9 ++ dktX2_bounds_10
def dkwX2_bounds_8 : List UInt8 := [42, 180, 0, 97, 42, 180, 0, 27, 7, 28, 104, 21, 5, 96, 46, 47, 109, 148, 158, 0, 5, 3, 172, 33]
abbrev dktX2_bounds_8 : List UInt8 := dkwX2_bounds_8 ++ dktX2_bounds_9
def dkwX2_bounds_7 : List UInt8 := [46, 5, 160, 0, 70, 42, 180, 0, 27, 7, 28, 104, 21, 5, 96, 46, 2, 159, 0, 55, 33, 20, 0, 252]
abbrev dktX2_bounds_7 : List UInt8 := dkwX2_bounds_7 ++ dktX2_bounds_8
def dkwX2_bounds_6 : List UInt8 := [3, 54, 5, 21, 5, 7, 162, 0, 90, 42, 180, 0, 24, 28, 46, 4, 159, 0, 13, 42, 180, 0, 24, 28]
abbrev dktX2_bounds_6 : List UInt8 := dkwX2_bounds_6 ++ dktX2_bounds_7
def dkwX2_bounds_5 : List UInt8 := [159, 0, 13, 42, 180, 0, 24, 28, 46, 5, 160, 0, 7, 10, 167, 0, 9, 42, 180, 0, 72, 28, 47, 66]
abbrev dktX2_bounds_5 : List UInt8 := dkwX2_bounds_5 ++ dktX2_bounds_6
def dkwX2_bounds_4 : List UInt8 := [28, 27, 163, 1, 29, 42, 180, 0, 106, 28, 51, 154, 0, 6, 167, 1, 11, 42, 180, 0, 24, 28, 46, 4]
abbrev dktX2_bounds_4 : List UInt8 := dkwX2_bounds_4 ++ dktX2_bounds_5
def dkwX2_bounds_3 : List UInt8 := [180, 0, 36, 28, 46, 46, 5, 160, 0, 7, 4, 167, 0, 4, 3, 84, 132, 2, 255, 167, 255, 169, 3, 61]
abbrev dktX2_bounds_3 : List UInt8 := dkwX2_bounds_3 ++ dktX2_bounds_4
def dkwX2_bounds_2 : List UInt8 := [153, 0, 37, 42, 180, 0, 24, 42, 180, 0, 36, 28, 46, 46, 4, 159, 0, 18, 42, 180, 0, 24, 42]
abbrev dktX2_bounds_2 : List UInt8 := dkwX2_bounds_2 ++ dktX2_bounds_3
def dkwX2_bounds_1 : List UInt8 := [159, 0, 61, 42, 180, 0, 36, 28, 46, 27, 163, 0, 51, 42, 180, 0, 106, 42, 180, 0, 36, 28, 46, 51]
abbrev dktX2_bounds_1 : List UInt8 := dkwX2_bounds_1 ++ dktX2_bounds_2
def dkwX2_bounds_0 : List UInt8 := [27, 61, 28, 155, 0, 89, 42, 180, 0, 106, 28, 28, 27, 159, 0, 67, 42, 180, 0, 36, 28, 46, 2]
abbrev dktX2_bounds_0 : List UInt8 := dkwX2_bounds_0 ++ dktX2_bounds_1
theorem dksX2_bounds_0 : cX2_bounds.data.toList.drop 0 = dktX2_bounds_0 := by decide +kernel
theorem dksX2_bounds_1 : cX2_bounds.data.toList.drop 23 = dktX2_bounds_1 := dk_seg dksX2_bounds_0 23 rfl rfl
theorem dksX2_bounds_2 : cX2_bounds.data.toList.drop 47 = dktX2_bounds_2 := dk_seg dksX2_bounds_1 24 rfl rfl
theorem dksX2_bounds_3 : cX2_bounds.data.toList.drop 70 = dktX2_bounds_3 := dk_seg dksX2_bounds_2 23 rfl rfl
theorem dksX2_bounds_4 : cX2_bounds.data.toList.drop 94 = dktX2_bounds_4 := dk_seg dksX2_bounds_3 24 rfl rfl
theorem dksX2_bounds_5 : cX2_bounds.data.toList.drop 118 = dktX2_bounds_5 := dk_seg dksX2_bounds_4 24 rfl rfl
theorem dksX2_bounds_6 : cX2_bounds.data.toList.drop 142 = dktX2_bounds_6 := dk_seg dksX2_bounds_5 24 rfl rfl
theorem dksX2_bounds_7 : cX2_bounds.data.toList.drop 166 = dktX2_bounds_7 := dk_seg dksX2_bounds_6 24 rfl rfl
theorem dksX2_bounds_8 : cX2_bounds.data.toList.drop 190 = dktX2_bounds_8 := dk_seg dksX2_bounds_7 24 rfl rfl
theorem dksX2_bounds_9 : cX2_bounds.data.toList.drop 214 = dktX2_bounds_9 := dk_seg dksX2_bounds_8 24 rfl rfl
theorem dksX2_bounds_10 : cX2_bounds.data.toList.drop 238 = dktX2_bounds_10 := dk_seg dksX2_bounds_9 24 rfl rfl
theorem dksX2_bounds_11 : cX2_bounds.data.toList.drop 262 = dktX2_bounds_11 := dk_seg dksX2_bounds_10 24 rfl rfl
theorem dksX2_bounds_12 : cX2_bounds.data.toList.drop 285 = dktX2_bounds_12 := dk_seg dksX2_bounds_11 23 rfl rfl
theorem dksX2_bounds_13 : cX2_bounds.data.toList.drop 308 = dktX2_bounds_13 := dk_seg dksX2_bounds_12 23 rfl rfl
theorem dksX2_bounds_14 : cX2_bounds.data.toList.drop 330 = dktX2_bounds_14 := dk_seg dksX2_bounds_13 22 rfl rfl
theorem dksX2_bounds_15 : cX2_bounds.data.toList.drop 353 = dktX2_bounds_15 := dk_seg dksX2_bounds_14 23 rfl rfl
theorem dksX2_bounds_16 : cX2_bounds.data.toList.drop 375 = dktX2_bounds_16 := dk_seg dksX2_bounds_15 22 rfl rfl
theorem dX2_bounds_0 : decode cX2_bounds 0 = .ok (.iload_n 1, 1) := dk_27 (dk_at dksX2_bounds_0 0 rfl rfl)
theorem dX2_bounds_1 : decode cX2_bounds 1 = .ok (.istore_n 2, 1) := dk_61 (dk_at dksX2_bounds_0 1 rfl rfl)
theorem dX2_bounds_2 : decode cX2_bounds 2 = .ok (.iload_n 2, 1) := dk_28 (dk_at dksX2_bounds_0 2 rfl rfl)
theorem dX2_bounds_3 : decode cX2_bounds 3 = .ok (.ifCond .lt 89, 3) := dk_155 0 89 (dk_at dksX2_bounds_0 3 rfl rfl)
theorem dX2_bounds_6 : decode cX2_bounds 6 = .ok (.aload_n 0, 1) := dk_42 (dk_at dksX2_bounds_0 6 rfl rfl)
theorem dX2_bounds_7 : decode cX2_bounds 7 = .ok (.getfield 106, 3) := dk_180 0 106 (dk_at dksX2_bounds_0 7 rfl rfl)
theorem dX2_bounds_10 : decode cX2_bounds 10 = .ok (.iload_n 2, 1) := dk_28 (dk_at dksX2_bounds_0 10 rfl rfl)
theorem dX2_bounds_11 : decode cX2_bounds 11 = .ok (.iload_n 2, 1) := dk_28 (dk_at dksX2_bounds_0 11 rfl rfl)
theorem dX2_bounds_12 : decode cX2_bounds 12 = .ok (.iload_n 1, 1) := dk_27 (dk_at dksX2_bounds_0 12 rfl rfl)
theorem dX2_bounds_13 : decode cX2_bounds 13 = .ok (.if_icmp .eq 67, 3) := dk_159 0 67 (dk_at dksX2_bounds_0 13 rfl rfl)
theorem dX2_bounds_16 : decode cX2_bounds 16 = .ok (.aload_n 0, 1) := dk_42 (dk_at dksX2_bounds_0 16 rfl rfl)
theorem dX2_bounds_17 : decode cX2_bounds 17 = .ok (.getfield 36, 3) := dk_180 0 36 (dk_at dksX2_bounds_0 17 rfl rfl)
theorem dX2_bounds_20 : decode cX2_bounds 20 = .ok (.iload_n 2, 1) := dk_28 (dk_at dksX2_bounds_0 20 rfl rfl)
theorem dX2_bounds_21 : decode cX2_bounds 21 = .ok (.iaload, 1) := dk_46 (dk_at dksX2_bounds_0 21 rfl rfl)
theorem dX2_bounds_22 : decode cX2_bounds 22 = .ok (.iconst (-1), 1) := dk_2 (dk_at dksX2_bounds_0 22 rfl rfl)
theorem dX2_bounds_23 : decode cX2_bounds 23 = .ok (.if_icmp .eq 61, 3) := dk_159 0 61 (dk_at dksX2_bounds_1 0 rfl rfl)
theorem dX2_bounds_26 : decode cX2_bounds 26 = .ok (.aload_n 0, 1) := dk_42 (dk_at dksX2_bounds_1 3 rfl rfl)
theorem dX2_bounds_27 : decode cX2_bounds 27 = .ok (.getfield 36, 3) := dk_180 0 36 (dk_at dksX2_bounds_1 4 rfl rfl)
theorem dX2_bounds_30 : decode cX2_bounds 30 = .ok (.iload_n 2, 1) := dk_28 (dk_at dksX2_bounds_1 7 rfl rfl)
theorem dX2_bounds_31 : decode cX2_bounds 31 = .ok (.iaload, 1) := dk_46 (dk_at dksX2_bounds_1 8 rfl rfl)
theorem dX2_bounds_32 : decode cX2_bounds 32 = .ok (.iload_n 1, 1) := dk_27 (dk_at dksX2_bounds_1 9 rfl rfl)
theorem dX2_bounds_33 : decode cX2_bounds 33 = .ok (.if_icmp .gt 51, 3) := dk_163 0 51 (dk_at dksX2_bounds_1 10 rfl rfl)
theorem dX2_bounds_36 : decode cX2_bounds 36 = .ok (.aload_n 0, 1) := dk_42 (dk_at dksX2_bounds_1 13 rfl rfl)
theorem dX2_bounds_37 : decode cX2_bounds 37 = .ok (.getfield 106, 3) := dk_180 0 106 (dk_at dksX2_bounds_1 14 rfl rfl)
theorem dX2_bounds_40 : decode cX2_bounds 40 = .ok (.aload_n 0, 1) := dk_42 (dk_at dksX2_bounds_1 17 rfl rfl)
theorem dX2_bounds_41 : decode cX2_bounds 41 = .ok (.getfield 36, 3) := dk_180 0 36 (dk_at dksX2_bounds_1 18 rfl rfl)
theorem dX2_bounds_44 : decode cX2_bounds 44 = .ok (.iload_n 2, 1) := dk_28 (dk_at dksX2_bounds_1 21 rfl rfl)
theorem dX2_bounds_45 : decode cX2_bounds 45 = .ok (.iaload, 1) := dk_46 (dk_at dksX2_bounds_1 22 rfl rfl)
theorem dX2_bounds_46 : decode cX2_bounds 46 = .ok (.baload, 1) := dk_51 (dk_at dksX2_bounds_1 23 rfl rfl)
theorem dX2_bounds_47 : decode cX2_bounds 47 = .ok (.ifCond .eq 37, 3) := dk_153 0 37 (dk_at dksX2_bounds_2 0 rfl rfl)
theorem dX2_bounds_50 : decode cX2_bounds 50 = .ok (.aload_n 0, 1) := dk_42 (dk_at dksX2_bounds_2 3 rfl rfl)
theorem dX2_bounds_51 : decode cX2_bounds 51 = .ok (.getfield 24, 3) := dk_180 0 24 (dk_at dksX2_bounds_2 4 rfl rfl)
theorem dX2_bounds_54 : decode cX2_bounds 54 = .ok (.aload_n 0, 1) := dk_42 (dk_at dksX2_bounds_2 7 rfl rfl)
theorem dX2_bounds_55 : decode cX2_bounds 55 = .ok (.getfield 36, 3) := dk_180 0 36 (dk_at dksX2_bounds_2 8 rfl rfl)
theorem dX2_bounds_58 : decode cX2_bounds 58 = .ok (.iload_n 2, 1) := dk_28 (dk_at dksX2_bounds_2 11 rfl rfl)
theorem dX2_bounds_59 : decode cX2_bounds 59 = .ok (.iaload, 1) := dk_46 (dk_at dksX2_bounds_2 12 rfl rfl)
theorem dX2_bounds_60 : decode cX2_bounds 60 = .ok (.iaload, 1) := dk_46 (dk_at dksX2_bounds_2 13 rfl rfl)
theorem dX2_bounds_61 : decode cX2_bounds 61 = .ok (.iconst 1, 1) := dk_4 (dk_at dksX2_bounds_2 14 rfl rfl)
theorem dX2_bounds_62 : decode cX2_bounds 62 = .ok (.if_icmp .eq 18, 3) := dk_159 0 18 (dk_at dksX2_bounds_2 15 rfl rfl)
theorem dX2_bounds_65 : decode cX2_bounds 65 = .ok (.aload_n 0, 1) := dk_42 (dk_at dksX2_bounds_2 18 rfl rfl)
theorem dX2_bounds_66 : decode cX2_bounds 66 = .ok (.getfield 24, 3) := dk_180 0 24 (dk_at dksX2_bounds_2 19 rfl rfl)
theorem dX2_bounds_69 : decode cX2_bounds 69 = .ok (.aload_n 0, 1) := dk_42 (dk_at dksX2_bounds_2 22 rfl rfl)
theorem dX2_bounds_70 : decode cX2_bounds 70 = .ok (.getfield 36, 3) := dk_180 0 36 (dk_at dksX2_bounds_3 0 rfl rfl)
theorem dX2_bounds_73 : decode cX2_bounds 73 = .ok (.iload_n 2, 1) := dk_28 (dk_at dksX2_bounds_3 3 rfl rfl)
theorem dX2_bounds_74 : decode cX2_bounds 74 = .ok (.iaload, 1) := dk_46 (dk_at dksX2_bounds_3 4 rfl rfl)
theorem dX2_bounds_75 : decode cX2_bounds 75 = .ok (.iaload, 1) := dk_46 (dk_at dksX2_bounds_3 5 rfl rfl)
theorem dX2_bounds_76 : decode cX2_bounds 76 = .ok (.iconst 2, 1) := dk_5 (dk_at dksX2_bounds_3 6 rfl rfl)
theorem dX2_bounds_77 : decode cX2_bounds 77 = .ok (.if_icmp .ne 7, 3) := dk_160 0 7 (dk_at dksX2_bounds_3 7 rfl rfl)
theorem dX2_bounds_80 : decode cX2_bounds 80 = .ok (.iconst 1, 1) := dk_4 (dk_at dksX2_bounds_3 10 rfl rfl)
theorem dX2_bounds_81 : decode cX2_bounds 81 = .ok (.goto 4, 3) := dk_167 0 4 (dk_at dksX2_bounds_3 11 rfl rfl)
theorem dX2_bounds_84 : decode cX2_bounds 84 = .ok (.iconst 0, 1) := dk_3 (dk_at dksX2_bounds_3 14 rfl rfl)
theorem dX2_bounds_85 : decode cX2_bounds 85 = .ok (.bastore, 1) := dk_84 (dk_at dksX2_bounds_3 15 rfl rfl)
theorem dX2_bounds_86 : decode cX2_bounds 86 = .ok (.iinc 2 (-1), 3) := dk_132 2 255 (dk_at dksX2_bounds_3 16 rfl rfl)
theorem dX2_bounds_89 : decode cX2_bounds 89 = .ok (.goto (-87), 3) := dk_167 255 169 (dk_at dksX2_bounds_3 19 rfl rfl)
theorem dX2_bounds_92 : decode cX2_bounds 92 = .ok (.iconst 0, 1) := dk_3 (dk_at dksX2_bounds_3 22 rfl rfl)
theorem dX2_bounds_93 : decode cX2_bounds 93 = .ok (.istore_n 2, 1) := dk_61 (dk_at dksX2_bounds_3 23 rfl rfl)
theorem dX2_bounds_94 : decode cX2_bounds 94 = .ok (.iload_n 2, 1) := dk_28 (dk_at dksX2_bounds_4 0 rfl rfl)
theorem dX2_bounds_95 : decode cX2_bounds 95 = .ok (.iload_n 1, 1) := dk_27 (dk_at dksX2_bounds_4 1 rfl rfl)
theorem dX2_bounds_96 : decode cX2_bounds 96 = .ok (.if_icmp .gt 285, 3) := dk_163 1 29 (dk_at dksX2_bounds_4 2 rfl rfl)
theorem dX2_bounds_99 : decode cX2_bounds 99 = .ok (.aload_n 0, 1) := dk_42 (dk_at dksX2_bounds_4 5 rfl rfl)
theorem dX2_bounds_100 : decode cX2_bounds 100 = .ok (.getfield 106, 3) := dk_180 0 106 (dk_at dksX2_bounds_4 6 rfl rfl)
theorem dX2_bounds_103 : decode cX2_bounds 103 = .ok (.iload_n 2, 1) := dk_28 (dk_at dksX2_bounds_4 9 rfl rfl)
theorem dX2_bounds_104 : decode cX2_bounds 104 = .ok (.baload, 1) := dk_51 (dk_at dksX2_bounds_4 10 rfl rfl)
theorem dX2_bounds_105 : decode cX2_bounds 105 = .ok (.ifCond .ne 6, 3) := dk_154 0 6 (dk_at dksX2_bounds_4 11 rfl rfl)
theorem dX2_bounds_108 : decode cX2_bounds 108 = .ok (.goto 267, 3) := dk_167 1 11 (dk_at dksX2_bounds_4 14 rfl rfl)
theorem dX2_bounds_111 : decode cX2_bounds 111 = .ok (.aload_n 0, 1) := dk_42 (dk_at dksX2_bounds_4 17 rfl rfl)
theorem dX2_bounds_112 : decode cX2_bounds 112 = .ok (.getfield 24, 3) := dk_180 0 24 (dk_at dksX2_bounds_4 18 rfl rfl)
theorem dX2_bounds_115 : decode cX2_bounds 115 = .ok (.iload_n 2, 1) := dk_28 (dk_at dksX2_bounds_4 21 rfl rfl)
theorem dX2_bounds_116 : decode cX2_bounds 116 = .ok (.iaload, 1) := dk_46 (dk_at dksX2_bounds_4 22 rfl rfl)
theorem dX2_bounds_117 : decode cX2_bounds 117 = .ok (.iconst 1, 1) := dk_4 (dk_at dksX2_bounds_4 23 rfl rfl)
theorem dX2_bounds_118 : decode cX2_bounds 118 = .ok (.if_icmp .eq 13, 3) := dk_159 0 13 (dk_at dksX2_bounds_5 0 rfl rfl)
theorem dX2_bounds_121 : decode cX2_bounds 121 = .ok (.aload_n 0, 1) := dk_42 (dk_at dksX2_bounds_5 3 rfl rfl)
theorem dX2_bounds_122 : decode cX2_bounds 122 = .ok (.getfield 24, 3) := dk_180 0 24 (dk_at dksX2_bounds_5 4 rfl rfl)
theorem dX2_bounds_125 : decode cX2_bounds 125 = .ok (.iload_n 2, 1) := dk_28 (dk_at dksX2_bounds_5 7 rfl rfl)
theorem dX2_bounds_126 : decode cX2_bounds 126 = .ok (.iaload, 1) := dk_46 (dk_at dksX2_bounds_5 8 rfl rfl)
theorem dX2_bounds_127 : decode cX2_bounds 127 = .ok (.iconst 2, 1) := dk_5 (dk_at dksX2_bounds_5 9 rfl rfl)
theorem dX2_bounds_128 : decode cX2_bounds 128 = .ok (.if_icmp .ne 7, 3) := dk_160 0 7 (dk_at dksX2_bounds_5 10 rfl rfl)
theorem dX2_bounds_131 : decode cX2_bounds 131 = .ok (.lconst 1, 1) := dk_10 (dk_at dksX2_bounds_5 13 rfl rfl)
theorem dX2_bounds_132 : decode cX2_bounds 132 = .ok (.goto 9, 3) := dk_167 0 9 (dk_at dksX2_bounds_5 14 rfl rfl)
theorem dX2_bounds_135 : decode cX2_bounds 135 = .ok (.aload_n 0, 1) := dk_42 (dk_at dksX2_bounds_5 17 rfl rfl)
theorem dX2_bounds_136 : decode cX2_bounds 136 = .ok (.getfield 72, 3) := dk_180 0 72 (dk_at dksX2_bounds_5 18 rfl rfl)
theorem dX2_bounds_139 : decode cX2_bounds 139 = .ok (.iload_n 2, 1) := dk_28 (dk_at dksX2_bounds_5 21 rfl rfl)
theorem dX2_bounds_140 : decode cX2_bounds 140 = .ok (.laload, 1) := dk_47 (dk_at dksX2_bounds_5 22 rfl rfl)
theorem dX2_bounds_141 : decode cX2_bounds 141 = .ok (.lstore_n 3, 1) := dk_66 (dk_at dksX2_bounds_5 23 rfl rfl)
theorem dX2_bounds_142 : decode cX2_bounds 142 = .ok (.iconst 0, 1) := dk_3 (dk_at dksX2_bounds_6 0 rfl rfl)
theorem dX2_bounds_143 : decode cX2_bounds 143 = .ok (.istore 5, 2) := dk_54 5 (dk_at dksX2_bounds_6 1 rfl rfl)
theorem dX2_bounds_145 : decode cX2_bounds 145 = .ok (.iload 5, 2) := dk_21 5 (dk_at dksX2_bounds_6 3 rfl rfl)
theorem dX2_bounds_147 : decode cX2_bounds 147 = .ok (.iconst 4, 1) := dk_7 (dk_at dksX2_bounds_6 5 rfl rfl)
theorem dX2_bounds_148 : decode cX2_bounds 148 = .ok (.if_icmp .ge 90, 3) := dk_162 0 90 (dk_at dksX2_bounds_6 6 rfl rfl)
theorem dX2_bounds_151 : decode cX2_bounds 151 = .ok (.aload_n 0, 1) := dk_42 (dk_at dksX2_bounds_6 9 rfl rfl)
theorem dX2_bounds_152 : decode cX2_bounds 152 = .ok (.getfield 24, 3) := dk_180 0 24 (dk_at dksX2_bounds_6 10 rfl rfl)
theorem dX2_bounds_155 : decode cX2_bounds 155 = .ok (.iload_n 2, 1) := dk_28 (dk_at dksX2_bounds_6 13 rfl rfl)
theorem dX2_bounds_156 : decode cX2_bounds 156 = .ok (.iaload, 1) := dk_46 (dk_at dksX2_bounds_6 14 rfl rfl)
theorem dX2_bounds_157 : decode cX2_bounds 157 = .ok (.iconst 1, 1) := dk_4 (dk_at dksX2_bounds_6 15 rfl rfl)
theorem dX2_bounds_158 : decode cX2_bounds 158 = .ok (.if_icmp .eq 13, 3) := dk_159 0 13 (dk_at dksX2_bounds_6 16 rfl rfl)
theorem dX2_bounds_161 : decode cX2_bounds 161 = .ok (.aload_n 0, 1) := dk_42 (dk_at dksX2_bounds_6 19 rfl rfl)
theorem dX2_bounds_162 : decode cX2_bounds 162 = .ok (.getfield 24, 3) := dk_180 0 24 (dk_at dksX2_bounds_6 20 rfl rfl)
theorem dX2_bounds_165 : decode cX2_bounds 165 = .ok (.iload_n 2, 1) := dk_28 (dk_at dksX2_bounds_6 23 rfl rfl)
theorem dX2_bounds_166 : decode cX2_bounds 166 = .ok (.iaload, 1) := dk_46 (dk_at dksX2_bounds_7 0 rfl rfl)
theorem dX2_bounds_167 : decode cX2_bounds 167 = .ok (.iconst 2, 1) := dk_5 (dk_at dksX2_bounds_7 1 rfl rfl)
theorem dX2_bounds_168 : decode cX2_bounds 168 = .ok (.if_icmp .ne 70, 3) := dk_160 0 70 (dk_at dksX2_bounds_7 2 rfl rfl)
theorem dX2_bounds_171 : decode cX2_bounds 171 = .ok (.aload_n 0, 1) := dk_42 (dk_at dksX2_bounds_7 5 rfl rfl)
theorem dX2_bounds_172 : decode cX2_bounds 172 = .ok (.getfield 27, 3) := dk_180 0 27 (dk_at dksX2_bounds_7 6 rfl rfl)
theorem dX2_bounds_175 : decode cX2_bounds 175 = .ok (.iconst 4, 1) := dk_7 (dk_at dksX2_bounds_7 9 rfl rfl)
theorem dX2_bounds_176 : decode cX2_bounds 176 = .ok (.iload_n 2, 1) := dk_28 (dk_at dksX2_bounds_7 10 rfl rfl)
theorem dX2_bounds_177 : decode cX2_bounds 177 = .ok (.imul, 1) := dk_104 (dk_at dksX2_bounds_7 11 rfl rfl)
theorem dX2_bounds_178 : decode cX2_bounds 178 = .ok (.iload 5, 2) := dk_21 5 (dk_at dksX2_bounds_7 12 rfl rfl)
theorem dX2_bounds_180 : decode cX2_bounds 180 = .ok (.iadd, 1) := dk_96 (dk_at dksX2_bounds_7 14 rfl rfl)
theorem dX2_bounds_181 : decode cX2_bounds 181 = .ok (.iaload, 1) := dk_46 (dk_at dksX2_bounds_7 15 rfl rfl)
theorem dX2_bounds_182 : decode cX2_bounds 182 = .ok (.iconst (-1), 1) := dk_2 (dk_at dksX2_bounds_7 16 rfl rfl)
theorem dX2_bounds_183 : decode cX2_bounds 183 = .ok (.if_icmp .eq 55, 3) := dk_159 0 55 (dk_at dksX2_bounds_7 17 rfl rfl)
theorem dX2_bounds_186 : decode cX2_bounds 186 = .ok (.lload_n 3, 1) := dk_33 (dk_at dksX2_bounds_7 20 rfl rfl)
theorem dX2_bounds_187 : decode cX2_bounds 187 = .ok (.ldc2_w 252, 3) := dk_20 0 252 (dk_at dksX2_bounds_7 21 rfl rfl)
theorem dX2_bounds_190 : decode cX2_bounds 190 = .ok (.aload_n 0, 1) := dk_42 (dk_at dksX2_bounds_8 0 rfl rfl)
theorem dX2_bounds_191 : decode cX2_bounds 191 = .ok (.getfield 97, 3) := dk_180 0 97 (dk_at dksX2_bounds_8 1 rfl rfl)
theorem dX2_bounds_194 : decode cX2_bounds 194 = .ok (.aload_n 0, 1) := dk_42 (dk_at dksX2_bounds_8 4 rfl rfl)
theorem dX2_bounds_195 : decode cX2_bounds 195 = .ok (.getfield 27, 3) := dk_180 0 27 (dk_at dksX2_bounds_8 5 rfl rfl)
theorem dX2_bounds_198 : decode cX2_bounds 198 = .ok (.iconst 4, 1) := dk_7 (dk_at dksX2_bounds_8 8 rfl rfl)
theorem dX2_bounds_199 : decode cX2_bounds 199 = .ok (.iload_n 2, 1) := dk_28 (dk_at dksX2_bounds_8 9 rfl rfl)
theorem dX2_bounds_200 : decode cX2_bounds 200 = .ok (.imul, 1) := dk_104 (dk_at dksX2_bounds_8 10 rfl rfl)
theorem dX2_bounds_201 : decode cX2_bounds 201 = .ok (.iload 5, 2) := dk_21 5 (dk_at dksX2_bounds_8 11 rfl rfl)
theorem dX2_bounds_203 : decode cX2_bounds 203 = .ok (.iadd, 1) := dk_96 (dk_at dksX2_bounds_8 13 rfl rfl)
theorem dX2_bounds_204 : decode cX2_bounds 204 = .ok (.iaload, 1) := dk_46 (dk_at dksX2_bounds_8 14 rfl rfl)
theorem dX2_bounds_205 : decode cX2_bounds 205 = .ok (.laload, 1) := dk_47 (dk_at dksX2_bounds_8 15 rfl rfl)
theorem dX2_bounds_206 : decode cX2_bounds 206 = .ok (.ldiv, 1) := dk_109 (dk_at dksX2_bounds_8 16 rfl rfl)
theorem dX2_bounds_207 : decode cX2_bounds 207 = .ok (.lcmp, 1) := dk_148 (dk_at dksX2_bounds_8 17 rfl rfl)
theorem dX2_bounds_208 : decode cX2_bounds 208 = .ok (.ifCond .le 5, 3) := dk_158 0 5 (dk_at dksX2_bounds_8 18 rfl rfl)
theorem dX2_bounds_211 : decode cX2_bounds 211 = .ok (.iconst 0, 1) := dk_3 (dk_at dksX2_bounds_8 21 rfl rfl)
theorem dX2_bounds_212 : decode cX2_bounds 212 = .ok (.ireturn, 1) := dk_172 (dk_at dksX2_bounds_8 22 rfl rfl)
theorem dX2_bounds_213 : decode cX2_bounds 213 = .ok (.lload_n 3, 1) := dk_33 (dk_at dksX2_bounds_8 23 rfl rfl)
theorem dX2_bounds_214 : decode cX2_bounds 214 = .ok (.aload_n 0, 1) := dk_42 (dk_at dksX2_bounds_9 0 rfl rfl)
theorem dX2_bounds_215 : decode cX2_bounds 215 = .ok (.getfield 97, 3) := dk_180 0 97 (dk_at dksX2_bounds_9 1 rfl rfl)
theorem dX2_bounds_218 : decode cX2_bounds 218 = .ok (.aload_n 0, 1) := dk_42 (dk_at dksX2_bounds_9 4 rfl rfl)
theorem dX2_bounds_219 : decode cX2_bounds 219 = .ok (.getfield 27, 3) := dk_180 0 27 (dk_at dksX2_bounds_9 5 rfl rfl)
theorem dX2_bounds_222 : decode cX2_bounds 222 = .ok (.iconst 4, 1) := dk_7 (dk_at dksX2_bounds_9 8 rfl rfl)
theorem dX2_bounds_223 : decode cX2_bounds 223 = .ok (.iload_n 2, 1) := dk_28 (dk_at dksX2_bounds_9 9 rfl rfl)
theorem dX2_bounds_224 : decode cX2_bounds 224 = .ok (.imul, 1) := dk_104 (dk_at dksX2_bounds_9 10 rfl rfl)
theorem dX2_bounds_225 : decode cX2_bounds 225 = .ok (.iload 5, 2) := dk_21 5 (dk_at dksX2_bounds_9 11 rfl rfl)
theorem dX2_bounds_227 : decode cX2_bounds 227 = .ok (.iadd, 1) := dk_96 (dk_at dksX2_bounds_9 13 rfl rfl)
theorem dX2_bounds_228 : decode cX2_bounds 228 = .ok (.iaload, 1) := dk_46 (dk_at dksX2_bounds_9 14 rfl rfl)
theorem dX2_bounds_229 : decode cX2_bounds 229 = .ok (.laload, 1) := dk_47 (dk_at dksX2_bounds_9 15 rfl rfl)
theorem dX2_bounds_230 : decode cX2_bounds 230 = .ok (.lmul, 1) := dk_105 (dk_at dksX2_bounds_9 16 rfl rfl)
theorem dX2_bounds_231 : decode cX2_bounds 231 = .ok (.lstore_n 3, 1) := dk_66 (dk_at dksX2_bounds_9 17 rfl rfl)
theorem dX2_bounds_232 : decode cX2_bounds 232 = .ok (.iinc 5 1, 3) := dk_132 5 1 (dk_at dksX2_bounds_9 18 rfl rfl)
theorem dX2_bounds_235 : decode cX2_bounds 235 = .ok (.goto (-90), 3) := dk_167 255 166 (dk_at dksX2_bounds_9 21 rfl rfl)
theorem dX2_bounds_238 : decode cX2_bounds 238 = .ok (.aload_n 0, 1) := dk_42 (dk_at dksX2_bounds_10 0 rfl rfl)
theorem dX2_bounds_239 : decode cX2_bounds 239 = .ok (.getfield 24, 3) := dk_180 0 24 (dk_at dksX2_bounds_10 1 rfl rfl)
theorem dX2_bounds_242 : decode cX2_bounds 242 = .ok (.iload_n 2, 1) := dk_28 (dk_at dksX2_bounds_10 4 rfl rfl)
theorem dX2_bounds_243 : decode cX2_bounds 243 = .ok (.iaload, 1) := dk_46 (dk_at dksX2_bounds_10 5 rfl rfl)
theorem dX2_bounds_244 : decode cX2_bounds 244 = .ok (.iconst 2, 1) := dk_5 (dk_at dksX2_bounds_10 6 rfl rfl)
theorem dX2_bounds_245 : decode cX2_bounds 245 = .ok (.if_icmp .ne 39, 3) := dk_160 0 39 (dk_at dksX2_bounds_10 7 rfl rfl)
theorem dX2_bounds_248 : decode cX2_bounds 248 = .ok (.aload_n 0, 1) := dk_42 (dk_at dksX2_bounds_10 10 rfl rfl)
theorem dX2_bounds_249 : decode cX2_bounds 249 = .ok (.iload_n 2, 1) := dk_28 (dk_at dksX2_bounds_10 11 rfl rfl)
theorem dX2_bounds_250 : decode cX2_bounds 250 = .ok (.invokevirtual 254, 3) := dk_182 0 254 (dk_at dksX2_bounds_10 12 rfl rfl)
theorem dX2_bounds_253 : decode cX2_bounds 253 = .ok (.aload_n 0, 1) := dk_42 (dk_at dksX2_bounds_10 15 rfl rfl)
theorem dX2_bounds_254 : decode cX2_bounds 254 = .ok (.getfield 30, 3) := dk_180 0 30 (dk_at dksX2_bounds_10 16 rfl rfl)
theorem dX2_bounds_257 : decode cX2_bounds 257 = .ok (.iload_n 2, 1) := dk_28 (dk_at dksX2_bounds_10 19 rfl rfl)
theorem dX2_bounds_258 : decode cX2_bounds 258 = .ok (.iaload, 1) := dk_46 (dk_at dksX2_bounds_10 20 rfl rfl)
theorem dX2_bounds_259 : decode cX2_bounds 259 = .ok (.isub, 1) := dk_100 (dk_at dksX2_bounds_10 21 rfl rfl)
theorem dX2_bounds_260 : decode cX2_bounds 260 = .ok (.iconst 1, 1) := dk_4 (dk_at dksX2_bounds_10 22 rfl rfl)
theorem dX2_bounds_261 : decode cX2_bounds 261 = .ok (.iadd, 1) := dk_96 (dk_at dksX2_bounds_10 23 rfl rfl)
theorem dX2_bounds_262 : decode cX2_bounds 262 = .ok (.istore 5, 2) := dk_54 5 (dk_at dksX2_bounds_11 0 rfl rfl)
theorem dX2_bounds_264 : decode cX2_bounds 264 = .ok (.lload_n 3, 1) := dk_33 (dk_at dksX2_bounds_11 2 rfl rfl)
theorem dX2_bounds_265 : decode cX2_bounds 265 = .ok (.ldc2_w 252, 3) := dk_20 0 252 (dk_at dksX2_bounds_11 3 rfl rfl)
theorem dX2_bounds_268 : decode cX2_bounds 268 = .ok (.iload 5, 2) := dk_21 5 (dk_at dksX2_bounds_11 6 rfl rfl)
theorem dX2_bounds_270 : decode cX2_bounds 270 = .ok (.i2l, 1) := dk_133 (dk_at dksX2_bounds_11 8 rfl rfl)
theorem dX2_bounds_271 : decode cX2_bounds 271 = .ok (.ldiv, 1) := dk_109 (dk_at dksX2_bounds_11 9 rfl rfl)
theorem dX2_bounds_272 : decode cX2_bounds 272 = .ok (.lcmp, 1) := dk_148 (dk_at dksX2_bounds_11 10 rfl rfl)
theorem dX2_bounds_273 : decode cX2_bounds 273 = .ok (.ifCond .le 5, 3) := dk_158 0 5 (dk_at dksX2_bounds_11 11 rfl rfl)
theorem dX2_bounds_276 : decode cX2_bounds 276 = .ok (.iconst 0, 1) := dk_3 (dk_at dksX2_bounds_11 14 rfl rfl)
theorem dX2_bounds_277 : decode cX2_bounds 277 = .ok (.ireturn, 1) := dk_172 (dk_at dksX2_bounds_11 15 rfl rfl)
theorem dX2_bounds_278 : decode cX2_bounds 278 = .ok (.lload_n 3, 1) := dk_33 (dk_at dksX2_bounds_11 16 rfl rfl)
theorem dX2_bounds_279 : decode cX2_bounds 279 = .ok (.iload 5, 2) := dk_21 5 (dk_at dksX2_bounds_11 17 rfl rfl)
theorem dX2_bounds_281 : decode cX2_bounds 281 = .ok (.i2l, 1) := dk_133 (dk_at dksX2_bounds_11 19 rfl rfl)
theorem dX2_bounds_282 : decode cX2_bounds 282 = .ok (.lmul, 1) := dk_105 (dk_at dksX2_bounds_11 20 rfl rfl)
theorem dX2_bounds_283 : decode cX2_bounds 283 = .ok (.lstore_n 3, 1) := dk_66 (dk_at dksX2_bounds_11 21 rfl rfl)
theorem dX2_bounds_284 : decode cX2_bounds 284 = .ok (.lload_n 3, 1) := dk_33 (dk_at dksX2_bounds_11 22 rfl rfl)
theorem dX2_bounds_285 : decode cX2_bounds 285 = .ok (.ldc2_w 257, 3) := dk_20 1 1 (dk_at dksX2_bounds_12 0 rfl rfl)
theorem dX2_bounds_288 : decode cX2_bounds 288 = .ok (.lcmp, 1) := dk_148 (dk_at dksX2_bounds_12 3 rfl rfl)
theorem dX2_bounds_289 : decode cX2_bounds 289 = .ok (.ifCond .lt 5, 3) := dk_155 0 5 (dk_at dksX2_bounds_12 4 rfl rfl)
theorem dX2_bounds_292 : decode cX2_bounds 292 = .ok (.iconst 0, 1) := dk_3 (dk_at dksX2_bounds_12 7 rfl rfl)
theorem dX2_bounds_293 : decode cX2_bounds 293 = .ok (.ireturn, 1) := dk_172 (dk_at dksX2_bounds_12 8 rfl rfl)
theorem dX2_bounds_294 : decode cX2_bounds 294 = .ok (.aload_n 0, 1) := dk_42 (dk_at dksX2_bounds_12 9 rfl rfl)
theorem dX2_bounds_295 : decode cX2_bounds 295 = .ok (.getfield 97, 3) := dk_180 0 97 (dk_at dksX2_bounds_12 10 rfl rfl)
theorem dX2_bounds_298 : decode cX2_bounds 298 = .ok (.iload_n 2, 1) := dk_28 (dk_at dksX2_bounds_12 13 rfl rfl)
theorem dX2_bounds_299 : decode cX2_bounds 299 = .ok (.lload_n 3, 1) := dk_33 (dk_at dksX2_bounds_12 14 rfl rfl)
theorem dX2_bounds_300 : decode cX2_bounds 300 = .ok (.lastore, 1) := dk_80 (dk_at dksX2_bounds_12 15 rfl rfl)
theorem dX2_bounds_301 : decode cX2_bounds 301 = .ok (.aload_n 0, 1) := dk_42 (dk_at dksX2_bounds_12 16 rfl rfl)
theorem dX2_bounds_302 : decode cX2_bounds 302 = .ok (.getfield 24, 3) := dk_180 0 24 (dk_at dksX2_bounds_12 17 rfl rfl)
theorem dX2_bounds_305 : decode cX2_bounds 305 = .ok (.iload_n 2, 1) := dk_28 (dk_at dksX2_bounds_12 20 rfl rfl)
theorem dX2_bounds_306 : decode cX2_bounds 306 = .ok (.iaload, 1) := dk_46 (dk_at dksX2_bounds_12 21 rfl rfl)
theorem dX2_bounds_307 : decode cX2_bounds 307 = .ok (.iconst 1, 1) := dk_4 (dk_at dksX2_bounds_12 22 rfl rfl)
theorem dX2_bounds_308 : decode cX2_bounds 308 = .ok (.if_icmp .ne 11, 3) := dk_160 0 11 (dk_at dksX2_bounds_13 0 rfl rfl)
theorem dX2_bounds_311 : decode cX2_bounds 311 = .ok (.aload_n 0, 1) := dk_42 (dk_at dksX2_bounds_13 3 rfl rfl)
theorem dX2_bounds_312 : decode cX2_bounds 312 = .ok (.iload_n 2, 1) := dk_28 (dk_at dksX2_bounds_13 4 rfl rfl)
theorem dX2_bounds_313 : decode cX2_bounds 313 = .ok (.invokevirtual 259, 3) := dk_182 1 3 (dk_at dksX2_bounds_13 5 rfl rfl)
theorem dX2_bounds_316 : decode cX2_bounds 316 = .ok (.goto 59, 3) := dk_167 0 59 (dk_at dksX2_bounds_13 8 rfl rfl)
theorem dX2_bounds_319 : decode cX2_bounds 319 = .ok (.iconst 0, 1) := dk_3 (dk_at dksX2_bounds_13 11 rfl rfl)
theorem dX2_bounds_320 : decode cX2_bounds 320 = .ok (.istore 5, 2) := dk_54 5 (dk_at dksX2_bounds_13 12 rfl rfl)
theorem dX2_bounds_322 : decode cX2_bounds 322 = .ok (.iload 5, 2) := dk_21 5 (dk_at dksX2_bounds_13 14 rfl rfl)
theorem dX2_bounds_324 : decode cX2_bounds 324 = .ok (.bipush 121, 2) := dk_16 121 (dk_at dksX2_bounds_13 16 rfl rfl)
theorem dX2_bounds_326 : decode cX2_bounds 326 = .ok (.if_icmp .ge 49, 3) := dk_162 0 49 (dk_at dksX2_bounds_13 18 rfl rfl)
theorem dX2_bounds_329 : decode cX2_bounds 329 = .ok (.aload_n 0, 1) := dk_42 (dk_at dksX2_bounds_13 21 rfl rfl)
theorem dX2_bounds_330 : decode cX2_bounds 330 = .ok (.getfield 94, 3) := dk_180 0 94 (dk_at dksX2_bounds_14 0 rfl rfl)
theorem dX2_bounds_333 : decode cX2_bounds 333 = .ok (.iload_n 2, 1) := dk_28 (dk_at dksX2_bounds_14 3 rfl rfl)
theorem dX2_bounds_334 : decode cX2_bounds 334 = .ok (.iload 5, 2) := dk_21 5 (dk_at dksX2_bounds_14 4 rfl rfl)
theorem dX2_bounds_336 : decode cX2_bounds 336 = .ok (.invokestatic 173, 3) := dk_184 0 173 (dk_at dksX2_bounds_14 6 rfl rfl)
theorem dX2_bounds_339 : decode cX2_bounds 339 = .ok (.aload_n 0, 1) := dk_42 (dk_at dksX2_bounds_14 9 rfl rfl)
theorem dX2_bounds_340 : decode cX2_bounds 340 = .ok (.getfield 24, 3) := dk_180 0 24 (dk_at dksX2_bounds_14 10 rfl rfl)
theorem dX2_bounds_343 : decode cX2_bounds 343 = .ok (.iload_n 2, 1) := dk_28 (dk_at dksX2_bounds_14 13 rfl rfl)
theorem dX2_bounds_344 : decode cX2_bounds 344 = .ok (.iaload, 1) := dk_46 (dk_at dksX2_bounds_14 14 rfl rfl)
theorem dX2_bounds_345 : decode cX2_bounds 345 = .ok (.iconst 2, 1) := dk_5 (dk_at dksX2_bounds_14 15 rfl rfl)
theorem dX2_bounds_346 : decode cX2_bounds 346 = .ok (.if_icmp .ne 13, 3) := dk_160 0 13 (dk_at dksX2_bounds_14 16 rfl rfl)
theorem dX2_bounds_349 : decode cX2_bounds 349 = .ok (.aload_n 0, 1) := dk_42 (dk_at dksX2_bounds_14 19 rfl rfl)
theorem dX2_bounds_350 : decode cX2_bounds 350 = .ok (.iload_n 2, 1) := dk_28 (dk_at dksX2_bounds_14 20 rfl rfl)
theorem dX2_bounds_351 : decode cX2_bounds 351 = .ok (.iload 5, 2) := dk_21 5 (dk_at dksX2_bounds_14 21 rfl rfl)
theorem dX2_bounds_353 : decode cX2_bounds 353 = .ok (.invokevirtual 262, 3) := dk_182 1 6 (dk_at dksX2_bounds_15 0 rfl rfl)
theorem dX2_bounds_356 : decode cX2_bounds 356 = .ok (.goto 12, 3) := dk_167 0 12 (dk_at dksX2_bounds_15 3 rfl rfl)
theorem dX2_bounds_359 : decode cX2_bounds 359 = .ok (.lload_n 3, 1) := dk_33 (dk_at dksX2_bounds_15 6 rfl rfl)
theorem dX2_bounds_360 : decode cX2_bounds 360 = .ok (.aload_n 0, 1) := dk_42 (dk_at dksX2_bounds_15 7 rfl rfl)
theorem dX2_bounds_361 : decode cX2_bounds 361 = .ok (.iload_n 2, 1) := dk_28 (dk_at dksX2_bounds_15 8 rfl rfl)
theorem dX2_bounds_362 : decode cX2_bounds 362 = .ok (.iload 5, 2) := dk_21 5 (dk_at dksX2_bounds_15 9 rfl rfl)
theorem dX2_bounds_364 : decode cX2_bounds 364 = .ok (.invokevirtual 236, 3) := dk_182 0 236 (dk_at dksX2_bounds_15 11 rfl rfl)
theorem dX2_bounds_367 : decode cX2_bounds 367 = .ok (.lsub, 1) := dk_101 (dk_at dksX2_bounds_15 14 rfl rfl)
theorem dX2_bounds_368 : decode cX2_bounds 368 = .ok (.lastore, 1) := dk_80 (dk_at dksX2_bounds_15 15 rfl rfl)
theorem dX2_bounds_369 : decode cX2_bounds 369 = .ok (.iinc 5 1, 3) := dk_132 5 1 (dk_at dksX2_bounds_15 16 rfl rfl)
theorem dX2_bounds_372 : decode cX2_bounds 372 = .ok (.goto (-50), 3) := dk_167 255 206 (dk_at dksX2_bounds_15 19 rfl rfl)
theorem dX2_bounds_375 : decode cX2_bounds 375 = .ok (.iinc 2 1, 3) := dk_132 2 1 (dk_at dksX2_bounds_16 0 rfl rfl)
theorem dX2_bounds_378 : decode cX2_bounds 378 = .ok (.goto (-284), 3) := dk_167 254 228 (dk_at dksX2_bounds_16 3 rfl rfl)
theorem dX2_bounds_381 : decode cX2_bounds 381 = .ok (.iconst 1, 1) := dk_4 (dk_at dksX2_bounds_16 6 rfl rfl)
theorem dX2_bounds_382 : decode cX2_bounds 382 = .ok (.ireturn, 1) := dk_172 (dk_at dksX2_bounds_16 7 rfl rfl)
abbrev cX2_told0 : ByteArray := prog_13_method_54_code
def yX2_told0 : MethodName := ⟨RX2, "told0", "(I)I"⟩
def dkwX2_told0_1 : List UInt8 := [3, 167, 0, 4, 4, 96, 61, 132, 3, 1, 167, 255, 226, 28, 172]
abbrev dktX2_told0_1 : List UInt8 := dkwX2_told0_1 ++ []
def dkwX2_told0_0 : List UInt8 := [3, 61, 3, 62, 29, 7, 162, 0, 31, 28, 42, 180, 0, 27, 7, 27, 104, 29, 96, 46, 2, 160, 0, 7]
abbrev dktX2_told0_0 : List UInt8 := dkwX2_told0_0 ++ dktX2_told0_1
theorem dksX2_told0_0 : cX2_told0.data.toList.drop 0 = dktX2_told0_0 := by decide +kernel
theorem dksX2_told0_1 : cX2_told0.data.toList.drop 24 = dktX2_told0_1 := dk_seg dksX2_told0_0 24 rfl rfl
theorem dX2_told0_0 : decode cX2_told0 0 = .ok (.iconst 0, 1) := dk_3 (dk_at dksX2_told0_0 0 rfl rfl)
theorem dX2_told0_1 : decode cX2_told0 1 = .ok (.istore_n 2, 1) := dk_61 (dk_at dksX2_told0_0 1 rfl rfl)
theorem dX2_told0_2 : decode cX2_told0 2 = .ok (.iconst 0, 1) := dk_3 (dk_at dksX2_told0_0 2 rfl rfl)
theorem dX2_told0_3 : decode cX2_told0 3 = .ok (.istore_n 3, 1) := dk_62 (dk_at dksX2_told0_0 3 rfl rfl)
theorem dX2_told0_4 : decode cX2_told0 4 = .ok (.iload_n 3, 1) := dk_29 (dk_at dksX2_told0_0 4 rfl rfl)
theorem dX2_told0_5 : decode cX2_told0 5 = .ok (.iconst 4, 1) := dk_7 (dk_at dksX2_told0_0 5 rfl rfl)
theorem dX2_told0_6 : decode cX2_told0 6 = .ok (.if_icmp .ge 31, 3) := dk_162 0 31 (dk_at dksX2_told0_0 6 rfl rfl)
theorem dX2_told0_9 : decode cX2_told0 9 = .ok (.iload_n 2, 1) := dk_28 (dk_at dksX2_told0_0 9 rfl rfl)
theorem dX2_told0_10 : decode cX2_told0 10 = .ok (.aload_n 0, 1) := dk_42 (dk_at dksX2_told0_0 10 rfl rfl)
theorem dX2_told0_11 : decode cX2_told0 11 = .ok (.getfield 27, 3) := dk_180 0 27 (dk_at dksX2_told0_0 11 rfl rfl)
theorem dX2_told0_14 : decode cX2_told0 14 = .ok (.iconst 4, 1) := dk_7 (dk_at dksX2_told0_0 14 rfl rfl)
theorem dX2_told0_15 : decode cX2_told0 15 = .ok (.iload_n 1, 1) := dk_27 (dk_at dksX2_told0_0 15 rfl rfl)
theorem dX2_told0_16 : decode cX2_told0 16 = .ok (.imul, 1) := dk_104 (dk_at dksX2_told0_0 16 rfl rfl)
theorem dX2_told0_17 : decode cX2_told0 17 = .ok (.iload_n 3, 1) := dk_29 (dk_at dksX2_told0_0 17 rfl rfl)
theorem dX2_told0_18 : decode cX2_told0 18 = .ok (.iadd, 1) := dk_96 (dk_at dksX2_told0_0 18 rfl rfl)
theorem dX2_told0_19 : decode cX2_told0 19 = .ok (.iaload, 1) := dk_46 (dk_at dksX2_told0_0 19 rfl rfl)
theorem dX2_told0_20 : decode cX2_told0 20 = .ok (.iconst (-1), 1) := dk_2 (dk_at dksX2_told0_0 20 rfl rfl)
theorem dX2_told0_21 : decode cX2_told0 21 = .ok (.if_icmp .ne 7, 3) := dk_160 0 7 (dk_at dksX2_told0_0 21 rfl rfl)
theorem dX2_told0_24 : decode cX2_told0 24 = .ok (.iconst 0, 1) := dk_3 (dk_at dksX2_told0_1 0 rfl rfl)
theorem dX2_told0_25 : decode cX2_told0 25 = .ok (.goto 4, 3) := dk_167 0 4 (dk_at dksX2_told0_1 1 rfl rfl)
theorem dX2_told0_28 : decode cX2_told0 28 = .ok (.iconst 1, 1) := dk_4 (dk_at dksX2_told0_1 4 rfl rfl)
theorem dX2_told0_29 : decode cX2_told0 29 = .ok (.iadd, 1) := dk_96 (dk_at dksX2_told0_1 5 rfl rfl)
theorem dX2_told0_30 : decode cX2_told0 30 = .ok (.istore_n 2, 1) := dk_61 (dk_at dksX2_told0_1 6 rfl rfl)
theorem dX2_told0_31 : decode cX2_told0 31 = .ok (.iinc 3 1, 3) := dk_132 3 1 (dk_at dksX2_told0_1 7 rfl rfl)
theorem dX2_told0_34 : decode cX2_told0 34 = .ok (.goto (-30), 3) := dk_167 255 226 (dk_at dksX2_told0_1 10 rfl rfl)
theorem dX2_told0_37 : decode cX2_told0 37 = .ok (.iload_n 2, 1) := dk_28 (dk_at dksX2_told0_1 13 rfl rfl)
theorem dX2_told0_38 : decode cX2_told0 38 = .ok (.ireturn, 1) := dk_172 (dk_at dksX2_told0_1 14 rfl rfl)
abbrev cX2_boundRow : ByteArray := prog_13_method_56_code
def yX2_boundRow : MethodName := ⟨RX2, "boundRow", "(I)V"⟩
def dkwX2_boundRow_11 : List UInt8 := [167, 255, 222, 177]
abbrev dktX2_boundRow_11 : List UInt8 := dkwX2_boundRow_11 ++ []
def dkwX2_boundRow_10 : List UInt8 := [27, 28, 184, 0, 173, 42, 180, 0, 97, 27, 47, 42, 180, 0, 100, 28, 47, 184, 1, 9, 80, 132, 2, 1]
abbrev dktX2_boundRow_10 : List UInt8 := dkwX2_boundRow_10 ++ dktX2_boundRow_11
def dkwX2_boundRow_9 : List UInt8 := [132, 6, 1, 167, 255, 232, 132, 2, 1, 167, 255, 57, 3, 61, 28, 16, 121, 162, 0, 34, 42, 180, 0, 94]
abbrev dktX2_boundRow_9 : List UInt8 := dkwX2_boundRow_9 ++ dktX2_boundRow_10
def dkwX2_boundRow_8 : List UInt8 := [54, 6, 21, 6, 16, 121, 162, 0, 23, 42, 180, 0, 100, 21, 6, 42, 180, 0, 103, 21, 6, 47, 80]
abbrev dktX2_boundRow_8 : List UInt8 := dkwX2_boundRow_8 ++ dktX2_boundRow_9
def dkwX2_boundRow_7 : List UInt8 := [55, 7, 132, 9, 1, 167, 255, 210, 42, 180, 0, 103, 21, 6, 22, 7, 80, 132, 6, 1, 167, 255, 141, 3]
abbrev dktX2_boundRow_7 : List UInt8 := dkwX2_boundRow_7 ++ dktX2_boundRow_8
def dkwX2_boundRow_6 : List UInt8 := [21, 6, 21, 9, 100, 47, 42, 180, 0, 94, 29, 21, 9, 184, 0, 173, 47, 22, 4, 105, 97, 184, 1, 9]
abbrev dktX2_boundRow_6 : List UInt8 := dkwX2_boundRow_6 ++ dktX2_boundRow_7
def dkwX2_boundRow_5 : List UInt8 := [97, 55, 7, 3, 54, 9, 21, 9, 21, 6, 163, 0, 45, 28, 158, 0, 41, 22, 7, 42, 180, 0, 100]
abbrev dktX2_boundRow_5 : List UInt8 := dkwX2_boundRow_5 ++ dktX2_boundRow_6
def dkwX2_boundRow_4 : List UInt8 := [105, 167, 0, 24, 42, 180, 0, 100, 3, 47, 42, 180, 0, 94, 29, 21, 6, 184, 0, 173, 47, 22, 4, 105]
abbrev dktX2_boundRow_4 : List UInt8 := dkwX2_boundRow_4 ++ dktX2_boundRow_5
def dkwX2_boundRow_3 : List UInt8 := [21, 6, 16, 121, 162, 0, 114, 28, 154, 0, 20, 42, 180, 0, 94, 29, 21, 6, 184, 0, 173, 47, 22, 4]
abbrev dktX2_boundRow_3 : List UInt8 := dkwX2_boundRow_3 ++ dktX2_boundRow_4
def dkwX2_boundRow_2 : List UInt8 := [104, 28, 96, 46, 62, 42, 180, 0, 97, 27, 47, 42, 180, 0, 97, 29, 47, 109, 55, 4, 3, 54, 6]
abbrev dktX2_boundRow_2 : List UInt8 := dkwX2_boundRow_2 ++ dktX2_boundRow_3
def dkwX2_boundRow_1 : List UInt8 := [7, 162, 0, 200, 42, 180, 0, 27, 7, 27, 104, 28, 96, 46, 2, 159, 0, 186, 42, 180, 0, 27, 7, 27]
abbrev dktX2_boundRow_1 : List UInt8 := dkwX2_boundRow_1 ++ dktX2_boundRow_2
def dkwX2_boundRow_0 : List UInt8 := [3, 61, 28, 16, 121, 162, 0, 16, 42, 180, 0, 100, 28, 9, 80, 132, 2, 1, 167, 255, 240, 3, 61, 28]
abbrev dktX2_boundRow_0 : List UInt8 := dkwX2_boundRow_0 ++ dktX2_boundRow_1
theorem dksX2_boundRow_0 : cX2_boundRow.data.toList.drop 0 = dktX2_boundRow_0 := by decide +kernel
theorem dksX2_boundRow_1 : cX2_boundRow.data.toList.drop 24 = dktX2_boundRow_1 := dk_seg dksX2_boundRow_0 24 rfl rfl
theorem dksX2_boundRow_2 : cX2_boundRow.data.toList.drop 48 = dktX2_boundRow_2 := dk_seg dksX2_boundRow_1 24 rfl rfl
theorem dksX2_boundRow_3 : cX2_boundRow.data.toList.drop 71 = dktX2_boundRow_3 := dk_seg dksX2_boundRow_2 23 rfl rfl
theorem dksX2_boundRow_4 : cX2_boundRow.data.toList.drop 95 = dktX2_boundRow_4 := dk_seg dksX2_boundRow_3 24 rfl rfl
theorem dksX2_boundRow_5 : cX2_boundRow.data.toList.drop 119 = dktX2_boundRow_5 := dk_seg dksX2_boundRow_4 24 rfl rfl
theorem dksX2_boundRow_6 : cX2_boundRow.data.toList.drop 142 = dktX2_boundRow_6 := dk_seg dksX2_boundRow_5 23 rfl rfl
theorem dksX2_boundRow_7 : cX2_boundRow.data.toList.drop 166 = dktX2_boundRow_7 := dk_seg dksX2_boundRow_6 24 rfl rfl
theorem dksX2_boundRow_8 : cX2_boundRow.data.toList.drop 190 = dktX2_boundRow_8 := dk_seg dksX2_boundRow_7 24 rfl rfl
theorem dksX2_boundRow_9 : cX2_boundRow.data.toList.drop 213 = dktX2_boundRow_9 := dk_seg dksX2_boundRow_8 23 rfl rfl
theorem dksX2_boundRow_10 : cX2_boundRow.data.toList.drop 237 = dktX2_boundRow_10 := dk_seg dksX2_boundRow_9 24 rfl rfl
theorem dksX2_boundRow_11 : cX2_boundRow.data.toList.drop 261 = dktX2_boundRow_11 := dk_seg dksX2_boundRow_10 24 rfl rfl
theorem dX2_boundRow_0 : decode cX2_boundRow 0 = .ok (.iconst 0, 1) := dk_3 (dk_at dksX2_boundRow_0 0 rfl rfl)
theorem dX2_boundRow_1 : decode cX2_boundRow 1 = .ok (.istore_n 2, 1) := dk_61 (dk_at dksX2_boundRow_0 1 rfl rfl)
theorem dX2_boundRow_2 : decode cX2_boundRow 2 = .ok (.iload_n 2, 1) := dk_28 (dk_at dksX2_boundRow_0 2 rfl rfl)
theorem dX2_boundRow_3 : decode cX2_boundRow 3 = .ok (.bipush 121, 2) := dk_16 121 (dk_at dksX2_boundRow_0 3 rfl rfl)
theorem dX2_boundRow_5 : decode cX2_boundRow 5 = .ok (.if_icmp .ge 16, 3) := dk_162 0 16 (dk_at dksX2_boundRow_0 5 rfl rfl)
theorem dX2_boundRow_8 : decode cX2_boundRow 8 = .ok (.aload_n 0, 1) := dk_42 (dk_at dksX2_boundRow_0 8 rfl rfl)
theorem dX2_boundRow_9 : decode cX2_boundRow 9 = .ok (.getfield 100, 3) := dk_180 0 100 (dk_at dksX2_boundRow_0 9 rfl rfl)
theorem dX2_boundRow_12 : decode cX2_boundRow 12 = .ok (.iload_n 2, 1) := dk_28 (dk_at dksX2_boundRow_0 12 rfl rfl)
theorem dX2_boundRow_13 : decode cX2_boundRow 13 = .ok (.lconst 0, 1) := dk_9 (dk_at dksX2_boundRow_0 13 rfl rfl)
theorem dX2_boundRow_14 : decode cX2_boundRow 14 = .ok (.lastore, 1) := dk_80 (dk_at dksX2_boundRow_0 14 rfl rfl)
theorem dX2_boundRow_15 : decode cX2_boundRow 15 = .ok (.iinc 2 1, 3) := dk_132 2 1 (dk_at dksX2_boundRow_0 15 rfl rfl)
theorem dX2_boundRow_18 : decode cX2_boundRow 18 = .ok (.goto (-16), 3) := dk_167 255 240 (dk_at dksX2_boundRow_0 18 rfl rfl)
theorem dX2_boundRow_21 : decode cX2_boundRow 21 = .ok (.iconst 0, 1) := dk_3 (dk_at dksX2_boundRow_0 21 rfl rfl)
theorem dX2_boundRow_22 : decode cX2_boundRow 22 = .ok (.istore_n 2, 1) := dk_61 (dk_at dksX2_boundRow_0 22 rfl rfl)
theorem dX2_boundRow_23 : decode cX2_boundRow 23 = .ok (.iload_n 2, 1) := dk_28 (dk_at dksX2_boundRow_0 23 rfl rfl)
theorem dX2_boundRow_24 : decode cX2_boundRow 24 = .ok (.iconst 4, 1) := dk_7 (dk_at dksX2_boundRow_1 0 rfl rfl)
theorem dX2_boundRow_25 : decode cX2_boundRow 25 = .ok (.if_icmp .ge 200, 3) := dk_162 0 200 (dk_at dksX2_boundRow_1 1 rfl rfl)
theorem dX2_boundRow_28 : decode cX2_boundRow 28 = .ok (.aload_n 0, 1) := dk_42 (dk_at dksX2_boundRow_1 4 rfl rfl)
theorem dX2_boundRow_29 : decode cX2_boundRow 29 = .ok (.getfield 27, 3) := dk_180 0 27 (dk_at dksX2_boundRow_1 5 rfl rfl)
theorem dX2_boundRow_32 : decode cX2_boundRow 32 = .ok (.iconst 4, 1) := dk_7 (dk_at dksX2_boundRow_1 8 rfl rfl)
theorem dX2_boundRow_33 : decode cX2_boundRow 33 = .ok (.iload_n 1, 1) := dk_27 (dk_at dksX2_boundRow_1 9 rfl rfl)
theorem dX2_boundRow_34 : decode cX2_boundRow 34 = .ok (.imul, 1) := dk_104 (dk_at dksX2_boundRow_1 10 rfl rfl)
theorem dX2_boundRow_35 : decode cX2_boundRow 35 = .ok (.iload_n 2, 1) := dk_28 (dk_at dksX2_boundRow_1 11 rfl rfl)
theorem dX2_boundRow_36 : decode cX2_boundRow 36 = .ok (.iadd, 1) := dk_96 (dk_at dksX2_boundRow_1 12 rfl rfl)
theorem dX2_boundRow_37 : decode cX2_boundRow 37 = .ok (.iaload, 1) := dk_46 (dk_at dksX2_boundRow_1 13 rfl rfl)
theorem dX2_boundRow_38 : decode cX2_boundRow 38 = .ok (.iconst (-1), 1) := dk_2 (dk_at dksX2_boundRow_1 14 rfl rfl)
theorem dX2_boundRow_39 : decode cX2_boundRow 39 = .ok (.if_icmp .eq 186, 3) := dk_159 0 186 (dk_at dksX2_boundRow_1 15 rfl rfl)
theorem dX2_boundRow_42 : decode cX2_boundRow 42 = .ok (.aload_n 0, 1) := dk_42 (dk_at dksX2_boundRow_1 18 rfl rfl)
theorem dX2_boundRow_43 : decode cX2_boundRow 43 = .ok (.getfield 27, 3) := dk_180 0 27 (dk_at dksX2_boundRow_1 19 rfl rfl)
theorem dX2_boundRow_46 : decode cX2_boundRow 46 = .ok (.iconst 4, 1) := dk_7 (dk_at dksX2_boundRow_1 22 rfl rfl)
theorem dX2_boundRow_47 : decode cX2_boundRow 47 = .ok (.iload_n 1, 1) := dk_27 (dk_at dksX2_boundRow_1 23 rfl rfl)
theorem dX2_boundRow_48 : decode cX2_boundRow 48 = .ok (.imul, 1) := dk_104 (dk_at dksX2_boundRow_2 0 rfl rfl)
theorem dX2_boundRow_49 : decode cX2_boundRow 49 = .ok (.iload_n 2, 1) := dk_28 (dk_at dksX2_boundRow_2 1 rfl rfl)
theorem dX2_boundRow_50 : decode cX2_boundRow 50 = .ok (.iadd, 1) := dk_96 (dk_at dksX2_boundRow_2 2 rfl rfl)
theorem dX2_boundRow_51 : decode cX2_boundRow 51 = .ok (.iaload, 1) := dk_46 (dk_at dksX2_boundRow_2 3 rfl rfl)
theorem dX2_boundRow_52 : decode cX2_boundRow 52 = .ok (.istore_n 3, 1) := dk_62 (dk_at dksX2_boundRow_2 4 rfl rfl)
theorem dX2_boundRow_53 : decode cX2_boundRow 53 = .ok (.aload_n 0, 1) := dk_42 (dk_at dksX2_boundRow_2 5 rfl rfl)
theorem dX2_boundRow_54 : decode cX2_boundRow 54 = .ok (.getfield 97, 3) := dk_180 0 97 (dk_at dksX2_boundRow_2 6 rfl rfl)
theorem dX2_boundRow_57 : decode cX2_boundRow 57 = .ok (.iload_n 1, 1) := dk_27 (dk_at dksX2_boundRow_2 9 rfl rfl)
theorem dX2_boundRow_58 : decode cX2_boundRow 58 = .ok (.laload, 1) := dk_47 (dk_at dksX2_boundRow_2 10 rfl rfl)
theorem dX2_boundRow_59 : decode cX2_boundRow 59 = .ok (.aload_n 0, 1) := dk_42 (dk_at dksX2_boundRow_2 11 rfl rfl)
theorem dX2_boundRow_60 : decode cX2_boundRow 60 = .ok (.getfield 97, 3) := dk_180 0 97 (dk_at dksX2_boundRow_2 12 rfl rfl)
theorem dX2_boundRow_63 : decode cX2_boundRow 63 = .ok (.iload_n 3, 1) := dk_29 (dk_at dksX2_boundRow_2 15 rfl rfl)
theorem dX2_boundRow_64 : decode cX2_boundRow 64 = .ok (.laload, 1) := dk_47 (dk_at dksX2_boundRow_2 16 rfl rfl)
theorem dX2_boundRow_65 : decode cX2_boundRow 65 = .ok (.ldiv, 1) := dk_109 (dk_at dksX2_boundRow_2 17 rfl rfl)
theorem dX2_boundRow_66 : decode cX2_boundRow 66 = .ok (.lstore 4, 2) := dk_55 4 (dk_at dksX2_boundRow_2 18 rfl rfl)
theorem dX2_boundRow_68 : decode cX2_boundRow 68 = .ok (.iconst 0, 1) := dk_3 (dk_at dksX2_boundRow_2 20 rfl rfl)
theorem dX2_boundRow_69 : decode cX2_boundRow 69 = .ok (.istore 6, 2) := dk_54 6 (dk_at dksX2_boundRow_2 21 rfl rfl)
theorem dX2_boundRow_71 : decode cX2_boundRow 71 = .ok (.iload 6, 2) := dk_21 6 (dk_at dksX2_boundRow_3 0 rfl rfl)
theorem dX2_boundRow_73 : decode cX2_boundRow 73 = .ok (.bipush 121, 2) := dk_16 121 (dk_at dksX2_boundRow_3 2 rfl rfl)
theorem dX2_boundRow_75 : decode cX2_boundRow 75 = .ok (.if_icmp .ge 114, 3) := dk_162 0 114 (dk_at dksX2_boundRow_3 4 rfl rfl)
theorem dX2_boundRow_78 : decode cX2_boundRow 78 = .ok (.iload_n 2, 1) := dk_28 (dk_at dksX2_boundRow_3 7 rfl rfl)
theorem dX2_boundRow_79 : decode cX2_boundRow 79 = .ok (.ifCond .ne 20, 3) := dk_154 0 20 (dk_at dksX2_boundRow_3 8 rfl rfl)
theorem dX2_boundRow_82 : decode cX2_boundRow 82 = .ok (.aload_n 0, 1) := dk_42 (dk_at dksX2_boundRow_3 11 rfl rfl)
theorem dX2_boundRow_83 : decode cX2_boundRow 83 = .ok (.getfield 94, 3) := dk_180 0 94 (dk_at dksX2_boundRow_3 12 rfl rfl)
theorem dX2_boundRow_86 : decode cX2_boundRow 86 = .ok (.iload_n 3, 1) := dk_29 (dk_at dksX2_boundRow_3 15 rfl rfl)
theorem dX2_boundRow_87 : decode cX2_boundRow 87 = .ok (.iload 6, 2) := dk_21 6 (dk_at dksX2_boundRow_3 16 rfl rfl)
theorem dX2_boundRow_89 : decode cX2_boundRow 89 = .ok (.invokestatic 173, 3) := dk_184 0 173 (dk_at dksX2_boundRow_3 18 rfl rfl)
theorem dX2_boundRow_92 : decode cX2_boundRow 92 = .ok (.laload, 1) := dk_47 (dk_at dksX2_boundRow_3 21 rfl rfl)
theorem dX2_boundRow_93 : decode cX2_boundRow 93 = .ok (.lload 4, 2) := dk_22 4 (dk_at dksX2_boundRow_3 22 rfl rfl)
theorem dX2_boundRow_95 : decode cX2_boundRow 95 = .ok (.lmul, 1) := dk_105 (dk_at dksX2_boundRow_4 0 rfl rfl)
theorem dX2_boundRow_96 : decode cX2_boundRow 96 = .ok (.goto 24, 3) := dk_167 0 24 (dk_at dksX2_boundRow_4 1 rfl rfl)
theorem dX2_boundRow_99 : decode cX2_boundRow 99 = .ok (.aload_n 0, 1) := dk_42 (dk_at dksX2_boundRow_4 4 rfl rfl)
theorem dX2_boundRow_100 : decode cX2_boundRow 100 = .ok (.getfield 100, 3) := dk_180 0 100 (dk_at dksX2_boundRow_4 5 rfl rfl)
theorem dX2_boundRow_103 : decode cX2_boundRow 103 = .ok (.iconst 0, 1) := dk_3 (dk_at dksX2_boundRow_4 8 rfl rfl)
theorem dX2_boundRow_104 : decode cX2_boundRow 104 = .ok (.laload, 1) := dk_47 (dk_at dksX2_boundRow_4 9 rfl rfl)
theorem dX2_boundRow_105 : decode cX2_boundRow 105 = .ok (.aload_n 0, 1) := dk_42 (dk_at dksX2_boundRow_4 10 rfl rfl)
theorem dX2_boundRow_106 : decode cX2_boundRow 106 = .ok (.getfield 94, 3) := dk_180 0 94 (dk_at dksX2_boundRow_4 11 rfl rfl)
theorem dX2_boundRow_109 : decode cX2_boundRow 109 = .ok (.iload_n 3, 1) := dk_29 (dk_at dksX2_boundRow_4 14 rfl rfl)
theorem dX2_boundRow_110 : decode cX2_boundRow 110 = .ok (.iload 6, 2) := dk_21 6 (dk_at dksX2_boundRow_4 15 rfl rfl)
theorem dX2_boundRow_112 : decode cX2_boundRow 112 = .ok (.invokestatic 173, 3) := dk_184 0 173 (dk_at dksX2_boundRow_4 17 rfl rfl)
theorem dX2_boundRow_115 : decode cX2_boundRow 115 = .ok (.laload, 1) := dk_47 (dk_at dksX2_boundRow_4 20 rfl rfl)
theorem dX2_boundRow_116 : decode cX2_boundRow 116 = .ok (.lload 4, 2) := dk_22 4 (dk_at dksX2_boundRow_4 21 rfl rfl)
theorem dX2_boundRow_118 : decode cX2_boundRow 118 = .ok (.lmul, 1) := dk_105 (dk_at dksX2_boundRow_4 23 rfl rfl)
theorem dX2_boundRow_119 : decode cX2_boundRow 119 = .ok (.ladd, 1) := dk_97 (dk_at dksX2_boundRow_5 0 rfl rfl)
theorem dX2_boundRow_120 : decode cX2_boundRow 120 = .ok (.lstore 7, 2) := dk_55 7 (dk_at dksX2_boundRow_5 1 rfl rfl)
theorem dX2_boundRow_122 : decode cX2_boundRow 122 = .ok (.iconst 0, 1) := dk_3 (dk_at dksX2_boundRow_5 3 rfl rfl)
theorem dX2_boundRow_123 : decode cX2_boundRow 123 = .ok (.istore 9, 2) := dk_54 9 (dk_at dksX2_boundRow_5 4 rfl rfl)
theorem dX2_boundRow_125 : decode cX2_boundRow 125 = .ok (.iload 9, 2) := dk_21 9 (dk_at dksX2_boundRow_5 6 rfl rfl)
theorem dX2_boundRow_127 : decode cX2_boundRow 127 = .ok (.iload 6, 2) := dk_21 6 (dk_at dksX2_boundRow_5 8 rfl rfl)
theorem dX2_boundRow_129 : decode cX2_boundRow 129 = .ok (.if_icmp .gt 45, 3) := dk_163 0 45 (dk_at dksX2_boundRow_5 10 rfl rfl)
theorem dX2_boundRow_132 : decode cX2_boundRow 132 = .ok (.iload_n 2, 1) := dk_28 (dk_at dksX2_boundRow_5 13 rfl rfl)
theorem dX2_boundRow_133 : decode cX2_boundRow 133 = .ok (.ifCond .le 41, 3) := dk_158 0 41 (dk_at dksX2_boundRow_5 14 rfl rfl)
theorem dX2_boundRow_136 : decode cX2_boundRow 136 = .ok (.lload 7, 2) := dk_22 7 (dk_at dksX2_boundRow_5 17 rfl rfl)
theorem dX2_boundRow_138 : decode cX2_boundRow 138 = .ok (.aload_n 0, 1) := dk_42 (dk_at dksX2_boundRow_5 19 rfl rfl)
theorem dX2_boundRow_139 : decode cX2_boundRow 139 = .ok (.getfield 100, 3) := dk_180 0 100 (dk_at dksX2_boundRow_5 20 rfl rfl)
theorem dX2_boundRow_142 : decode cX2_boundRow 142 = .ok (.iload 6, 2) := dk_21 6 (dk_at dksX2_boundRow_6 0 rfl rfl)
theorem dX2_boundRow_144 : decode cX2_boundRow 144 = .ok (.iload 9, 2) := dk_21 9 (dk_at dksX2_boundRow_6 2 rfl rfl)
theorem dX2_boundRow_146 : decode cX2_boundRow 146 = .ok (.isub, 1) := dk_100 (dk_at dksX2_boundRow_6 4 rfl rfl)
theorem dX2_boundRow_147 : decode cX2_boundRow 147 = .ok (.laload, 1) := dk_47 (dk_at dksX2_boundRow_6 5 rfl rfl)
theorem dX2_boundRow_148 : decode cX2_boundRow 148 = .ok (.aload_n 0, 1) := dk_42 (dk_at dksX2_boundRow_6 6 rfl rfl)
theorem dX2_boundRow_149 : decode cX2_boundRow 149 = .ok (.getfield 94, 3) := dk_180 0 94 (dk_at dksX2_boundRow_6 7 rfl rfl)
theorem dX2_boundRow_152 : decode cX2_boundRow 152 = .ok (.iload_n 3, 1) := dk_29 (dk_at dksX2_boundRow_6 10 rfl rfl)
theorem dX2_boundRow_153 : decode cX2_boundRow 153 = .ok (.iload 9, 2) := dk_21 9 (dk_at dksX2_boundRow_6 11 rfl rfl)
theorem dX2_boundRow_155 : decode cX2_boundRow 155 = .ok (.invokestatic 173, 3) := dk_184 0 173 (dk_at dksX2_boundRow_6 13 rfl rfl)
theorem dX2_boundRow_158 : decode cX2_boundRow 158 = .ok (.laload, 1) := dk_47 (dk_at dksX2_boundRow_6 16 rfl rfl)
theorem dX2_boundRow_159 : decode cX2_boundRow 159 = .ok (.lload 4, 2) := dk_22 4 (dk_at dksX2_boundRow_6 17 rfl rfl)
theorem dX2_boundRow_161 : decode cX2_boundRow 161 = .ok (.lmul, 1) := dk_105 (dk_at dksX2_boundRow_6 19 rfl rfl)
theorem dX2_boundRow_162 : decode cX2_boundRow 162 = .ok (.ladd, 1) := dk_97 (dk_at dksX2_boundRow_6 20 rfl rfl)
theorem dX2_boundRow_163 : decode cX2_boundRow 163 = .ok (.invokestatic 265, 3) := dk_184 1 9 (dk_at dksX2_boundRow_6 21 rfl rfl)
theorem dX2_boundRow_166 : decode cX2_boundRow 166 = .ok (.lstore 7, 2) := dk_55 7 (dk_at dksX2_boundRow_7 0 rfl rfl)
theorem dX2_boundRow_168 : decode cX2_boundRow 168 = .ok (.iinc 9 1, 3) := dk_132 9 1 (dk_at dksX2_boundRow_7 2 rfl rfl)
theorem dX2_boundRow_171 : decode cX2_boundRow 171 = .ok (.goto (-46), 3) := dk_167 255 210 (dk_at dksX2_boundRow_7 5 rfl rfl)
theorem dX2_boundRow_174 : decode cX2_boundRow 174 = .ok (.aload_n 0, 1) := dk_42 (dk_at dksX2_boundRow_7 8 rfl rfl)
theorem dX2_boundRow_175 : decode cX2_boundRow 175 = .ok (.getfield 103, 3) := dk_180 0 103 (dk_at dksX2_boundRow_7 9 rfl rfl)
theorem dX2_boundRow_178 : decode cX2_boundRow 178 = .ok (.iload 6, 2) := dk_21 6 (dk_at dksX2_boundRow_7 12 rfl rfl)
theorem dX2_boundRow_180 : decode cX2_boundRow 180 = .ok (.lload 7, 2) := dk_22 7 (dk_at dksX2_boundRow_7 14 rfl rfl)
theorem dX2_boundRow_182 : decode cX2_boundRow 182 = .ok (.lastore, 1) := dk_80 (dk_at dksX2_boundRow_7 16 rfl rfl)
theorem dX2_boundRow_183 : decode cX2_boundRow 183 = .ok (.iinc 6 1, 3) := dk_132 6 1 (dk_at dksX2_boundRow_7 17 rfl rfl)
theorem dX2_boundRow_186 : decode cX2_boundRow 186 = .ok (.goto (-115), 3) := dk_167 255 141 (dk_at dksX2_boundRow_7 20 rfl rfl)
theorem dX2_boundRow_189 : decode cX2_boundRow 189 = .ok (.iconst 0, 1) := dk_3 (dk_at dksX2_boundRow_7 23 rfl rfl)
theorem dX2_boundRow_190 : decode cX2_boundRow 190 = .ok (.istore 6, 2) := dk_54 6 (dk_at dksX2_boundRow_8 0 rfl rfl)
theorem dX2_boundRow_192 : decode cX2_boundRow 192 = .ok (.iload 6, 2) := dk_21 6 (dk_at dksX2_boundRow_8 2 rfl rfl)
theorem dX2_boundRow_194 : decode cX2_boundRow 194 = .ok (.bipush 121, 2) := dk_16 121 (dk_at dksX2_boundRow_8 4 rfl rfl)
theorem dX2_boundRow_196 : decode cX2_boundRow 196 = .ok (.if_icmp .ge 23, 3) := dk_162 0 23 (dk_at dksX2_boundRow_8 6 rfl rfl)
theorem dX2_boundRow_199 : decode cX2_boundRow 199 = .ok (.aload_n 0, 1) := dk_42 (dk_at dksX2_boundRow_8 9 rfl rfl)
theorem dX2_boundRow_200 : decode cX2_boundRow 200 = .ok (.getfield 100, 3) := dk_180 0 100 (dk_at dksX2_boundRow_8 10 rfl rfl)
theorem dX2_boundRow_203 : decode cX2_boundRow 203 = .ok (.iload 6, 2) := dk_21 6 (dk_at dksX2_boundRow_8 13 rfl rfl)
theorem dX2_boundRow_205 : decode cX2_boundRow 205 = .ok (.aload_n 0, 1) := dk_42 (dk_at dksX2_boundRow_8 15 rfl rfl)
theorem dX2_boundRow_206 : decode cX2_boundRow 206 = .ok (.getfield 103, 3) := dk_180 0 103 (dk_at dksX2_boundRow_8 16 rfl rfl)
theorem dX2_boundRow_209 : decode cX2_boundRow 209 = .ok (.iload 6, 2) := dk_21 6 (dk_at dksX2_boundRow_8 19 rfl rfl)
theorem dX2_boundRow_211 : decode cX2_boundRow 211 = .ok (.laload, 1) := dk_47 (dk_at dksX2_boundRow_8 21 rfl rfl)
theorem dX2_boundRow_212 : decode cX2_boundRow 212 = .ok (.lastore, 1) := dk_80 (dk_at dksX2_boundRow_8 22 rfl rfl)
theorem dX2_boundRow_213 : decode cX2_boundRow 213 = .ok (.iinc 6 1, 3) := dk_132 6 1 (dk_at dksX2_boundRow_9 0 rfl rfl)
theorem dX2_boundRow_216 : decode cX2_boundRow 216 = .ok (.goto (-24), 3) := dk_167 255 232 (dk_at dksX2_boundRow_9 3 rfl rfl)
theorem dX2_boundRow_219 : decode cX2_boundRow 219 = .ok (.iinc 2 1, 3) := dk_132 2 1 (dk_at dksX2_boundRow_9 6 rfl rfl)
theorem dX2_boundRow_222 : decode cX2_boundRow 222 = .ok (.goto (-199), 3) := dk_167 255 57 (dk_at dksX2_boundRow_9 9 rfl rfl)
theorem dX2_boundRow_225 : decode cX2_boundRow 225 = .ok (.iconst 0, 1) := dk_3 (dk_at dksX2_boundRow_9 12 rfl rfl)
theorem dX2_boundRow_226 : decode cX2_boundRow 226 = .ok (.istore_n 2, 1) := dk_61 (dk_at dksX2_boundRow_9 13 rfl rfl)
theorem dX2_boundRow_227 : decode cX2_boundRow 227 = .ok (.iload_n 2, 1) := dk_28 (dk_at dksX2_boundRow_9 14 rfl rfl)
theorem dX2_boundRow_228 : decode cX2_boundRow 228 = .ok (.bipush 121, 2) := dk_16 121 (dk_at dksX2_boundRow_9 15 rfl rfl)
theorem dX2_boundRow_230 : decode cX2_boundRow 230 = .ok (.if_icmp .ge 34, 3) := dk_162 0 34 (dk_at dksX2_boundRow_9 17 rfl rfl)
theorem dX2_boundRow_233 : decode cX2_boundRow 233 = .ok (.aload_n 0, 1) := dk_42 (dk_at dksX2_boundRow_9 20 rfl rfl)
theorem dX2_boundRow_234 : decode cX2_boundRow 234 = .ok (.getfield 94, 3) := dk_180 0 94 (dk_at dksX2_boundRow_9 21 rfl rfl)
theorem dX2_boundRow_237 : decode cX2_boundRow 237 = .ok (.iload_n 1, 1) := dk_27 (dk_at dksX2_boundRow_10 0 rfl rfl)
theorem dX2_boundRow_238 : decode cX2_boundRow 238 = .ok (.iload_n 2, 1) := dk_28 (dk_at dksX2_boundRow_10 1 rfl rfl)
theorem dX2_boundRow_239 : decode cX2_boundRow 239 = .ok (.invokestatic 173, 3) := dk_184 0 173 (dk_at dksX2_boundRow_10 2 rfl rfl)
theorem dX2_boundRow_242 : decode cX2_boundRow 242 = .ok (.aload_n 0, 1) := dk_42 (dk_at dksX2_boundRow_10 5 rfl rfl)
theorem dX2_boundRow_243 : decode cX2_boundRow 243 = .ok (.getfield 97, 3) := dk_180 0 97 (dk_at dksX2_boundRow_10 6 rfl rfl)
theorem dX2_boundRow_246 : decode cX2_boundRow 246 = .ok (.iload_n 1, 1) := dk_27 (dk_at dksX2_boundRow_10 9 rfl rfl)
theorem dX2_boundRow_247 : decode cX2_boundRow 247 = .ok (.laload, 1) := dk_47 (dk_at dksX2_boundRow_10 10 rfl rfl)
theorem dX2_boundRow_248 : decode cX2_boundRow 248 = .ok (.aload_n 0, 1) := dk_42 (dk_at dksX2_boundRow_10 11 rfl rfl)
theorem dX2_boundRow_249 : decode cX2_boundRow 249 = .ok (.getfield 100, 3) := dk_180 0 100 (dk_at dksX2_boundRow_10 12 rfl rfl)
theorem dX2_boundRow_252 : decode cX2_boundRow 252 = .ok (.iload_n 2, 1) := dk_28 (dk_at dksX2_boundRow_10 15 rfl rfl)
theorem dX2_boundRow_253 : decode cX2_boundRow 253 = .ok (.laload, 1) := dk_47 (dk_at dksX2_boundRow_10 16 rfl rfl)
theorem dX2_boundRow_254 : decode cX2_boundRow 254 = .ok (.invokestatic 265, 3) := dk_184 1 9 (dk_at dksX2_boundRow_10 17 rfl rfl)
theorem dX2_boundRow_257 : decode cX2_boundRow 257 = .ok (.lastore, 1) := dk_80 (dk_at dksX2_boundRow_10 20 rfl rfl)
theorem dX2_boundRow_258 : decode cX2_boundRow 258 = .ok (.iinc 2 1, 3) := dk_132 2 1 (dk_at dksX2_boundRow_10 21 rfl rfl)
theorem dX2_boundRow_261 : decode cX2_boundRow 261 = .ok (.goto (-34), 3) := dk_167 255 222 (dk_at dksX2_boundRow_11 0 rfl rfl)
theorem dX2_boundRow_264 : decode cX2_boundRow 264 = .ok (.return_, 1) := dk_177 (dk_at dksX2_boundRow_11 3 rfl rfl)
abbrev cX2_boundFan : ByteArray := prog_13_method_55_code
def yX2_boundFan : MethodName := ⟨RX2, "boundFan", "(II)J"⟩
def dkwX2_boundFan_4 : List UInt8 := [97, 55, 7, 132, 9, 1, 167, 255, 187, 42, 180, 0, 97, 27, 47, 22, 7, 184, 1, 9, 173]
abbrev dktX2_boundFan_4 : List UInt8 := dkwX2_boundFan_4 ++ []
def dkwX2_boundFan_3 : List UInt8 := [184, 0, 173, 47, 22, 5, 42, 180, 0, 97, 42, 180, 0, 27, 7, 27, 104, 21, 9, 96, 46, 47, 109, 105]
abbrev dktX2_boundFan_3 : List UInt8 := dkwX2_boundFan_3 ++ dktX2_boundFan_4
def dkwX2_boundFan_2 : List UInt8 := [46, 2, 159, 0, 54, 22, 7, 42, 180, 0, 94, 42, 180, 0, 27, 7, 27, 104, 21, 9, 96, 46, 28]
abbrev dktX2_boundFan_2 : List UInt8 := dkwX2_boundFan_2 ++ dktX2_boundFan_3
def dkwX2_boundFan_1 : List UInt8 := [55, 5, 9, 55, 7, 3, 54, 9, 21, 9, 7, 162, 0, 69, 42, 180, 0, 27, 7, 27, 104, 21, 9, 96]
abbrev dktX2_boundFan_1 : List UInt8 := dkwX2_boundFan_1 ++ dktX2_boundFan_2
def dkwX2_boundFan_0 : List UInt8 := [42, 27, 182, 0, 254, 42, 180, 0, 30, 27, 46, 100, 4, 96, 133, 66, 42, 180, 0, 97, 27, 47, 33, 109]
abbrev dktX2_boundFan_0 : List UInt8 := dkwX2_boundFan_0 ++ dktX2_boundFan_1
theorem dksX2_boundFan_0 : cX2_boundFan.data.toList.drop 0 = dktX2_boundFan_0 := by decide +kernel
theorem dksX2_boundFan_1 : cX2_boundFan.data.toList.drop 24 = dktX2_boundFan_1 := dk_seg dksX2_boundFan_0 24 rfl rfl
theorem dksX2_boundFan_2 : cX2_boundFan.data.toList.drop 48 = dktX2_boundFan_2 := dk_seg dksX2_boundFan_1 24 rfl rfl
theorem dksX2_boundFan_3 : cX2_boundFan.data.toList.drop 71 = dktX2_boundFan_3 := dk_seg dksX2_boundFan_2 23 rfl rfl
theorem dksX2_boundFan_4 : cX2_boundFan.data.toList.drop 95 = dktX2_boundFan_4 := dk_seg dksX2_boundFan_3 24 rfl rfl
theorem dX2_boundFan_0 : decode cX2_boundFan 0 = .ok (.aload_n 0, 1) := dk_42 (dk_at dksX2_boundFan_0 0 rfl rfl)
theorem dX2_boundFan_1 : decode cX2_boundFan 1 = .ok (.iload_n 1, 1) := dk_27 (dk_at dksX2_boundFan_0 1 rfl rfl)
theorem dX2_boundFan_2 : decode cX2_boundFan 2 = .ok (.invokevirtual 254, 3) := dk_182 0 254 (dk_at dksX2_boundFan_0 2 rfl rfl)
theorem dX2_boundFan_5 : decode cX2_boundFan 5 = .ok (.aload_n 0, 1) := dk_42 (dk_at dksX2_boundFan_0 5 rfl rfl)
theorem dX2_boundFan_6 : decode cX2_boundFan 6 = .ok (.getfield 30, 3) := dk_180 0 30 (dk_at dksX2_boundFan_0 6 rfl rfl)
theorem dX2_boundFan_9 : decode cX2_boundFan 9 = .ok (.iload_n 1, 1) := dk_27 (dk_at dksX2_boundFan_0 9 rfl rfl)
theorem dX2_boundFan_10 : decode cX2_boundFan 10 = .ok (.iaload, 1) := dk_46 (dk_at dksX2_boundFan_0 10 rfl rfl)
theorem dX2_boundFan_11 : decode cX2_boundFan 11 = .ok (.isub, 1) := dk_100 (dk_at dksX2_boundFan_0 11 rfl rfl)
theorem dX2_boundFan_12 : decode cX2_boundFan 12 = .ok (.iconst 1, 1) := dk_4 (dk_at dksX2_boundFan_0 12 rfl rfl)
theorem dX2_boundFan_13 : decode cX2_boundFan 13 = .ok (.iadd, 1) := dk_96 (dk_at dksX2_boundFan_0 13 rfl rfl)
theorem dX2_boundFan_14 : decode cX2_boundFan 14 = .ok (.i2l, 1) := dk_133 (dk_at dksX2_boundFan_0 14 rfl rfl)
theorem dX2_boundFan_15 : decode cX2_boundFan 15 = .ok (.lstore_n 3, 1) := dk_66 (dk_at dksX2_boundFan_0 15 rfl rfl)
theorem dX2_boundFan_16 : decode cX2_boundFan 16 = .ok (.aload_n 0, 1) := dk_42 (dk_at dksX2_boundFan_0 16 rfl rfl)
theorem dX2_boundFan_17 : decode cX2_boundFan 17 = .ok (.getfield 97, 3) := dk_180 0 97 (dk_at dksX2_boundFan_0 17 rfl rfl)
theorem dX2_boundFan_20 : decode cX2_boundFan 20 = .ok (.iload_n 1, 1) := dk_27 (dk_at dksX2_boundFan_0 20 rfl rfl)
theorem dX2_boundFan_21 : decode cX2_boundFan 21 = .ok (.laload, 1) := dk_47 (dk_at dksX2_boundFan_0 21 rfl rfl)
theorem dX2_boundFan_22 : decode cX2_boundFan 22 = .ok (.lload_n 3, 1) := dk_33 (dk_at dksX2_boundFan_0 22 rfl rfl)
theorem dX2_boundFan_23 : decode cX2_boundFan 23 = .ok (.ldiv, 1) := dk_109 (dk_at dksX2_boundFan_0 23 rfl rfl)
theorem dX2_boundFan_24 : decode cX2_boundFan 24 = .ok (.lstore 5, 2) := dk_55 5 (dk_at dksX2_boundFan_1 0 rfl rfl)
theorem dX2_boundFan_26 : decode cX2_boundFan 26 = .ok (.lconst 0, 1) := dk_9 (dk_at dksX2_boundFan_1 2 rfl rfl)
theorem dX2_boundFan_27 : decode cX2_boundFan 27 = .ok (.lstore 7, 2) := dk_55 7 (dk_at dksX2_boundFan_1 3 rfl rfl)
theorem dX2_boundFan_29 : decode cX2_boundFan 29 = .ok (.iconst 0, 1) := dk_3 (dk_at dksX2_boundFan_1 5 rfl rfl)
theorem dX2_boundFan_30 : decode cX2_boundFan 30 = .ok (.istore 9, 2) := dk_54 9 (dk_at dksX2_boundFan_1 6 rfl rfl)
theorem dX2_boundFan_32 : decode cX2_boundFan 32 = .ok (.iload 9, 2) := dk_21 9 (dk_at dksX2_boundFan_1 8 rfl rfl)
theorem dX2_boundFan_34 : decode cX2_boundFan 34 = .ok (.iconst 4, 1) := dk_7 (dk_at dksX2_boundFan_1 10 rfl rfl)
theorem dX2_boundFan_35 : decode cX2_boundFan 35 = .ok (.if_icmp .ge 69, 3) := dk_162 0 69 (dk_at dksX2_boundFan_1 11 rfl rfl)
theorem dX2_boundFan_38 : decode cX2_boundFan 38 = .ok (.aload_n 0, 1) := dk_42 (dk_at dksX2_boundFan_1 14 rfl rfl)
theorem dX2_boundFan_39 : decode cX2_boundFan 39 = .ok (.getfield 27, 3) := dk_180 0 27 (dk_at dksX2_boundFan_1 15 rfl rfl)
theorem dX2_boundFan_42 : decode cX2_boundFan 42 = .ok (.iconst 4, 1) := dk_7 (dk_at dksX2_boundFan_1 18 rfl rfl)
theorem dX2_boundFan_43 : decode cX2_boundFan 43 = .ok (.iload_n 1, 1) := dk_27 (dk_at dksX2_boundFan_1 19 rfl rfl)
theorem dX2_boundFan_44 : decode cX2_boundFan 44 = .ok (.imul, 1) := dk_104 (dk_at dksX2_boundFan_1 20 rfl rfl)
theorem dX2_boundFan_45 : decode cX2_boundFan 45 = .ok (.iload 9, 2) := dk_21 9 (dk_at dksX2_boundFan_1 21 rfl rfl)
theorem dX2_boundFan_47 : decode cX2_boundFan 47 = .ok (.iadd, 1) := dk_96 (dk_at dksX2_boundFan_1 23 rfl rfl)
theorem dX2_boundFan_48 : decode cX2_boundFan 48 = .ok (.iaload, 1) := dk_46 (dk_at dksX2_boundFan_2 0 rfl rfl)
theorem dX2_boundFan_49 : decode cX2_boundFan 49 = .ok (.iconst (-1), 1) := dk_2 (dk_at dksX2_boundFan_2 1 rfl rfl)
theorem dX2_boundFan_50 : decode cX2_boundFan 50 = .ok (.if_icmp .eq 54, 3) := dk_159 0 54 (dk_at dksX2_boundFan_2 2 rfl rfl)
theorem dX2_boundFan_53 : decode cX2_boundFan 53 = .ok (.lload 7, 2) := dk_22 7 (dk_at dksX2_boundFan_2 5 rfl rfl)
theorem dX2_boundFan_55 : decode cX2_boundFan 55 = .ok (.aload_n 0, 1) := dk_42 (dk_at dksX2_boundFan_2 7 rfl rfl)
theorem dX2_boundFan_56 : decode cX2_boundFan 56 = .ok (.getfield 94, 3) := dk_180 0 94 (dk_at dksX2_boundFan_2 8 rfl rfl)
theorem dX2_boundFan_59 : decode cX2_boundFan 59 = .ok (.aload_n 0, 1) := dk_42 (dk_at dksX2_boundFan_2 11 rfl rfl)
theorem dX2_boundFan_60 : decode cX2_boundFan 60 = .ok (.getfield 27, 3) := dk_180 0 27 (dk_at dksX2_boundFan_2 12 rfl rfl)
theorem dX2_boundFan_63 : decode cX2_boundFan 63 = .ok (.iconst 4, 1) := dk_7 (dk_at dksX2_boundFan_2 15 rfl rfl)
theorem dX2_boundFan_64 : decode cX2_boundFan 64 = .ok (.iload_n 1, 1) := dk_27 (dk_at dksX2_boundFan_2 16 rfl rfl)
theorem dX2_boundFan_65 : decode cX2_boundFan 65 = .ok (.imul, 1) := dk_104 (dk_at dksX2_boundFan_2 17 rfl rfl)
theorem dX2_boundFan_66 : decode cX2_boundFan 66 = .ok (.iload 9, 2) := dk_21 9 (dk_at dksX2_boundFan_2 18 rfl rfl)
theorem dX2_boundFan_68 : decode cX2_boundFan 68 = .ok (.iadd, 1) := dk_96 (dk_at dksX2_boundFan_2 20 rfl rfl)
theorem dX2_boundFan_69 : decode cX2_boundFan 69 = .ok (.iaload, 1) := dk_46 (dk_at dksX2_boundFan_2 21 rfl rfl)
theorem dX2_boundFan_70 : decode cX2_boundFan 70 = .ok (.iload_n 2, 1) := dk_28 (dk_at dksX2_boundFan_2 22 rfl rfl)
theorem dX2_boundFan_71 : decode cX2_boundFan 71 = .ok (.invokestatic 173, 3) := dk_184 0 173 (dk_at dksX2_boundFan_3 0 rfl rfl)
theorem dX2_boundFan_74 : decode cX2_boundFan 74 = .ok (.laload, 1) := dk_47 (dk_at dksX2_boundFan_3 3 rfl rfl)
theorem dX2_boundFan_75 : decode cX2_boundFan 75 = .ok (.lload 5, 2) := dk_22 5 (dk_at dksX2_boundFan_3 4 rfl rfl)
theorem dX2_boundFan_77 : decode cX2_boundFan 77 = .ok (.aload_n 0, 1) := dk_42 (dk_at dksX2_boundFan_3 6 rfl rfl)
theorem dX2_boundFan_78 : decode cX2_boundFan 78 = .ok (.getfield 97, 3) := dk_180 0 97 (dk_at dksX2_boundFan_3 7 rfl rfl)
theorem dX2_boundFan_81 : decode cX2_boundFan 81 = .ok (.aload_n 0, 1) := dk_42 (dk_at dksX2_boundFan_3 10 rfl rfl)
theorem dX2_boundFan_82 : decode cX2_boundFan 82 = .ok (.getfield 27, 3) := dk_180 0 27 (dk_at dksX2_boundFan_3 11 rfl rfl)
theorem dX2_boundFan_85 : decode cX2_boundFan 85 = .ok (.iconst 4, 1) := dk_7 (dk_at dksX2_boundFan_3 14 rfl rfl)
theorem dX2_boundFan_86 : decode cX2_boundFan 86 = .ok (.iload_n 1, 1) := dk_27 (dk_at dksX2_boundFan_3 15 rfl rfl)
theorem dX2_boundFan_87 : decode cX2_boundFan 87 = .ok (.imul, 1) := dk_104 (dk_at dksX2_boundFan_3 16 rfl rfl)
theorem dX2_boundFan_88 : decode cX2_boundFan 88 = .ok (.iload 9, 2) := dk_21 9 (dk_at dksX2_boundFan_3 17 rfl rfl)
theorem dX2_boundFan_90 : decode cX2_boundFan 90 = .ok (.iadd, 1) := dk_96 (dk_at dksX2_boundFan_3 19 rfl rfl)
theorem dX2_boundFan_91 : decode cX2_boundFan 91 = .ok (.iaload, 1) := dk_46 (dk_at dksX2_boundFan_3 20 rfl rfl)
theorem dX2_boundFan_92 : decode cX2_boundFan 92 = .ok (.laload, 1) := dk_47 (dk_at dksX2_boundFan_3 21 rfl rfl)
theorem dX2_boundFan_93 : decode cX2_boundFan 93 = .ok (.ldiv, 1) := dk_109 (dk_at dksX2_boundFan_3 22 rfl rfl)
theorem dX2_boundFan_94 : decode cX2_boundFan 94 = .ok (.lmul, 1) := dk_105 (dk_at dksX2_boundFan_3 23 rfl rfl)
theorem dX2_boundFan_95 : decode cX2_boundFan 95 = .ok (.ladd, 1) := dk_97 (dk_at dksX2_boundFan_4 0 rfl rfl)
theorem dX2_boundFan_96 : decode cX2_boundFan 96 = .ok (.lstore 7, 2) := dk_55 7 (dk_at dksX2_boundFan_4 1 rfl rfl)
theorem dX2_boundFan_98 : decode cX2_boundFan 98 = .ok (.iinc 9 1, 3) := dk_132 9 1 (dk_at dksX2_boundFan_4 3 rfl rfl)
theorem dX2_boundFan_101 : decode cX2_boundFan 101 = .ok (.goto (-69), 3) := dk_167 255 187 (dk_at dksX2_boundFan_4 6 rfl rfl)
theorem dX2_boundFan_104 : decode cX2_boundFan 104 = .ok (.aload_n 0, 1) := dk_42 (dk_at dksX2_boundFan_4 9 rfl rfl)
theorem dX2_boundFan_105 : decode cX2_boundFan 105 = .ok (.getfield 97, 3) := dk_180 0 97 (dk_at dksX2_boundFan_4 10 rfl rfl)
theorem dX2_boundFan_108 : decode cX2_boundFan 108 = .ok (.iload_n 1, 1) := dk_27 (dk_at dksX2_boundFan_4 13 rfl rfl)
theorem dX2_boundFan_109 : decode cX2_boundFan 109 = .ok (.laload, 1) := dk_47 (dk_at dksX2_boundFan_4 14 rfl rfl)
theorem dX2_boundFan_110 : decode cX2_boundFan 110 = .ok (.lload 7, 2) := dk_22 7 (dk_at dksX2_boundFan_4 15 rfl rfl)
theorem dX2_boundFan_112 : decode cX2_boundFan 112 = .ok (.invokestatic 265, 3) := dk_184 1 9 (dk_at dksX2_boundFan_4 17 rfl rfl)
theorem dX2_boundFan_115 : decode cX2_boundFan 115 = .ok (.lreturn, 1) := dk_173 (dk_at dksX2_boundFan_4 20 rfl rfl)
abbrev cX2_asks : ByteArray := prog_13_method_58_code
def yX2_asks : MethodName := ⟨RX2, "asks", "(II)I"⟩
def dkwX2_asks_3 : List UInt8 := [54, 4, 167, 255, 227, 29, 172]
abbrev dktX2_asks_3 : List UInt8 := dkwX2_asks_3 ++ []
def dkwX2_asks_2 : List UInt8 := [159, 0, 29, 29, 42, 42, 180, 0, 36, 21, 4, 46, 182, 1, 17, 104, 62, 42, 180, 0, 36, 21, 4, 46]
abbrev dktX2_asks_2 : List UInt8 := dkwX2_asks_2 ++ dktX2_asks_3
def dkwX2_asks_1 : List UInt8 := [154, 0, 9, 42, 4, 182, 0, 147, 172, 42, 3, 181, 0, 112, 4, 62, 28, 54, 4, 21, 4, 27]
abbrev dktX2_asks_1 : List UInt8 := dkwX2_asks_1 ++ dktX2_asks_2
def dkwX2_asks_0 : List UInt8 := [42, 27, 182, 0, 139, 153, 0, 20, 42, 28, 182, 1, 14, 153, 0, 12, 42, 27, 28, 182, 0, 226]
abbrev dktX2_asks_0 : List UInt8 := dkwX2_asks_0 ++ dktX2_asks_1
theorem dksX2_asks_0 : cX2_asks.data.toList.drop 0 = dktX2_asks_0 := by decide +kernel
theorem dksX2_asks_1 : cX2_asks.data.toList.drop 22 = dktX2_asks_1 := dk_seg dksX2_asks_0 22 rfl rfl
theorem dksX2_asks_2 : cX2_asks.data.toList.drop 44 = dktX2_asks_2 := dk_seg dksX2_asks_1 22 rfl rfl
theorem dksX2_asks_3 : cX2_asks.data.toList.drop 68 = dktX2_asks_3 := dk_seg dksX2_asks_2 24 rfl rfl
theorem dX2_asks_0 : decode cX2_asks 0 = .ok (.aload_n 0, 1) := dk_42 (dk_at dksX2_asks_0 0 rfl rfl)
theorem dX2_asks_1 : decode cX2_asks 1 = .ok (.iload_n 1, 1) := dk_27 (dk_at dksX2_asks_0 1 rfl rfl)
theorem dX2_asks_2 : decode cX2_asks 2 = .ok (.invokevirtual 139, 3) := dk_182 0 139 (dk_at dksX2_asks_0 2 rfl rfl)
theorem dX2_asks_5 : decode cX2_asks 5 = .ok (.ifCond .eq 20, 3) := dk_153 0 20 (dk_at dksX2_asks_0 5 rfl rfl)
theorem dX2_asks_8 : decode cX2_asks 8 = .ok (.aload_n 0, 1) := dk_42 (dk_at dksX2_asks_0 8 rfl rfl)
theorem dX2_asks_9 : decode cX2_asks 9 = .ok (.iload_n 2, 1) := dk_28 (dk_at dksX2_asks_0 9 rfl rfl)
theorem dX2_asks_10 : decode cX2_asks 10 = .ok (.invokevirtual 270, 3) := dk_182 1 14 (dk_at dksX2_asks_0 10 rfl rfl)
theorem dX2_asks_13 : decode cX2_asks 13 = .ok (.ifCond .eq 12, 3) := dk_153 0 12 (dk_at dksX2_asks_0 13 rfl rfl)
theorem dX2_asks_16 : decode cX2_asks 16 = .ok (.aload_n 0, 1) := dk_42 (dk_at dksX2_asks_0 16 rfl rfl)
theorem dX2_asks_17 : decode cX2_asks 17 = .ok (.iload_n 1, 1) := dk_27 (dk_at dksX2_asks_0 17 rfl rfl)
theorem dX2_asks_18 : decode cX2_asks 18 = .ok (.iload_n 2, 1) := dk_28 (dk_at dksX2_asks_0 18 rfl rfl)
theorem dX2_asks_19 : decode cX2_asks 19 = .ok (.invokevirtual 226, 3) := dk_182 0 226 (dk_at dksX2_asks_0 19 rfl rfl)
theorem dX2_asks_22 : decode cX2_asks 22 = .ok (.ifCond .ne 9, 3) := dk_154 0 9 (dk_at dksX2_asks_1 0 rfl rfl)
theorem dX2_asks_25 : decode cX2_asks 25 = .ok (.aload_n 0, 1) := dk_42 (dk_at dksX2_asks_1 3 rfl rfl)
theorem dX2_asks_26 : decode cX2_asks 26 = .ok (.iconst 1, 1) := dk_4 (dk_at dksX2_asks_1 4 rfl rfl)
theorem dX2_asks_27 : decode cX2_asks 27 = .ok (.invokevirtual 147, 3) := dk_182 0 147 (dk_at dksX2_asks_1 5 rfl rfl)
theorem dX2_asks_30 : decode cX2_asks 30 = .ok (.ireturn, 1) := dk_172 (dk_at dksX2_asks_1 8 rfl rfl)
theorem dX2_asks_31 : decode cX2_asks 31 = .ok (.aload_n 0, 1) := dk_42 (dk_at dksX2_asks_1 9 rfl rfl)
theorem dX2_asks_32 : decode cX2_asks 32 = .ok (.iconst 0, 1) := dk_3 (dk_at dksX2_asks_1 10 rfl rfl)
theorem dX2_asks_33 : decode cX2_asks 33 = .ok (.putfield 112, 3) := dk_181 0 112 (dk_at dksX2_asks_1 11 rfl rfl)
theorem dX2_asks_36 : decode cX2_asks 36 = .ok (.iconst 1, 1) := dk_4 (dk_at dksX2_asks_1 14 rfl rfl)
theorem dX2_asks_37 : decode cX2_asks 37 = .ok (.istore_n 3, 1) := dk_62 (dk_at dksX2_asks_1 15 rfl rfl)
theorem dX2_asks_38 : decode cX2_asks 38 = .ok (.iload_n 2, 1) := dk_28 (dk_at dksX2_asks_1 16 rfl rfl)
theorem dX2_asks_39 : decode cX2_asks 39 = .ok (.istore 4, 2) := dk_54 4 (dk_at dksX2_asks_1 17 rfl rfl)
theorem dX2_asks_41 : decode cX2_asks 41 = .ok (.iload 4, 2) := dk_21 4 (dk_at dksX2_asks_1 19 rfl rfl)
theorem dX2_asks_43 : decode cX2_asks 43 = .ok (.iload_n 1, 1) := dk_27 (dk_at dksX2_asks_1 21 rfl rfl)
theorem dX2_asks_44 : decode cX2_asks 44 = .ok (.if_icmp .eq 29, 3) := dk_159 0 29 (dk_at dksX2_asks_2 0 rfl rfl)
theorem dX2_asks_47 : decode cX2_asks 47 = .ok (.iload_n 3, 1) := dk_29 (dk_at dksX2_asks_2 3 rfl rfl)
theorem dX2_asks_48 : decode cX2_asks 48 = .ok (.aload_n 0, 1) := dk_42 (dk_at dksX2_asks_2 4 rfl rfl)
theorem dX2_asks_49 : decode cX2_asks 49 = .ok (.aload_n 0, 1) := dk_42 (dk_at dksX2_asks_2 5 rfl rfl)
theorem dX2_asks_50 : decode cX2_asks 50 = .ok (.getfield 36, 3) := dk_180 0 36 (dk_at dksX2_asks_2 6 rfl rfl)
theorem dX2_asks_53 : decode cX2_asks 53 = .ok (.iload 4, 2) := dk_21 4 (dk_at dksX2_asks_2 9 rfl rfl)
theorem dX2_asks_55 : decode cX2_asks 55 = .ok (.iaload, 1) := dk_46 (dk_at dksX2_asks_2 11 rfl rfl)
theorem dX2_asks_56 : decode cX2_asks 56 = .ok (.invokevirtual 273, 3) := dk_182 1 17 (dk_at dksX2_asks_2 12 rfl rfl)
theorem dX2_asks_59 : decode cX2_asks 59 = .ok (.imul, 1) := dk_104 (dk_at dksX2_asks_2 15 rfl rfl)
theorem dX2_asks_60 : decode cX2_asks 60 = .ok (.istore_n 3, 1) := dk_62 (dk_at dksX2_asks_2 16 rfl rfl)
theorem dX2_asks_61 : decode cX2_asks 61 = .ok (.aload_n 0, 1) := dk_42 (dk_at dksX2_asks_2 17 rfl rfl)
theorem dX2_asks_62 : decode cX2_asks 62 = .ok (.getfield 36, 3) := dk_180 0 36 (dk_at dksX2_asks_2 18 rfl rfl)
theorem dX2_asks_65 : decode cX2_asks 65 = .ok (.iload 4, 2) := dk_21 4 (dk_at dksX2_asks_2 21 rfl rfl)
theorem dX2_asks_67 : decode cX2_asks 67 = .ok (.iaload, 1) := dk_46 (dk_at dksX2_asks_2 23 rfl rfl)
theorem dX2_asks_68 : decode cX2_asks 68 = .ok (.istore 4, 2) := dk_54 4 (dk_at dksX2_asks_3 0 rfl rfl)
theorem dX2_asks_70 : decode cX2_asks 70 = .ok (.goto (-29), 3) := dk_167 255 227 (dk_at dksX2_asks_3 2 rfl rfl)
theorem dX2_asks_73 : decode cX2_asks 73 = .ok (.iload_n 3, 1) := dk_29 (dk_at dksX2_asks_3 5 rfl rfl)
theorem dX2_asks_74 : decode cX2_asks 74 = .ok (.ireturn, 1) := dk_172 (dk_at dksX2_asks_3 6 rfl rfl)
abbrev cX2_isLeaf : ByteArray := prog_13_method_15_code
def yX2_isLeaf : MethodName := ⟨RX2, "isLeaf", "(I)Z"⟩
def dkwX2_isLeaf_0 : List UInt8 := [42, 27, 182, 0, 139, 153, 0, 16, 42, 180, 0, 24, 27, 46, 154, 0, 7, 4, 167, 0, 4, 3, 172]
abbrev dktX2_isLeaf_0 : List UInt8 := dkwX2_isLeaf_0 ++ []
theorem dksX2_isLeaf_0 : cX2_isLeaf.data.toList.drop 0 = dktX2_isLeaf_0 := by decide +kernel
theorem dX2_isLeaf_0 : decode cX2_isLeaf 0 = .ok (.aload_n 0, 1) := dk_42 (dk_at dksX2_isLeaf_0 0 rfl rfl)
theorem dX2_isLeaf_1 : decode cX2_isLeaf 1 = .ok (.iload_n 1, 1) := dk_27 (dk_at dksX2_isLeaf_0 1 rfl rfl)
theorem dX2_isLeaf_2 : decode cX2_isLeaf 2 = .ok (.invokevirtual 139, 3) := dk_182 0 139 (dk_at dksX2_isLeaf_0 2 rfl rfl)
theorem dX2_isLeaf_5 : decode cX2_isLeaf 5 = .ok (.ifCond .eq 16, 3) := dk_153 0 16 (dk_at dksX2_isLeaf_0 5 rfl rfl)
theorem dX2_isLeaf_8 : decode cX2_isLeaf 8 = .ok (.aload_n 0, 1) := dk_42 (dk_at dksX2_isLeaf_0 8 rfl rfl)
theorem dX2_isLeaf_9 : decode cX2_isLeaf 9 = .ok (.getfield 24, 3) := dk_180 0 24 (dk_at dksX2_isLeaf_0 9 rfl rfl)
theorem dX2_isLeaf_12 : decode cX2_isLeaf 12 = .ok (.iload_n 1, 1) := dk_27 (dk_at dksX2_isLeaf_0 12 rfl rfl)
theorem dX2_isLeaf_13 : decode cX2_isLeaf 13 = .ok (.iaload, 1) := dk_46 (dk_at dksX2_isLeaf_0 13 rfl rfl)
theorem dX2_isLeaf_14 : decode cX2_isLeaf 14 = .ok (.ifCond .ne 7, 3) := dk_154 0 7 (dk_at dksX2_isLeaf_0 14 rfl rfl)
theorem dX2_isLeaf_17 : decode cX2_isLeaf 17 = .ok (.iconst 1, 1) := dk_4 (dk_at dksX2_isLeaf_0 17 rfl rfl)
theorem dX2_isLeaf_18 : decode cX2_isLeaf 18 = .ok (.goto 4, 3) := dk_167 0 4 (dk_at dksX2_isLeaf_0 18 rfl rfl)
theorem dX2_isLeaf_21 : decode cX2_isLeaf 21 = .ok (.iconst 0, 1) := dk_3 (dk_at dksX2_isLeaf_0 21 rfl rfl)
theorem dX2_isLeaf_22 : decode cX2_isLeaf 22 = .ok (.ireturn, 1) := dk_172 (dk_at dksX2_isLeaf_0 22 rfl rfl)
abbrev cX2_factor : ByteArray := prog_13_method_59_code
def yX2_factor : MethodName := ⟨RX2, "factor", "(I)I"⟩
def dkwX2_factor_1 : List UInt8 := [180, 0, 24, 27, 46, 8, 160, 0, 7, 5, 167, 0, 4, 4, 172]
abbrev dktX2_factor_1 : List UInt8 := dkwX2_factor_1 ++ []
def dkwX2_factor_0 : List UInt8 := [42, 180, 0, 24, 27, 46, 7, 160, 0, 14, 42, 180, 0, 33, 27, 46, 4, 96, 167, 0, 18, 42]
abbrev dktX2_factor_0 : List UInt8 := dkwX2_factor_0 ++ dktX2_factor_1
theorem dksX2_factor_0 : cX2_factor.data.toList.drop 0 = dktX2_factor_0 := by decide +kernel
theorem dksX2_factor_1 : cX2_factor.data.toList.drop 22 = dktX2_factor_1 := dk_seg dksX2_factor_0 22 rfl rfl
theorem dX2_factor_0 : decode cX2_factor 0 = .ok (.aload_n 0, 1) := dk_42 (dk_at dksX2_factor_0 0 rfl rfl)
theorem dX2_factor_1 : decode cX2_factor 1 = .ok (.getfield 24, 3) := dk_180 0 24 (dk_at dksX2_factor_0 1 rfl rfl)
theorem dX2_factor_4 : decode cX2_factor 4 = .ok (.iload_n 1, 1) := dk_27 (dk_at dksX2_factor_0 4 rfl rfl)
theorem dX2_factor_5 : decode cX2_factor 5 = .ok (.iaload, 1) := dk_46 (dk_at dksX2_factor_0 5 rfl rfl)
theorem dX2_factor_6 : decode cX2_factor 6 = .ok (.iconst 4, 1) := dk_7 (dk_at dksX2_factor_0 6 rfl rfl)
theorem dX2_factor_7 : decode cX2_factor 7 = .ok (.if_icmp .ne 14, 3) := dk_160 0 14 (dk_at dksX2_factor_0 7 rfl rfl)
theorem dX2_factor_10 : decode cX2_factor 10 = .ok (.aload_n 0, 1) := dk_42 (dk_at dksX2_factor_0 10 rfl rfl)
theorem dX2_factor_11 : decode cX2_factor 11 = .ok (.getfield 33, 3) := dk_180 0 33 (dk_at dksX2_factor_0 11 rfl rfl)
theorem dX2_factor_14 : decode cX2_factor 14 = .ok (.iload_n 1, 1) := dk_27 (dk_at dksX2_factor_0 14 rfl rfl)
theorem dX2_factor_15 : decode cX2_factor 15 = .ok (.iaload, 1) := dk_46 (dk_at dksX2_factor_0 15 rfl rfl)
theorem dX2_factor_16 : decode cX2_factor 16 = .ok (.iconst 1, 1) := dk_4 (dk_at dksX2_factor_0 16 rfl rfl)
theorem dX2_factor_17 : decode cX2_factor 17 = .ok (.iadd, 1) := dk_96 (dk_at dksX2_factor_0 17 rfl rfl)
theorem dX2_factor_18 : decode cX2_factor 18 = .ok (.goto 18, 3) := dk_167 0 18 (dk_at dksX2_factor_0 18 rfl rfl)
theorem dX2_factor_21 : decode cX2_factor 21 = .ok (.aload_n 0, 1) := dk_42 (dk_at dksX2_factor_0 21 rfl rfl)
theorem dX2_factor_22 : decode cX2_factor 22 = .ok (.getfield 24, 3) := dk_180 0 24 (dk_at dksX2_factor_1 0 rfl rfl)
theorem dX2_factor_25 : decode cX2_factor 25 = .ok (.iload_n 1, 1) := dk_27 (dk_at dksX2_factor_1 3 rfl rfl)
theorem dX2_factor_26 : decode cX2_factor 26 = .ok (.iaload, 1) := dk_46 (dk_at dksX2_factor_1 4 rfl rfl)
theorem dX2_factor_27 : decode cX2_factor 27 = .ok (.iconst 5, 1) := dk_8 (dk_at dksX2_factor_1 5 rfl rfl)
theorem dX2_factor_28 : decode cX2_factor 28 = .ok (.if_icmp .ne 7, 3) := dk_160 0 7 (dk_at dksX2_factor_1 6 rfl rfl)
theorem dX2_factor_31 : decode cX2_factor 31 = .ok (.iconst 2, 1) := dk_5 (dk_at dksX2_factor_1 9 rfl rfl)
theorem dX2_factor_32 : decode cX2_factor 32 = .ok (.goto 4, 3) := dk_167 0 4 (dk_at dksX2_factor_1 10 rfl rfl)
theorem dX2_factor_35 : decode cX2_factor 35 = .ok (.iconst 1, 1) := dk_4 (dk_at dksX2_factor_1 13 rfl rfl)
theorem dX2_factor_36 : decode cX2_factor 36 = .ok (.ireturn, 1) := dk_172 (dk_at dksX2_factor_1 14 rfl rfl)
abbrev cX2_change : ByteArray := prog_13_method_60_code
def yX2_change : MethodName := ⟨RX2, "change", "(III)Z"⟩
def dkwX2_change_1 : List UInt8 := [154, 0, 11, 42, 27, 3, 28, 29, 182, 0, 151, 42, 21, 4, 182, 0, 123, 172]
abbrev dktX2_change_1 : List UInt8 := dkwX2_change_1 ++ []
def dkwX2_change_0 : List UInt8 := [42, 27, 182, 1, 14, 154, 0, 7, 4, 167, 0, 9, 42, 28, 29, 182, 0, 144, 54, 4, 21, 4]
abbrev dktX2_change_0 : List UInt8 := dkwX2_change_0 ++ dktX2_change_1
theorem dksX2_change_0 : cX2_change.data.toList.drop 0 = dktX2_change_0 := by decide +kernel
theorem dksX2_change_1 : cX2_change.data.toList.drop 22 = dktX2_change_1 := dk_seg dksX2_change_0 22 rfl rfl
theorem dX2_change_0 : decode cX2_change 0 = .ok (.aload_n 0, 1) := dk_42 (dk_at dksX2_change_0 0 rfl rfl)
theorem dX2_change_1 : decode cX2_change 1 = .ok (.iload_n 1, 1) := dk_27 (dk_at dksX2_change_0 1 rfl rfl)
theorem dX2_change_2 : decode cX2_change 2 = .ok (.invokevirtual 270, 3) := dk_182 1 14 (dk_at dksX2_change_0 2 rfl rfl)
theorem dX2_change_5 : decode cX2_change 5 = .ok (.ifCond .ne 7, 3) := dk_154 0 7 (dk_at dksX2_change_0 5 rfl rfl)
theorem dX2_change_8 : decode cX2_change 8 = .ok (.iconst 1, 1) := dk_4 (dk_at dksX2_change_0 8 rfl rfl)
theorem dX2_change_9 : decode cX2_change 9 = .ok (.goto 9, 3) := dk_167 0 9 (dk_at dksX2_change_0 9 rfl rfl)
theorem dX2_change_12 : decode cX2_change 12 = .ok (.aload_n 0, 1) := dk_42 (dk_at dksX2_change_0 12 rfl rfl)
theorem dX2_change_13 : decode cX2_change 13 = .ok (.iload_n 2, 1) := dk_28 (dk_at dksX2_change_0 13 rfl rfl)
theorem dX2_change_14 : decode cX2_change 14 = .ok (.iload_n 3, 1) := dk_29 (dk_at dksX2_change_0 14 rfl rfl)
theorem dX2_change_15 : decode cX2_change 15 = .ok (.invokevirtual 144, 3) := dk_182 0 144 (dk_at dksX2_change_0 15 rfl rfl)
theorem dX2_change_18 : decode cX2_change 18 = .ok (.istore 4, 2) := dk_54 4 (dk_at dksX2_change_0 18 rfl rfl)
theorem dX2_change_20 : decode cX2_change 20 = .ok (.iload 4, 2) := dk_21 4 (dk_at dksX2_change_0 20 rfl rfl)
theorem dX2_change_22 : decode cX2_change 22 = .ok (.ifCond .ne 11, 3) := dk_154 0 11 (dk_at dksX2_change_1 0 rfl rfl)
theorem dX2_change_25 : decode cX2_change 25 = .ok (.aload_n 0, 1) := dk_42 (dk_at dksX2_change_1 3 rfl rfl)
theorem dX2_change_26 : decode cX2_change 26 = .ok (.iload_n 1, 1) := dk_27 (dk_at dksX2_change_1 4 rfl rfl)
theorem dX2_change_27 : decode cX2_change 27 = .ok (.iconst 0, 1) := dk_3 (dk_at dksX2_change_1 5 rfl rfl)
theorem dX2_change_28 : decode cX2_change 28 = .ok (.iload_n 2, 1) := dk_28 (dk_at dksX2_change_1 6 rfl rfl)
theorem dX2_change_29 : decode cX2_change 29 = .ok (.iload_n 3, 1) := dk_29 (dk_at dksX2_change_1 7 rfl rfl)
theorem dX2_change_30 : decode cX2_change 30 = .ok (.invokevirtual 151, 3) := dk_182 0 151 (dk_at dksX2_change_1 8 rfl rfl)
theorem dX2_change_33 : decode cX2_change 33 = .ok (.aload_n 0, 1) := dk_42 (dk_at dksX2_change_1 11 rfl rfl)
theorem dX2_change_34 : decode cX2_change 34 = .ok (.iload 4, 2) := dk_21 4 (dk_at dksX2_change_1 12 rfl rfl)
theorem dX2_change_36 : decode cX2_change 36 = .ok (.invokevirtual 123, 3) := dk_182 0 123 (dk_at dksX2_change_1 14 rfl rfl)
theorem dX2_change_39 : decode cX2_change 39 = .ok (.ireturn, 1) := dk_172 (dk_at dksX2_change_1 17 rfl rfl)
abbrev cX2_price : ByteArray := prog_13_method_62_code
def yX2_price : MethodName := ⟨RX2, "price", "(II)Z"⟩
def dkwX2_price_1 : List UInt8 := [180, 0, 42, 6, 27, 104, 28, 79, 42, 3, 182, 0, 123, 172]
abbrev dktX2_price_1 : List UInt8 := dkwX2_price_1 ++ []
def dkwX2_price_0 : List UInt8 := [42, 27, 182, 1, 14, 153, 0, 10, 28, 184, 1, 20, 154, 0, 9, 42, 4, 182, 0, 123, 172, 42]
abbrev dktX2_price_0 : List UInt8 := dkwX2_price_0 ++ dktX2_price_1
theorem dksX2_price_0 : cX2_price.data.toList.drop 0 = dktX2_price_0 := by decide +kernel
theorem dksX2_price_1 : cX2_price.data.toList.drop 22 = dktX2_price_1 := dk_seg dksX2_price_0 22 rfl rfl
theorem dX2_price_0 : decode cX2_price 0 = .ok (.aload_n 0, 1) := dk_42 (dk_at dksX2_price_0 0 rfl rfl)
theorem dX2_price_1 : decode cX2_price 1 = .ok (.iload_n 1, 1) := dk_27 (dk_at dksX2_price_0 1 rfl rfl)
theorem dX2_price_2 : decode cX2_price 2 = .ok (.invokevirtual 270, 3) := dk_182 1 14 (dk_at dksX2_price_0 2 rfl rfl)
theorem dX2_price_5 : decode cX2_price 5 = .ok (.ifCond .eq 10, 3) := dk_153 0 10 (dk_at dksX2_price_0 5 rfl rfl)
theorem dX2_price_8 : decode cX2_price 8 = .ok (.iload_n 2, 1) := dk_28 (dk_at dksX2_price_0 8 rfl rfl)
theorem dX2_price_9 : decode cX2_price 9 = .ok (.invokestatic 276, 3) := dk_184 1 20 (dk_at dksX2_price_0 9 rfl rfl)
theorem dX2_price_12 : decode cX2_price 12 = .ok (.ifCond .ne 9, 3) := dk_154 0 9 (dk_at dksX2_price_0 12 rfl rfl)
theorem dX2_price_15 : decode cX2_price 15 = .ok (.aload_n 0, 1) := dk_42 (dk_at dksX2_price_0 15 rfl rfl)
theorem dX2_price_16 : decode cX2_price 16 = .ok (.iconst 1, 1) := dk_4 (dk_at dksX2_price_0 16 rfl rfl)
theorem dX2_price_17 : decode cX2_price 17 = .ok (.invokevirtual 123, 3) := dk_182 0 123 (dk_at dksX2_price_0 17 rfl rfl)
theorem dX2_price_20 : decode cX2_price 20 = .ok (.ireturn, 1) := dk_172 (dk_at dksX2_price_0 20 rfl rfl)
theorem dX2_price_21 : decode cX2_price 21 = .ok (.aload_n 0, 1) := dk_42 (dk_at dksX2_price_0 21 rfl rfl)
theorem dX2_price_22 : decode cX2_price 22 = .ok (.getfield 42, 3) := dk_180 0 42 (dk_at dksX2_price_1 0 rfl rfl)
theorem dX2_price_25 : decode cX2_price 25 = .ok (.iconst 3, 1) := dk_6 (dk_at dksX2_price_1 3 rfl rfl)
theorem dX2_price_26 : decode cX2_price 26 = .ok (.iload_n 1, 1) := dk_27 (dk_at dksX2_price_1 4 rfl rfl)
theorem dX2_price_27 : decode cX2_price 27 = .ok (.imul, 1) := dk_104 (dk_at dksX2_price_1 5 rfl rfl)
theorem dX2_price_28 : decode cX2_price 28 = .ok (.iload_n 2, 1) := dk_28 (dk_at dksX2_price_1 6 rfl rfl)
theorem dX2_price_29 : decode cX2_price 29 = .ok (.iastore, 1) := dk_79 (dk_at dksX2_price_1 7 rfl rfl)
theorem dX2_price_30 : decode cX2_price 30 = .ok (.aload_n 0, 1) := dk_42 (dk_at dksX2_price_1 8 rfl rfl)
theorem dX2_price_31 : decode cX2_price 31 = .ok (.iconst 0, 1) := dk_3 (dk_at dksX2_price_1 9 rfl rfl)
theorem dX2_price_32 : decode cX2_price 32 = .ok (.invokevirtual 123, 3) := dk_182 0 123 (dk_at dksX2_price_1 10 rfl rfl)
theorem dX2_price_35 : decode cX2_price 35 = .ok (.ireturn, 1) := dk_172 (dk_at dksX2_price_1 13 rfl rfl)
abbrev cX2_isPrice : ByteArray := prog_13_method_61_code
def yX2_isPrice : MethodName := ⟨RX2, "isPrice", "(I)Z"⟩
def dkwX2_isPrice_0 : List UInt8 := [26, 155, 0, 14, 26, 17, 39, 16, 163, 0, 7, 4, 167, 0, 4, 3, 172]
abbrev dktX2_isPrice_0 : List UInt8 := dkwX2_isPrice_0 ++ []
theorem dksX2_isPrice_0 : cX2_isPrice.data.toList.drop 0 = dktX2_isPrice_0 := by decide +kernel
theorem dX2_isPrice_0 : decode cX2_isPrice 0 = .ok (.iload_n 0, 1) := dk_26 (dk_at dksX2_isPrice_0 0 rfl rfl)
theorem dX2_isPrice_1 : decode cX2_isPrice 1 = .ok (.ifCond .lt 14, 3) := dk_155 0 14 (dk_at dksX2_isPrice_0 1 rfl rfl)
theorem dX2_isPrice_4 : decode cX2_isPrice 4 = .ok (.iload_n 0, 1) := dk_26 (dk_at dksX2_isPrice_0 4 rfl rfl)
theorem dX2_isPrice_5 : decode cX2_isPrice 5 = .ok (.sipush 10000, 3) := dk_17 39 16 (dk_at dksX2_isPrice_0 5 rfl rfl)
theorem dX2_isPrice_8 : decode cX2_isPrice 8 = .ok (.if_icmp .gt 7, 3) := dk_163 0 7 (dk_at dksX2_isPrice_0 8 rfl rfl)
theorem dX2_isPrice_11 : decode cX2_isPrice 11 = .ok (.iconst 1, 1) := dk_4 (dk_at dksX2_isPrice_0 11 rfl rfl)
theorem dX2_isPrice_12 : decode cX2_isPrice 12 = .ok (.goto 4, 3) := dk_167 0 4 (dk_at dksX2_isPrice_0 12 rfl rfl)
theorem dX2_isPrice_15 : decode cX2_isPrice 15 = .ok (.iconst 0, 1) := dk_3 (dk_at dksX2_isPrice_0 15 rfl rfl)
theorem dX2_isPrice_16 : decode cX2_isPrice 16 = .ok (.ireturn, 1) := dk_172 (dk_at dksX2_isPrice_0 16 rfl rfl)
abbrev cX2_grade : ByteArray := prog_13_method_63_code
def yX2_grade : MethodName := ⟨RX2, "grade", "(IIII)I"⟩
def dkwX2_grade_7 : List UInt8 := [96, 79, 42, 3, 181, 0, 112, 42, 180, 0, 39, 27, 46, 4, 100, 172]
abbrev dktX2_grade_7 : List UInt8 := dkwX2_grade_7 ++ []
def dkwX2_grade_6 : List UInt8 := [180, 0, 42, 6, 27, 104, 42, 180, 0, 39, 27, 46, 96, 21, 4, 79, 42, 180, 0, 39, 27, 92, 46, 4]
abbrev dktX2_grade_6 : List UInt8 := dkwX2_grade_6 ++ dktX2_grade_7
def dkwX2_grade_5 : List UInt8 := [158, 0, 10, 42, 21, 5, 182, 0, 147, 172, 42, 27, 42, 180, 0, 39, 27, 46, 28, 29, 182, 0, 151, 42]
abbrev dktX2_grade_5 : List UInt8 := dkwX2_grade_5 ++ dktX2_grade_6
def dkwX2_grade_4 : List UInt8 := [159, 0, 19, 42, 180, 0, 39, 27, 46, 4, 160, 0, 12, 21, 6, 7, 160, 0, 6, 7, 54, 5, 21, 5]
abbrev dktX2_grade_4 : List UInt8 := dkwX2_grade_4 ++ dktX2_grade_5
def dkwX2_grade_3 : List UInt8 := [3, 96, 54, 6, 132, 7, 1, 167, 255, 213, 21, 5, 154, 0, 32, 42, 180, 0, 39, 27, 46, 6]
abbrev dktX2_grade_3 : List UInt8 := dkwX2_grade_3 ++ dktX2_grade_4
def dkwX2_grade_2 : List UInt8 := [180, 0, 24, 21, 7, 46, 154, 0, 18, 42, 180, 0, 39, 21, 7, 46, 4, 164, 0, 7, 4, 167, 0, 4]
abbrev dktX2_grade_2 : List UInt8 := dkwX2_grade_2 ++ dktX2_grade_3
def dkwX2_grade_1 : List UInt8 := [182, 0, 144, 54, 5, 3, 54, 6, 3, 54, 7, 21, 7, 42, 180, 0, 136, 162, 0, 40, 21, 6, 42]
abbrev dktX2_grade_1 : List UInt8 := dkwX2_grade_1 ++ dktX2_grade_2
def dkwX2_grade_0 : List UInt8 := [42, 27, 182, 1, 14, 153, 0, 11, 21, 4, 184, 1, 20, 154, 0, 7, 4, 167, 0, 9, 42, 28, 29]
abbrev dktX2_grade_0 : List UInt8 := dkwX2_grade_0 ++ dktX2_grade_1
theorem dksX2_grade_0 : cX2_grade.data.toList.drop 0 = dktX2_grade_0 := by decide +kernel
theorem dksX2_grade_1 : cX2_grade.data.toList.drop 23 = dktX2_grade_1 := dk_seg dksX2_grade_0 23 rfl rfl
theorem dksX2_grade_2 : cX2_grade.data.toList.drop 46 = dktX2_grade_2 := dk_seg dksX2_grade_1 23 rfl rfl
theorem dksX2_grade_3 : cX2_grade.data.toList.drop 70 = dktX2_grade_3 := dk_seg dksX2_grade_2 24 rfl rfl
theorem dksX2_grade_4 : cX2_grade.data.toList.drop 92 = dktX2_grade_4 := dk_seg dksX2_grade_3 22 rfl rfl
theorem dksX2_grade_5 : cX2_grade.data.toList.drop 116 = dktX2_grade_5 := dk_seg dksX2_grade_4 24 rfl rfl
theorem dksX2_grade_6 : cX2_grade.data.toList.drop 140 = dktX2_grade_6 := dk_seg dksX2_grade_5 24 rfl rfl
theorem dksX2_grade_7 : cX2_grade.data.toList.drop 164 = dktX2_grade_7 := dk_seg dksX2_grade_6 24 rfl rfl
theorem dX2_grade_0 : decode cX2_grade 0 = .ok (.aload_n 0, 1) := dk_42 (dk_at dksX2_grade_0 0 rfl rfl)
theorem dX2_grade_1 : decode cX2_grade 1 = .ok (.iload_n 1, 1) := dk_27 (dk_at dksX2_grade_0 1 rfl rfl)
theorem dX2_grade_2 : decode cX2_grade 2 = .ok (.invokevirtual 270, 3) := dk_182 1 14 (dk_at dksX2_grade_0 2 rfl rfl)
theorem dX2_grade_5 : decode cX2_grade 5 = .ok (.ifCond .eq 11, 3) := dk_153 0 11 (dk_at dksX2_grade_0 5 rfl rfl)
theorem dX2_grade_8 : decode cX2_grade 8 = .ok (.iload 4, 2) := dk_21 4 (dk_at dksX2_grade_0 8 rfl rfl)
theorem dX2_grade_10 : decode cX2_grade 10 = .ok (.invokestatic 276, 3) := dk_184 1 20 (dk_at dksX2_grade_0 10 rfl rfl)
theorem dX2_grade_13 : decode cX2_grade 13 = .ok (.ifCond .ne 7, 3) := dk_154 0 7 (dk_at dksX2_grade_0 13 rfl rfl)
theorem dX2_grade_16 : decode cX2_grade 16 = .ok (.iconst 1, 1) := dk_4 (dk_at dksX2_grade_0 16 rfl rfl)
theorem dX2_grade_17 : decode cX2_grade 17 = .ok (.goto 9, 3) := dk_167 0 9 (dk_at dksX2_grade_0 17 rfl rfl)
theorem dX2_grade_20 : decode cX2_grade 20 = .ok (.aload_n 0, 1) := dk_42 (dk_at dksX2_grade_0 20 rfl rfl)
theorem dX2_grade_21 : decode cX2_grade 21 = .ok (.iload_n 2, 1) := dk_28 (dk_at dksX2_grade_0 21 rfl rfl)
theorem dX2_grade_22 : decode cX2_grade 22 = .ok (.iload_n 3, 1) := dk_29 (dk_at dksX2_grade_0 22 rfl rfl)
theorem dX2_grade_23 : decode cX2_grade 23 = .ok (.invokevirtual 144, 3) := dk_182 0 144 (dk_at dksX2_grade_1 0 rfl rfl)
theorem dX2_grade_26 : decode cX2_grade 26 = .ok (.istore 5, 2) := dk_54 5 (dk_at dksX2_grade_1 3 rfl rfl)
theorem dX2_grade_28 : decode cX2_grade 28 = .ok (.iconst 0, 1) := dk_3 (dk_at dksX2_grade_1 5 rfl rfl)
theorem dX2_grade_29 : decode cX2_grade 29 = .ok (.istore 6, 2) := dk_54 6 (dk_at dksX2_grade_1 6 rfl rfl)
theorem dX2_grade_31 : decode cX2_grade 31 = .ok (.iconst 0, 1) := dk_3 (dk_at dksX2_grade_1 8 rfl rfl)
theorem dX2_grade_32 : decode cX2_grade 32 = .ok (.istore 7, 2) := dk_54 7 (dk_at dksX2_grade_1 9 rfl rfl)
theorem dX2_grade_34 : decode cX2_grade 34 = .ok (.iload 7, 2) := dk_21 7 (dk_at dksX2_grade_1 11 rfl rfl)
theorem dX2_grade_36 : decode cX2_grade 36 = .ok (.aload_n 0, 1) := dk_42 (dk_at dksX2_grade_1 13 rfl rfl)
theorem dX2_grade_37 : decode cX2_grade 37 = .ok (.getfield 136, 3) := dk_180 0 136 (dk_at dksX2_grade_1 14 rfl rfl)
theorem dX2_grade_40 : decode cX2_grade 40 = .ok (.if_icmp .ge 40, 3) := dk_162 0 40 (dk_at dksX2_grade_1 17 rfl rfl)
theorem dX2_grade_43 : decode cX2_grade 43 = .ok (.iload 6, 2) := dk_21 6 (dk_at dksX2_grade_1 20 rfl rfl)
theorem dX2_grade_45 : decode cX2_grade 45 = .ok (.aload_n 0, 1) := dk_42 (dk_at dksX2_grade_1 22 rfl rfl)
theorem dX2_grade_46 : decode cX2_grade 46 = .ok (.getfield 24, 3) := dk_180 0 24 (dk_at dksX2_grade_2 0 rfl rfl)
theorem dX2_grade_49 : decode cX2_grade 49 = .ok (.iload 7, 2) := dk_21 7 (dk_at dksX2_grade_2 3 rfl rfl)
theorem dX2_grade_51 : decode cX2_grade 51 = .ok (.iaload, 1) := dk_46 (dk_at dksX2_grade_2 5 rfl rfl)
theorem dX2_grade_52 : decode cX2_grade 52 = .ok (.ifCond .ne 18, 3) := dk_154 0 18 (dk_at dksX2_grade_2 6 rfl rfl)
theorem dX2_grade_55 : decode cX2_grade 55 = .ok (.aload_n 0, 1) := dk_42 (dk_at dksX2_grade_2 9 rfl rfl)
theorem dX2_grade_56 : decode cX2_grade 56 = .ok (.getfield 39, 3) := dk_180 0 39 (dk_at dksX2_grade_2 10 rfl rfl)
theorem dX2_grade_59 : decode cX2_grade 59 = .ok (.iload 7, 2) := dk_21 7 (dk_at dksX2_grade_2 13 rfl rfl)
theorem dX2_grade_61 : decode cX2_grade 61 = .ok (.iaload, 1) := dk_46 (dk_at dksX2_grade_2 15 rfl rfl)
theorem dX2_grade_62 : decode cX2_grade 62 = .ok (.iconst 1, 1) := dk_4 (dk_at dksX2_grade_2 16 rfl rfl)
theorem dX2_grade_63 : decode cX2_grade 63 = .ok (.if_icmp .le 7, 3) := dk_164 0 7 (dk_at dksX2_grade_2 17 rfl rfl)
theorem dX2_grade_66 : decode cX2_grade 66 = .ok (.iconst 1, 1) := dk_4 (dk_at dksX2_grade_2 20 rfl rfl)
theorem dX2_grade_67 : decode cX2_grade 67 = .ok (.goto 4, 3) := dk_167 0 4 (dk_at dksX2_grade_2 21 rfl rfl)
theorem dX2_grade_70 : decode cX2_grade 70 = .ok (.iconst 0, 1) := dk_3 (dk_at dksX2_grade_3 0 rfl rfl)
theorem dX2_grade_71 : decode cX2_grade 71 = .ok (.iadd, 1) := dk_96 (dk_at dksX2_grade_3 1 rfl rfl)
theorem dX2_grade_72 : decode cX2_grade 72 = .ok (.istore 6, 2) := dk_54 6 (dk_at dksX2_grade_3 2 rfl rfl)
theorem dX2_grade_74 : decode cX2_grade 74 = .ok (.iinc 7 1, 3) := dk_132 7 1 (dk_at dksX2_grade_3 4 rfl rfl)
theorem dX2_grade_77 : decode cX2_grade 77 = .ok (.goto (-43), 3) := dk_167 255 213 (dk_at dksX2_grade_3 7 rfl rfl)
theorem dX2_grade_80 : decode cX2_grade 80 = .ok (.iload 5, 2) := dk_21 5 (dk_at dksX2_grade_3 10 rfl rfl)
theorem dX2_grade_82 : decode cX2_grade 82 = .ok (.ifCond .ne 32, 3) := dk_154 0 32 (dk_at dksX2_grade_3 12 rfl rfl)
theorem dX2_grade_85 : decode cX2_grade 85 = .ok (.aload_n 0, 1) := dk_42 (dk_at dksX2_grade_3 15 rfl rfl)
theorem dX2_grade_86 : decode cX2_grade 86 = .ok (.getfield 39, 3) := dk_180 0 39 (dk_at dksX2_grade_3 16 rfl rfl)
theorem dX2_grade_89 : decode cX2_grade 89 = .ok (.iload_n 1, 1) := dk_27 (dk_at dksX2_grade_3 19 rfl rfl)
theorem dX2_grade_90 : decode cX2_grade 90 = .ok (.iaload, 1) := dk_46 (dk_at dksX2_grade_3 20 rfl rfl)
theorem dX2_grade_91 : decode cX2_grade 91 = .ok (.iconst 3, 1) := dk_6 (dk_at dksX2_grade_3 21 rfl rfl)
theorem dX2_grade_92 : decode cX2_grade 92 = .ok (.if_icmp .eq 19, 3) := dk_159 0 19 (dk_at dksX2_grade_4 0 rfl rfl)
theorem dX2_grade_95 : decode cX2_grade 95 = .ok (.aload_n 0, 1) := dk_42 (dk_at dksX2_grade_4 3 rfl rfl)
theorem dX2_grade_96 : decode cX2_grade 96 = .ok (.getfield 39, 3) := dk_180 0 39 (dk_at dksX2_grade_4 4 rfl rfl)
theorem dX2_grade_99 : decode cX2_grade 99 = .ok (.iload_n 1, 1) := dk_27 (dk_at dksX2_grade_4 7 rfl rfl)
theorem dX2_grade_100 : decode cX2_grade 100 = .ok (.iaload, 1) := dk_46 (dk_at dksX2_grade_4 8 rfl rfl)
theorem dX2_grade_101 : decode cX2_grade 101 = .ok (.iconst 1, 1) := dk_4 (dk_at dksX2_grade_4 9 rfl rfl)
theorem dX2_grade_102 : decode cX2_grade 102 = .ok (.if_icmp .ne 12, 3) := dk_160 0 12 (dk_at dksX2_grade_4 10 rfl rfl)
theorem dX2_grade_105 : decode cX2_grade 105 = .ok (.iload 6, 2) := dk_21 6 (dk_at dksX2_grade_4 13 rfl rfl)
theorem dX2_grade_107 : decode cX2_grade 107 = .ok (.iconst 4, 1) := dk_7 (dk_at dksX2_grade_4 15 rfl rfl)
theorem dX2_grade_108 : decode cX2_grade 108 = .ok (.if_icmp .ne 6, 3) := dk_160 0 6 (dk_at dksX2_grade_4 16 rfl rfl)
theorem dX2_grade_111 : decode cX2_grade 111 = .ok (.iconst 4, 1) := dk_7 (dk_at dksX2_grade_4 19 rfl rfl)
theorem dX2_grade_112 : decode cX2_grade 112 = .ok (.istore 5, 2) := dk_54 5 (dk_at dksX2_grade_4 20 rfl rfl)
theorem dX2_grade_114 : decode cX2_grade 114 = .ok (.iload 5, 2) := dk_21 5 (dk_at dksX2_grade_4 22 rfl rfl)
theorem dX2_grade_116 : decode cX2_grade 116 = .ok (.ifCond .le 10, 3) := dk_158 0 10 (dk_at dksX2_grade_5 0 rfl rfl)
theorem dX2_grade_119 : decode cX2_grade 119 = .ok (.aload_n 0, 1) := dk_42 (dk_at dksX2_grade_5 3 rfl rfl)
theorem dX2_grade_120 : decode cX2_grade 120 = .ok (.iload 5, 2) := dk_21 5 (dk_at dksX2_grade_5 4 rfl rfl)
theorem dX2_grade_122 : decode cX2_grade 122 = .ok (.invokevirtual 147, 3) := dk_182 0 147 (dk_at dksX2_grade_5 6 rfl rfl)
theorem dX2_grade_125 : decode cX2_grade 125 = .ok (.ireturn, 1) := dk_172 (dk_at dksX2_grade_5 9 rfl rfl)
theorem dX2_grade_126 : decode cX2_grade 126 = .ok (.aload_n 0, 1) := dk_42 (dk_at dksX2_grade_5 10 rfl rfl)
theorem dX2_grade_127 : decode cX2_grade 127 = .ok (.iload_n 1, 1) := dk_27 (dk_at dksX2_grade_5 11 rfl rfl)
theorem dX2_grade_128 : decode cX2_grade 128 = .ok (.aload_n 0, 1) := dk_42 (dk_at dksX2_grade_5 12 rfl rfl)
theorem dX2_grade_129 : decode cX2_grade 129 = .ok (.getfield 39, 3) := dk_180 0 39 (dk_at dksX2_grade_5 13 rfl rfl)
theorem dX2_grade_132 : decode cX2_grade 132 = .ok (.iload_n 1, 1) := dk_27 (dk_at dksX2_grade_5 16 rfl rfl)
theorem dX2_grade_133 : decode cX2_grade 133 = .ok (.iaload, 1) := dk_46 (dk_at dksX2_grade_5 17 rfl rfl)
theorem dX2_grade_134 : decode cX2_grade 134 = .ok (.iload_n 2, 1) := dk_28 (dk_at dksX2_grade_5 18 rfl rfl)
theorem dX2_grade_135 : decode cX2_grade 135 = .ok (.iload_n 3, 1) := dk_29 (dk_at dksX2_grade_5 19 rfl rfl)
theorem dX2_grade_136 : decode cX2_grade 136 = .ok (.invokevirtual 151, 3) := dk_182 0 151 (dk_at dksX2_grade_5 20 rfl rfl)
theorem dX2_grade_139 : decode cX2_grade 139 = .ok (.aload_n 0, 1) := dk_42 (dk_at dksX2_grade_5 23 rfl rfl)
theorem dX2_grade_140 : decode cX2_grade 140 = .ok (.getfield 42, 3) := dk_180 0 42 (dk_at dksX2_grade_6 0 rfl rfl)
theorem dX2_grade_143 : decode cX2_grade 143 = .ok (.iconst 3, 1) := dk_6 (dk_at dksX2_grade_6 3 rfl rfl)
theorem dX2_grade_144 : decode cX2_grade 144 = .ok (.iload_n 1, 1) := dk_27 (dk_at dksX2_grade_6 4 rfl rfl)
theorem dX2_grade_145 : decode cX2_grade 145 = .ok (.imul, 1) := dk_104 (dk_at dksX2_grade_6 5 rfl rfl)
theorem dX2_grade_146 : decode cX2_grade 146 = .ok (.aload_n 0, 1) := dk_42 (dk_at dksX2_grade_6 6 rfl rfl)
theorem dX2_grade_147 : decode cX2_grade 147 = .ok (.getfield 39, 3) := dk_180 0 39 (dk_at dksX2_grade_6 7 rfl rfl)
theorem dX2_grade_150 : decode cX2_grade 150 = .ok (.iload_n 1, 1) := dk_27 (dk_at dksX2_grade_6 10 rfl rfl)
theorem dX2_grade_151 : decode cX2_grade 151 = .ok (.iaload, 1) := dk_46 (dk_at dksX2_grade_6 11 rfl rfl)
theorem dX2_grade_152 : decode cX2_grade 152 = .ok (.iadd, 1) := dk_96 (dk_at dksX2_grade_6 12 rfl rfl)
theorem dX2_grade_153 : decode cX2_grade 153 = .ok (.iload 4, 2) := dk_21 4 (dk_at dksX2_grade_6 13 rfl rfl)
theorem dX2_grade_155 : decode cX2_grade 155 = .ok (.iastore, 1) := dk_79 (dk_at dksX2_grade_6 15 rfl rfl)
theorem dX2_grade_156 : decode cX2_grade 156 = .ok (.aload_n 0, 1) := dk_42 (dk_at dksX2_grade_6 16 rfl rfl)
theorem dX2_grade_157 : decode cX2_grade 157 = .ok (.getfield 39, 3) := dk_180 0 39 (dk_at dksX2_grade_6 17 rfl rfl)
theorem dX2_grade_160 : decode cX2_grade 160 = .ok (.iload_n 1, 1) := dk_27 (dk_at dksX2_grade_6 20 rfl rfl)
theorem dX2_grade_161 : decode cX2_grade 161 = .ok (.dup2, 1) := dk_92 (dk_at dksX2_grade_6 21 rfl rfl)
theorem dX2_grade_162 : decode cX2_grade 162 = .ok (.iaload, 1) := dk_46 (dk_at dksX2_grade_6 22 rfl rfl)
theorem dX2_grade_163 : decode cX2_grade 163 = .ok (.iconst 1, 1) := dk_4 (dk_at dksX2_grade_6 23 rfl rfl)
theorem dX2_grade_164 : decode cX2_grade 164 = .ok (.iadd, 1) := dk_96 (dk_at dksX2_grade_7 0 rfl rfl)
theorem dX2_grade_165 : decode cX2_grade 165 = .ok (.iastore, 1) := dk_79 (dk_at dksX2_grade_7 1 rfl rfl)
theorem dX2_grade_166 : decode cX2_grade 166 = .ok (.aload_n 0, 1) := dk_42 (dk_at dksX2_grade_7 2 rfl rfl)
theorem dX2_grade_167 : decode cX2_grade 167 = .ok (.iconst 0, 1) := dk_3 (dk_at dksX2_grade_7 3 rfl rfl)
theorem dX2_grade_168 : decode cX2_grade 168 = .ok (.putfield 112, 3) := dk_181 0 112 (dk_at dksX2_grade_7 4 rfl rfl)
theorem dX2_grade_171 : decode cX2_grade 171 = .ok (.aload_n 0, 1) := dk_42 (dk_at dksX2_grade_7 7 rfl rfl)
theorem dX2_grade_172 : decode cX2_grade 172 = .ok (.getfield 39, 3) := dk_180 0 39 (dk_at dksX2_grade_7 8 rfl rfl)
theorem dX2_grade_175 : decode cX2_grade 175 = .ok (.iload_n 1, 1) := dk_27 (dk_at dksX2_grade_7 11 rfl rfl)
theorem dX2_grade_176 : decode cX2_grade 176 = .ok (.iaload, 1) := dk_46 (dk_at dksX2_grade_7 12 rfl rfl)
theorem dX2_grade_177 : decode cX2_grade 177 = .ok (.iconst 1, 1) := dk_4 (dk_at dksX2_grade_7 13 rfl rfl)
theorem dX2_grade_178 : decode cX2_grade 178 = .ok (.isub, 1) := dk_100 (dk_at dksX2_grade_7 14 rfl rfl)
theorem dX2_grade_179 : decode cX2_grade 179 = .ok (.ireturn, 1) := dk_172 (dk_at dksX2_grade_7 15 rfl rfl)
abbrev cX2_best : ByteArray := prog_13_method_65_code
def yX2_best : MethodName := ⟨RX2, "best", "(IIII)I"⟩
def dkwX2_best_13 : List UInt8 := [21, 5, 172]
abbrev dktX2_best_13 : List UInt8 := dkwX2_best_13 ++ []
def dkwX2_best_12 : List UInt8 := [180, 0, 54, 21, 7, 42, 180, 0, 109, 21, 7, 46, 79, 132, 7, 1, 167, 255, 230, 42, 3, 181, 0, 112]
abbrev dktX2_best_12 : List UInt8 := dkwX2_best_12 ++ dktX2_best_13
def dkwX2_best_11 : List UInt8 := [182, 0, 147, 172, 42, 4, 181, 1, 26, 3, 54, 7, 21, 7, 42, 180, 0, 136, 162, 0, 23, 42]
abbrev dktX2_best_11 : List UInt8 := dkwX2_best_11 ++ dktX2_best_12
def dkwX2_best_10 : List UInt8 := [42, 27, 182, 1, 23, 54, 6, 167, 255, 56, 42, 182, 0, 220, 21, 5, 2, 160, 0, 10, 42, 16, 6]
abbrev dktX2_best_10 : List UInt8 := dkwX2_best_10 ++ dktX2_best_11
def dkwX2_best_9 : List UInt8 := [182, 0, 226, 153, 0, 13, 42, 180, 0, 48, 21, 8, 46, 167, 0, 4, 2, 79, 132, 8, 1, 167, 255, 206]
abbrev dktX2_best_9 : List UInt8 := dkwX2_best_9 ++ dktX2_best_10
def dkwX2_best_8 : List UInt8 := [162, 0, 47, 42, 180, 0, 109, 21, 8, 42, 180, 0, 24, 21, 8, 46, 154, 0, 23, 42, 27, 21, 8]
abbrev dktX2_best_8 : List UInt8 := dkwX2_best_8 ++ dktX2_best_9
def dkwX2_best_7 : List UInt8 := [21, 4, 133, 184, 0, 248, 153, 0, 63, 21, 7, 54, 5, 3, 54, 8, 21, 8, 42, 180, 0, 136]
abbrev dktX2_best_7 : List UInt8 := dkwX2_best_7 ++ dktX2_best_8
def dkwX2_best_6 : List UInt8 := [159, 0, 10, 21, 7, 21, 5, 162, 0, 86, 42, 27, 28, 182, 0, 236, 42, 180, 0, 72, 27, 47, 29, 133]
abbrev dktX2_best_6 : List UInt8 := dkwX2_best_6 ++ dktX2_best_7
def dkwX2_best_5 : List UInt8 := [180, 0, 48, 21, 8, 46, 96, 46, 167, 0, 4, 3, 96, 54, 7, 132, 8, 1, 167, 255, 198, 21, 5, 2]
abbrev dktX2_best_5 : List UInt8 := dkwX2_best_5 ++ dktX2_best_6
def dkwX2_best_4 : List UInt8 := [46, 154, 0, 33, 42, 27, 21, 8, 182, 0, 226, 153, 0, 23, 42, 180, 0, 42, 6, 21, 8, 104, 42]
abbrev dktX2_best_4 : List UInt8 := dkwX2_best_4 ++ dktX2_best_5
def dkwX2_best_3 : List UInt8 := [172, 3, 54, 7, 3, 54, 8, 21, 8, 42, 180, 0, 136, 162, 0, 55, 21, 7, 42, 180, 0, 24, 21, 8]
abbrev dktX2_best_3 : List UInt8 := dkwX2_best_3 ++ dktX2_best_4
def dkwX2_best_2 : List UInt8 := [42, 27, 182, 0, 223, 42, 180, 0, 75, 27, 51, 153, 0, 14, 42, 182, 0, 220, 42, 16, 9, 182, 0, 147]
abbrev dktX2_best_2 : List UInt8 := dkwX2_best_2 ++ dktX2_best_3
def dkwX2_best_1 : List UInt8 := [154, 0, 9, 42, 4, 182, 0, 147, 172, 42, 182, 0, 220, 2, 54, 5, 4, 54, 6, 21, 6, 153, 0, 201]
abbrev dktX2_best_1 : List UInt8 := dkwX2_best_1 ++ dktX2_best_2
def dkwX2_best_0 : List UInt8 := [42, 27, 182, 0, 139, 153, 0, 22, 28, 155, 0, 18, 28, 16, 121, 162, 0, 12, 29, 21, 4, 184, 0, 245]
abbrev dktX2_best_0 : List UInt8 := dkwX2_best_0 ++ dktX2_best_1
theorem dksX2_best_0 : cX2_best.data.toList.drop 0 = dktX2_best_0 := by decide +kernel
theorem dksX2_best_1 : cX2_best.data.toList.drop 24 = dktX2_best_1 := dk_seg dksX2_best_0 24 rfl rfl
theorem dksX2_best_2 : cX2_best.data.toList.drop 48 = dktX2_best_2 := dk_seg dksX2_best_1 24 rfl rfl
theorem dksX2_best_3 : cX2_best.data.toList.drop 72 = dktX2_best_3 := dk_seg dksX2_best_2 24 rfl rfl
theorem dksX2_best_4 : cX2_best.data.toList.drop 96 = dktX2_best_4 := dk_seg dksX2_best_3 24 rfl rfl
theorem dksX2_best_5 : cX2_best.data.toList.drop 119 = dktX2_best_5 := dk_seg dksX2_best_4 23 rfl rfl
theorem dksX2_best_6 : cX2_best.data.toList.drop 143 = dktX2_best_6 := dk_seg dksX2_best_5 24 rfl rfl
theorem dksX2_best_7 : cX2_best.data.toList.drop 167 = dktX2_best_7 := dk_seg dksX2_best_6 24 rfl rfl
theorem dksX2_best_8 : cX2_best.data.toList.drop 189 = dktX2_best_8 := dk_seg dksX2_best_7 22 rfl rfl
theorem dksX2_best_9 : cX2_best.data.toList.drop 212 = dktX2_best_9 := dk_seg dksX2_best_8 23 rfl rfl
theorem dksX2_best_10 : cX2_best.data.toList.drop 236 = dktX2_best_10 := dk_seg dksX2_best_9 24 rfl rfl
theorem dksX2_best_11 : cX2_best.data.toList.drop 259 = dktX2_best_11 := dk_seg dksX2_best_10 23 rfl rfl
theorem dksX2_best_12 : cX2_best.data.toList.drop 281 = dktX2_best_12 := dk_seg dksX2_best_11 22 rfl rfl
theorem dksX2_best_13 : cX2_best.data.toList.drop 305 = dktX2_best_13 := dk_seg dksX2_best_12 24 rfl rfl
theorem dX2_best_0 : decode cX2_best 0 = .ok (.aload_n 0, 1) := dk_42 (dk_at dksX2_best_0 0 rfl rfl)
theorem dX2_best_1 : decode cX2_best 1 = .ok (.iload_n 1, 1) := dk_27 (dk_at dksX2_best_0 1 rfl rfl)
theorem dX2_best_2 : decode cX2_best 2 = .ok (.invokevirtual 139, 3) := dk_182 0 139 (dk_at dksX2_best_0 2 rfl rfl)
theorem dX2_best_5 : decode cX2_best 5 = .ok (.ifCond .eq 22, 3) := dk_153 0 22 (dk_at dksX2_best_0 5 rfl rfl)
theorem dX2_best_8 : decode cX2_best 8 = .ok (.iload_n 2, 1) := dk_28 (dk_at dksX2_best_0 8 rfl rfl)
theorem dX2_best_9 : decode cX2_best 9 = .ok (.ifCond .lt 18, 3) := dk_155 0 18 (dk_at dksX2_best_0 9 rfl rfl)
theorem dX2_best_12 : decode cX2_best 12 = .ok (.iload_n 2, 1) := dk_28 (dk_at dksX2_best_0 12 rfl rfl)
theorem dX2_best_13 : decode cX2_best 13 = .ok (.bipush 121, 2) := dk_16 121 (dk_at dksX2_best_0 13 rfl rfl)
theorem dX2_best_15 : decode cX2_best 15 = .ok (.if_icmp .ge 12, 3) := dk_162 0 12 (dk_at dksX2_best_0 15 rfl rfl)
theorem dX2_best_18 : decode cX2_best 18 = .ok (.iload_n 3, 1) := dk_29 (dk_at dksX2_best_0 18 rfl rfl)
theorem dX2_best_19 : decode cX2_best 19 = .ok (.iload 4, 2) := dk_21 4 (dk_at dksX2_best_0 19 rfl rfl)
theorem dX2_best_21 : decode cX2_best 21 = .ok (.invokestatic 245, 3) := dk_184 0 245 (dk_at dksX2_best_0 21 rfl rfl)
theorem dX2_best_24 : decode cX2_best 24 = .ok (.ifCond .ne 9, 3) := dk_154 0 9 (dk_at dksX2_best_1 0 rfl rfl)
theorem dX2_best_27 : decode cX2_best 27 = .ok (.aload_n 0, 1) := dk_42 (dk_at dksX2_best_1 3 rfl rfl)
theorem dX2_best_28 : decode cX2_best 28 = .ok (.iconst 1, 1) := dk_4 (dk_at dksX2_best_1 4 rfl rfl)
theorem dX2_best_29 : decode cX2_best 29 = .ok (.invokevirtual 147, 3) := dk_182 0 147 (dk_at dksX2_best_1 5 rfl rfl)
theorem dX2_best_32 : decode cX2_best 32 = .ok (.ireturn, 1) := dk_172 (dk_at dksX2_best_1 8 rfl rfl)
theorem dX2_best_33 : decode cX2_best 33 = .ok (.aload_n 0, 1) := dk_42 (dk_at dksX2_best_1 9 rfl rfl)
theorem dX2_best_34 : decode cX2_best 34 = .ok (.invokevirtual 220, 3) := dk_182 0 220 (dk_at dksX2_best_1 10 rfl rfl)
theorem dX2_best_37 : decode cX2_best 37 = .ok (.iconst (-1), 1) := dk_2 (dk_at dksX2_best_1 13 rfl rfl)
theorem dX2_best_38 : decode cX2_best 38 = .ok (.istore 5, 2) := dk_54 5 (dk_at dksX2_best_1 14 rfl rfl)
theorem dX2_best_40 : decode cX2_best 40 = .ok (.iconst 1, 1) := dk_4 (dk_at dksX2_best_1 16 rfl rfl)
theorem dX2_best_41 : decode cX2_best 41 = .ok (.istore 6, 2) := dk_54 6 (dk_at dksX2_best_1 17 rfl rfl)
theorem dX2_best_43 : decode cX2_best 43 = .ok (.iload 6, 2) := dk_21 6 (dk_at dksX2_best_1 19 rfl rfl)
theorem dX2_best_45 : decode cX2_best 45 = .ok (.ifCond .eq 201, 3) := dk_153 0 201 (dk_at dksX2_best_1 21 rfl rfl)
theorem dX2_best_48 : decode cX2_best 48 = .ok (.aload_n 0, 1) := dk_42 (dk_at dksX2_best_2 0 rfl rfl)
theorem dX2_best_49 : decode cX2_best 49 = .ok (.iload_n 1, 1) := dk_27 (dk_at dksX2_best_2 1 rfl rfl)
theorem dX2_best_50 : decode cX2_best 50 = .ok (.invokevirtual 223, 3) := dk_182 0 223 (dk_at dksX2_best_2 2 rfl rfl)
theorem dX2_best_53 : decode cX2_best 53 = .ok (.aload_n 0, 1) := dk_42 (dk_at dksX2_best_2 5 rfl rfl)
theorem dX2_best_54 : decode cX2_best 54 = .ok (.getfield 75, 3) := dk_180 0 75 (dk_at dksX2_best_2 6 rfl rfl)
theorem dX2_best_57 : decode cX2_best 57 = .ok (.iload_n 1, 1) := dk_27 (dk_at dksX2_best_2 9 rfl rfl)
theorem dX2_best_58 : decode cX2_best 58 = .ok (.baload, 1) := dk_51 (dk_at dksX2_best_2 10 rfl rfl)
theorem dX2_best_59 : decode cX2_best 59 = .ok (.ifCond .eq 14, 3) := dk_153 0 14 (dk_at dksX2_best_2 11 rfl rfl)
theorem dX2_best_62 : decode cX2_best 62 = .ok (.aload_n 0, 1) := dk_42 (dk_at dksX2_best_2 14 rfl rfl)
theorem dX2_best_63 : decode cX2_best 63 = .ok (.invokevirtual 220, 3) := dk_182 0 220 (dk_at dksX2_best_2 15 rfl rfl)
theorem dX2_best_66 : decode cX2_best 66 = .ok (.aload_n 0, 1) := dk_42 (dk_at dksX2_best_2 18 rfl rfl)
theorem dX2_best_67 : decode cX2_best 67 = .ok (.bipush 9, 2) := dk_16 9 (dk_at dksX2_best_2 19 rfl rfl)
theorem dX2_best_69 : decode cX2_best 69 = .ok (.invokevirtual 147, 3) := dk_182 0 147 (dk_at dksX2_best_2 21 rfl rfl)
theorem dX2_best_72 : decode cX2_best 72 = .ok (.ireturn, 1) := dk_172 (dk_at dksX2_best_3 0 rfl rfl)
theorem dX2_best_73 : decode cX2_best 73 = .ok (.iconst 0, 1) := dk_3 (dk_at dksX2_best_3 1 rfl rfl)
theorem dX2_best_74 : decode cX2_best 74 = .ok (.istore 7, 2) := dk_54 7 (dk_at dksX2_best_3 2 rfl rfl)
theorem dX2_best_76 : decode cX2_best 76 = .ok (.iconst 0, 1) := dk_3 (dk_at dksX2_best_3 4 rfl rfl)
theorem dX2_best_77 : decode cX2_best 77 = .ok (.istore 8, 2) := dk_54 8 (dk_at dksX2_best_3 5 rfl rfl)
theorem dX2_best_79 : decode cX2_best 79 = .ok (.iload 8, 2) := dk_21 8 (dk_at dksX2_best_3 7 rfl rfl)
theorem dX2_best_81 : decode cX2_best 81 = .ok (.aload_n 0, 1) := dk_42 (dk_at dksX2_best_3 9 rfl rfl)
theorem dX2_best_82 : decode cX2_best 82 = .ok (.getfield 136, 3) := dk_180 0 136 (dk_at dksX2_best_3 10 rfl rfl)
theorem dX2_best_85 : decode cX2_best 85 = .ok (.if_icmp .ge 55, 3) := dk_162 0 55 (dk_at dksX2_best_3 13 rfl rfl)
theorem dX2_best_88 : decode cX2_best 88 = .ok (.iload 7, 2) := dk_21 7 (dk_at dksX2_best_3 16 rfl rfl)
theorem dX2_best_90 : decode cX2_best 90 = .ok (.aload_n 0, 1) := dk_42 (dk_at dksX2_best_3 18 rfl rfl)
theorem dX2_best_91 : decode cX2_best 91 = .ok (.getfield 24, 3) := dk_180 0 24 (dk_at dksX2_best_3 19 rfl rfl)
theorem dX2_best_94 : decode cX2_best 94 = .ok (.iload 8, 2) := dk_21 8 (dk_at dksX2_best_3 22 rfl rfl)
theorem dX2_best_96 : decode cX2_best 96 = .ok (.iaload, 1) := dk_46 (dk_at dksX2_best_4 0 rfl rfl)
theorem dX2_best_97 : decode cX2_best 97 = .ok (.ifCond .ne 33, 3) := dk_154 0 33 (dk_at dksX2_best_4 1 rfl rfl)
theorem dX2_best_100 : decode cX2_best 100 = .ok (.aload_n 0, 1) := dk_42 (dk_at dksX2_best_4 4 rfl rfl)
theorem dX2_best_101 : decode cX2_best 101 = .ok (.iload_n 1, 1) := dk_27 (dk_at dksX2_best_4 5 rfl rfl)
theorem dX2_best_102 : decode cX2_best 102 = .ok (.iload 8, 2) := dk_21 8 (dk_at dksX2_best_4 6 rfl rfl)
theorem dX2_best_104 : decode cX2_best 104 = .ok (.invokevirtual 226, 3) := dk_182 0 226 (dk_at dksX2_best_4 8 rfl rfl)
theorem dX2_best_107 : decode cX2_best 107 = .ok (.ifCond .eq 23, 3) := dk_153 0 23 (dk_at dksX2_best_4 11 rfl rfl)
theorem dX2_best_110 : decode cX2_best 110 = .ok (.aload_n 0, 1) := dk_42 (dk_at dksX2_best_4 14 rfl rfl)
theorem dX2_best_111 : decode cX2_best 111 = .ok (.getfield 42, 3) := dk_180 0 42 (dk_at dksX2_best_4 15 rfl rfl)
theorem dX2_best_114 : decode cX2_best 114 = .ok (.iconst 3, 1) := dk_6 (dk_at dksX2_best_4 18 rfl rfl)
theorem dX2_best_115 : decode cX2_best 115 = .ok (.iload 8, 2) := dk_21 8 (dk_at dksX2_best_4 19 rfl rfl)
theorem dX2_best_117 : decode cX2_best 117 = .ok (.imul, 1) := dk_104 (dk_at dksX2_best_4 21 rfl rfl)
theorem dX2_best_118 : decode cX2_best 118 = .ok (.aload_n 0, 1) := dk_42 (dk_at dksX2_best_4 22 rfl rfl)
theorem dX2_best_119 : decode cX2_best 119 = .ok (.getfield 48, 3) := dk_180 0 48 (dk_at dksX2_best_5 0 rfl rfl)
theorem dX2_best_122 : decode cX2_best 122 = .ok (.iload 8, 2) := dk_21 8 (dk_at dksX2_best_5 3 rfl rfl)
theorem dX2_best_124 : decode cX2_best 124 = .ok (.iaload, 1) := dk_46 (dk_at dksX2_best_5 5 rfl rfl)
theorem dX2_best_125 : decode cX2_best 125 = .ok (.iadd, 1) := dk_96 (dk_at dksX2_best_5 6 rfl rfl)
theorem dX2_best_126 : decode cX2_best 126 = .ok (.iaload, 1) := dk_46 (dk_at dksX2_best_5 7 rfl rfl)
theorem dX2_best_127 : decode cX2_best 127 = .ok (.goto 4, 3) := dk_167 0 4 (dk_at dksX2_best_5 8 rfl rfl)
theorem dX2_best_130 : decode cX2_best 130 = .ok (.iconst 0, 1) := dk_3 (dk_at dksX2_best_5 11 rfl rfl)
theorem dX2_best_131 : decode cX2_best 131 = .ok (.iadd, 1) := dk_96 (dk_at dksX2_best_5 12 rfl rfl)
theorem dX2_best_132 : decode cX2_best 132 = .ok (.istore 7, 2) := dk_54 7 (dk_at dksX2_best_5 13 rfl rfl)
theorem dX2_best_134 : decode cX2_best 134 = .ok (.iinc 8 1, 3) := dk_132 8 1 (dk_at dksX2_best_5 15 rfl rfl)
theorem dX2_best_137 : decode cX2_best 137 = .ok (.goto (-58), 3) := dk_167 255 198 (dk_at dksX2_best_5 18 rfl rfl)
theorem dX2_best_140 : decode cX2_best 140 = .ok (.iload 5, 2) := dk_21 5 (dk_at dksX2_best_5 21 rfl rfl)
theorem dX2_best_142 : decode cX2_best 142 = .ok (.iconst (-1), 1) := dk_2 (dk_at dksX2_best_5 23 rfl rfl)
theorem dX2_best_143 : decode cX2_best 143 = .ok (.if_icmp .eq 10, 3) := dk_159 0 10 (dk_at dksX2_best_6 0 rfl rfl)
theorem dX2_best_146 : decode cX2_best 146 = .ok (.iload 7, 2) := dk_21 7 (dk_at dksX2_best_6 3 rfl rfl)
theorem dX2_best_148 : decode cX2_best 148 = .ok (.iload 5, 2) := dk_21 5 (dk_at dksX2_best_6 5 rfl rfl)
theorem dX2_best_150 : decode cX2_best 150 = .ok (.if_icmp .ge 86, 3) := dk_162 0 86 (dk_at dksX2_best_6 7 rfl rfl)
theorem dX2_best_153 : decode cX2_best 153 = .ok (.aload_n 0, 1) := dk_42 (dk_at dksX2_best_6 10 rfl rfl)
theorem dX2_best_154 : decode cX2_best 154 = .ok (.iload_n 1, 1) := dk_27 (dk_at dksX2_best_6 11 rfl rfl)
theorem dX2_best_155 : decode cX2_best 155 = .ok (.iload_n 2, 1) := dk_28 (dk_at dksX2_best_6 12 rfl rfl)
theorem dX2_best_156 : decode cX2_best 156 = .ok (.invokevirtual 236, 3) := dk_182 0 236 (dk_at dksX2_best_6 13 rfl rfl)
theorem dX2_best_159 : decode cX2_best 159 = .ok (.aload_n 0, 1) := dk_42 (dk_at dksX2_best_6 16 rfl rfl)
theorem dX2_best_160 : decode cX2_best 160 = .ok (.getfield 72, 3) := dk_180 0 72 (dk_at dksX2_best_6 17 rfl rfl)
theorem dX2_best_163 : decode cX2_best 163 = .ok (.iload_n 1, 1) := dk_27 (dk_at dksX2_best_6 20 rfl rfl)
theorem dX2_best_164 : decode cX2_best 164 = .ok (.laload, 1) := dk_47 (dk_at dksX2_best_6 21 rfl rfl)
theorem dX2_best_165 : decode cX2_best 165 = .ok (.iload_n 3, 1) := dk_29 (dk_at dksX2_best_6 22 rfl rfl)
theorem dX2_best_166 : decode cX2_best 166 = .ok (.i2l, 1) := dk_133 (dk_at dksX2_best_6 23 rfl rfl)
theorem dX2_best_167 : decode cX2_best 167 = .ok (.iload 4, 2) := dk_21 4 (dk_at dksX2_best_7 0 rfl rfl)
theorem dX2_best_169 : decode cX2_best 169 = .ok (.i2l, 1) := dk_133 (dk_at dksX2_best_7 2 rfl rfl)
theorem dX2_best_170 : decode cX2_best 170 = .ok (.invokestatic 248, 3) := dk_184 0 248 (dk_at dksX2_best_7 3 rfl rfl)
theorem dX2_best_173 : decode cX2_best 173 = .ok (.ifCond .eq 63, 3) := dk_153 0 63 (dk_at dksX2_best_7 6 rfl rfl)
theorem dX2_best_176 : decode cX2_best 176 = .ok (.iload 7, 2) := dk_21 7 (dk_at dksX2_best_7 9 rfl rfl)
theorem dX2_best_178 : decode cX2_best 178 = .ok (.istore 5, 2) := dk_54 5 (dk_at dksX2_best_7 11 rfl rfl)
theorem dX2_best_180 : decode cX2_best 180 = .ok (.iconst 0, 1) := dk_3 (dk_at dksX2_best_7 13 rfl rfl)
theorem dX2_best_181 : decode cX2_best 181 = .ok (.istore 8, 2) := dk_54 8 (dk_at dksX2_best_7 14 rfl rfl)
theorem dX2_best_183 : decode cX2_best 183 = .ok (.iload 8, 2) := dk_21 8 (dk_at dksX2_best_7 16 rfl rfl)
theorem dX2_best_185 : decode cX2_best 185 = .ok (.aload_n 0, 1) := dk_42 (dk_at dksX2_best_7 18 rfl rfl)
theorem dX2_best_186 : decode cX2_best 186 = .ok (.getfield 136, 3) := dk_180 0 136 (dk_at dksX2_best_7 19 rfl rfl)
theorem dX2_best_189 : decode cX2_best 189 = .ok (.if_icmp .ge 47, 3) := dk_162 0 47 (dk_at dksX2_best_8 0 rfl rfl)
theorem dX2_best_192 : decode cX2_best 192 = .ok (.aload_n 0, 1) := dk_42 (dk_at dksX2_best_8 3 rfl rfl)
theorem dX2_best_193 : decode cX2_best 193 = .ok (.getfield 109, 3) := dk_180 0 109 (dk_at dksX2_best_8 4 rfl rfl)
theorem dX2_best_196 : decode cX2_best 196 = .ok (.iload 8, 2) := dk_21 8 (dk_at dksX2_best_8 7 rfl rfl)
theorem dX2_best_198 : decode cX2_best 198 = .ok (.aload_n 0, 1) := dk_42 (dk_at dksX2_best_8 9 rfl rfl)
theorem dX2_best_199 : decode cX2_best 199 = .ok (.getfield 24, 3) := dk_180 0 24 (dk_at dksX2_best_8 10 rfl rfl)
theorem dX2_best_202 : decode cX2_best 202 = .ok (.iload 8, 2) := dk_21 8 (dk_at dksX2_best_8 13 rfl rfl)
theorem dX2_best_204 : decode cX2_best 204 = .ok (.iaload, 1) := dk_46 (dk_at dksX2_best_8 15 rfl rfl)
theorem dX2_best_205 : decode cX2_best 205 = .ok (.ifCond .ne 23, 3) := dk_154 0 23 (dk_at dksX2_best_8 16 rfl rfl)
theorem dX2_best_208 : decode cX2_best 208 = .ok (.aload_n 0, 1) := dk_42 (dk_at dksX2_best_8 19 rfl rfl)
theorem dX2_best_209 : decode cX2_best 209 = .ok (.iload_n 1, 1) := dk_27 (dk_at dksX2_best_8 20 rfl rfl)
theorem dX2_best_210 : decode cX2_best 210 = .ok (.iload 8, 2) := dk_21 8 (dk_at dksX2_best_8 21 rfl rfl)
theorem dX2_best_212 : decode cX2_best 212 = .ok (.invokevirtual 226, 3) := dk_182 0 226 (dk_at dksX2_best_9 0 rfl rfl)
theorem dX2_best_215 : decode cX2_best 215 = .ok (.ifCond .eq 13, 3) := dk_153 0 13 (dk_at dksX2_best_9 3 rfl rfl)
theorem dX2_best_218 : decode cX2_best 218 = .ok (.aload_n 0, 1) := dk_42 (dk_at dksX2_best_9 6 rfl rfl)
theorem dX2_best_219 : decode cX2_best 219 = .ok (.getfield 48, 3) := dk_180 0 48 (dk_at dksX2_best_9 7 rfl rfl)
theorem dX2_best_222 : decode cX2_best 222 = .ok (.iload 8, 2) := dk_21 8 (dk_at dksX2_best_9 10 rfl rfl)
theorem dX2_best_224 : decode cX2_best 224 = .ok (.iaload, 1) := dk_46 (dk_at dksX2_best_9 12 rfl rfl)
theorem dX2_best_225 : decode cX2_best 225 = .ok (.goto 4, 3) := dk_167 0 4 (dk_at dksX2_best_9 13 rfl rfl)
theorem dX2_best_228 : decode cX2_best 228 = .ok (.iconst (-1), 1) := dk_2 (dk_at dksX2_best_9 16 rfl rfl)
theorem dX2_best_229 : decode cX2_best 229 = .ok (.iastore, 1) := dk_79 (dk_at dksX2_best_9 17 rfl rfl)
theorem dX2_best_230 : decode cX2_best 230 = .ok (.iinc 8 1, 3) := dk_132 8 1 (dk_at dksX2_best_9 18 rfl rfl)
theorem dX2_best_233 : decode cX2_best 233 = .ok (.goto (-50), 3) := dk_167 255 206 (dk_at dksX2_best_9 21 rfl rfl)
theorem dX2_best_236 : decode cX2_best 236 = .ok (.aload_n 0, 1) := dk_42 (dk_at dksX2_best_10 0 rfl rfl)
theorem dX2_best_237 : decode cX2_best 237 = .ok (.iload_n 1, 1) := dk_27 (dk_at dksX2_best_10 1 rfl rfl)
theorem dX2_best_238 : decode cX2_best 238 = .ok (.invokevirtual 279, 3) := dk_182 1 23 (dk_at dksX2_best_10 2 rfl rfl)
theorem dX2_best_241 : decode cX2_best 241 = .ok (.istore 6, 2) := dk_54 6 (dk_at dksX2_best_10 5 rfl rfl)
theorem dX2_best_243 : decode cX2_best 243 = .ok (.goto (-200), 3) := dk_167 255 56 (dk_at dksX2_best_10 7 rfl rfl)
theorem dX2_best_246 : decode cX2_best 246 = .ok (.aload_n 0, 1) := dk_42 (dk_at dksX2_best_10 10 rfl rfl)
theorem dX2_best_247 : decode cX2_best 247 = .ok (.invokevirtual 220, 3) := dk_182 0 220 (dk_at dksX2_best_10 11 rfl rfl)
theorem dX2_best_250 : decode cX2_best 250 = .ok (.iload 5, 2) := dk_21 5 (dk_at dksX2_best_10 14 rfl rfl)
theorem dX2_best_252 : decode cX2_best 252 = .ok (.iconst (-1), 1) := dk_2 (dk_at dksX2_best_10 16 rfl rfl)
theorem dX2_best_253 : decode cX2_best 253 = .ok (.if_icmp .ne 10, 3) := dk_160 0 10 (dk_at dksX2_best_10 17 rfl rfl)
theorem dX2_best_256 : decode cX2_best 256 = .ok (.aload_n 0, 1) := dk_42 (dk_at dksX2_best_10 20 rfl rfl)
theorem dX2_best_257 : decode cX2_best 257 = .ok (.bipush 6, 2) := dk_16 6 (dk_at dksX2_best_10 21 rfl rfl)
theorem dX2_best_259 : decode cX2_best 259 = .ok (.invokevirtual 147, 3) := dk_182 0 147 (dk_at dksX2_best_11 0 rfl rfl)
theorem dX2_best_262 : decode cX2_best 262 = .ok (.ireturn, 1) := dk_172 (dk_at dksX2_best_11 3 rfl rfl)
theorem dX2_best_263 : decode cX2_best 263 = .ok (.aload_n 0, 1) := dk_42 (dk_at dksX2_best_11 4 rfl rfl)
theorem dX2_best_264 : decode cX2_best 264 = .ok (.iconst 1, 1) := dk_4 (dk_at dksX2_best_11 5 rfl rfl)
theorem dX2_best_265 : decode cX2_best 265 = .ok (.putfield 282, 3) := dk_181 1 26 (dk_at dksX2_best_11 6 rfl rfl)
theorem dX2_best_268 : decode cX2_best 268 = .ok (.iconst 0, 1) := dk_3 (dk_at dksX2_best_11 9 rfl rfl)
theorem dX2_best_269 : decode cX2_best 269 = .ok (.istore 7, 2) := dk_54 7 (dk_at dksX2_best_11 10 rfl rfl)
theorem dX2_best_271 : decode cX2_best 271 = .ok (.iload 7, 2) := dk_21 7 (dk_at dksX2_best_11 12 rfl rfl)
theorem dX2_best_273 : decode cX2_best 273 = .ok (.aload_n 0, 1) := dk_42 (dk_at dksX2_best_11 14 rfl rfl)
theorem dX2_best_274 : decode cX2_best 274 = .ok (.getfield 136, 3) := dk_180 0 136 (dk_at dksX2_best_11 15 rfl rfl)
theorem dX2_best_277 : decode cX2_best 277 = .ok (.if_icmp .ge 23, 3) := dk_162 0 23 (dk_at dksX2_best_11 18 rfl rfl)
theorem dX2_best_280 : decode cX2_best 280 = .ok (.aload_n 0, 1) := dk_42 (dk_at dksX2_best_11 21 rfl rfl)
theorem dX2_best_281 : decode cX2_best 281 = .ok (.getfield 54, 3) := dk_180 0 54 (dk_at dksX2_best_12 0 rfl rfl)
theorem dX2_best_284 : decode cX2_best 284 = .ok (.iload 7, 2) := dk_21 7 (dk_at dksX2_best_12 3 rfl rfl)
theorem dX2_best_286 : decode cX2_best 286 = .ok (.aload_n 0, 1) := dk_42 (dk_at dksX2_best_12 5 rfl rfl)
theorem dX2_best_287 : decode cX2_best 287 = .ok (.getfield 109, 3) := dk_180 0 109 (dk_at dksX2_best_12 6 rfl rfl)
theorem dX2_best_290 : decode cX2_best 290 = .ok (.iload 7, 2) := dk_21 7 (dk_at dksX2_best_12 9 rfl rfl)
theorem dX2_best_292 : decode cX2_best 292 = .ok (.iaload, 1) := dk_46 (dk_at dksX2_best_12 11 rfl rfl)
theorem dX2_best_293 : decode cX2_best 293 = .ok (.iastore, 1) := dk_79 (dk_at dksX2_best_12 12 rfl rfl)
theorem dX2_best_294 : decode cX2_best 294 = .ok (.iinc 7 1, 3) := dk_132 7 1 (dk_at dksX2_best_12 13 rfl rfl)
theorem dX2_best_297 : decode cX2_best 297 = .ok (.goto (-26), 3) := dk_167 255 230 (dk_at dksX2_best_12 16 rfl rfl)
theorem dX2_best_300 : decode cX2_best 300 = .ok (.aload_n 0, 1) := dk_42 (dk_at dksX2_best_12 19 rfl rfl)
theorem dX2_best_301 : decode cX2_best 301 = .ok (.iconst 0, 1) := dk_3 (dk_at dksX2_best_12 20 rfl rfl)
theorem dX2_best_302 : decode cX2_best 302 = .ok (.putfield 112, 3) := dk_181 0 112 (dk_at dksX2_best_12 21 rfl rfl)
theorem dX2_best_305 : decode cX2_best 305 = .ok (.iload 5, 2) := dk_21 5 (dk_at dksX2_best_13 0 rfl rfl)
theorem dX2_best_307 : decode cX2_best 307 = .ok (.ireturn, 1) := dk_172 (dk_at dksX2_best_13 2 rfl rfl)
abbrev cX2_next : ByteArray := prog_13_method_64_code
def yX2_next : MethodName := ⟨RX2, "next", "(I)Z"⟩
def dkwX2_next_3 : List UInt8 := [167, 255, 194, 3, 172]
abbrev dktX2_next_3 : List UInt8 := dkwX2_next_3 ++ []
def dkwX2_next_2 : List UInt8 := [46, 42, 180, 0, 39, 28, 46, 162, 0, 5, 4, 172, 42, 180, 0, 48, 28, 3, 79, 132, 2, 255]
abbrev dktX2_next_2 : List UInt8 := dkwX2_next_2 ++ dktX2_next_3
def dkwX2_next_1 : List UInt8 := [182, 0, 226, 154, 0, 6, 167, 0, 37, 42, 180, 0, 48, 28, 92, 46, 4, 96, 79, 42, 180, 0, 48, 28]
abbrev dktX2_next_1 : List UInt8 := dkwX2_next_1 ++ dktX2_next_2
def dkwX2_next_0 : List UInt8 := [42, 180, 0, 136, 4, 100, 61, 28, 155, 0, 64, 42, 180, 0, 24, 28, 46, 154, 0, 49, 42, 27, 28]
abbrev dktX2_next_0 : List UInt8 := dkwX2_next_0 ++ dktX2_next_1
theorem dksX2_next_0 : cX2_next.data.toList.drop 0 = dktX2_next_0 := by decide +kernel
theorem dksX2_next_1 : cX2_next.data.toList.drop 23 = dktX2_next_1 := dk_seg dksX2_next_0 23 rfl rfl
theorem dksX2_next_2 : cX2_next.data.toList.drop 47 = dktX2_next_2 := dk_seg dksX2_next_1 24 rfl rfl
theorem dksX2_next_3 : cX2_next.data.toList.drop 69 = dktX2_next_3 := dk_seg dksX2_next_2 22 rfl rfl
theorem dX2_next_0 : decode cX2_next 0 = .ok (.aload_n 0, 1) := dk_42 (dk_at dksX2_next_0 0 rfl rfl)
theorem dX2_next_1 : decode cX2_next 1 = .ok (.getfield 136, 3) := dk_180 0 136 (dk_at dksX2_next_0 1 rfl rfl)
theorem dX2_next_4 : decode cX2_next 4 = .ok (.iconst 1, 1) := dk_4 (dk_at dksX2_next_0 4 rfl rfl)
theorem dX2_next_5 : decode cX2_next 5 = .ok (.isub, 1) := dk_100 (dk_at dksX2_next_0 5 rfl rfl)
theorem dX2_next_6 : decode cX2_next 6 = .ok (.istore_n 2, 1) := dk_61 (dk_at dksX2_next_0 6 rfl rfl)
theorem dX2_next_7 : decode cX2_next 7 = .ok (.iload_n 2, 1) := dk_28 (dk_at dksX2_next_0 7 rfl rfl)
theorem dX2_next_8 : decode cX2_next 8 = .ok (.ifCond .lt 64, 3) := dk_155 0 64 (dk_at dksX2_next_0 8 rfl rfl)
theorem dX2_next_11 : decode cX2_next 11 = .ok (.aload_n 0, 1) := dk_42 (dk_at dksX2_next_0 11 rfl rfl)
theorem dX2_next_12 : decode cX2_next 12 = .ok (.getfield 24, 3) := dk_180 0 24 (dk_at dksX2_next_0 12 rfl rfl)
theorem dX2_next_15 : decode cX2_next 15 = .ok (.iload_n 2, 1) := dk_28 (dk_at dksX2_next_0 15 rfl rfl)
theorem dX2_next_16 : decode cX2_next 16 = .ok (.iaload, 1) := dk_46 (dk_at dksX2_next_0 16 rfl rfl)
theorem dX2_next_17 : decode cX2_next 17 = .ok (.ifCond .ne 49, 3) := dk_154 0 49 (dk_at dksX2_next_0 17 rfl rfl)
theorem dX2_next_20 : decode cX2_next 20 = .ok (.aload_n 0, 1) := dk_42 (dk_at dksX2_next_0 20 rfl rfl)
theorem dX2_next_21 : decode cX2_next 21 = .ok (.iload_n 1, 1) := dk_27 (dk_at dksX2_next_0 21 rfl rfl)
theorem dX2_next_22 : decode cX2_next 22 = .ok (.iload_n 2, 1) := dk_28 (dk_at dksX2_next_0 22 rfl rfl)
theorem dX2_next_23 : decode cX2_next 23 = .ok (.invokevirtual 226, 3) := dk_182 0 226 (dk_at dksX2_next_1 0 rfl rfl)
theorem dX2_next_26 : decode cX2_next 26 = .ok (.ifCond .ne 6, 3) := dk_154 0 6 (dk_at dksX2_next_1 3 rfl rfl)
theorem dX2_next_29 : decode cX2_next 29 = .ok (.goto 37, 3) := dk_167 0 37 (dk_at dksX2_next_1 6 rfl rfl)
theorem dX2_next_32 : decode cX2_next 32 = .ok (.aload_n 0, 1) := dk_42 (dk_at dksX2_next_1 9 rfl rfl)
theorem dX2_next_33 : decode cX2_next 33 = .ok (.getfield 48, 3) := dk_180 0 48 (dk_at dksX2_next_1 10 rfl rfl)
theorem dX2_next_36 : decode cX2_next 36 = .ok (.iload_n 2, 1) := dk_28 (dk_at dksX2_next_1 13 rfl rfl)
theorem dX2_next_37 : decode cX2_next 37 = .ok (.dup2, 1) := dk_92 (dk_at dksX2_next_1 14 rfl rfl)
theorem dX2_next_38 : decode cX2_next 38 = .ok (.iaload, 1) := dk_46 (dk_at dksX2_next_1 15 rfl rfl)
theorem dX2_next_39 : decode cX2_next 39 = .ok (.iconst 1, 1) := dk_4 (dk_at dksX2_next_1 16 rfl rfl)
theorem dX2_next_40 : decode cX2_next 40 = .ok (.iadd, 1) := dk_96 (dk_at dksX2_next_1 17 rfl rfl)
theorem dX2_next_41 : decode cX2_next 41 = .ok (.iastore, 1) := dk_79 (dk_at dksX2_next_1 18 rfl rfl)
theorem dX2_next_42 : decode cX2_next 42 = .ok (.aload_n 0, 1) := dk_42 (dk_at dksX2_next_1 19 rfl rfl)
theorem dX2_next_43 : decode cX2_next 43 = .ok (.getfield 48, 3) := dk_180 0 48 (dk_at dksX2_next_1 20 rfl rfl)
theorem dX2_next_46 : decode cX2_next 46 = .ok (.iload_n 2, 1) := dk_28 (dk_at dksX2_next_1 23 rfl rfl)
theorem dX2_next_47 : decode cX2_next 47 = .ok (.iaload, 1) := dk_46 (dk_at dksX2_next_2 0 rfl rfl)
theorem dX2_next_48 : decode cX2_next 48 = .ok (.aload_n 0, 1) := dk_42 (dk_at dksX2_next_2 1 rfl rfl)
theorem dX2_next_49 : decode cX2_next 49 = .ok (.getfield 39, 3) := dk_180 0 39 (dk_at dksX2_next_2 2 rfl rfl)
theorem dX2_next_52 : decode cX2_next 52 = .ok (.iload_n 2, 1) := dk_28 (dk_at dksX2_next_2 5 rfl rfl)
theorem dX2_next_53 : decode cX2_next 53 = .ok (.iaload, 1) := dk_46 (dk_at dksX2_next_2 6 rfl rfl)
theorem dX2_next_54 : decode cX2_next 54 = .ok (.if_icmp .ge 5, 3) := dk_162 0 5 (dk_at dksX2_next_2 7 rfl rfl)
theorem dX2_next_57 : decode cX2_next 57 = .ok (.iconst 1, 1) := dk_4 (dk_at dksX2_next_2 10 rfl rfl)
theorem dX2_next_58 : decode cX2_next 58 = .ok (.ireturn, 1) := dk_172 (dk_at dksX2_next_2 11 rfl rfl)
theorem dX2_next_59 : decode cX2_next 59 = .ok (.aload_n 0, 1) := dk_42 (dk_at dksX2_next_2 12 rfl rfl)
theorem dX2_next_60 : decode cX2_next 60 = .ok (.getfield 48, 3) := dk_180 0 48 (dk_at dksX2_next_2 13 rfl rfl)
theorem dX2_next_63 : decode cX2_next 63 = .ok (.iload_n 2, 1) := dk_28 (dk_at dksX2_next_2 16 rfl rfl)
theorem dX2_next_64 : decode cX2_next 64 = .ok (.iconst 0, 1) := dk_3 (dk_at dksX2_next_2 17 rfl rfl)
theorem dX2_next_65 : decode cX2_next 65 = .ok (.iastore, 1) := dk_79 (dk_at dksX2_next_2 18 rfl rfl)
theorem dX2_next_66 : decode cX2_next 66 = .ok (.iinc 2 (-1), 3) := dk_132 2 255 (dk_at dksX2_next_2 19 rfl rfl)
theorem dX2_next_69 : decode cX2_next 69 = .ok (.goto (-62), 3) := dk_167 255 194 (dk_at dksX2_next_3 0 rfl rfl)
theorem dX2_next_72 : decode cX2_next 72 = .ok (.iconst 0, 1) := dk_3 (dk_at dksX2_next_3 3 rfl rfl)
theorem dX2_next_73 : decode cX2_next 73 = .ok (.ireturn, 1) := dk_172 (dk_at dksX2_next_3 4 rfl rfl)
abbrev cX2_chosen : ByteArray := prog_13_method_66_code
def yX2_chosen : MethodName := ⟨RX2, "chosen", "(I)I"⟩
def dkwX2_chosen_2 : List UInt8 := [180, 0, 54, 27, 46, 172]
abbrev dktX2_chosen_2 : List UInt8 := dkwX2_chosen_2 ++ []
def dkwX2_chosen_1 : List UInt8 := [180, 0, 54, 27, 46, 2, 160, 0, 10, 42, 16, 6, 182, 0, 147, 172, 42, 3, 181, 0, 112, 42]
abbrev dktX2_chosen_1 : List UInt8 := dkwX2_chosen_1 ++ dktX2_chosen_2
def dkwX2_chosen_0 : List UInt8 := [42, 27, 182, 1, 14, 154, 0, 9, 42, 4, 182, 0, 147, 172, 42, 180, 1, 26, 153, 0, 13, 42]
abbrev dktX2_chosen_0 : List UInt8 := dkwX2_chosen_0 ++ dktX2_chosen_1
theorem dksX2_chosen_0 : cX2_chosen.data.toList.drop 0 = dktX2_chosen_0 := by decide +kernel
theorem dksX2_chosen_1 : cX2_chosen.data.toList.drop 22 = dktX2_chosen_1 := dk_seg dksX2_chosen_0 22 rfl rfl
theorem dksX2_chosen_2 : cX2_chosen.data.toList.drop 44 = dktX2_chosen_2 := dk_seg dksX2_chosen_1 22 rfl rfl
theorem dX2_chosen_0 : decode cX2_chosen 0 = .ok (.aload_n 0, 1) := dk_42 (dk_at dksX2_chosen_0 0 rfl rfl)
theorem dX2_chosen_1 : decode cX2_chosen 1 = .ok (.iload_n 1, 1) := dk_27 (dk_at dksX2_chosen_0 1 rfl rfl)
theorem dX2_chosen_2 : decode cX2_chosen 2 = .ok (.invokevirtual 270, 3) := dk_182 1 14 (dk_at dksX2_chosen_0 2 rfl rfl)
theorem dX2_chosen_5 : decode cX2_chosen 5 = .ok (.ifCond .ne 9, 3) := dk_154 0 9 (dk_at dksX2_chosen_0 5 rfl rfl)
theorem dX2_chosen_8 : decode cX2_chosen 8 = .ok (.aload_n 0, 1) := dk_42 (dk_at dksX2_chosen_0 8 rfl rfl)
theorem dX2_chosen_9 : decode cX2_chosen 9 = .ok (.iconst 1, 1) := dk_4 (dk_at dksX2_chosen_0 9 rfl rfl)
theorem dX2_chosen_10 : decode cX2_chosen 10 = .ok (.invokevirtual 147, 3) := dk_182 0 147 (dk_at dksX2_chosen_0 10 rfl rfl)
theorem dX2_chosen_13 : decode cX2_chosen 13 = .ok (.ireturn, 1) := dk_172 (dk_at dksX2_chosen_0 13 rfl rfl)
theorem dX2_chosen_14 : decode cX2_chosen 14 = .ok (.aload_n 0, 1) := dk_42 (dk_at dksX2_chosen_0 14 rfl rfl)
theorem dX2_chosen_15 : decode cX2_chosen 15 = .ok (.getfield 282, 3) := dk_180 1 26 (dk_at dksX2_chosen_0 15 rfl rfl)
theorem dX2_chosen_18 : decode cX2_chosen 18 = .ok (.ifCond .eq 13, 3) := dk_153 0 13 (dk_at dksX2_chosen_0 18 rfl rfl)
theorem dX2_chosen_21 : decode cX2_chosen 21 = .ok (.aload_n 0, 1) := dk_42 (dk_at dksX2_chosen_0 21 rfl rfl)
theorem dX2_chosen_22 : decode cX2_chosen 22 = .ok (.getfield 54, 3) := dk_180 0 54 (dk_at dksX2_chosen_1 0 rfl rfl)
theorem dX2_chosen_25 : decode cX2_chosen 25 = .ok (.iload_n 1, 1) := dk_27 (dk_at dksX2_chosen_1 3 rfl rfl)
theorem dX2_chosen_26 : decode cX2_chosen 26 = .ok (.iaload, 1) := dk_46 (dk_at dksX2_chosen_1 4 rfl rfl)
theorem dX2_chosen_27 : decode cX2_chosen 27 = .ok (.iconst (-1), 1) := dk_2 (dk_at dksX2_chosen_1 5 rfl rfl)
theorem dX2_chosen_28 : decode cX2_chosen 28 = .ok (.if_icmp .ne 10, 3) := dk_160 0 10 (dk_at dksX2_chosen_1 6 rfl rfl)
theorem dX2_chosen_31 : decode cX2_chosen 31 = .ok (.aload_n 0, 1) := dk_42 (dk_at dksX2_chosen_1 9 rfl rfl)
theorem dX2_chosen_32 : decode cX2_chosen 32 = .ok (.bipush 6, 2) := dk_16 6 (dk_at dksX2_chosen_1 10 rfl rfl)
theorem dX2_chosen_34 : decode cX2_chosen 34 = .ok (.invokevirtual 147, 3) := dk_182 0 147 (dk_at dksX2_chosen_1 12 rfl rfl)
theorem dX2_chosen_37 : decode cX2_chosen 37 = .ok (.ireturn, 1) := dk_172 (dk_at dksX2_chosen_1 15 rfl rfl)
theorem dX2_chosen_38 : decode cX2_chosen 38 = .ok (.aload_n 0, 1) := dk_42 (dk_at dksX2_chosen_1 16 rfl rfl)
theorem dX2_chosen_39 : decode cX2_chosen 39 = .ok (.iconst 0, 1) := dk_3 (dk_at dksX2_chosen_1 17 rfl rfl)
theorem dX2_chosen_40 : decode cX2_chosen 40 = .ok (.putfield 112, 3) := dk_181 0 112 (dk_at dksX2_chosen_1 18 rfl rfl)
theorem dX2_chosen_43 : decode cX2_chosen 43 = .ok (.aload_n 0, 1) := dk_42 (dk_at dksX2_chosen_1 21 rfl rfl)
theorem dX2_chosen_44 : decode cX2_chosen 44 = .ok (.getfield 54, 3) := dk_180 0 54 (dk_at dksX2_chosen_2 0 rfl rfl)
theorem dX2_chosen_47 : decode cX2_chosen 47 = .ok (.iload_n 1, 1) := dk_27 (dk_at dksX2_chosen_2 3 rfl rfl)
theorem dX2_chosen_48 : decode cX2_chosen 48 = .ok (.iaload, 1) := dk_46 (dk_at dksX2_chosen_2 4 rfl rfl)
theorem dX2_chosen_49 : decode cX2_chosen 49 = .ok (.ireturn, 1) := dk_172 (dk_at dksX2_chosen_2 5 rfl rfl)
abbrev cX2_part : ByteArray := prog_13_method_67_code
def yX2_part : MethodName := ⟨RX2, "part", "(II)Z"⟩
def dkwX2_part_1 : List UInt8 := [172, 42, 180, 0, 51, 27, 28, 79, 42, 3, 182, 0, 123, 172]
abbrev dktX2_part_1 : List UInt8 := dkwX2_part_1 ++ []
def dkwX2_part_0 : List UInt8 := [42, 27, 182, 1, 14, 153, 0, 14, 28, 2, 161, 0, 9, 28, 16, 121, 161, 0, 9, 42, 4, 182, 0, 123]
abbrev dktX2_part_0 : List UInt8 := dkwX2_part_0 ++ dktX2_part_1
theorem dksX2_part_0 : cX2_part.data.toList.drop 0 = dktX2_part_0 := by decide +kernel
theorem dksX2_part_1 : cX2_part.data.toList.drop 24 = dktX2_part_1 := dk_seg dksX2_part_0 24 rfl rfl
theorem dX2_part_0 : decode cX2_part 0 = .ok (.aload_n 0, 1) := dk_42 (dk_at dksX2_part_0 0 rfl rfl)
theorem dX2_part_1 : decode cX2_part 1 = .ok (.iload_n 1, 1) := dk_27 (dk_at dksX2_part_0 1 rfl rfl)
theorem dX2_part_2 : decode cX2_part 2 = .ok (.invokevirtual 270, 3) := dk_182 1 14 (dk_at dksX2_part_0 2 rfl rfl)
theorem dX2_part_5 : decode cX2_part 5 = .ok (.ifCond .eq 14, 3) := dk_153 0 14 (dk_at dksX2_part_0 5 rfl rfl)
theorem dX2_part_8 : decode cX2_part 8 = .ok (.iload_n 2, 1) := dk_28 (dk_at dksX2_part_0 8 rfl rfl)
theorem dX2_part_9 : decode cX2_part 9 = .ok (.iconst (-1), 1) := dk_2 (dk_at dksX2_part_0 9 rfl rfl)
theorem dX2_part_10 : decode cX2_part 10 = .ok (.if_icmp .lt 9, 3) := dk_161 0 9 (dk_at dksX2_part_0 10 rfl rfl)
theorem dX2_part_13 : decode cX2_part 13 = .ok (.iload_n 2, 1) := dk_28 (dk_at dksX2_part_0 13 rfl rfl)
theorem dX2_part_14 : decode cX2_part 14 = .ok (.bipush 121, 2) := dk_16 121 (dk_at dksX2_part_0 14 rfl rfl)
theorem dX2_part_16 : decode cX2_part 16 = .ok (.if_icmp .lt 9, 3) := dk_161 0 9 (dk_at dksX2_part_0 16 rfl rfl)
theorem dX2_part_19 : decode cX2_part 19 = .ok (.aload_n 0, 1) := dk_42 (dk_at dksX2_part_0 19 rfl rfl)
theorem dX2_part_20 : decode cX2_part 20 = .ok (.iconst 1, 1) := dk_4 (dk_at dksX2_part_0 20 rfl rfl)
theorem dX2_part_21 : decode cX2_part 21 = .ok (.invokevirtual 123, 3) := dk_182 0 123 (dk_at dksX2_part_0 21 rfl rfl)
theorem dX2_part_24 : decode cX2_part 24 = .ok (.ireturn, 1) := dk_172 (dk_at dksX2_part_1 0 rfl rfl)
theorem dX2_part_25 : decode cX2_part 25 = .ok (.aload_n 0, 1) := dk_42 (dk_at dksX2_part_1 1 rfl rfl)
theorem dX2_part_26 : decode cX2_part 26 = .ok (.getfield 51, 3) := dk_180 0 51 (dk_at dksX2_part_1 2 rfl rfl)
theorem dX2_part_29 : decode cX2_part 29 = .ok (.iload_n 1, 1) := dk_27 (dk_at dksX2_part_1 5 rfl rfl)
theorem dX2_part_30 : decode cX2_part 30 = .ok (.iload_n 2, 1) := dk_28 (dk_at dksX2_part_1 6 rfl rfl)
theorem dX2_part_31 : decode cX2_part 31 = .ok (.iastore, 1) := dk_79 (dk_at dksX2_part_1 7 rfl rfl)
theorem dX2_part_32 : decode cX2_part 32 = .ok (.aload_n 0, 1) := dk_42 (dk_at dksX2_part_1 8 rfl rfl)
theorem dX2_part_33 : decode cX2_part 33 = .ok (.iconst 0, 1) := dk_3 (dk_at dksX2_part_1 9 rfl rfl)
theorem dX2_part_34 : decode cX2_part 34 = .ok (.invokevirtual 123, 3) := dk_182 0 123 (dk_at dksX2_part_1 10 rfl rfl)
theorem dX2_part_37 : decode cX2_part 37 = .ok (.ireturn, 1) := dk_172 (dk_at dksX2_part_1 13 rfl rfl)
abbrev cX2_trace : ByteArray := prog_13_method_68_code
def yX2_trace : MethodName := ⟨RX2, "trace", "(II)I"⟩
def dkwX2_trace_14 : List UInt8 := [132, 10, 1, 167, 255, 174, 42, 3, 181, 0, 112, 21, 8, 153, 0, 7, 4, 167, 0, 4, 3, 172]
abbrev dktX2_trace_14 : List UInt8 := dkwX2_trace_14 ++ []
def dkwX2_trace_13 : List UInt8 := [184, 0, 217, 133, 148, 158, 0, 14, 42, 180, 0, 63, 21, 10, 92, 46, 4, 96, 79, 132, 9, 1]
abbrev dktX2_trace_13 : List UInt8 := dkwX2_trace_13 ++ dktX2_trace_14
def dkwX2_trace_12 : List UInt8 := [153, 0, 42, 42, 180, 0, 20, 16, 60, 28, 104, 21, 9, 96, 47, 3, 42, 180, 0, 51, 21, 10, 46]
abbrev dktX2_trace_12 : List UInt8 := dkwX2_trace_12 ++ dktX2_trace_13
def dkwX2_trace_11 : List UInt8 := [180, 0, 24, 21, 10, 46, 154, 0, 63, 42, 27, 21, 10, 182, 0, 226, 154, 0, 6, 167, 0, 50, 21, 8]
abbrev dktX2_trace_11 : List UInt8 := dkwX2_trace_11 ++ dktX2_trace_12
def dkwX2_trace_10 : List UInt8 := [167, 0, 4, 3, 96, 79, 3, 54, 9, 3, 54, 10, 21, 10, 42, 180, 0, 136, 162, 0, 79, 42]
abbrev dktX2_trace_10 : List UInt8 := dkwX2_trace_10 ++ dktX2_trace_11
def dkwX2_trace_9 : List UInt8 := [180, 0, 57, 27, 92, 46, 4, 96, 79, 42, 180, 0, 60, 27, 92, 46, 21, 8, 153, 0, 7, 4]
abbrev dktX2_trace_9 : List UInt8 := dkwX2_trace_9 ++ dktX2_trace_10
def dkwX2_trace_8 : List UInt8 := [132, 8, 1, 167, 255, 196, 22, 4, 22, 6, 148, 158, 0, 7, 4, 167, 0, 4, 3, 54, 8, 42]
abbrev dktX2_trace_8 : List UInt8 := dkwX2_trace_8 ++ dktX2_trace_9
def dkwX2_trace_7 : List UInt8 := [21, 8, 46, 2, 159, 0, 14, 42, 180, 0, 51, 21, 8, 46, 133, 167, 0, 4, 9, 97, 55, 6]
abbrev dktX2_trace_7 : List UInt8 := dkwX2_trace_7 ++ dktX2_trace_8
def dkwX2_trace_6 : List UInt8 := [180, 0, 24, 21, 8, 46, 154, 0, 35, 42, 27, 21, 8, 182, 0, 226, 153, 0, 25, 42, 180, 0, 51]
abbrev dktX2_trace_6 : List UInt8 := dkwX2_trace_6 ++ dktX2_trace_7
def dkwX2_trace_5 : List UInt8 := [132, 6, 1, 167, 255, 204, 9, 55, 6, 3, 54, 8, 21, 8, 42, 180, 0, 136, 162, 0, 57, 22, 6, 42]
abbrev dktX2_trace_5 : List UInt8 := dkwX2_trace_5 ++ dktX2_trace_6
def dkwX2_trace_4 : List UInt8 := [22, 7, 20, 0, 142, 148, 158, 0, 9, 42, 4, 182, 0, 147, 172, 22, 4, 22, 7, 97, 55, 4]
abbrev dktX2_trace_4 : List UInt8 := dkwX2_trace_4 ++ dktX2_trace_5
def dkwX2_trace_3 : List UInt8 := [162, 0, 52, 42, 180, 0, 20, 16, 60, 28, 104, 21, 6, 96, 47, 55, 7, 22, 7, 9, 148, 155, 0, 12]
abbrev dktX2_trace_3 : List UInt8 := dkwX2_trace_3 ++ dktX2_trace_4
def dkwX2_trace_2 : List UInt8 := [180, 0, 17, 28, 46, 29, 162, 0, 9, 42, 6, 182, 0, 147, 172, 9, 55, 4, 3, 54, 6, 21, 6, 29]
abbrev dktX2_trace_2 : List UInt8 := dkwX2_trace_2 ++ dktX2_trace_3
def dkwX2_trace_1 : List UInt8 := [180, 0, 17, 28, 46, 2, 160, 0, 9, 42, 5, 182, 0, 147, 172, 42, 27, 182, 0, 233, 62, 42]
abbrev dktX2_trace_1 : List UInt8 := dkwX2_trace_1 ++ dktX2_trace_2
def dkwX2_trace_0 : List UInt8 := [42, 27, 182, 0, 139, 153, 0, 10, 28, 184, 0, 119, 154, 0, 9, 42, 4, 182, 0, 147, 172, 42]
abbrev dktX2_trace_0 : List UInt8 := dkwX2_trace_0 ++ dktX2_trace_1
theorem dksX2_trace_0 : cX2_trace.data.toList.drop 0 = dktX2_trace_0 := by decide +kernel
theorem dksX2_trace_1 : cX2_trace.data.toList.drop 22 = dktX2_trace_1 := dk_seg dksX2_trace_0 22 rfl rfl
theorem dksX2_trace_2 : cX2_trace.data.toList.drop 44 = dktX2_trace_2 := dk_seg dksX2_trace_1 22 rfl rfl
theorem dksX2_trace_3 : cX2_trace.data.toList.drop 68 = dktX2_trace_3 := dk_seg dksX2_trace_2 24 rfl rfl
theorem dksX2_trace_4 : cX2_trace.data.toList.drop 92 = dktX2_trace_4 := dk_seg dksX2_trace_3 24 rfl rfl
theorem dksX2_trace_5 : cX2_trace.data.toList.drop 114 = dktX2_trace_5 := dk_seg dksX2_trace_4 22 rfl rfl
theorem dksX2_trace_6 : cX2_trace.data.toList.drop 138 = dktX2_trace_6 := dk_seg dksX2_trace_5 24 rfl rfl
theorem dksX2_trace_7 : cX2_trace.data.toList.drop 161 = dktX2_trace_7 := dk_seg dksX2_trace_6 23 rfl rfl
theorem dksX2_trace_8 : cX2_trace.data.toList.drop 183 = dktX2_trace_8 := dk_seg dksX2_trace_7 22 rfl rfl
theorem dksX2_trace_9 : cX2_trace.data.toList.drop 205 = dktX2_trace_9 := dk_seg dksX2_trace_8 22 rfl rfl
theorem dksX2_trace_10 : cX2_trace.data.toList.drop 227 = dktX2_trace_10 := dk_seg dksX2_trace_9 22 rfl rfl
theorem dksX2_trace_11 : cX2_trace.data.toList.drop 249 = dktX2_trace_11 := dk_seg dksX2_trace_10 22 rfl rfl
theorem dksX2_trace_12 : cX2_trace.data.toList.drop 273 = dktX2_trace_12 := dk_seg dksX2_trace_11 24 rfl rfl
theorem dksX2_trace_13 : cX2_trace.data.toList.drop 296 = dktX2_trace_13 := dk_seg dksX2_trace_12 23 rfl rfl
theorem dksX2_trace_14 : cX2_trace.data.toList.drop 318 = dktX2_trace_14 := dk_seg dksX2_trace_13 22 rfl rfl
theorem dX2_trace_0 : decode cX2_trace 0 = .ok (.aload_n 0, 1) := dk_42 (dk_at dksX2_trace_0 0 rfl rfl)
theorem dX2_trace_1 : decode cX2_trace 1 = .ok (.iload_n 1, 1) := dk_27 (dk_at dksX2_trace_0 1 rfl rfl)
theorem dX2_trace_2 : decode cX2_trace 2 = .ok (.invokevirtual 139, 3) := dk_182 0 139 (dk_at dksX2_trace_0 2 rfl rfl)
theorem dX2_trace_5 : decode cX2_trace 5 = .ok (.ifCond .eq 10, 3) := dk_153 0 10 (dk_at dksX2_trace_0 5 rfl rfl)
theorem dX2_trace_8 : decode cX2_trace 8 = .ok (.iload_n 2, 1) := dk_28 (dk_at dksX2_trace_0 8 rfl rfl)
theorem dX2_trace_9 : decode cX2_trace 9 = .ok (.invokestatic 119, 3) := dk_184 0 119 (dk_at dksX2_trace_0 9 rfl rfl)
theorem dX2_trace_12 : decode cX2_trace 12 = .ok (.ifCond .ne 9, 3) := dk_154 0 9 (dk_at dksX2_trace_0 12 rfl rfl)
theorem dX2_trace_15 : decode cX2_trace 15 = .ok (.aload_n 0, 1) := dk_42 (dk_at dksX2_trace_0 15 rfl rfl)
theorem dX2_trace_16 : decode cX2_trace 16 = .ok (.iconst 1, 1) := dk_4 (dk_at dksX2_trace_0 16 rfl rfl)
theorem dX2_trace_17 : decode cX2_trace 17 = .ok (.invokevirtual 147, 3) := dk_182 0 147 (dk_at dksX2_trace_0 17 rfl rfl)
theorem dX2_trace_20 : decode cX2_trace 20 = .ok (.ireturn, 1) := dk_172 (dk_at dksX2_trace_0 20 rfl rfl)
theorem dX2_trace_21 : decode cX2_trace 21 = .ok (.aload_n 0, 1) := dk_42 (dk_at dksX2_trace_0 21 rfl rfl)
theorem dX2_trace_22 : decode cX2_trace 22 = .ok (.getfield 17, 3) := dk_180 0 17 (dk_at dksX2_trace_1 0 rfl rfl)
theorem dX2_trace_25 : decode cX2_trace 25 = .ok (.iload_n 2, 1) := dk_28 (dk_at dksX2_trace_1 3 rfl rfl)
theorem dX2_trace_26 : decode cX2_trace 26 = .ok (.iaload, 1) := dk_46 (dk_at dksX2_trace_1 4 rfl rfl)
theorem dX2_trace_27 : decode cX2_trace 27 = .ok (.iconst (-1), 1) := dk_2 (dk_at dksX2_trace_1 5 rfl rfl)
theorem dX2_trace_28 : decode cX2_trace 28 = .ok (.if_icmp .ne 9, 3) := dk_160 0 9 (dk_at dksX2_trace_1 6 rfl rfl)
theorem dX2_trace_31 : decode cX2_trace 31 = .ok (.aload_n 0, 1) := dk_42 (dk_at dksX2_trace_1 9 rfl rfl)
theorem dX2_trace_32 : decode cX2_trace 32 = .ok (.iconst 2, 1) := dk_5 (dk_at dksX2_trace_1 10 rfl rfl)
theorem dX2_trace_33 : decode cX2_trace 33 = .ok (.invokevirtual 147, 3) := dk_182 0 147 (dk_at dksX2_trace_1 11 rfl rfl)
theorem dX2_trace_36 : decode cX2_trace 36 = .ok (.ireturn, 1) := dk_172 (dk_at dksX2_trace_1 14 rfl rfl)
theorem dX2_trace_37 : decode cX2_trace 37 = .ok (.aload_n 0, 1) := dk_42 (dk_at dksX2_trace_1 15 rfl rfl)
theorem dX2_trace_38 : decode cX2_trace 38 = .ok (.iload_n 1, 1) := dk_27 (dk_at dksX2_trace_1 16 rfl rfl)
theorem dX2_trace_39 : decode cX2_trace 39 = .ok (.invokevirtual 233, 3) := dk_182 0 233 (dk_at dksX2_trace_1 17 rfl rfl)
theorem dX2_trace_42 : decode cX2_trace 42 = .ok (.istore_n 3, 1) := dk_62 (dk_at dksX2_trace_1 20 rfl rfl)
theorem dX2_trace_43 : decode cX2_trace 43 = .ok (.aload_n 0, 1) := dk_42 (dk_at dksX2_trace_1 21 rfl rfl)
theorem dX2_trace_44 : decode cX2_trace 44 = .ok (.getfield 17, 3) := dk_180 0 17 (dk_at dksX2_trace_2 0 rfl rfl)
theorem dX2_trace_47 : decode cX2_trace 47 = .ok (.iload_n 2, 1) := dk_28 (dk_at dksX2_trace_2 3 rfl rfl)
theorem dX2_trace_48 : decode cX2_trace 48 = .ok (.iaload, 1) := dk_46 (dk_at dksX2_trace_2 4 rfl rfl)
theorem dX2_trace_49 : decode cX2_trace 49 = .ok (.iload_n 3, 1) := dk_29 (dk_at dksX2_trace_2 5 rfl rfl)
theorem dX2_trace_50 : decode cX2_trace 50 = .ok (.if_icmp .ge 9, 3) := dk_162 0 9 (dk_at dksX2_trace_2 6 rfl rfl)
theorem dX2_trace_53 : decode cX2_trace 53 = .ok (.aload_n 0, 1) := dk_42 (dk_at dksX2_trace_2 9 rfl rfl)
theorem dX2_trace_54 : decode cX2_trace 54 = .ok (.iconst 3, 1) := dk_6 (dk_at dksX2_trace_2 10 rfl rfl)
theorem dX2_trace_55 : decode cX2_trace 55 = .ok (.invokevirtual 147, 3) := dk_182 0 147 (dk_at dksX2_trace_2 11 rfl rfl)
theorem dX2_trace_58 : decode cX2_trace 58 = .ok (.ireturn, 1) := dk_172 (dk_at dksX2_trace_2 14 rfl rfl)
theorem dX2_trace_59 : decode cX2_trace 59 = .ok (.lconst 0, 1) := dk_9 (dk_at dksX2_trace_2 15 rfl rfl)
theorem dX2_trace_60 : decode cX2_trace 60 = .ok (.lstore 4, 2) := dk_55 4 (dk_at dksX2_trace_2 16 rfl rfl)
theorem dX2_trace_62 : decode cX2_trace 62 = .ok (.iconst 0, 1) := dk_3 (dk_at dksX2_trace_2 18 rfl rfl)
theorem dX2_trace_63 : decode cX2_trace 63 = .ok (.istore 6, 2) := dk_54 6 (dk_at dksX2_trace_2 19 rfl rfl)
theorem dX2_trace_65 : decode cX2_trace 65 = .ok (.iload 6, 2) := dk_21 6 (dk_at dksX2_trace_2 21 rfl rfl)
theorem dX2_trace_67 : decode cX2_trace 67 = .ok (.iload_n 3, 1) := dk_29 (dk_at dksX2_trace_2 23 rfl rfl)
theorem dX2_trace_68 : decode cX2_trace 68 = .ok (.if_icmp .ge 52, 3) := dk_162 0 52 (dk_at dksX2_trace_3 0 rfl rfl)
theorem dX2_trace_71 : decode cX2_trace 71 = .ok (.aload_n 0, 1) := dk_42 (dk_at dksX2_trace_3 3 rfl rfl)
theorem dX2_trace_72 : decode cX2_trace 72 = .ok (.getfield 20, 3) := dk_180 0 20 (dk_at dksX2_trace_3 4 rfl rfl)
theorem dX2_trace_75 : decode cX2_trace 75 = .ok (.bipush 60, 2) := dk_16 60 (dk_at dksX2_trace_3 7 rfl rfl)
theorem dX2_trace_77 : decode cX2_trace 77 = .ok (.iload_n 2, 1) := dk_28 (dk_at dksX2_trace_3 9 rfl rfl)
theorem dX2_trace_78 : decode cX2_trace 78 = .ok (.imul, 1) := dk_104 (dk_at dksX2_trace_3 10 rfl rfl)
theorem dX2_trace_79 : decode cX2_trace 79 = .ok (.iload 6, 2) := dk_21 6 (dk_at dksX2_trace_3 11 rfl rfl)
theorem dX2_trace_81 : decode cX2_trace 81 = .ok (.iadd, 1) := dk_96 (dk_at dksX2_trace_3 13 rfl rfl)
theorem dX2_trace_82 : decode cX2_trace 82 = .ok (.laload, 1) := dk_47 (dk_at dksX2_trace_3 14 rfl rfl)
theorem dX2_trace_83 : decode cX2_trace 83 = .ok (.lstore 7, 2) := dk_55 7 (dk_at dksX2_trace_3 15 rfl rfl)
theorem dX2_trace_85 : decode cX2_trace 85 = .ok (.lload 7, 2) := dk_22 7 (dk_at dksX2_trace_3 17 rfl rfl)
theorem dX2_trace_87 : decode cX2_trace 87 = .ok (.lconst 0, 1) := dk_9 (dk_at dksX2_trace_3 19 rfl rfl)
theorem dX2_trace_88 : decode cX2_trace 88 = .ok (.lcmp, 1) := dk_148 (dk_at dksX2_trace_3 20 rfl rfl)
theorem dX2_trace_89 : decode cX2_trace 89 = .ok (.ifCond .lt 12, 3) := dk_155 0 12 (dk_at dksX2_trace_3 21 rfl rfl)
theorem dX2_trace_92 : decode cX2_trace 92 = .ok (.lload 7, 2) := dk_22 7 (dk_at dksX2_trace_4 0 rfl rfl)
theorem dX2_trace_94 : decode cX2_trace 94 = .ok (.ldc2_w 142, 3) := dk_20 0 142 (dk_at dksX2_trace_4 2 rfl rfl)
theorem dX2_trace_97 : decode cX2_trace 97 = .ok (.lcmp, 1) := dk_148 (dk_at dksX2_trace_4 5 rfl rfl)
theorem dX2_trace_98 : decode cX2_trace 98 = .ok (.ifCond .le 9, 3) := dk_158 0 9 (dk_at dksX2_trace_4 6 rfl rfl)
theorem dX2_trace_101 : decode cX2_trace 101 = .ok (.aload_n 0, 1) := dk_42 (dk_at dksX2_trace_4 9 rfl rfl)
theorem dX2_trace_102 : decode cX2_trace 102 = .ok (.iconst 1, 1) := dk_4 (dk_at dksX2_trace_4 10 rfl rfl)
theorem dX2_trace_103 : decode cX2_trace 103 = .ok (.invokevirtual 147, 3) := dk_182 0 147 (dk_at dksX2_trace_4 11 rfl rfl)
theorem dX2_trace_106 : decode cX2_trace 106 = .ok (.ireturn, 1) := dk_172 (dk_at dksX2_trace_4 14 rfl rfl)
theorem dX2_trace_107 : decode cX2_trace 107 = .ok (.lload 4, 2) := dk_22 4 (dk_at dksX2_trace_4 15 rfl rfl)
theorem dX2_trace_109 : decode cX2_trace 109 = .ok (.lload 7, 2) := dk_22 7 (dk_at dksX2_trace_4 17 rfl rfl)
theorem dX2_trace_111 : decode cX2_trace 111 = .ok (.ladd, 1) := dk_97 (dk_at dksX2_trace_4 19 rfl rfl)
theorem dX2_trace_112 : decode cX2_trace 112 = .ok (.lstore 4, 2) := dk_55 4 (dk_at dksX2_trace_4 20 rfl rfl)
theorem dX2_trace_114 : decode cX2_trace 114 = .ok (.iinc 6 1, 3) := dk_132 6 1 (dk_at dksX2_trace_5 0 rfl rfl)
theorem dX2_trace_117 : decode cX2_trace 117 = .ok (.goto (-52), 3) := dk_167 255 204 (dk_at dksX2_trace_5 3 rfl rfl)
theorem dX2_trace_120 : decode cX2_trace 120 = .ok (.lconst 0, 1) := dk_9 (dk_at dksX2_trace_5 6 rfl rfl)
theorem dX2_trace_121 : decode cX2_trace 121 = .ok (.lstore 6, 2) := dk_55 6 (dk_at dksX2_trace_5 7 rfl rfl)
theorem dX2_trace_123 : decode cX2_trace 123 = .ok (.iconst 0, 1) := dk_3 (dk_at dksX2_trace_5 9 rfl rfl)
theorem dX2_trace_124 : decode cX2_trace 124 = .ok (.istore 8, 2) := dk_54 8 (dk_at dksX2_trace_5 10 rfl rfl)
theorem dX2_trace_126 : decode cX2_trace 126 = .ok (.iload 8, 2) := dk_21 8 (dk_at dksX2_trace_5 12 rfl rfl)
theorem dX2_trace_128 : decode cX2_trace 128 = .ok (.aload_n 0, 1) := dk_42 (dk_at dksX2_trace_5 14 rfl rfl)
theorem dX2_trace_129 : decode cX2_trace 129 = .ok (.getfield 136, 3) := dk_180 0 136 (dk_at dksX2_trace_5 15 rfl rfl)
theorem dX2_trace_132 : decode cX2_trace 132 = .ok (.if_icmp .ge 57, 3) := dk_162 0 57 (dk_at dksX2_trace_5 18 rfl rfl)
theorem dX2_trace_135 : decode cX2_trace 135 = .ok (.lload 6, 2) := dk_22 6 (dk_at dksX2_trace_5 21 rfl rfl)
theorem dX2_trace_137 : decode cX2_trace 137 = .ok (.aload_n 0, 1) := dk_42 (dk_at dksX2_trace_5 23 rfl rfl)
theorem dX2_trace_138 : decode cX2_trace 138 = .ok (.getfield 24, 3) := dk_180 0 24 (dk_at dksX2_trace_6 0 rfl rfl)
theorem dX2_trace_141 : decode cX2_trace 141 = .ok (.iload 8, 2) := dk_21 8 (dk_at dksX2_trace_6 3 rfl rfl)
theorem dX2_trace_143 : decode cX2_trace 143 = .ok (.iaload, 1) := dk_46 (dk_at dksX2_trace_6 5 rfl rfl)
theorem dX2_trace_144 : decode cX2_trace 144 = .ok (.ifCond .ne 35, 3) := dk_154 0 35 (dk_at dksX2_trace_6 6 rfl rfl)
theorem dX2_trace_147 : decode cX2_trace 147 = .ok (.aload_n 0, 1) := dk_42 (dk_at dksX2_trace_6 9 rfl rfl)
theorem dX2_trace_148 : decode cX2_trace 148 = .ok (.iload_n 1, 1) := dk_27 (dk_at dksX2_trace_6 10 rfl rfl)
theorem dX2_trace_149 : decode cX2_trace 149 = .ok (.iload 8, 2) := dk_21 8 (dk_at dksX2_trace_6 11 rfl rfl)
theorem dX2_trace_151 : decode cX2_trace 151 = .ok (.invokevirtual 226, 3) := dk_182 0 226 (dk_at dksX2_trace_6 13 rfl rfl)
theorem dX2_trace_154 : decode cX2_trace 154 = .ok (.ifCond .eq 25, 3) := dk_153 0 25 (dk_at dksX2_trace_6 16 rfl rfl)
theorem dX2_trace_157 : decode cX2_trace 157 = .ok (.aload_n 0, 1) := dk_42 (dk_at dksX2_trace_6 19 rfl rfl)
theorem dX2_trace_158 : decode cX2_trace 158 = .ok (.getfield 51, 3) := dk_180 0 51 (dk_at dksX2_trace_6 20 rfl rfl)
theorem dX2_trace_161 : decode cX2_trace 161 = .ok (.iload 8, 2) := dk_21 8 (dk_at dksX2_trace_7 0 rfl rfl)
theorem dX2_trace_163 : decode cX2_trace 163 = .ok (.iaload, 1) := dk_46 (dk_at dksX2_trace_7 2 rfl rfl)
theorem dX2_trace_164 : decode cX2_trace 164 = .ok (.iconst (-1), 1) := dk_2 (dk_at dksX2_trace_7 3 rfl rfl)
theorem dX2_trace_165 : decode cX2_trace 165 = .ok (.if_icmp .eq 14, 3) := dk_159 0 14 (dk_at dksX2_trace_7 4 rfl rfl)
theorem dX2_trace_168 : decode cX2_trace 168 = .ok (.aload_n 0, 1) := dk_42 (dk_at dksX2_trace_7 7 rfl rfl)
theorem dX2_trace_169 : decode cX2_trace 169 = .ok (.getfield 51, 3) := dk_180 0 51 (dk_at dksX2_trace_7 8 rfl rfl)
theorem dX2_trace_172 : decode cX2_trace 172 = .ok (.iload 8, 2) := dk_21 8 (dk_at dksX2_trace_7 11 rfl rfl)
theorem dX2_trace_174 : decode cX2_trace 174 = .ok (.iaload, 1) := dk_46 (dk_at dksX2_trace_7 13 rfl rfl)
theorem dX2_trace_175 : decode cX2_trace 175 = .ok (.i2l, 1) := dk_133 (dk_at dksX2_trace_7 14 rfl rfl)
theorem dX2_trace_176 : decode cX2_trace 176 = .ok (.goto 4, 3) := dk_167 0 4 (dk_at dksX2_trace_7 15 rfl rfl)
theorem dX2_trace_179 : decode cX2_trace 179 = .ok (.lconst 0, 1) := dk_9 (dk_at dksX2_trace_7 18 rfl rfl)
theorem dX2_trace_180 : decode cX2_trace 180 = .ok (.ladd, 1) := dk_97 (dk_at dksX2_trace_7 19 rfl rfl)
theorem dX2_trace_181 : decode cX2_trace 181 = .ok (.lstore 6, 2) := dk_55 6 (dk_at dksX2_trace_7 20 rfl rfl)
theorem dX2_trace_183 : decode cX2_trace 183 = .ok (.iinc 8 1, 3) := dk_132 8 1 (dk_at dksX2_trace_8 0 rfl rfl)
theorem dX2_trace_186 : decode cX2_trace 186 = .ok (.goto (-60), 3) := dk_167 255 196 (dk_at dksX2_trace_8 3 rfl rfl)
theorem dX2_trace_189 : decode cX2_trace 189 = .ok (.lload 4, 2) := dk_22 4 (dk_at dksX2_trace_8 6 rfl rfl)
theorem dX2_trace_191 : decode cX2_trace 191 = .ok (.lload 6, 2) := dk_22 6 (dk_at dksX2_trace_8 8 rfl rfl)
theorem dX2_trace_193 : decode cX2_trace 193 = .ok (.lcmp, 1) := dk_148 (dk_at dksX2_trace_8 10 rfl rfl)
theorem dX2_trace_194 : decode cX2_trace 194 = .ok (.ifCond .le 7, 3) := dk_158 0 7 (dk_at dksX2_trace_8 11 rfl rfl)
theorem dX2_trace_197 : decode cX2_trace 197 = .ok (.iconst 1, 1) := dk_4 (dk_at dksX2_trace_8 14 rfl rfl)
theorem dX2_trace_198 : decode cX2_trace 198 = .ok (.goto 4, 3) := dk_167 0 4 (dk_at dksX2_trace_8 15 rfl rfl)
theorem dX2_trace_201 : decode cX2_trace 201 = .ok (.iconst 0, 1) := dk_3 (dk_at dksX2_trace_8 18 rfl rfl)
theorem dX2_trace_202 : decode cX2_trace 202 = .ok (.istore 8, 2) := dk_54 8 (dk_at dksX2_trace_8 19 rfl rfl)
theorem dX2_trace_204 : decode cX2_trace 204 = .ok (.aload_n 0, 1) := dk_42 (dk_at dksX2_trace_8 21 rfl rfl)
theorem dX2_trace_205 : decode cX2_trace 205 = .ok (.getfield 57, 3) := dk_180 0 57 (dk_at dksX2_trace_9 0 rfl rfl)
theorem dX2_trace_208 : decode cX2_trace 208 = .ok (.iload_n 1, 1) := dk_27 (dk_at dksX2_trace_9 3 rfl rfl)
theorem dX2_trace_209 : decode cX2_trace 209 = .ok (.dup2, 1) := dk_92 (dk_at dksX2_trace_9 4 rfl rfl)
theorem dX2_trace_210 : decode cX2_trace 210 = .ok (.iaload, 1) := dk_46 (dk_at dksX2_trace_9 5 rfl rfl)
theorem dX2_trace_211 : decode cX2_trace 211 = .ok (.iconst 1, 1) := dk_4 (dk_at dksX2_trace_9 6 rfl rfl)
theorem dX2_trace_212 : decode cX2_trace 212 = .ok (.iadd, 1) := dk_96 (dk_at dksX2_trace_9 7 rfl rfl)
theorem dX2_trace_213 : decode cX2_trace 213 = .ok (.iastore, 1) := dk_79 (dk_at dksX2_trace_9 8 rfl rfl)
theorem dX2_trace_214 : decode cX2_trace 214 = .ok (.aload_n 0, 1) := dk_42 (dk_at dksX2_trace_9 9 rfl rfl)
theorem dX2_trace_215 : decode cX2_trace 215 = .ok (.getfield 60, 3) := dk_180 0 60 (dk_at dksX2_trace_9 10 rfl rfl)
theorem dX2_trace_218 : decode cX2_trace 218 = .ok (.iload_n 1, 1) := dk_27 (dk_at dksX2_trace_9 13 rfl rfl)
theorem dX2_trace_219 : decode cX2_trace 219 = .ok (.dup2, 1) := dk_92 (dk_at dksX2_trace_9 14 rfl rfl)
theorem dX2_trace_220 : decode cX2_trace 220 = .ok (.iaload, 1) := dk_46 (dk_at dksX2_trace_9 15 rfl rfl)
theorem dX2_trace_221 : decode cX2_trace 221 = .ok (.iload 8, 2) := dk_21 8 (dk_at dksX2_trace_9 16 rfl rfl)
theorem dX2_trace_223 : decode cX2_trace 223 = .ok (.ifCond .eq 7, 3) := dk_153 0 7 (dk_at dksX2_trace_9 18 rfl rfl)
theorem dX2_trace_226 : decode cX2_trace 226 = .ok (.iconst 1, 1) := dk_4 (dk_at dksX2_trace_9 21 rfl rfl)
theorem dX2_trace_227 : decode cX2_trace 227 = .ok (.goto 4, 3) := dk_167 0 4 (dk_at dksX2_trace_10 0 rfl rfl)
theorem dX2_trace_230 : decode cX2_trace 230 = .ok (.iconst 0, 1) := dk_3 (dk_at dksX2_trace_10 3 rfl rfl)
theorem dX2_trace_231 : decode cX2_trace 231 = .ok (.iadd, 1) := dk_96 (dk_at dksX2_trace_10 4 rfl rfl)
theorem dX2_trace_232 : decode cX2_trace 232 = .ok (.iastore, 1) := dk_79 (dk_at dksX2_trace_10 5 rfl rfl)
theorem dX2_trace_233 : decode cX2_trace 233 = .ok (.iconst 0, 1) := dk_3 (dk_at dksX2_trace_10 6 rfl rfl)
theorem dX2_trace_234 : decode cX2_trace 234 = .ok (.istore 9, 2) := dk_54 9 (dk_at dksX2_trace_10 7 rfl rfl)
theorem dX2_trace_236 : decode cX2_trace 236 = .ok (.iconst 0, 1) := dk_3 (dk_at dksX2_trace_10 9 rfl rfl)
theorem dX2_trace_237 : decode cX2_trace 237 = .ok (.istore 10, 2) := dk_54 10 (dk_at dksX2_trace_10 10 rfl rfl)
theorem dX2_trace_239 : decode cX2_trace 239 = .ok (.iload 10, 2) := dk_21 10 (dk_at dksX2_trace_10 12 rfl rfl)
theorem dX2_trace_241 : decode cX2_trace 241 = .ok (.aload_n 0, 1) := dk_42 (dk_at dksX2_trace_10 14 rfl rfl)
theorem dX2_trace_242 : decode cX2_trace 242 = .ok (.getfield 136, 3) := dk_180 0 136 (dk_at dksX2_trace_10 15 rfl rfl)
theorem dX2_trace_245 : decode cX2_trace 245 = .ok (.if_icmp .ge 79, 3) := dk_162 0 79 (dk_at dksX2_trace_10 18 rfl rfl)
theorem dX2_trace_248 : decode cX2_trace 248 = .ok (.aload_n 0, 1) := dk_42 (dk_at dksX2_trace_10 21 rfl rfl)
theorem dX2_trace_249 : decode cX2_trace 249 = .ok (.getfield 24, 3) := dk_180 0 24 (dk_at dksX2_trace_11 0 rfl rfl)
theorem dX2_trace_252 : decode cX2_trace 252 = .ok (.iload 10, 2) := dk_21 10 (dk_at dksX2_trace_11 3 rfl rfl)
theorem dX2_trace_254 : decode cX2_trace 254 = .ok (.iaload, 1) := dk_46 (dk_at dksX2_trace_11 5 rfl rfl)
theorem dX2_trace_255 : decode cX2_trace 255 = .ok (.ifCond .ne 63, 3) := dk_154 0 63 (dk_at dksX2_trace_11 6 rfl rfl)
theorem dX2_trace_258 : decode cX2_trace 258 = .ok (.aload_n 0, 1) := dk_42 (dk_at dksX2_trace_11 9 rfl rfl)
theorem dX2_trace_259 : decode cX2_trace 259 = .ok (.iload_n 1, 1) := dk_27 (dk_at dksX2_trace_11 10 rfl rfl)
theorem dX2_trace_260 : decode cX2_trace 260 = .ok (.iload 10, 2) := dk_21 10 (dk_at dksX2_trace_11 11 rfl rfl)
theorem dX2_trace_262 : decode cX2_trace 262 = .ok (.invokevirtual 226, 3) := dk_182 0 226 (dk_at dksX2_trace_11 13 rfl rfl)
theorem dX2_trace_265 : decode cX2_trace 265 = .ok (.ifCond .ne 6, 3) := dk_154 0 6 (dk_at dksX2_trace_11 16 rfl rfl)
theorem dX2_trace_268 : decode cX2_trace 268 = .ok (.goto 50, 3) := dk_167 0 50 (dk_at dksX2_trace_11 19 rfl rfl)
theorem dX2_trace_271 : decode cX2_trace 271 = .ok (.iload 8, 2) := dk_21 8 (dk_at dksX2_trace_11 22 rfl rfl)
theorem dX2_trace_273 : decode cX2_trace 273 = .ok (.ifCond .eq 42, 3) := dk_153 0 42 (dk_at dksX2_trace_12 0 rfl rfl)
theorem dX2_trace_276 : decode cX2_trace 276 = .ok (.aload_n 0, 1) := dk_42 (dk_at dksX2_trace_12 3 rfl rfl)
theorem dX2_trace_277 : decode cX2_trace 277 = .ok (.getfield 20, 3) := dk_180 0 20 (dk_at dksX2_trace_12 4 rfl rfl)
theorem dX2_trace_280 : decode cX2_trace 280 = .ok (.bipush 60, 2) := dk_16 60 (dk_at dksX2_trace_12 7 rfl rfl)
theorem dX2_trace_282 : decode cX2_trace 282 = .ok (.iload_n 2, 1) := dk_28 (dk_at dksX2_trace_12 9 rfl rfl)
theorem dX2_trace_283 : decode cX2_trace 283 = .ok (.imul, 1) := dk_104 (dk_at dksX2_trace_12 10 rfl rfl)
theorem dX2_trace_284 : decode cX2_trace 284 = .ok (.iload 9, 2) := dk_21 9 (dk_at dksX2_trace_12 11 rfl rfl)
theorem dX2_trace_286 : decode cX2_trace 286 = .ok (.iadd, 1) := dk_96 (dk_at dksX2_trace_12 13 rfl rfl)
theorem dX2_trace_287 : decode cX2_trace 287 = .ok (.laload, 1) := dk_47 (dk_at dksX2_trace_12 14 rfl rfl)
theorem dX2_trace_288 : decode cX2_trace 288 = .ok (.iconst 0, 1) := dk_3 (dk_at dksX2_trace_12 15 rfl rfl)
theorem dX2_trace_289 : decode cX2_trace 289 = .ok (.aload_n 0, 1) := dk_42 (dk_at dksX2_trace_12 16 rfl rfl)
theorem dX2_trace_290 : decode cX2_trace 290 = .ok (.getfield 51, 3) := dk_180 0 51 (dk_at dksX2_trace_12 17 rfl rfl)
theorem dX2_trace_293 : decode cX2_trace 293 = .ok (.iload 10, 2) := dk_21 10 (dk_at dksX2_trace_12 20 rfl rfl)
theorem dX2_trace_295 : decode cX2_trace 295 = .ok (.iaload, 1) := dk_46 (dk_at dksX2_trace_12 22 rfl rfl)
theorem dX2_trace_296 : decode cX2_trace 296 = .ok (.invokestatic 217, 3) := dk_184 0 217 (dk_at dksX2_trace_13 0 rfl rfl)
theorem dX2_trace_299 : decode cX2_trace 299 = .ok (.i2l, 1) := dk_133 (dk_at dksX2_trace_13 3 rfl rfl)
theorem dX2_trace_300 : decode cX2_trace 300 = .ok (.lcmp, 1) := dk_148 (dk_at dksX2_trace_13 4 rfl rfl)
theorem dX2_trace_301 : decode cX2_trace 301 = .ok (.ifCond .le 14, 3) := dk_158 0 14 (dk_at dksX2_trace_13 5 rfl rfl)
theorem dX2_trace_304 : decode cX2_trace 304 = .ok (.aload_n 0, 1) := dk_42 (dk_at dksX2_trace_13 8 rfl rfl)
theorem dX2_trace_305 : decode cX2_trace 305 = .ok (.getfield 63, 3) := dk_180 0 63 (dk_at dksX2_trace_13 9 rfl rfl)
theorem dX2_trace_308 : decode cX2_trace 308 = .ok (.iload 10, 2) := dk_21 10 (dk_at dksX2_trace_13 12 rfl rfl)
theorem dX2_trace_310 : decode cX2_trace 310 = .ok (.dup2, 1) := dk_92 (dk_at dksX2_trace_13 14 rfl rfl)
theorem dX2_trace_311 : decode cX2_trace 311 = .ok (.iaload, 1) := dk_46 (dk_at dksX2_trace_13 15 rfl rfl)
theorem dX2_trace_312 : decode cX2_trace 312 = .ok (.iconst 1, 1) := dk_4 (dk_at dksX2_trace_13 16 rfl rfl)
theorem dX2_trace_313 : decode cX2_trace 313 = .ok (.iadd, 1) := dk_96 (dk_at dksX2_trace_13 17 rfl rfl)
theorem dX2_trace_314 : decode cX2_trace 314 = .ok (.iastore, 1) := dk_79 (dk_at dksX2_trace_13 18 rfl rfl)
theorem dX2_trace_315 : decode cX2_trace 315 = .ok (.iinc 9 1, 3) := dk_132 9 1 (dk_at dksX2_trace_13 19 rfl rfl)
theorem dX2_trace_318 : decode cX2_trace 318 = .ok (.iinc 10 1, 3) := dk_132 10 1 (dk_at dksX2_trace_14 0 rfl rfl)
theorem dX2_trace_321 : decode cX2_trace 321 = .ok (.goto (-82), 3) := dk_167 255 174 (dk_at dksX2_trace_14 3 rfl rfl)
theorem dX2_trace_324 : decode cX2_trace 324 = .ok (.aload_n 0, 1) := dk_42 (dk_at dksX2_trace_14 6 rfl rfl)
theorem dX2_trace_325 : decode cX2_trace 325 = .ok (.iconst 0, 1) := dk_3 (dk_at dksX2_trace_14 7 rfl rfl)
theorem dX2_trace_326 : decode cX2_trace 326 = .ok (.putfield 112, 3) := dk_181 0 112 (dk_at dksX2_trace_14 8 rfl rfl)
theorem dX2_trace_329 : decode cX2_trace 329 = .ok (.iload 8, 2) := dk_21 8 (dk_at dksX2_trace_14 11 rfl rfl)
theorem dX2_trace_331 : decode cX2_trace 331 = .ok (.ifCond .eq 7, 3) := dk_153 0 7 (dk_at dksX2_trace_14 13 rfl rfl)
theorem dX2_trace_334 : decode cX2_trace 334 = .ok (.iconst 1, 1) := dk_4 (dk_at dksX2_trace_14 16 rfl rfl)
theorem dX2_trace_335 : decode cX2_trace 335 = .ok (.goto 4, 3) := dk_167 0 4 (dk_at dksX2_trace_14 17 rfl rfl)
theorem dX2_trace_338 : decode cX2_trace 338 = .ok (.iconst 0, 1) := dk_3 (dk_at dksX2_trace_14 20 rfl rfl)
theorem dX2_trace_339 : decode cX2_trace 339 = .ok (.ireturn, 1) := dk_172 (dk_at dksX2_trace_14 21 rfl rfl)
abbrev cX2_traces : ByteArray := prog_13_method_69_code
def yX2_traces : MethodName := ⟨RX2, "traces", "(II)I"⟩
def dkwX2_traces_1 : List UInt8 := [3, 181, 0, 112, 28, 154, 0, 12, 42, 180, 0, 57, 27, 46, 167, 0, 9, 42, 180, 0, 60, 27, 46, 172]
abbrev dktX2_traces_1 : List UInt8 := dkwX2_traces_1 ++ []
def dkwX2_traces_0 : List UInt8 := [42, 27, 182, 0, 139, 153, 0, 12, 28, 155, 0, 8, 28, 4, 164, 0, 9, 42, 4, 182, 0, 147, 172, 42]
abbrev dktX2_traces_0 : List UInt8 := dkwX2_traces_0 ++ dktX2_traces_1
theorem dksX2_traces_0 : cX2_traces.data.toList.drop 0 = dktX2_traces_0 := by decide +kernel
theorem dksX2_traces_1 : cX2_traces.data.toList.drop 24 = dktX2_traces_1 := dk_seg dksX2_traces_0 24 rfl rfl
theorem dX2_traces_0 : decode cX2_traces 0 = .ok (.aload_n 0, 1) := dk_42 (dk_at dksX2_traces_0 0 rfl rfl)
theorem dX2_traces_1 : decode cX2_traces 1 = .ok (.iload_n 1, 1) := dk_27 (dk_at dksX2_traces_0 1 rfl rfl)
theorem dX2_traces_2 : decode cX2_traces 2 = .ok (.invokevirtual 139, 3) := dk_182 0 139 (dk_at dksX2_traces_0 2 rfl rfl)
theorem dX2_traces_5 : decode cX2_traces 5 = .ok (.ifCond .eq 12, 3) := dk_153 0 12 (dk_at dksX2_traces_0 5 rfl rfl)
theorem dX2_traces_8 : decode cX2_traces 8 = .ok (.iload_n 2, 1) := dk_28 (dk_at dksX2_traces_0 8 rfl rfl)
theorem dX2_traces_9 : decode cX2_traces 9 = .ok (.ifCond .lt 8, 3) := dk_155 0 8 (dk_at dksX2_traces_0 9 rfl rfl)
theorem dX2_traces_12 : decode cX2_traces 12 = .ok (.iload_n 2, 1) := dk_28 (dk_at dksX2_traces_0 12 rfl rfl)
theorem dX2_traces_13 : decode cX2_traces 13 = .ok (.iconst 1, 1) := dk_4 (dk_at dksX2_traces_0 13 rfl rfl)
theorem dX2_traces_14 : decode cX2_traces 14 = .ok (.if_icmp .le 9, 3) := dk_164 0 9 (dk_at dksX2_traces_0 14 rfl rfl)
theorem dX2_traces_17 : decode cX2_traces 17 = .ok (.aload_n 0, 1) := dk_42 (dk_at dksX2_traces_0 17 rfl rfl)
theorem dX2_traces_18 : decode cX2_traces 18 = .ok (.iconst 1, 1) := dk_4 (dk_at dksX2_traces_0 18 rfl rfl)
theorem dX2_traces_19 : decode cX2_traces 19 = .ok (.invokevirtual 147, 3) := dk_182 0 147 (dk_at dksX2_traces_0 19 rfl rfl)
theorem dX2_traces_22 : decode cX2_traces 22 = .ok (.ireturn, 1) := dk_172 (dk_at dksX2_traces_0 22 rfl rfl)
theorem dX2_traces_23 : decode cX2_traces 23 = .ok (.aload_n 0, 1) := dk_42 (dk_at dksX2_traces_0 23 rfl rfl)
theorem dX2_traces_24 : decode cX2_traces 24 = .ok (.iconst 0, 1) := dk_3 (dk_at dksX2_traces_1 0 rfl rfl)
theorem dX2_traces_25 : decode cX2_traces 25 = .ok (.putfield 112, 3) := dk_181 0 112 (dk_at dksX2_traces_1 1 rfl rfl)
theorem dX2_traces_28 : decode cX2_traces 28 = .ok (.iload_n 2, 1) := dk_28 (dk_at dksX2_traces_1 4 rfl rfl)
theorem dX2_traces_29 : decode cX2_traces 29 = .ok (.ifCond .ne 12, 3) := dk_154 0 12 (dk_at dksX2_traces_1 5 rfl rfl)
theorem dX2_traces_32 : decode cX2_traces 32 = .ok (.aload_n 0, 1) := dk_42 (dk_at dksX2_traces_1 8 rfl rfl)
theorem dX2_traces_33 : decode cX2_traces 33 = .ok (.getfield 57, 3) := dk_180 0 57 (dk_at dksX2_traces_1 9 rfl rfl)
theorem dX2_traces_36 : decode cX2_traces 36 = .ok (.iload_n 1, 1) := dk_27 (dk_at dksX2_traces_1 12 rfl rfl)
theorem dX2_traces_37 : decode cX2_traces 37 = .ok (.iaload, 1) := dk_46 (dk_at dksX2_traces_1 13 rfl rfl)
theorem dX2_traces_38 : decode cX2_traces 38 = .ok (.goto 9, 3) := dk_167 0 9 (dk_at dksX2_traces_1 14 rfl rfl)
theorem dX2_traces_41 : decode cX2_traces 41 = .ok (.aload_n 0, 1) := dk_42 (dk_at dksX2_traces_1 17 rfl rfl)
theorem dX2_traces_42 : decode cX2_traces 42 = .ok (.getfield 60, 3) := dk_180 0 60 (dk_at dksX2_traces_1 18 rfl rfl)
theorem dX2_traces_45 : decode cX2_traces 45 = .ok (.iload_n 1, 1) := dk_27 (dk_at dksX2_traces_1 21 rfl rfl)
theorem dX2_traces_46 : decode cX2_traces 46 = .ok (.iaload, 1) := dk_46 (dk_at dksX2_traces_1 22 rfl rfl)
theorem dX2_traces_47 : decode cX2_traces 47 = .ok (.ireturn, 1) := dk_172 (dk_at dksX2_traces_1 23 rfl rfl)
abbrev cX2_over : ByteArray := prog_13_method_70_code
def yX2_over : MethodName := ⟨RX2, "over", "(I)I"⟩
def dkwX2_over_1 : List UInt8 := [46, 172]
abbrev dktX2_over_1 : List UInt8 := dkwX2_over_1 ++ []
def dkwX2_over_0 : List UInt8 := [42, 27, 182, 1, 14, 154, 0, 9, 42, 4, 182, 0, 147, 172, 42, 3, 181, 0, 112, 42, 180, 0, 63, 27]
abbrev dktX2_over_0 : List UInt8 := dkwX2_over_0 ++ dktX2_over_1
theorem dksX2_over_0 : cX2_over.data.toList.drop 0 = dktX2_over_0 := by decide +kernel
theorem dksX2_over_1 : cX2_over.data.toList.drop 24 = dktX2_over_1 := dk_seg dksX2_over_0 24 rfl rfl
theorem dX2_over_0 : decode cX2_over 0 = .ok (.aload_n 0, 1) := dk_42 (dk_at dksX2_over_0 0 rfl rfl)
theorem dX2_over_1 : decode cX2_over 1 = .ok (.iload_n 1, 1) := dk_27 (dk_at dksX2_over_0 1 rfl rfl)
theorem dX2_over_2 : decode cX2_over 2 = .ok (.invokevirtual 270, 3) := dk_182 1 14 (dk_at dksX2_over_0 2 rfl rfl)
theorem dX2_over_5 : decode cX2_over 5 = .ok (.ifCond .ne 9, 3) := dk_154 0 9 (dk_at dksX2_over_0 5 rfl rfl)
theorem dX2_over_8 : decode cX2_over 8 = .ok (.aload_n 0, 1) := dk_42 (dk_at dksX2_over_0 8 rfl rfl)
theorem dX2_over_9 : decode cX2_over 9 = .ok (.iconst 1, 1) := dk_4 (dk_at dksX2_over_0 9 rfl rfl)
theorem dX2_over_10 : decode cX2_over 10 = .ok (.invokevirtual 147, 3) := dk_182 0 147 (dk_at dksX2_over_0 10 rfl rfl)
theorem dX2_over_13 : decode cX2_over 13 = .ok (.ireturn, 1) := dk_172 (dk_at dksX2_over_0 13 rfl rfl)
theorem dX2_over_14 : decode cX2_over 14 = .ok (.aload_n 0, 1) := dk_42 (dk_at dksX2_over_0 14 rfl rfl)
theorem dX2_over_15 : decode cX2_over 15 = .ok (.iconst 0, 1) := dk_3 (dk_at dksX2_over_0 15 rfl rfl)
theorem dX2_over_16 : decode cX2_over 16 = .ok (.putfield 112, 3) := dk_181 0 112 (dk_at dksX2_over_0 16 rfl rfl)
theorem dX2_over_19 : decode cX2_over 19 = .ok (.aload_n 0, 1) := dk_42 (dk_at dksX2_over_0 19 rfl rfl)
theorem dX2_over_20 : decode cX2_over 20 = .ok (.getfield 63, 3) := dk_180 0 63 (dk_at dksX2_over_0 20 rfl rfl)
theorem dX2_over_23 : decode cX2_over 23 = .ok (.iload_n 1, 1) := dk_27 (dk_at dksX2_over_0 23 rfl rfl)
theorem dX2_over_24 : decode cX2_over 24 = .ok (.iaload, 1) := dk_46 (dk_at dksX2_over_1 0 rfl rfl)
theorem dX2_over_25 : decode cX2_over 25 = .ok (.ireturn, 1) := dk_172 (dk_at dksX2_over_1 1 rfl rfl)
theorem q54 : (Jvm.Cond.initialized "TickShareModel") ∈ lw_all := lw_g (lw_at lw_m1 5 rfl) rfl
theorem q888 : (Jvm.Cond.instantiable "TickShareModel" (38 : Nat)) ∈ lw_all := lw_g (lw_at lw_m4 119 rfl) rfl
theorem q890 : (Jvm.Cond.instanceMethod ({ cls := "TickShareModel", name := "<init>", desc := "()V" } : Jvm.MethodName)) ∈ lw_all := lw_g (lw_at lw_m4 121 rfl) rfl
theorem q891 : (Jvm.Cond.code ({ cls := "TickShareModel", name := "<init>", desc := "()V" } : Jvm.MethodName) prog_13_method_1_code (1 : Nat) (Option.none : Option Jvm.ClassFile.FieldType)) ∈ lw_all := lw_g (lw_at lw_m4 122 rfl) rfl
theorem q892 : (Jvm.Cond.methodLink "TickShareModel" (1 : Nat) ({ cls := "java/lang/Object", name := "<init>", desc := "()V" } : Jvm.MethodName)) ∈ lw_all := lw_g (lw_at lw_m4 123 rfl) rfl
theorem q893 : (Jvm.Cond.fieldLink "TickShareModel" (112 : Nat) "TickShareModel" "status" "I") ∈ lw_all := lw_g (lw_at lw_m4 124 rfl) rfl
theorem q894 : (Jvm.Cond.fieldLink "TickShareModel" (116 : Nat) "TickShareModel" "top" "J") ∈ lw_all := lw_g (lw_at lw_m4 125 rfl) rfl
theorem q895 : (Jvm.Cond.fieldLink "TickShareModel" (7 : Nat) "TickShareModel" "bottom" "J") ∈ lw_all := lw_g (lw_at lw_m4 126 rfl) rfl
theorem q896 : (Jvm.Cond.fieldLink "TickShareModel" (13 : Nat) "TickShareModel" "sort" "[I") ∈ lw_all := lw_g (lw_at lw_m4 127 rfl) rfl
theorem q897 : (Jvm.Cond.fieldLink "TickShareModel" (17 : Nat) "TickShareModel" "many" "[I") ∈ lw_all := lw_g (lw_at lw_m4 128 rfl) rfl
theorem q898 : (Jvm.Cond.fieldLink "TickShareModel" (20 : Nat) "TickShareModel" "trays" "[J") ∈ lw_all := lw_g (lw_at lw_m4 129 rfl) rfl
theorem q899 : (Jvm.Cond.fieldLink "TickShareModel" (136 : Nat) "TickShareModel" "things" "I") ∈ lw_all := lw_g (lw_at lw_m4 130 rfl) rfl
theorem q900 : (Jvm.Cond.fieldLink "TickShareModel" (24 : Nat) "TickShareModel" "kind" "[I") ∈ lw_all := lw_g (lw_at lw_m4 131 rfl) rfl
theorem q901 : (Jvm.Cond.fieldLink "TickShareModel" (27 : Nat) "TickShareModel" "of" "[I") ∈ lw_all := lw_g (lw_at lw_m4 132 rfl) rfl
theorem q902 : (Jvm.Cond.fieldLink "TickShareModel" (30 : Nat) "TickShareModel" "first" "[I") ∈ lw_all := lw_g (lw_at lw_m4 133 rfl) rfl
theorem q903 : (Jvm.Cond.fieldLink "TickShareModel" (33 : Nat) "TickShareModel" "second" "[I") ∈ lw_all := lw_g (lw_at lw_m4 134 rfl) rfl
theorem q904 : (Jvm.Cond.fieldLink "TickShareModel" (36 : Nat) "TickShareModel" "in" "[I") ∈ lw_all := lw_g (lw_at lw_m4 135 rfl) rfl
theorem q905 : (Jvm.Cond.fieldLink "TickShareModel" (39 : Nat) "TickShareModel" "grades" "[I") ∈ lw_all := lw_g (lw_at lw_m4 136 rfl) rfl
theorem q906 : (Jvm.Cond.fieldLink "TickShareModel" (42 : Nat) "TickShareModel" "prices" "[I") ∈ lw_all := lw_g (lw_at lw_m4 137 rfl) rfl
theorem q907 : (Jvm.Cond.fieldLink "TickShareModel" (45 : Nat) "TickShareModel" "gradeWeights" "[I") ∈ lw_all := lw_g (lw_at lw_m4 138 rfl) rfl
theorem q908 : (Jvm.Cond.fieldLink "TickShareModel" (48 : Nat) "TickShareModel" "use" "[I") ∈ lw_all := lw_g (lw_at lw_m4 139 rfl) rfl
theorem q909 : (Jvm.Cond.fieldLink "TickShareModel" (51 : Nat) "TickShareModel" "parts" "[I") ∈ lw_all := lw_g (lw_at lw_m4 140 rfl) rfl
theorem q910 : (Jvm.Cond.fieldLink "TickShareModel" (54 : Nat) "TickShareModel" "chosen" "[I") ∈ lw_all := lw_g (lw_at lw_m4 141 rfl) rfl
theorem q911 : (Jvm.Cond.fieldLink "TickShareModel" (57 : Nat) "TickShareModel" "traced" "[I") ∈ lw_all := lw_g (lw_at lw_m4 142 rfl) rfl
theorem q912 : (Jvm.Cond.fieldLink "TickShareModel" (60 : Nat) "TickShareModel" "slow" "[I") ∈ lw_all := lw_g (lw_at lw_m4 143 rfl) rfl
theorem q913 : (Jvm.Cond.fieldLink "TickShareModel" (63 : Nat) "TickShareModel" "wasOver" "[I") ∈ lw_all := lw_g (lw_at lw_m4 144 rfl) rfl
theorem q914 : (Jvm.Cond.fieldLink "TickShareModel" (282 : Nat) "TickShareModel" "wasBest" "Z") ∈ lw_all := lw_g (lw_at lw_m4 145 rfl) rfl
theorem q915 : (Jvm.Cond.fieldLink "TickShareModel" (66 : Nat) "TickShareModel" "ok" "[J") ∈ lw_all := lw_g (lw_at lw_m4 146 rfl) rfl
theorem q916 : (Jvm.Cond.fieldLink "TickShareModel" (69 : Nat) "TickShareModel" "bad" "[J") ∈ lw_all := lw_g (lw_at lw_m4 147 rfl) rfl
theorem q917 : (Jvm.Cond.fieldLink "TickShareModel" (72 : Nat) "TickShareModel" "whole" "[J") ∈ lw_all := lw_g (lw_at lw_m4 148 rfl) rfl
theorem q918 : (Jvm.Cond.fieldLink "TickShareModel" (75 : Nat) "TickShareModel" "isGreat" "[Z") ∈ lw_all := lw_g (lw_at lw_m4 149 rfl) rfl
theorem q919 : (Jvm.Cond.fieldLink "TickShareModel" (79 : Nat) "TickShareModel" "newOk" "[J") ∈ lw_all := lw_g (lw_at lw_m4 150 rfl) rfl
theorem q920 : (Jvm.Cond.fieldLink "TickShareModel" (82 : Nat) "TickShareModel" "newBad" "[J") ∈ lw_all := lw_g (lw_at lw_m4 151 rfl) rfl
theorem q921 : (Jvm.Cond.fieldLink "TickShareModel" (85 : Nat) "TickShareModel" "chain" "[J") ∈ lw_all := lw_g (lw_at lw_m4 152 rfl) rfl
theorem q922 : (Jvm.Cond.fieldLink "TickShareModel" (88 : Nat) "TickShareModel" "chain2" "[J") ∈ lw_all := lw_g (lw_at lw_m4 153 rfl) rfl
theorem q923 : (Jvm.Cond.fieldLink "TickShareModel" (165 : Nat) "TickShareModel" "over" "Z") ∈ lw_all := lw_g (lw_at lw_m4 154 rfl) rfl
theorem q924 : (Jvm.Cond.fieldLink "TickShareModel" (91 : Nat) "TickShareModel" "counts" "[J") ∈ lw_all := lw_g (lw_at lw_m4 155 rfl) rfl
theorem q925 : (Jvm.Cond.fieldLink "TickShareModel" (94 : Nat) "TickShareModel" "up" "[J") ∈ lw_all := lw_g (lw_at lw_m4 156 rfl) rfl
theorem q926 : (Jvm.Cond.fieldLink "TickShareModel" (97 : Nat) "TickShareModel" "low" "[J") ∈ lw_all := lw_g (lw_at lw_m4 157 rfl) rfl
theorem q927 : (Jvm.Cond.fieldLink "TickShareModel" (100 : Nat) "TickShareModel" "sums" "[J") ∈ lw_all := lw_g (lw_at lw_m4 158 rfl) rfl
theorem q928 : (Jvm.Cond.fieldLink "TickShareModel" (103 : Nat) "TickShareModel" "sums2" "[J") ∈ lw_all := lw_g (lw_at lw_m4 159 rfl) rfl
theorem q929 : (Jvm.Cond.fieldLink "TickShareModel" (106 : Nat) "TickShareModel" "isNeeded" "[Z") ∈ lw_all := lw_g (lw_at lw_m4 160 rfl) rfl
theorem q930 : (Jvm.Cond.fieldLink "TickShareModel" (109 : Nat) "TickShareModel" "found" "[I") ∈ lw_all := lw_g (lw_at lw_m4 161 rfl) rfl
theorem q931 : (Jvm.Cond.lays "TickShareModel" "TickShareModel" "status" "I") ∈ lw_all := lw_g (lw_at lw_m4 162 rfl) rfl
theorem q932 : (Jvm.Cond.soleField "TickShareModel" "status") ∈ lw_all := lw_g (lw_at lw_m4 163 rfl) rfl
theorem q933 : (Jvm.Cond.lays "TickShareModel" "TickShareModel" "top" "J") ∈ lw_all := lw_g (lw_at lw_m4 164 rfl) rfl
theorem q934 : (Jvm.Cond.soleField "TickShareModel" "top") ∈ lw_all := lw_g (lw_at lw_m4 165 rfl) rfl
theorem q935 : (Jvm.Cond.lays "TickShareModel" "TickShareModel" "bottom" "J") ∈ lw_all := lw_g (lw_at lw_m4 166 rfl) rfl
theorem q936 : (Jvm.Cond.soleField "TickShareModel" "bottom") ∈ lw_all := lw_g (lw_at lw_m4 167 rfl) rfl
theorem q937 : (Jvm.Cond.laysFinal "TickShareModel" "TickShareModel" "sort" "[I") ∈ lw_all := lw_g (lw_at lw_m4 168 rfl) rfl
theorem q938 : (Jvm.Cond.soleField "TickShareModel" "sort") ∈ lw_all := lw_g (lw_at lw_m4 169 rfl) rfl
theorem q939 : (Jvm.Cond.laysFinal "TickShareModel" "TickShareModel" "many" "[I") ∈ lw_all := lw_g (lw_at lw_m4 170 rfl) rfl
theorem q940 : (Jvm.Cond.soleField "TickShareModel" "many") ∈ lw_all := lw_g (lw_at lw_m4 171 rfl) rfl
theorem q941 : (Jvm.Cond.laysFinal "TickShareModel" "TickShareModel" "trays" "[J") ∈ lw_all := lw_g (lw_at lw_m4 172 rfl) rfl
theorem q942 : (Jvm.Cond.soleField "TickShareModel" "trays") ∈ lw_all := lw_g (lw_at lw_m4 173 rfl) rfl
theorem q943 : (Jvm.Cond.lays "TickShareModel" "TickShareModel" "things" "I") ∈ lw_all := lw_g (lw_at lw_m4 174 rfl) rfl
theorem q944 : (Jvm.Cond.soleField "TickShareModel" "things") ∈ lw_all := lw_g (lw_at lw_m4 175 rfl) rfl
theorem q945 : (Jvm.Cond.laysFinal "TickShareModel" "TickShareModel" "kind" "[I") ∈ lw_all := lw_g (lw_at lw_m4 176 rfl) rfl
theorem q946 : (Jvm.Cond.soleField "TickShareModel" "kind") ∈ lw_all := lw_g (lw_at lw_m4 177 rfl) rfl
theorem q947 : (Jvm.Cond.laysFinal "TickShareModel" "TickShareModel" "of" "[I") ∈ lw_all := lw_g (lw_at lw_m4 178 rfl) rfl
theorem q948 : (Jvm.Cond.soleField "TickShareModel" "of") ∈ lw_all := lw_g (lw_at lw_m4 179 rfl) rfl
theorem q949 : (Jvm.Cond.laysFinal "TickShareModel" "TickShareModel" "first" "[I") ∈ lw_all := lw_g (lw_at lw_m4 180 rfl) rfl
theorem q950 : (Jvm.Cond.soleField "TickShareModel" "first") ∈ lw_all := lw_g (lw_at lw_m4 181 rfl) rfl
theorem q951 : (Jvm.Cond.laysFinal "TickShareModel" "TickShareModel" "second" "[I") ∈ lw_all := lw_g (lw_at lw_m4 182 rfl) rfl
theorem q952 : (Jvm.Cond.soleField "TickShareModel" "second") ∈ lw_all := lw_g (lw_at lw_m4 183 rfl) rfl
theorem q953 : (Jvm.Cond.laysFinal "TickShareModel" "TickShareModel" "in" "[I") ∈ lw_all := lw_g (lw_at lw_m4 184 rfl) rfl
theorem q954 : (Jvm.Cond.soleField "TickShareModel" "in") ∈ lw_all := lw_g (lw_at lw_m4 185 rfl) rfl
theorem q955 : (Jvm.Cond.laysFinal "TickShareModel" "TickShareModel" "grades" "[I") ∈ lw_all := lw_g (lw_at lw_m4 186 rfl) rfl
theorem q956 : (Jvm.Cond.soleField "TickShareModel" "grades") ∈ lw_all := lw_g (lw_at lw_m4 187 rfl) rfl
theorem q957 : (Jvm.Cond.laysFinal "TickShareModel" "TickShareModel" "prices" "[I") ∈ lw_all := lw_g (lw_at lw_m4 188 rfl) rfl
theorem q958 : (Jvm.Cond.soleField "TickShareModel" "prices") ∈ lw_all := lw_g (lw_at lw_m4 189 rfl) rfl
theorem q959 : (Jvm.Cond.laysFinal "TickShareModel" "TickShareModel" "gradeWeights" "[I") ∈ lw_all := lw_g (lw_at lw_m4 190 rfl) rfl
theorem q960 : (Jvm.Cond.soleField "TickShareModel" "gradeWeights") ∈ lw_all := lw_g (lw_at lw_m4 191 rfl) rfl
theorem q961 : (Jvm.Cond.laysFinal "TickShareModel" "TickShareModel" "use" "[I") ∈ lw_all := lw_g (lw_at lw_m4 192 rfl) rfl
theorem q962 : (Jvm.Cond.soleField "TickShareModel" "use") ∈ lw_all := lw_g (lw_at lw_m4 193 rfl) rfl
theorem q963 : (Jvm.Cond.laysFinal "TickShareModel" "TickShareModel" "parts" "[I") ∈ lw_all := lw_g (lw_at lw_m4 194 rfl) rfl
theorem q964 : (Jvm.Cond.soleField "TickShareModel" "parts") ∈ lw_all := lw_g (lw_at lw_m4 195 rfl) rfl
theorem q965 : (Jvm.Cond.laysFinal "TickShareModel" "TickShareModel" "chosen" "[I") ∈ lw_all := lw_g (lw_at lw_m4 196 rfl) rfl
theorem q966 : (Jvm.Cond.soleField "TickShareModel" "chosen") ∈ lw_all := lw_g (lw_at lw_m4 197 rfl) rfl
theorem q967 : (Jvm.Cond.laysFinal "TickShareModel" "TickShareModel" "traced" "[I") ∈ lw_all := lw_g (lw_at lw_m4 198 rfl) rfl
theorem q968 : (Jvm.Cond.soleField "TickShareModel" "traced") ∈ lw_all := lw_g (lw_at lw_m4 199 rfl) rfl
theorem q969 : (Jvm.Cond.laysFinal "TickShareModel" "TickShareModel" "slow" "[I") ∈ lw_all := lw_g (lw_at lw_m4 200 rfl) rfl
theorem q970 : (Jvm.Cond.soleField "TickShareModel" "slow") ∈ lw_all := lw_g (lw_at lw_m4 201 rfl) rfl
theorem q971 : (Jvm.Cond.laysFinal "TickShareModel" "TickShareModel" "wasOver" "[I") ∈ lw_all := lw_g (lw_at lw_m4 202 rfl) rfl
theorem q972 : (Jvm.Cond.soleField "TickShareModel" "wasOver") ∈ lw_all := lw_g (lw_at lw_m4 203 rfl) rfl
theorem q973 : (Jvm.Cond.lays "TickShareModel" "TickShareModel" "wasBest" "Z") ∈ lw_all := lw_g (lw_at lw_m4 204 rfl) rfl
theorem q974 : (Jvm.Cond.soleField "TickShareModel" "wasBest") ∈ lw_all := lw_g (lw_at lw_m4 205 rfl) rfl
theorem q975 : (Jvm.Cond.laysFinal "TickShareModel" "TickShareModel" "ok" "[J") ∈ lw_all := lw_g (lw_at lw_m4 206 rfl) rfl
theorem q976 : (Jvm.Cond.soleField "TickShareModel" "ok") ∈ lw_all := lw_g (lw_at lw_m4 207 rfl) rfl
theorem q977 : (Jvm.Cond.laysFinal "TickShareModel" "TickShareModel" "bad" "[J") ∈ lw_all := lw_g (lw_at lw_m4 208 rfl) rfl
theorem q978 : (Jvm.Cond.soleField "TickShareModel" "bad") ∈ lw_all := lw_g (lw_at lw_m4 209 rfl) rfl
theorem q979 : (Jvm.Cond.laysFinal "TickShareModel" "TickShareModel" "whole" "[J") ∈ lw_all := lw_g (lw_at lw_m4 210 rfl) rfl
theorem q980 : (Jvm.Cond.soleField "TickShareModel" "whole") ∈ lw_all := lw_g (lw_at lw_m4 211 rfl) rfl
theorem q981 : (Jvm.Cond.laysFinal "TickShareModel" "TickShareModel" "isGreat" "[Z") ∈ lw_all := lw_g (lw_at lw_m4 212 rfl) rfl
theorem q982 : (Jvm.Cond.soleField "TickShareModel" "isGreat") ∈ lw_all := lw_g (lw_at lw_m4 213 rfl) rfl
theorem q983 : (Jvm.Cond.laysFinal "TickShareModel" "TickShareModel" "newOk" "[J") ∈ lw_all := lw_g (lw_at lw_m4 214 rfl) rfl
theorem q984 : (Jvm.Cond.soleField "TickShareModel" "newOk") ∈ lw_all := lw_g (lw_at lw_m4 215 rfl) rfl
theorem q985 : (Jvm.Cond.laysFinal "TickShareModel" "TickShareModel" "newBad" "[J") ∈ lw_all := lw_g (lw_at lw_m4 216 rfl) rfl
theorem q986 : (Jvm.Cond.soleField "TickShareModel" "newBad") ∈ lw_all := lw_g (lw_at lw_m4 217 rfl) rfl
theorem q987 : (Jvm.Cond.laysFinal "TickShareModel" "TickShareModel" "chain" "[J") ∈ lw_all := lw_g (lw_at lw_m4 218 rfl) rfl
theorem q988 : (Jvm.Cond.soleField "TickShareModel" "chain") ∈ lw_all := lw_g (lw_at lw_m4 219 rfl) rfl
theorem q989 : (Jvm.Cond.laysFinal "TickShareModel" "TickShareModel" "chain2" "[J") ∈ lw_all := lw_g (lw_at lw_m4 220 rfl) rfl
theorem q990 : (Jvm.Cond.soleField "TickShareModel" "chain2") ∈ lw_all := lw_g (lw_at lw_m4 221 rfl) rfl
theorem q991 : (Jvm.Cond.lays "TickShareModel" "TickShareModel" "over" "Z") ∈ lw_all := lw_g (lw_at lw_m4 222 rfl) rfl
theorem q992 : (Jvm.Cond.soleField "TickShareModel" "over") ∈ lw_all := lw_g (lw_at lw_m4 223 rfl) rfl
theorem q993 : (Jvm.Cond.laysFinal "TickShareModel" "TickShareModel" "counts" "[J") ∈ lw_all := lw_g (lw_at lw_m4 224 rfl) rfl
theorem q994 : (Jvm.Cond.soleField "TickShareModel" "counts") ∈ lw_all := lw_g (lw_at lw_m4 225 rfl) rfl
theorem q995 : (Jvm.Cond.laysFinal "TickShareModel" "TickShareModel" "up" "[J") ∈ lw_all := lw_g (lw_at lw_m4 226 rfl) rfl
theorem q996 : (Jvm.Cond.soleField "TickShareModel" "up") ∈ lw_all := lw_g (lw_at lw_m4 227 rfl) rfl
theorem q997 : (Jvm.Cond.laysFinal "TickShareModel" "TickShareModel" "low" "[J") ∈ lw_all := lw_g (lw_at lw_m4 228 rfl) rfl
theorem q998 : (Jvm.Cond.soleField "TickShareModel" "low") ∈ lw_all := lw_g (lw_at lw_m4 229 rfl) rfl
theorem q999 : (Jvm.Cond.laysFinal "TickShareModel" "TickShareModel" "sums" "[J") ∈ lw_all := lw_g (lw_at lw_m4 230 rfl) rfl
theorem q1000 : (Jvm.Cond.soleField "TickShareModel" "sums") ∈ lw_all := lw_g (lw_at lw_m4 231 rfl) rfl
theorem q1001 : (Jvm.Cond.laysFinal "TickShareModel" "TickShareModel" "sums2" "[J") ∈ lw_all := lw_g (lw_at lw_m4 232 rfl) rfl
theorem q1002 : (Jvm.Cond.soleField "TickShareModel" "sums2") ∈ lw_all := lw_g (lw_at lw_m4 233 rfl) rfl
theorem q1003 : (Jvm.Cond.laysFinal "TickShareModel" "TickShareModel" "isNeeded" "[Z") ∈ lw_all := lw_g (lw_at lw_m4 234 rfl) rfl
theorem q1004 : (Jvm.Cond.soleField "TickShareModel" "isNeeded") ∈ lw_all := lw_g (lw_at lw_m4 235 rfl) rfl
theorem q1005 : (Jvm.Cond.laysFinal "TickShareModel" "TickShareModel" "found" "[I") ∈ lw_all := lw_g (lw_at lw_m4 236 rfl) rfl
theorem q1006 : (Jvm.Cond.soleField "TickShareModel" "found") ∈ lw_all := lw_g (lw_at lw_m4 237 rfl) rfl
theorem q1007 : (Jvm.Cond.superclass "TickShareModel" "java/lang/Object") ∈ lw_all := lw_g (lw_at lw_m4 238 rfl) rfl
theorem q1010 : (Jvm.Cond.instanceMethod ({ cls := "TickShareModel", name := "status", desc := "()I" } : Jvm.MethodName)) ∈ lw_all := lw_g (lw_at lw_m5 1 rfl) rfl
theorem q1011 : (Jvm.Cond.selects "TickShareModel" ({ cls := "TickShareModel", name := "status", desc := "()I" } : Jvm.MethodName) ({ cls := "TickShareModel", name := "status", desc := "()I" } : Jvm.MethodName)) ∈ lw_all := lw_g (lw_at lw_m5 2 rfl) rfl
theorem q1012 : (Jvm.Cond.code ({ cls := "TickShareModel", name := "status", desc := "()I" } : Jvm.MethodName) prog_13_method_2_code (1 : Nat) (Option.some Jvm.ClassFile.FieldType.int)) ∈ lw_all := lw_g (lw_at lw_m5 3 rfl) rfl
theorem q1014 : (Jvm.Cond.instanceMethod ({ cls := "TickShareModel", name := "top", desc := "()J" } : Jvm.MethodName)) ∈ lw_all := lw_g (lw_at lw_m5 5 rfl) rfl
theorem q1015 : (Jvm.Cond.selects "TickShareModel" ({ cls := "TickShareModel", name := "top", desc := "()J" } : Jvm.MethodName) ({ cls := "TickShareModel", name := "top", desc := "()J" } : Jvm.MethodName)) ∈ lw_all := lw_g (lw_at lw_m5 6 rfl) rfl
theorem q1016 : (Jvm.Cond.code ({ cls := "TickShareModel", name := "top", desc := "()J" } : Jvm.MethodName) prog_13_method_3_code (1 : Nat) (Option.some Jvm.ClassFile.FieldType.long)) ∈ lw_all := lw_g (lw_at lw_m5 7 rfl) rfl
theorem q1018 : (Jvm.Cond.instanceMethod ({ cls := "TickShareModel", name := "bottom", desc := "()J" } : Jvm.MethodName)) ∈ lw_all := lw_g (lw_at lw_m5 9 rfl) rfl
theorem q1019 : (Jvm.Cond.selects "TickShareModel" ({ cls := "TickShareModel", name := "bottom", desc := "()J" } : Jvm.MethodName) ({ cls := "TickShareModel", name := "bottom", desc := "()J" } : Jvm.MethodName)) ∈ lw_all := lw_g (lw_at lw_m5 10 rfl) rfl
theorem q1020 : (Jvm.Cond.code ({ cls := "TickShareModel", name := "bottom", desc := "()J" } : Jvm.MethodName) prog_13_method_4_code (1 : Nat) (Option.some Jvm.ClassFile.FieldType.long)) ∈ lw_all := lw_g (lw_at lw_m5 11 rfl) rfl
theorem q1022 : (Jvm.Cond.instanceMethod ({ cls := "TickShareModel", name := "tray", desc := "(III)Z" } : Jvm.MethodName)) ∈ lw_all := lw_g (lw_at lw_m5 13 rfl) rfl
theorem q1023 : (Jvm.Cond.selects "TickShareModel" ({ cls := "TickShareModel", name := "tray", desc := "(III)Z" } : Jvm.MethodName) ({ cls := "TickShareModel", name := "tray", desc := "(III)Z" } : Jvm.MethodName)) ∈ lw_all := lw_g (lw_at lw_m5 14 rfl) rfl
theorem q1024 : (Jvm.Cond.code ({ cls := "TickShareModel", name := "tray", desc := "(III)Z" } : Jvm.MethodName) prog_13_method_9_code (5 : Nat) (Option.some Jvm.ClassFile.FieldType.boolean)) ∈ lw_all := lw_g (lw_at lw_m5 15 rfl) rfl
theorem q1025 : (Jvm.Cond.methodLink "TickShareModel" (119 : Nat) ({ cls := "TickShareModel", name := "isTray", desc := "(I)Z" } : Jvm.MethodName)) ∈ lw_all := lw_g (lw_at lw_m5 16 rfl) rfl
theorem q1026 : (Jvm.Cond.static ({ cls := "TickShareModel", name := "isTray", desc := "(I)Z" } : Jvm.MethodName)) ∈ lw_all := lw_g (lw_at lw_m5 17 rfl) rfl
theorem q1027 : (Jvm.Cond.code ({ cls := "TickShareModel", name := "isTray", desc := "(I)Z" } : Jvm.MethodName) prog_13_method_7_code (1 : Nat) (Option.some Jvm.ClassFile.FieldType.boolean)) ∈ lw_all := lw_g (lw_at lw_m5 18 rfl) rfl
theorem q1028 : (Jvm.Cond.methodLink "TickShareModel" (123 : Nat) ({ cls := "TickShareModel", name := "is", desc := "(I)Z" } : Jvm.MethodName)) ∈ lw_all := lw_g (lw_at lw_m5 19 rfl) rfl
theorem q1029 : (Jvm.Cond.privateMethod ({ cls := "TickShareModel", name := "is", desc := "(I)Z" } : Jvm.MethodName)) ∈ lw_tbl := lw_at lw_m5 20 rfl
theorem q1030 : (Jvm.Cond.instanceMethod ({ cls := "TickShareModel", name := "is", desc := "(I)Z" } : Jvm.MethodName)) ∈ lw_all := lw_g (lw_at lw_m5 21 rfl) rfl
theorem q1031 : (Jvm.Cond.code ({ cls := "TickShareModel", name := "is", desc := "(I)Z" } : Jvm.MethodName) prog_13_method_5_code (2 : Nat) (Option.some Jvm.ClassFile.FieldType.boolean)) ∈ lw_all := lw_g (lw_at lw_m5 22 rfl) rfl
theorem q1033 : (Jvm.Cond.instanceMethod ({ cls := "TickShareModel", name := "write", desc := "(IIJ)Z" } : Jvm.MethodName)) ∈ lw_all := lw_g (lw_at lw_m5 24 rfl) rfl
theorem q1034 : (Jvm.Cond.selects "TickShareModel" ({ cls := "TickShareModel", name := "write", desc := "(IIJ)Z" } : Jvm.MethodName) ({ cls := "TickShareModel", name := "write", desc := "(IIJ)Z" } : Jvm.MethodName)) ∈ lw_all := lw_g (lw_at lw_m5 25 rfl) rfl
theorem q1035 : (Jvm.Cond.code ({ cls := "TickShareModel", name := "write", desc := "(IIJ)Z" } : Jvm.MethodName) prog_13_method_11_code (6 : Nat) (Option.some Jvm.ClassFile.FieldType.boolean)) ∈ lw_all := lw_g (lw_at lw_m5 26 rfl) rfl
theorem q1036 : (Jvm.Cond.methodLink "TickShareModel" (126 : Nat) ({ cls := "TickShareModel", name := "wrong", desc := "(II)I" } : Jvm.MethodName)) ∈ lw_all := lw_g (lw_at lw_m5 27 rfl) rfl
theorem q1037 : (Jvm.Cond.privateMethod ({ cls := "TickShareModel", name := "wrong", desc := "(II)I" } : Jvm.MethodName)) ∈ lw_tbl := lw_at lw_m5 28 rfl
theorem q1038 : (Jvm.Cond.instanceMethod ({ cls := "TickShareModel", name := "wrong", desc := "(II)I" } : Jvm.MethodName)) ∈ lw_all := lw_g (lw_at lw_m5 29 rfl) rfl
theorem q1039 : (Jvm.Cond.code ({ cls := "TickShareModel", name := "wrong", desc := "(II)I" } : Jvm.MethodName) prog_13_method_10_code (3 : Nat) (Option.some Jvm.ClassFile.FieldType.int)) ∈ lw_all := lw_g (lw_at lw_m5 30 rfl) rfl
theorem q1040 : (Jvm.Cond.methodLink "TickShareModel" (130 : Nat) ({ cls := "TickShareModel", name := "cut", desc := "(JI)J" } : Jvm.MethodName)) ∈ lw_all := lw_g (lw_at lw_m5 31 rfl) rfl
theorem q1041 : (Jvm.Cond.static ({ cls := "TickShareModel", name := "cut", desc := "(JI)J" } : Jvm.MethodName)) ∈ lw_all := lw_g (lw_at lw_m5 32 rfl) rfl
theorem q1042 : (Jvm.Cond.code ({ cls := "TickShareModel", name := "cut", desc := "(JI)J" } : Jvm.MethodName) prog_13_method_8_code (3 : Nat) (Option.some Jvm.ClassFile.FieldType.long)) ∈ lw_all := lw_g (lw_at lw_m5 33 rfl) rfl
theorem q1044 : (Jvm.Cond.instanceMethod ({ cls := "TickShareModel", name := "read", desc := "(II)J" } : Jvm.MethodName)) ∈ lw_all := lw_g (lw_at lw_m5 35 rfl) rfl
theorem q1045 : (Jvm.Cond.selects "TickShareModel" ({ cls := "TickShareModel", name := "read", desc := "(II)J" } : Jvm.MethodName) ({ cls := "TickShareModel", name := "read", desc := "(II)J" } : Jvm.MethodName)) ∈ lw_all := lw_g (lw_at lw_m5 36 rfl) rfl
theorem q1046 : (Jvm.Cond.code ({ cls := "TickShareModel", name := "read", desc := "(II)J" } : Jvm.MethodName) prog_13_method_12_code (3 : Nat) (Option.some Jvm.ClassFile.FieldType.long)) ∈ lw_all := lw_g (lw_at lw_m5 37 rfl) rfl
theorem q1047 : (Jvm.Cond.constantLong "TickShareModel" (134 : Nat) (-1 : Int64)) ∈ lw_all := lw_g (lw_at lw_m5 38 rfl) rfl
theorem q1049 : (Jvm.Cond.instanceMethod ({ cls := "TickShareModel", name := "pour", desc := "(IIIII)Z" } : Jvm.MethodName)) ∈ lw_all := lw_g (lw_at lw_m5 40 rfl) rfl
theorem q1050 : (Jvm.Cond.selects "TickShareModel" ({ cls := "TickShareModel", name := "pour", desc := "(IIIII)Z" } : Jvm.MethodName) ({ cls := "TickShareModel", name := "pour", desc := "(IIIII)Z" } : Jvm.MethodName)) ∈ lw_all := lw_g (lw_at lw_m5 41 rfl) rfl
theorem q1051 : (Jvm.Cond.code ({ cls := "TickShareModel", name := "pour", desc := "(IIIII)Z" } : Jvm.MethodName) prog_13_method_13_code (8 : Nat) (Option.some Jvm.ClassFile.FieldType.boolean)) ∈ lw_all := lw_g (lw_at lw_m5 42 rfl) rfl
theorem q1053 : (Jvm.Cond.instanceMethod ({ cls := "TickShareModel", name := "leaf", desc := "(II)I" } : Jvm.MethodName)) ∈ lw_all := lw_g (lw_at lw_m5 44 rfl) rfl
theorem q1054 : (Jvm.Cond.selects "TickShareModel" ({ cls := "TickShareModel", name := "leaf", desc := "(II)I" } : Jvm.MethodName) ({ cls := "TickShareModel", name := "leaf", desc := "(II)I" } : Jvm.MethodName)) ∈ lw_all := lw_g (lw_at lw_m5 45 rfl) rfl
theorem q1055 : (Jvm.Cond.code ({ cls := "TickShareModel", name := "leaf", desc := "(II)I" } : Jvm.MethodName) prog_13_method_19_code (4 : Nat) (Option.some Jvm.ClassFile.FieldType.int)) ∈ lw_all := lw_g (lw_at lw_m5 46 rfl) rfl
theorem q1056 : (Jvm.Cond.methodLink "TickShareModel" (144 : Nat) ({ cls := "TickShareModel", name := "wrongWeights", desc := "(II)I" } : Jvm.MethodName)) ∈ lw_all := lw_g (lw_at lw_m5 47 rfl) rfl
theorem q1057 : (Jvm.Cond.privateMethod ({ cls := "TickShareModel", name := "wrongWeights", desc := "(II)I" } : Jvm.MethodName)) ∈ lw_tbl := lw_at lw_m5 48 rfl
theorem q1058 : (Jvm.Cond.instanceMethod ({ cls := "TickShareModel", name := "wrongWeights", desc := "(II)I" } : Jvm.MethodName)) ∈ lw_all := lw_g (lw_at lw_m5 49 rfl) rfl
theorem q1059 : (Jvm.Cond.code ({ cls := "TickShareModel", name := "wrongWeights", desc := "(II)I" } : Jvm.MethodName) prog_13_method_16_code (8 : Nat) (Option.some Jvm.ClassFile.FieldType.int)) ∈ lw_all := lw_g (lw_at lw_m5 50 rfl) rfl
theorem q1060 : (Jvm.Cond.constantLong "TickShareModel" (142 : Nat) (1000 : Int64)) ∈ lw_all := lw_g (lw_at lw_m5 51 rfl) rfl
theorem q1061 : (Jvm.Cond.methodLink "TickShareModel" (147 : Nat) ({ cls := "TickShareModel", name := "refuse", desc := "(I)I" } : Jvm.MethodName)) ∈ lw_all := lw_g (lw_at lw_m5 52 rfl) rfl
theorem q1062 : (Jvm.Cond.privateMethod ({ cls := "TickShareModel", name := "refuse", desc := "(I)I" } : Jvm.MethodName)) ∈ lw_tbl := lw_at lw_m5 53 rfl
theorem q1063 : (Jvm.Cond.instanceMethod ({ cls := "TickShareModel", name := "refuse", desc := "(I)I" } : Jvm.MethodName)) ∈ lw_all := lw_g (lw_at lw_m5 54 rfl) rfl
theorem q1064 : (Jvm.Cond.code ({ cls := "TickShareModel", name := "refuse", desc := "(I)I" } : Jvm.MethodName) prog_13_method_6_code (2 : Nat) (Option.some Jvm.ClassFile.FieldType.int)) ∈ lw_all := lw_g (lw_at lw_m5 55 rfl) rfl
theorem q1065 : (Jvm.Cond.methodLink "TickShareModel" (151 : Nat) ({ cls := "TickShareModel", name := "takeWeights", desc := "(IIII)V" } : Jvm.MethodName)) ∈ lw_all := lw_g (lw_at lw_m5 56 rfl) rfl
theorem q1066 : (Jvm.Cond.privateMethod ({ cls := "TickShareModel", name := "takeWeights", desc := "(IIII)V" } : Jvm.MethodName)) ∈ lw_tbl := lw_at lw_m5 57 rfl
theorem q1067 : (Jvm.Cond.instanceMethod ({ cls := "TickShareModel", name := "takeWeights", desc := "(IIII)V" } : Jvm.MethodName)) ∈ lw_all := lw_g (lw_at lw_m5 58 rfl) rfl
theorem q1068 : (Jvm.Cond.code ({ cls := "TickShareModel", name := "takeWeights", desc := "(IIII)V" } : Jvm.MethodName) prog_13_method_17_code (6 : Nat) (Option.none : Option Jvm.ClassFile.FieldType)) ∈ lw_all := lw_g (lw_at lw_m5 59 rfl) rfl
theorem q1069 : (Jvm.Cond.methodLink "TickShareModel" (155 : Nat) ({ cls := "TickShareModel", name := "adds", desc := "(IIIIIII)I" } : Jvm.MethodName)) ∈ lw_all := lw_g (lw_at lw_m5 60 rfl) rfl
theorem q1070 : (Jvm.Cond.privateMethod ({ cls := "TickShareModel", name := "adds", desc := "(IIIIIII)I" } : Jvm.MethodName)) ∈ lw_tbl := lw_at lw_m5 61 rfl
theorem q1071 : (Jvm.Cond.instanceMethod ({ cls := "TickShareModel", name := "adds", desc := "(IIIIIII)I" } : Jvm.MethodName)) ∈ lw_all := lw_g (lw_at lw_m5 62 rfl) rfl
theorem q1072 : (Jvm.Cond.code ({ cls := "TickShareModel", name := "adds", desc := "(IIIIIII)I" } : Jvm.MethodName) prog_13_method_18_code (10 : Nat) (Option.some Jvm.ClassFile.FieldType.int)) ∈ lw_all := lw_g (lw_at lw_m5 63 rfl) rfl
theorem q1074 : (Jvm.Cond.instanceMethod ({ cls := "TickShareModel", name := "row", desc := "(IIII)I" } : Jvm.MethodName)) ∈ lw_all := lw_g (lw_at lw_m5 65 rfl) rfl
theorem q1075 : (Jvm.Cond.selects "TickShareModel" ({ cls := "TickShareModel", name := "row", desc := "(IIII)I" } : Jvm.MethodName) ({ cls := "TickShareModel", name := "row", desc := "(IIII)I" } : Jvm.MethodName)) ∈ lw_all := lw_g (lw_at lw_m5 66 rfl) rfl
theorem q1076 : (Jvm.Cond.code ({ cls := "TickShareModel", name := "row", desc := "(IIII)I" } : Jvm.MethodName) prog_13_method_21_code (6 : Nat) (Option.some Jvm.ClassFile.FieldType.int)) ∈ lw_all := lw_g (lw_at lw_m5 67 rfl) rfl
theorem q1077 : (Jvm.Cond.methodLink "TickShareModel" (159 : Nat) ({ cls := "TickShareModel", name := "wrongParts", desc := "(IIIII)I" } : Jvm.MethodName)) ∈ lw_all := lw_g (lw_at lw_m5 68 rfl) rfl
theorem q1078 : (Jvm.Cond.privateMethod ({ cls := "TickShareModel", name := "wrongParts", desc := "(IIIII)I" } : Jvm.MethodName)) ∈ lw_tbl := lw_at lw_m5 69 rfl
theorem q1079 : (Jvm.Cond.instanceMethod ({ cls := "TickShareModel", name := "wrongParts", desc := "(IIIII)I" } : Jvm.MethodName)) ∈ lw_all := lw_g (lw_at lw_m5 70 rfl) rfl
theorem q1080 : (Jvm.Cond.code ({ cls := "TickShareModel", name := "wrongParts", desc := "(IIIII)I" } : Jvm.MethodName) prog_13_method_20_code (10 : Nat) (Option.some Jvm.ClassFile.FieldType.int)) ∈ lw_all := lw_g (lw_at lw_m5 71 rfl) rfl
theorem q1081 : (Jvm.Cond.methodLink "TickShareModel" (139 : Nat) ({ cls := "TickShareModel", name := "isThing", desc := "(I)Z" } : Jvm.MethodName)) ∈ lw_all := lw_g (lw_at lw_m5 72 rfl) rfl
theorem q1082 : (Jvm.Cond.privateMethod ({ cls := "TickShareModel", name := "isThing", desc := "(I)Z" } : Jvm.MethodName)) ∈ lw_tbl := lw_at lw_m5 73 rfl
theorem q1083 : (Jvm.Cond.instanceMethod ({ cls := "TickShareModel", name := "isThing", desc := "(I)Z" } : Jvm.MethodName)) ∈ lw_all := lw_g (lw_at lw_m5 74 rfl) rfl
theorem q1084 : (Jvm.Cond.code ({ cls := "TickShareModel", name := "isThing", desc := "(I)Z" } : Jvm.MethodName) prog_13_method_14_code (2 : Nat) (Option.some Jvm.ClassFile.FieldType.boolean)) ∈ lw_all := lw_g (lw_at lw_m5 75 rfl) rfl
theorem q1086 : (Jvm.Cond.instanceMethod ({ cls := "TickShareModel", name := "fan", desc := "(IIIII)I" } : Jvm.MethodName)) ∈ lw_all := lw_g (lw_at lw_m5 77 rfl) rfl
theorem q1087 : (Jvm.Cond.selects "TickShareModel" ({ cls := "TickShareModel", name := "fan", desc := "(IIIII)I" } : Jvm.MethodName) ({ cls := "TickShareModel", name := "fan", desc := "(IIIII)I" } : Jvm.MethodName)) ∈ lw_all := lw_g (lw_at lw_m5 78 rfl) rfl
theorem q1088 : (Jvm.Cond.code ({ cls := "TickShareModel", name := "fan", desc := "(IIIII)I" } : Jvm.MethodName) prog_13_method_22_code (8 : Nat) (Option.some Jvm.ClassFile.FieldType.int)) ∈ lw_all := lw_g (lw_at lw_m5 79 rfl) rfl
theorem q1090 : (Jvm.Cond.instanceMethod ({ cls := "TickShareModel", name := "cache", desc := "(IIII)I" } : Jvm.MethodName)) ∈ lw_all := lw_g (lw_at lw_m5 81 rfl) rfl
theorem q1091 : (Jvm.Cond.selects "TickShareModel" ({ cls := "TickShareModel", name := "cache", desc := "(IIII)I" } : Jvm.MethodName) ({ cls := "TickShareModel", name := "cache", desc := "(IIII)I" } : Jvm.MethodName)) ∈ lw_all := lw_g (lw_at lw_m5 82 rfl) rfl
theorem q1092 : (Jvm.Cond.code ({ cls := "TickShareModel", name := "cache", desc := "(IIII)I" } : Jvm.MethodName) prog_13_method_23_code (6 : Nat) (Option.some Jvm.ClassFile.FieldType.int)) ∈ lw_all := lw_g (lw_at lw_m5 83 rfl) rfl
theorem q1094 : (Jvm.Cond.instanceMethod ({ cls := "TickShareModel", name := "retry", desc := "(III)I" } : Jvm.MethodName)) ∈ lw_all := lw_g (lw_at lw_m5 85 rfl) rfl
theorem q1095 : (Jvm.Cond.selects "TickShareModel" ({ cls := "TickShareModel", name := "retry", desc := "(III)I" } : Jvm.MethodName) ({ cls := "TickShareModel", name := "retry", desc := "(III)I" } : Jvm.MethodName)) ∈ lw_all := lw_g (lw_at lw_m5 86 rfl) rfl
theorem q1096 : (Jvm.Cond.code ({ cls := "TickShareModel", name := "retry", desc := "(III)I" } : Jvm.MethodName) prog_13_method_24_code (5 : Nat) (Option.some Jvm.ClassFile.FieldType.int)) ∈ lw_all := lw_g (lw_at lw_m5 87 rfl) rfl
theorem q1098 : (Jvm.Cond.instanceMethod ({ cls := "TickShareModel", name := "hedge", desc := "(II)I" } : Jvm.MethodName)) ∈ lw_all := lw_g (lw_at lw_m5 89 rfl) rfl
theorem q1099 : (Jvm.Cond.selects "TickShareModel" ({ cls := "TickShareModel", name := "hedge", desc := "(II)I" } : Jvm.MethodName) ({ cls := "TickShareModel", name := "hedge", desc := "(II)I" } : Jvm.MethodName)) ∈ lw_all := lw_g (lw_at lw_m5 90 rfl) rfl
theorem q1100 : (Jvm.Cond.code ({ cls := "TickShareModel", name := "hedge", desc := "(II)I" } : Jvm.MethodName) prog_13_method_25_code (4 : Nat) (Option.some Jvm.ClassFile.FieldType.int)) ∈ lw_all := lw_g (lw_at lw_m5 91 rfl) rfl
theorem q1102 : (Jvm.Cond.instanceMethod ({ cls := "TickShareModel", name := "told", desc := "(II)I" } : Jvm.MethodName)) ∈ lw_all := lw_g (lw_at lw_m5 93 rfl) rfl
theorem q1103 : (Jvm.Cond.selects "TickShareModel" ({ cls := "TickShareModel", name := "told", desc := "(II)I" } : Jvm.MethodName) ({ cls := "TickShareModel", name := "told", desc := "(II)I" } : Jvm.MethodName)) ∈ lw_all := lw_g (lw_at lw_m5 94 rfl) rfl
theorem q1104 : (Jvm.Cond.code ({ cls := "TickShareModel", name := "told", desc := "(II)I" } : Jvm.MethodName) prog_13_method_43_code (5 : Nat) (Option.some Jvm.ClassFile.FieldType.int)) ∈ lw_all := lw_g (lw_at lw_m5 95 rfl) rfl
theorem q1105 : (Jvm.Cond.methodLink "TickShareModel" (230 : Nat) ({ cls := "TickShareModel", name := "wrongTable", desc := "(I)I" } : Jvm.MethodName)) ∈ lw_all := lw_g (lw_at lw_m5 96 rfl) rfl
theorem q1106 : (Jvm.Cond.privateMethod ({ cls := "TickShareModel", name := "wrongTable", desc := "(I)I" } : Jvm.MethodName)) ∈ lw_tbl := lw_at lw_m5 97 rfl
theorem q1107 : (Jvm.Cond.instanceMethod ({ cls := "TickShareModel", name := "wrongTable", desc := "(I)I" } : Jvm.MethodName)) ∈ lw_all := lw_g (lw_at lw_m5 98 rfl) rfl
theorem q1108 : (Jvm.Cond.code ({ cls := "TickShareModel", name := "wrongTable", desc := "(I)I" } : Jvm.MethodName) prog_13_method_39_code (2 : Nat) (Option.some Jvm.ClassFile.FieldType.int)) ∈ lw_all := lw_g (lw_at lw_m5 99 rfl) rfl
theorem q1109 : (Jvm.Cond.methodLink "TickShareModel" (220 : Nat) ({ cls := "TickShareModel", name := "usual", desc := "()V" } : Jvm.MethodName)) ∈ lw_all := lw_g (lw_at lw_m5 100 rfl) rfl
theorem q1110 : (Jvm.Cond.privateMethod ({ cls := "TickShareModel", name := "usual", desc := "()V" } : Jvm.MethodName)) ∈ lw_tbl := lw_at lw_m5 101 rfl
theorem q1111 : (Jvm.Cond.instanceMethod ({ cls := "TickShareModel", name := "usual", desc := "()V" } : Jvm.MethodName)) ∈ lw_all := lw_g (lw_at lw_m5 102 rfl) rfl
theorem q1112 : (Jvm.Cond.code ({ cls := "TickShareModel", name := "usual", desc := "()V" } : Jvm.MethodName) prog_13_method_40_code (2 : Nat) (Option.none : Option Jvm.ClassFile.FieldType)) ∈ lw_all := lw_g (lw_at lw_m5 103 rfl) rfl
theorem q1113 : (Jvm.Cond.methodLink "TickShareModel" (223 : Nat) ({ cls := "TickShareModel", name := "tables", desc := "(I)V" } : Jvm.MethodName)) ∈ lw_all := lw_g (lw_at lw_m5 104 rfl) rfl
theorem q1114 : (Jvm.Cond.privateMethod ({ cls := "TickShareModel", name := "tables", desc := "(I)V" } : Jvm.MethodName)) ∈ lw_tbl := lw_at lw_m5 105 rfl
theorem q1115 : (Jvm.Cond.instanceMethod ({ cls := "TickShareModel", name := "tables", desc := "(I)V" } : Jvm.MethodName)) ∈ lw_all := lw_g (lw_at lw_m5 106 rfl) rfl
theorem q1116 : (Jvm.Cond.code ({ cls := "TickShareModel", name := "tables", desc := "(I)V" } : Jvm.MethodName) prog_13_method_31_code (5 : Nat) (Option.none : Option Jvm.ClassFile.FieldType)) ∈ lw_all := lw_g (lw_at lw_m5 107 rfl) rfl
theorem q1117 : (Jvm.Cond.methodLink "TickShareModel" (176 : Nat) ({ cls := "TickShareModel", name := "clear", desc := "([J)V" } : Jvm.MethodName)) ∈ lw_all := lw_g (lw_at lw_m5 108 rfl) rfl
theorem q1118 : (Jvm.Cond.privateMethod ({ cls := "TickShareModel", name := "clear", desc := "([J)V" } : Jvm.MethodName)) ∈ lw_tbl := lw_at lw_m5 109 rfl
theorem q1119 : (Jvm.Cond.instanceMethod ({ cls := "TickShareModel", name := "clear", desc := "([J)V" } : Jvm.MethodName)) ∈ lw_all := lw_g (lw_at lw_m5 110 rfl) rfl
theorem q1120 : (Jvm.Cond.code ({ cls := "TickShareModel", name := "clear", desc := "([J)V" } : Jvm.MethodName) prog_13_method_28_code (3 : Nat) (Option.none : Option Jvm.ClassFile.FieldType)) ∈ lw_all := lw_g (lw_at lw_m5 111 rfl) rfl
theorem q1121 : (Jvm.Cond.methodLink "TickShareModel" (180 : Nat) ({ cls := "TickShareModel", name := "wholeOf", desc := "(I)J" } : Jvm.MethodName)) ∈ lw_all := lw_g (lw_at lw_m5 112 rfl) rfl
theorem q1122 : (Jvm.Cond.privateMethod ({ cls := "TickShareModel", name := "wholeOf", desc := "(I)J" } : Jvm.MethodName)) ∈ lw_tbl := lw_at lw_m5 113 rfl
theorem q1123 : (Jvm.Cond.instanceMethod ({ cls := "TickShareModel", name := "wholeOf", desc := "(I)J" } : Jvm.MethodName)) ∈ lw_all := lw_g (lw_at lw_m5 114 rfl) rfl
theorem q1124 : (Jvm.Cond.code ({ cls := "TickShareModel", name := "wholeOf", desc := "(I)J" } : Jvm.MethodName) prog_13_method_32_code (7 : Nat) (Option.some Jvm.ClassFile.FieldType.long)) ∈ lw_all := lw_g (lw_at lw_m5 115 rfl) rfl
theorem q1125 : (Jvm.Cond.methodLink "TickShareModel" (192 : Nat) ({ cls := "TickShareModel", name := "product", desc := "(JJ)J" } : Jvm.MethodName)) ∈ lw_all := lw_g (lw_at lw_m5 116 rfl) rfl
theorem q1126 : (Jvm.Cond.privateMethod ({ cls := "TickShareModel", name := "product", desc := "(JJ)J" } : Jvm.MethodName)) ∈ lw_tbl := lw_at lw_m5 117 rfl
theorem q1127 : (Jvm.Cond.instanceMethod ({ cls := "TickShareModel", name := "product", desc := "(JJ)J" } : Jvm.MethodName)) ∈ lw_all := lw_g (lw_at lw_m5 118 rfl) rfl
theorem q1128 : (Jvm.Cond.code ({ cls := "TickShareModel", name := "product", desc := "(JJ)J" } : Jvm.MethodName) prog_13_method_27_code (5 : Nat) (Option.some Jvm.ClassFile.FieldType.long)) ∈ lw_all := lw_g (lw_at lw_m5 119 rfl) rfl
theorem q1129 : (Jvm.Cond.constantLong "TickShareModel" (163 : Nat) (4611686018427387903 : Int64)) ∈ lw_all := lw_g (lw_at lw_m5 120 rfl) rfl
theorem q1130 : (Jvm.Cond.methodLink "TickShareModel" (184 : Nat) ({ cls := "TickShareModel", name := "make", desc := "(I)V" } : Jvm.MethodName)) ∈ lw_all := lw_g (lw_at lw_m5 121 rfl) rfl
theorem q1131 : (Jvm.Cond.privateMethod ({ cls := "TickShareModel", name := "make", desc := "(I)V" } : Jvm.MethodName)) ∈ lw_tbl := lw_at lw_m5 122 rfl
theorem q1132 : (Jvm.Cond.instanceMethod ({ cls := "TickShareModel", name := "make", desc := "(I)V" } : Jvm.MethodName)) ∈ lw_all := lw_g (lw_at lw_m5 123 rfl) rfl
theorem q1133 : (Jvm.Cond.code ({ cls := "TickShareModel", name := "make", desc := "(I)V" } : Jvm.MethodName) prog_13_method_33_code (8 : Nat) (Option.none : Option Jvm.ClassFile.FieldType)) ∈ lw_all := lw_g (lw_at lw_m5 124 rfl) rfl
theorem q1134 : (Jvm.Cond.methodLink "TickShareModel" (195 : Nat) ({ cls := "TickShareModel", name := "makeRow", desc := "(II)V" } : Jvm.MethodName)) ∈ lw_all := lw_g (lw_at lw_m5 125 rfl) rfl
theorem q1135 : (Jvm.Cond.privateMethod ({ cls := "TickShareModel", name := "makeRow", desc := "(II)V" } : Jvm.MethodName)) ∈ lw_tbl := lw_at lw_m5 126 rfl
theorem q1136 : (Jvm.Cond.instanceMethod ({ cls := "TickShareModel", name := "makeRow", desc := "(II)V" } : Jvm.MethodName)) ∈ lw_all := lw_g (lw_at lw_m5 127 rfl) rfl
theorem q1137 : (Jvm.Cond.code ({ cls := "TickShareModel", name := "makeRow", desc := "(II)V" } : Jvm.MethodName) prog_13_method_34_code (7 : Nat) (Option.none : Option Jvm.ClassFile.FieldType)) ∈ lw_all := lw_g (lw_at lw_m5 128 rfl) rfl
theorem q1138 : (Jvm.Cond.methodLink "TickShareModel" (173 : Nat) ({ cls := "TickShareModel", name := "at", desc := "(II)I" } : Jvm.MethodName)) ∈ lw_all := lw_g (lw_at lw_m5 129 rfl) rfl
theorem q1139 : (Jvm.Cond.static ({ cls := "TickShareModel", name := "at", desc := "(II)I" } : Jvm.MethodName)) ∈ lw_all := lw_g (lw_at lw_m5 130 rfl) rfl
theorem q1140 : (Jvm.Cond.code ({ cls := "TickShareModel", name := "at", desc := "(II)I" } : Jvm.MethodName) prog_13_method_26_code (2 : Nat) (Option.some Jvm.ClassFile.FieldType.int)) ∈ lw_all := lw_g (lw_at lw_m5 131 rfl) rfl
theorem q1141 : (Jvm.Cond.methodLink "TickShareModel" (199 : Nat) ({ cls := "TickShareModel", name := "makeFan", desc := "(I)V" } : Jvm.MethodName)) ∈ lw_all := lw_g (lw_at lw_m5 132 rfl) rfl
theorem q1142 : (Jvm.Cond.privateMethod ({ cls := "TickShareModel", name := "makeFan", desc := "(I)V" } : Jvm.MethodName)) ∈ lw_tbl := lw_at lw_m5 133 rfl
theorem q1143 : (Jvm.Cond.instanceMethod ({ cls := "TickShareModel", name := "makeFan", desc := "(I)V" } : Jvm.MethodName)) ∈ lw_all := lw_g (lw_at lw_m5 134 rfl) rfl
theorem q1144 : (Jvm.Cond.code ({ cls := "TickShareModel", name := "makeFan", desc := "(I)V" } : Jvm.MethodName) prog_13_method_36_code (10 : Nat) (Option.none : Option Jvm.ClassFile.FieldType)) ∈ lw_all := lw_g (lw_at lw_m5 135 rfl) rfl
theorem q1145 : (Jvm.Cond.methodLink "TickShareModel" (208 : Nat) ({ cls := "TickShareModel", name := "count", desc := "(IIZ)V" } : Jvm.MethodName)) ∈ lw_all := lw_g (lw_at lw_m5 136 rfl) rfl
theorem q1146 : (Jvm.Cond.privateMethod ({ cls := "TickShareModel", name := "count", desc := "(IIZ)V" } : Jvm.MethodName)) ∈ lw_tbl := lw_at lw_m5 137 rfl
theorem q1147 : (Jvm.Cond.instanceMethod ({ cls := "TickShareModel", name := "count", desc := "(IIZ)V" } : Jvm.MethodName)) ∈ lw_all := lw_g (lw_at lw_m5 138 rfl) rfl
theorem q1148 : (Jvm.Cond.code ({ cls := "TickShareModel", name := "count", desc := "(IIZ)V" } : Jvm.MethodName) prog_13_method_35_code (11 : Nat) (Option.none : Option Jvm.ClassFile.FieldType)) ∈ lw_all := lw_g (lw_at lw_m5 139 rfl) rfl
theorem q1149 : (Jvm.Cond.methodLink "TickShareModel" (202 : Nat) ({ cls := "TickShareModel", name := "makeRetry", desc := "(I)V" } : Jvm.MethodName)) ∈ lw_all := lw_g (lw_at lw_m5 140 rfl) rfl
theorem q1150 : (Jvm.Cond.privateMethod ({ cls := "TickShareModel", name := "makeRetry", desc := "(I)V" } : Jvm.MethodName)) ∈ lw_tbl := lw_at lw_m5 141 rfl
theorem q1151 : (Jvm.Cond.instanceMethod ({ cls := "TickShareModel", name := "makeRetry", desc := "(I)V" } : Jvm.MethodName)) ∈ lw_all := lw_g (lw_at lw_m5 142 rfl) rfl
theorem q1152 : (Jvm.Cond.code ({ cls := "TickShareModel", name := "makeRetry", desc := "(I)V" } : Jvm.MethodName) prog_13_method_37_code (8 : Nat) (Option.none : Option Jvm.ClassFile.FieldType)) ∈ lw_all := lw_g (lw_at lw_m5 143 rfl) rfl
theorem q1153 : (Jvm.Cond.methodLink "TickShareModel" (212 : Nat) ({ cls := "java/lang/Math", name := "min", desc := "(II)I" } : Jvm.MethodName)) ∈ lw_all := lw_g (lw_at lw_m5 144 rfl) rfl
theorem q1154 : (Jvm.Cond.methodLink "TickShareModel" (205 : Nat) ({ cls := "TickShareModel", name := "makeHedge", desc := "(I)V" } : Jvm.MethodName)) ∈ lw_all := lw_g (lw_at lw_m5 145 rfl) rfl
theorem q1155 : (Jvm.Cond.privateMethod ({ cls := "TickShareModel", name := "makeHedge", desc := "(I)V" } : Jvm.MethodName)) ∈ lw_tbl := lw_at lw_m5 146 rfl
theorem q1156 : (Jvm.Cond.instanceMethod ({ cls := "TickShareModel", name := "makeHedge", desc := "(I)V" } : Jvm.MethodName)) ∈ lw_all := lw_g (lw_at lw_m5 147 rfl) rfl
theorem q1157 : (Jvm.Cond.code ({ cls := "TickShareModel", name := "makeHedge", desc := "(I)V" } : Jvm.MethodName) prog_13_method_38_code (6 : Nat) (Option.none : Option Jvm.ClassFile.FieldType)) ∈ lw_all := lw_g (lw_at lw_m5 148 rfl) rfl
theorem q1158 : (Jvm.Cond.methodLink "TickShareModel" (217 : Nat) ({ cls := "java/lang/Math", name := "max", desc := "(II)I" } : Jvm.MethodName)) ∈ lw_all := lw_g (lw_at lw_m5 149 rfl) rfl
theorem q1159 : (Jvm.Cond.methodLink "TickShareModel" (188 : Nat) ({ cls := "TickShareModel", name := "settle", desc := "(IJ)V" } : Jvm.MethodName)) ∈ lw_all := lw_g (lw_at lw_m5 150 rfl) rfl
theorem q1160 : (Jvm.Cond.privateMethod ({ cls := "TickShareModel", name := "settle", desc := "(IJ)V" } : Jvm.MethodName)) ∈ lw_tbl := lw_at lw_m5 151 rfl
theorem q1161 : (Jvm.Cond.instanceMethod ({ cls := "TickShareModel", name := "settle", desc := "(IJ)V" } : Jvm.MethodName)) ∈ lw_all := lw_g (lw_at lw_m5 152 rfl) rfl
theorem q1162 : (Jvm.Cond.code ({ cls := "TickShareModel", name := "settle", desc := "(IJ)V" } : Jvm.MethodName) prog_13_method_30_code (8 : Nat) (Option.none : Option Jvm.ClassFile.FieldType)) ∈ lw_all := lw_g (lw_at lw_m5 153 rfl) rfl
theorem q1163 : (Jvm.Cond.methodLink "TickShareModel" (169 : Nat) ({ cls := "TickShareModel", name := "common", desc := "(JJ)J" } : Jvm.MethodName)) ∈ lw_all := lw_g (lw_at lw_m5 154 rfl) rfl
theorem q1164 : (Jvm.Cond.static ({ cls := "TickShareModel", name := "common", desc := "(JJ)J" } : Jvm.MethodName)) ∈ lw_all := lw_g (lw_at lw_m5 155 rfl) rfl
theorem q1165 : (Jvm.Cond.code ({ cls := "TickShareModel", name := "common", desc := "(JJ)J" } : Jvm.MethodName) prog_13_method_29_code (10 : Nat) (Option.some Jvm.ClassFile.FieldType.long)) ∈ lw_all := lw_g (lw_at lw_m5 156 rfl) rfl
theorem q1166 : (Jvm.Cond.methodLink "TickShareModel" (233 : Nat) ({ cls := "TickShareModel", name := "leaves", desc := "(I)I" } : Jvm.MethodName)) ∈ lw_all := lw_g (lw_at lw_m5 157 rfl) rfl
theorem q1167 : (Jvm.Cond.privateMethod ({ cls := "TickShareModel", name := "leaves", desc := "(I)I" } : Jvm.MethodName)) ∈ lw_tbl := lw_at lw_m5 158 rfl
theorem q1168 : (Jvm.Cond.instanceMethod ({ cls := "TickShareModel", name := "leaves", desc := "(I)I" } : Jvm.MethodName)) ∈ lw_all := lw_g (lw_at lw_m5 159 rfl) rfl
theorem q1169 : (Jvm.Cond.code ({ cls := "TickShareModel", name := "leaves", desc := "(I)I" } : Jvm.MethodName) prog_13_method_42_code (4 : Nat) (Option.some Jvm.ClassFile.FieldType.int)) ∈ lw_all := lw_g (lw_at lw_m5 160 rfl) rfl
theorem q1170 : (Jvm.Cond.methodLink "TickShareModel" (226 : Nat) ({ cls := "TickShareModel", name := "has", desc := "(II)Z" } : Jvm.MethodName)) ∈ lw_all := lw_g (lw_at lw_m5 161 rfl) rfl
theorem q1171 : (Jvm.Cond.privateMethod ({ cls := "TickShareModel", name := "has", desc := "(II)Z" } : Jvm.MethodName)) ∈ lw_tbl := lw_at lw_m5 162 rfl
theorem q1172 : (Jvm.Cond.instanceMethod ({ cls := "TickShareModel", name := "has", desc := "(II)Z" } : Jvm.MethodName)) ∈ lw_all := lw_g (lw_at lw_m5 163 rfl) rfl
theorem q1173 : (Jvm.Cond.code ({ cls := "TickShareModel", name := "has", desc := "(II)Z" } : Jvm.MethodName) prog_13_method_41_code (4 : Nat) (Option.some Jvm.ClassFile.FieldType.boolean)) ∈ lw_all := lw_g (lw_at lw_m5 164 rfl) rfl
theorem q1175 : (Jvm.Cond.instanceMethod ({ cls := "TickShareModel", name := "weight", desc := "(IIZ)J" } : Jvm.MethodName)) ∈ lw_all := lw_g (lw_at lw_m5 166 rfl) rfl
theorem q1176 : (Jvm.Cond.selects "TickShareModel" ({ cls := "TickShareModel", name := "weight", desc := "(IIZ)J" } : Jvm.MethodName) ({ cls := "TickShareModel", name := "weight", desc := "(IIZ)J" } : Jvm.MethodName)) ∈ lw_all := lw_g (lw_at lw_m5 167 rfl) rfl
theorem q1177 : (Jvm.Cond.code ({ cls := "TickShareModel", name := "weight", desc := "(IIZ)J" } : Jvm.MethodName) prog_13_method_44_code (5 : Nat) (Option.some Jvm.ClassFile.FieldType.long)) ∈ lw_all := lw_g (lw_at lw_m5 168 rfl) rfl
theorem q1179 : (Jvm.Cond.instanceMethod ({ cls := "TickShareModel", name := "whole", desc := "(I)J" } : Jvm.MethodName)) ∈ lw_all := lw_g (lw_at lw_m5 170 rfl) rfl
theorem q1180 : (Jvm.Cond.selects "TickShareModel" ({ cls := "TickShareModel", name := "whole", desc := "(I)J" } : Jvm.MethodName) ({ cls := "TickShareModel", name := "whole", desc := "(I)J" } : Jvm.MethodName)) ∈ lw_all := lw_g (lw_at lw_m5 171 rfl) rfl
theorem q1181 : (Jvm.Cond.code ({ cls := "TickShareModel", name := "whole", desc := "(I)J" } : Jvm.MethodName) prog_13_method_45_code (3 : Nat) (Option.some Jvm.ClassFile.FieldType.long)) ∈ lw_all := lw_g (lw_at lw_m5 172 rfl) rfl
theorem q1183 : (Jvm.Cond.instanceMethod ({ cls := "TickShareModel", name := "by", desc := "(II)I" } : Jvm.MethodName)) ∈ lw_all := lw_g (lw_at lw_m5 174 rfl) rfl
theorem q1184 : (Jvm.Cond.selects "TickShareModel" ({ cls := "TickShareModel", name := "by", desc := "(II)I" } : Jvm.MethodName) ({ cls := "TickShareModel", name := "by", desc := "(II)I" } : Jvm.MethodName)) ∈ lw_all := lw_g (lw_at lw_m5 175 rfl) rfl
theorem q1185 : (Jvm.Cond.code ({ cls := "TickShareModel", name := "by", desc := "(II)I" } : Jvm.MethodName) prog_13_method_48_code (4 : Nat) (Option.some Jvm.ClassFile.FieldType.int)) ∈ lw_all := lw_g (lw_at lw_m5 176 rfl) rfl
theorem q1186 : (Jvm.Cond.methodLink "TickShareModel" (236 : Nat) ({ cls := "TickShareModel", name := "by0", desc := "(II)J" } : Jvm.MethodName)) ∈ lw_all := lw_g (lw_at lw_m5 177 rfl) rfl
theorem q1187 : (Jvm.Cond.privateMethod ({ cls := "TickShareModel", name := "by0", desc := "(II)J" } : Jvm.MethodName)) ∈ lw_tbl := lw_at lw_m5 178 rfl
theorem q1188 : (Jvm.Cond.instanceMethod ({ cls := "TickShareModel", name := "by0", desc := "(II)J" } : Jvm.MethodName)) ∈ lw_all := lw_g (lw_at lw_m5 179 rfl) rfl
theorem q1189 : (Jvm.Cond.code ({ cls := "TickShareModel", name := "by0", desc := "(II)J" } : Jvm.MethodName) prog_13_method_47_code (6 : Nat) (Option.some Jvm.ClassFile.FieldType.long)) ∈ lw_all := lw_g (lw_at lw_m5 180 rfl) rfl
theorem q1190 : (Jvm.Cond.methodLink "TickShareModel" (240 : Nat) ({ cls := "TickShareModel", name := "tells", desc := "(JJ)I" } : Jvm.MethodName)) ∈ lw_all := lw_g (lw_at lw_m5 181 rfl) rfl
theorem q1191 : (Jvm.Cond.privateMethod ({ cls := "TickShareModel", name := "tells", desc := "(JJ)I" } : Jvm.MethodName)) ∈ lw_tbl := lw_at lw_m5 182 rfl
theorem q1192 : (Jvm.Cond.instanceMethod ({ cls := "TickShareModel", name := "tells", desc := "(JJ)I" } : Jvm.MethodName)) ∈ lw_all := lw_g (lw_at lw_m5 183 rfl) rfl
theorem q1193 : (Jvm.Cond.code ({ cls := "TickShareModel", name := "tells", desc := "(JJ)I" } : Jvm.MethodName) prog_13_method_46_code (7 : Nat) (Option.some Jvm.ClassFile.FieldType.int)) ∈ lw_all := lw_g (lw_at lw_m5 184 rfl) rfl
theorem q1195 : (Jvm.Cond.instanceMethod ({ cls := "TickShareModel", name := "fails", desc := "(I)I" } : Jvm.MethodName)) ∈ lw_all := lw_g (lw_at lw_m5 186 rfl) rfl
theorem q1196 : (Jvm.Cond.selects "TickShareModel" ({ cls := "TickShareModel", name := "fails", desc := "(I)I" } : Jvm.MethodName) ({ cls := "TickShareModel", name := "fails", desc := "(I)I" } : Jvm.MethodName)) ∈ lw_all := lw_g (lw_at lw_m5 187 rfl) rfl
theorem q1197 : (Jvm.Cond.code ({ cls := "TickShareModel", name := "fails", desc := "(I)I" } : Jvm.MethodName) prog_13_method_49_code (3 : Nat) (Option.some Jvm.ClassFile.FieldType.int)) ∈ lw_all := lw_g (lw_at lw_m5 188 rfl) rfl
theorem q1199 : (Jvm.Cond.instanceMethod ({ cls := "TickShareModel", name := "promise", desc := "(III)I" } : Jvm.MethodName)) ∈ lw_all := lw_g (lw_at lw_m5 190 rfl) rfl
theorem q1200 : (Jvm.Cond.selects "TickShareModel" ({ cls := "TickShareModel", name := "promise", desc := "(III)I" } : Jvm.MethodName) ({ cls := "TickShareModel", name := "promise", desc := "(III)I" } : Jvm.MethodName)) ∈ lw_all := lw_g (lw_at lw_m5 191 rfl) rfl
theorem q1201 : (Jvm.Cond.code ({ cls := "TickShareModel", name := "promise", desc := "(III)I" } : Jvm.MethodName) prog_13_method_52_code (6 : Nat) (Option.some Jvm.ClassFile.FieldType.int)) ∈ lw_all := lw_g (lw_at lw_m5 192 rfl) rfl
theorem q1202 : (Jvm.Cond.methodLink "TickShareModel" (245 : Nat) ({ cls := "TickShareModel", name := "isShare", desc := "(II)Z" } : Jvm.MethodName)) ∈ lw_all := lw_g (lw_at lw_m5 193 rfl) rfl
theorem q1203 : (Jvm.Cond.static ({ cls := "TickShareModel", name := "isShare", desc := "(II)Z" } : Jvm.MethodName)) ∈ lw_all := lw_g (lw_at lw_m5 194 rfl) rfl
theorem q1204 : (Jvm.Cond.code ({ cls := "TickShareModel", name := "isShare", desc := "(II)Z" } : Jvm.MethodName) prog_13_method_51_code (2 : Nat) (Option.some Jvm.ClassFile.FieldType.boolean)) ∈ lw_all := lw_g (lw_at lw_m5 195 rfl) rfl
theorem q1205 : (Jvm.Cond.constant "TickShareModel" (244 : Nat) (1000000 : Int32)) ∈ lw_all := lw_g (lw_at lw_m5 196 rfl) rfl
theorem q1206 : (Jvm.Cond.methodLink "TickShareModel" (248 : Nat) ({ cls := "TickShareModel", name := "isEnough", desc := "(JJJJ)Z" } : Jvm.MethodName)) ∈ lw_all := lw_g (lw_at lw_m5 197 rfl) rfl
theorem q1207 : (Jvm.Cond.static ({ cls := "TickShareModel", name := "isEnough", desc := "(JJJJ)Z" } : Jvm.MethodName)) ∈ lw_all := lw_g (lw_at lw_m5 198 rfl) rfl
theorem q1208 : (Jvm.Cond.code ({ cls := "TickShareModel", name := "isEnough", desc := "(JJJJ)Z" } : Jvm.MethodName) prog_13_method_50_code (26 : Nat) (Option.some Jvm.ClassFile.FieldType.boolean)) ∈ lw_all := lw_g (lw_at lw_m5 199 rfl) rfl
theorem q1210 : (Jvm.Cond.instanceMethod ({ cls := "TickShareModel", name := "bound", desc := "(II)I" } : Jvm.MethodName)) ∈ lw_all := lw_g (lw_at lw_m5 201 rfl) rfl
theorem q1211 : (Jvm.Cond.selects "TickShareModel" ({ cls := "TickShareModel", name := "bound", desc := "(II)I" } : Jvm.MethodName) ({ cls := "TickShareModel", name := "bound", desc := "(II)I" } : Jvm.MethodName)) ∈ lw_all := lw_g (lw_at lw_m5 202 rfl) rfl
theorem q1212 : (Jvm.Cond.code ({ cls := "TickShareModel", name := "bound", desc := "(II)I" } : Jvm.MethodName) prog_13_method_57_code (4 : Nat) (Option.some Jvm.ClassFile.FieldType.int)) ∈ lw_all := lw_g (lw_at lw_m5 203 rfl) rfl
theorem q1213 : (Jvm.Cond.methodLink "TickShareModel" (267 : Nat) ({ cls := "TickShareModel", name := "bounds", desc := "(I)Z" } : Jvm.MethodName)) ∈ lw_all := lw_g (lw_at lw_m5 204 rfl) rfl
theorem q1214 : (Jvm.Cond.privateMethod ({ cls := "TickShareModel", name := "bounds", desc := "(I)Z" } : Jvm.MethodName)) ∈ lw_tbl := lw_at lw_m5 205 rfl
theorem q1215 : (Jvm.Cond.instanceMethod ({ cls := "TickShareModel", name := "bounds", desc := "(I)Z" } : Jvm.MethodName)) ∈ lw_all := lw_g (lw_at lw_m5 206 rfl) rfl
theorem q1216 : (Jvm.Cond.code ({ cls := "TickShareModel", name := "bounds", desc := "(I)Z" } : Jvm.MethodName) prog_13_method_53_code (6 : Nat) (Option.some Jvm.ClassFile.FieldType.boolean)) ∈ lw_all := lw_g (lw_at lw_m5 207 rfl) rfl
theorem q1217 : (Jvm.Cond.constantLong "TickShareModel" (252 : Nat) (1152921504606846975 : Int64)) ∈ lw_all := lw_g (lw_at lw_m5 208 rfl) rfl
theorem q1218 : (Jvm.Cond.methodLink "TickShareModel" (254 : Nat) ({ cls := "TickShareModel", name := "told0", desc := "(I)I" } : Jvm.MethodName)) ∈ lw_all := lw_g (lw_at lw_m5 209 rfl) rfl
theorem q1219 : (Jvm.Cond.privateMethod ({ cls := "TickShareModel", name := "told0", desc := "(I)I" } : Jvm.MethodName)) ∈ lw_tbl := lw_at lw_m5 210 rfl
theorem q1220 : (Jvm.Cond.instanceMethod ({ cls := "TickShareModel", name := "told0", desc := "(I)I" } : Jvm.MethodName)) ∈ lw_all := lw_g (lw_at lw_m5 211 rfl) rfl
theorem q1221 : (Jvm.Cond.code ({ cls := "TickShareModel", name := "told0", desc := "(I)I" } : Jvm.MethodName) prog_13_method_54_code (4 : Nat) (Option.some Jvm.ClassFile.FieldType.int)) ∈ lw_all := lw_g (lw_at lw_m5 212 rfl) rfl
theorem q1222 : (Jvm.Cond.constantLong "TickShareModel" (257 : Nat) (1152921504606846976 : Int64)) ∈ lw_all := lw_g (lw_at lw_m5 213 rfl) rfl
theorem q1223 : (Jvm.Cond.methodLink "TickShareModel" (259 : Nat) ({ cls := "TickShareModel", name := "boundRow", desc := "(I)V" } : Jvm.MethodName)) ∈ lw_all := lw_g (lw_at lw_m5 214 rfl) rfl
theorem q1224 : (Jvm.Cond.privateMethod ({ cls := "TickShareModel", name := "boundRow", desc := "(I)V" } : Jvm.MethodName)) ∈ lw_tbl := lw_at lw_m5 215 rfl
theorem q1225 : (Jvm.Cond.instanceMethod ({ cls := "TickShareModel", name := "boundRow", desc := "(I)V" } : Jvm.MethodName)) ∈ lw_all := lw_g (lw_at lw_m5 216 rfl) rfl
theorem q1226 : (Jvm.Cond.code ({ cls := "TickShareModel", name := "boundRow", desc := "(I)V" } : Jvm.MethodName) prog_13_method_56_code (10 : Nat) (Option.none : Option Jvm.ClassFile.FieldType)) ∈ lw_all := lw_g (lw_at lw_m5 217 rfl) rfl
theorem q1227 : (Jvm.Cond.methodLink "TickShareModel" (265 : Nat) ({ cls := "java/lang/Math", name := "min", desc := "(JJ)J" } : Jvm.MethodName)) ∈ lw_all := lw_g (lw_at lw_m5 218 rfl) rfl
theorem q1228 : (Jvm.Cond.methodLink "TickShareModel" (262 : Nat) ({ cls := "TickShareModel", name := "boundFan", desc := "(II)J" } : Jvm.MethodName)) ∈ lw_all := lw_g (lw_at lw_m5 219 rfl) rfl
theorem q1229 : (Jvm.Cond.privateMethod ({ cls := "TickShareModel", name := "boundFan", desc := "(II)J" } : Jvm.MethodName)) ∈ lw_tbl := lw_at lw_m5 220 rfl
theorem q1230 : (Jvm.Cond.instanceMethod ({ cls := "TickShareModel", name := "boundFan", desc := "(II)J" } : Jvm.MethodName)) ∈ lw_all := lw_g (lw_at lw_m5 221 rfl) rfl
theorem q1231 : (Jvm.Cond.code ({ cls := "TickShareModel", name := "boundFan", desc := "(II)J" } : Jvm.MethodName) prog_13_method_55_code (10 : Nat) (Option.some Jvm.ClassFile.FieldType.long)) ∈ lw_all := lw_g (lw_at lw_m5 222 rfl) rfl
theorem q1233 : (Jvm.Cond.instanceMethod ({ cls := "TickShareModel", name := "asks", desc := "(II)I" } : Jvm.MethodName)) ∈ lw_all := lw_g (lw_at lw_m5 224 rfl) rfl
theorem q1234 : (Jvm.Cond.selects "TickShareModel" ({ cls := "TickShareModel", name := "asks", desc := "(II)I" } : Jvm.MethodName) ({ cls := "TickShareModel", name := "asks", desc := "(II)I" } : Jvm.MethodName)) ∈ lw_all := lw_g (lw_at lw_m5 225 rfl) rfl
theorem q1235 : (Jvm.Cond.code ({ cls := "TickShareModel", name := "asks", desc := "(II)I" } : Jvm.MethodName) prog_13_method_58_code (5 : Nat) (Option.some Jvm.ClassFile.FieldType.int)) ∈ lw_all := lw_g (lw_at lw_m5 226 rfl) rfl
theorem q1236 : (Jvm.Cond.methodLink "TickShareModel" (270 : Nat) ({ cls := "TickShareModel", name := "isLeaf", desc := "(I)Z" } : Jvm.MethodName)) ∈ lw_all := lw_g (lw_at lw_m5 227 rfl) rfl
theorem q1237 : (Jvm.Cond.privateMethod ({ cls := "TickShareModel", name := "isLeaf", desc := "(I)Z" } : Jvm.MethodName)) ∈ lw_tbl := lw_at lw_m5 228 rfl
theorem q1238 : (Jvm.Cond.instanceMethod ({ cls := "TickShareModel", name := "isLeaf", desc := "(I)Z" } : Jvm.MethodName)) ∈ lw_all := lw_g (lw_at lw_m5 229 rfl) rfl
theorem q1239 : (Jvm.Cond.code ({ cls := "TickShareModel", name := "isLeaf", desc := "(I)Z" } : Jvm.MethodName) prog_13_method_15_code (2 : Nat) (Option.some Jvm.ClassFile.FieldType.boolean)) ∈ lw_all := lw_g (lw_at lw_m5 230 rfl) rfl
theorem q1240 : (Jvm.Cond.methodLink "TickShareModel" (273 : Nat) ({ cls := "TickShareModel", name := "factor", desc := "(I)I" } : Jvm.MethodName)) ∈ lw_all := lw_g (lw_at lw_m5 231 rfl) rfl
theorem q1241 : (Jvm.Cond.privateMethod ({ cls := "TickShareModel", name := "factor", desc := "(I)I" } : Jvm.MethodName)) ∈ lw_tbl := lw_at lw_m5 232 rfl
theorem q1242 : (Jvm.Cond.instanceMethod ({ cls := "TickShareModel", name := "factor", desc := "(I)I" } : Jvm.MethodName)) ∈ lw_all := lw_g (lw_at lw_m5 233 rfl) rfl
theorem q1243 : (Jvm.Cond.code ({ cls := "TickShareModel", name := "factor", desc := "(I)I" } : Jvm.MethodName) prog_13_method_59_code (2 : Nat) (Option.some Jvm.ClassFile.FieldType.int)) ∈ lw_all := lw_g (lw_at lw_m5 234 rfl) rfl
theorem q1245 : (Jvm.Cond.instanceMethod ({ cls := "TickShareModel", name := "change", desc := "(III)Z" } : Jvm.MethodName)) ∈ lw_all := lw_g (lw_at lw_m5 236 rfl) rfl
theorem q1246 : (Jvm.Cond.selects "TickShareModel" ({ cls := "TickShareModel", name := "change", desc := "(III)Z" } : Jvm.MethodName) ({ cls := "TickShareModel", name := "change", desc := "(III)Z" } : Jvm.MethodName)) ∈ lw_all := lw_g (lw_at lw_m5 237 rfl) rfl
theorem q1247 : (Jvm.Cond.code ({ cls := "TickShareModel", name := "change", desc := "(III)Z" } : Jvm.MethodName) prog_13_method_60_code (5 : Nat) (Option.some Jvm.ClassFile.FieldType.boolean)) ∈ lw_all := lw_g (lw_at lw_m5 238 rfl) rfl
theorem q1249 : (Jvm.Cond.instanceMethod ({ cls := "TickShareModel", name := "price", desc := "(II)Z" } : Jvm.MethodName)) ∈ lw_all := lw_g (lw_at lw_m6 0 rfl) rfl
theorem q1250 : (Jvm.Cond.selects "TickShareModel" ({ cls := "TickShareModel", name := "price", desc := "(II)Z" } : Jvm.MethodName) ({ cls := "TickShareModel", name := "price", desc := "(II)Z" } : Jvm.MethodName)) ∈ lw_all := lw_g (lw_at lw_m6 1 rfl) rfl
theorem q1251 : (Jvm.Cond.code ({ cls := "TickShareModel", name := "price", desc := "(II)Z" } : Jvm.MethodName) prog_13_method_62_code (3 : Nat) (Option.some Jvm.ClassFile.FieldType.boolean)) ∈ lw_all := lw_g (lw_at lw_m6 2 rfl) rfl
theorem q1252 : (Jvm.Cond.methodLink "TickShareModel" (276 : Nat) ({ cls := "TickShareModel", name := "isPrice", desc := "(I)Z" } : Jvm.MethodName)) ∈ lw_all := lw_g (lw_at lw_m6 3 rfl) rfl
theorem q1253 : (Jvm.Cond.static ({ cls := "TickShareModel", name := "isPrice", desc := "(I)Z" } : Jvm.MethodName)) ∈ lw_all := lw_g (lw_at lw_m6 4 rfl) rfl
theorem q1254 : (Jvm.Cond.code ({ cls := "TickShareModel", name := "isPrice", desc := "(I)Z" } : Jvm.MethodName) prog_13_method_61_code (1 : Nat) (Option.some Jvm.ClassFile.FieldType.boolean)) ∈ lw_all := lw_g (lw_at lw_m6 5 rfl) rfl
theorem q1256 : (Jvm.Cond.instanceMethod ({ cls := "TickShareModel", name := "grade", desc := "(IIII)I" } : Jvm.MethodName)) ∈ lw_all := lw_g (lw_at lw_m6 7 rfl) rfl
theorem q1257 : (Jvm.Cond.selects "TickShareModel" ({ cls := "TickShareModel", name := "grade", desc := "(IIII)I" } : Jvm.MethodName) ({ cls := "TickShareModel", name := "grade", desc := "(IIII)I" } : Jvm.MethodName)) ∈ lw_all := lw_g (lw_at lw_m6 8 rfl) rfl
theorem q1258 : (Jvm.Cond.code ({ cls := "TickShareModel", name := "grade", desc := "(IIII)I" } : Jvm.MethodName) prog_13_method_63_code (8 : Nat) (Option.some Jvm.ClassFile.FieldType.int)) ∈ lw_all := lw_g (lw_at lw_m6 9 rfl) rfl
theorem q1260 : (Jvm.Cond.instanceMethod ({ cls := "TickShareModel", name := "best", desc := "(IIII)I" } : Jvm.MethodName)) ∈ lw_all := lw_g (lw_at lw_m6 11 rfl) rfl
theorem q1261 : (Jvm.Cond.selects "TickShareModel" ({ cls := "TickShareModel", name := "best", desc := "(IIII)I" } : Jvm.MethodName) ({ cls := "TickShareModel", name := "best", desc := "(IIII)I" } : Jvm.MethodName)) ∈ lw_all := lw_g (lw_at lw_m6 12 rfl) rfl
theorem q1262 : (Jvm.Cond.code ({ cls := "TickShareModel", name := "best", desc := "(IIII)I" } : Jvm.MethodName) prog_13_method_65_code (9 : Nat) (Option.some Jvm.ClassFile.FieldType.int)) ∈ lw_all := lw_g (lw_at lw_m6 13 rfl) rfl
theorem q1263 : (Jvm.Cond.methodLink "TickShareModel" (279 : Nat) ({ cls := "TickShareModel", name := "next", desc := "(I)Z" } : Jvm.MethodName)) ∈ lw_all := lw_g (lw_at lw_m6 14 rfl) rfl
theorem q1264 : (Jvm.Cond.privateMethod ({ cls := "TickShareModel", name := "next", desc := "(I)Z" } : Jvm.MethodName)) ∈ lw_tbl := lw_at lw_m6 15 rfl
theorem q1265 : (Jvm.Cond.instanceMethod ({ cls := "TickShareModel", name := "next", desc := "(I)Z" } : Jvm.MethodName)) ∈ lw_all := lw_g (lw_at lw_m6 16 rfl) rfl
theorem q1266 : (Jvm.Cond.code ({ cls := "TickShareModel", name := "next", desc := "(I)Z" } : Jvm.MethodName) prog_13_method_64_code (3 : Nat) (Option.some Jvm.ClassFile.FieldType.boolean)) ∈ lw_all := lw_g (lw_at lw_m6 17 rfl) rfl
theorem q1268 : (Jvm.Cond.instanceMethod ({ cls := "TickShareModel", name := "chosen", desc := "(I)I" } : Jvm.MethodName)) ∈ lw_all := lw_g (lw_at lw_m6 19 rfl) rfl
theorem q1269 : (Jvm.Cond.selects "TickShareModel" ({ cls := "TickShareModel", name := "chosen", desc := "(I)I" } : Jvm.MethodName) ({ cls := "TickShareModel", name := "chosen", desc := "(I)I" } : Jvm.MethodName)) ∈ lw_all := lw_g (lw_at lw_m6 20 rfl) rfl
theorem q1270 : (Jvm.Cond.code ({ cls := "TickShareModel", name := "chosen", desc := "(I)I" } : Jvm.MethodName) prog_13_method_66_code (2 : Nat) (Option.some Jvm.ClassFile.FieldType.int)) ∈ lw_all := lw_g (lw_at lw_m6 21 rfl) rfl
theorem q1272 : (Jvm.Cond.instanceMethod ({ cls := "TickShareModel", name := "part", desc := "(II)Z" } : Jvm.MethodName)) ∈ lw_all := lw_g (lw_at lw_m6 23 rfl) rfl
theorem q1273 : (Jvm.Cond.selects "TickShareModel" ({ cls := "TickShareModel", name := "part", desc := "(II)Z" } : Jvm.MethodName) ({ cls := "TickShareModel", name := "part", desc := "(II)Z" } : Jvm.MethodName)) ∈ lw_all := lw_g (lw_at lw_m6 24 rfl) rfl
theorem q1274 : (Jvm.Cond.code ({ cls := "TickShareModel", name := "part", desc := "(II)Z" } : Jvm.MethodName) prog_13_method_67_code (3 : Nat) (Option.some Jvm.ClassFile.FieldType.boolean)) ∈ lw_all := lw_g (lw_at lw_m6 25 rfl) rfl
theorem q1276 : (Jvm.Cond.instanceMethod ({ cls := "TickShareModel", name := "trace", desc := "(II)I" } : Jvm.MethodName)) ∈ lw_all := lw_g (lw_at lw_m6 27 rfl) rfl
theorem q1277 : (Jvm.Cond.selects "TickShareModel" ({ cls := "TickShareModel", name := "trace", desc := "(II)I" } : Jvm.MethodName) ({ cls := "TickShareModel", name := "trace", desc := "(II)I" } : Jvm.MethodName)) ∈ lw_all := lw_g (lw_at lw_m6 28 rfl) rfl
theorem q1278 : (Jvm.Cond.code ({ cls := "TickShareModel", name := "trace", desc := "(II)I" } : Jvm.MethodName) prog_13_method_68_code (11 : Nat) (Option.some Jvm.ClassFile.FieldType.int)) ∈ lw_all := lw_g (lw_at lw_m6 29 rfl) rfl
theorem q1280 : (Jvm.Cond.instanceMethod ({ cls := "TickShareModel", name := "traces", desc := "(II)I" } : Jvm.MethodName)) ∈ lw_all := lw_g (lw_at lw_m6 31 rfl) rfl
theorem q1281 : (Jvm.Cond.selects "TickShareModel" ({ cls := "TickShareModel", name := "traces", desc := "(II)I" } : Jvm.MethodName) ({ cls := "TickShareModel", name := "traces", desc := "(II)I" } : Jvm.MethodName)) ∈ lw_all := lw_g (lw_at lw_m6 32 rfl) rfl
theorem q1282 : (Jvm.Cond.code ({ cls := "TickShareModel", name := "traces", desc := "(II)I" } : Jvm.MethodName) prog_13_method_69_code (3 : Nat) (Option.some Jvm.ClassFile.FieldType.int)) ∈ lw_all := lw_g (lw_at lw_m6 33 rfl) rfl
theorem q1284 : (Jvm.Cond.instanceMethod ({ cls := "TickShareModel", name := "over", desc := "(I)I" } : Jvm.MethodName)) ∈ lw_all := lw_g (lw_at lw_m6 35 rfl) rfl
theorem q1285 : (Jvm.Cond.selects "TickShareModel" ({ cls := "TickShareModel", name := "over", desc := "(I)I" } : Jvm.MethodName) ({ cls := "TickShareModel", name := "over", desc := "(I)I" } : Jvm.MethodName)) ∈ lw_all := lw_g (lw_at lw_m6 36 rfl) rfl
theorem q1286 : (Jvm.Cond.code ({ cls := "TickShareModel", name := "over", desc := "(I)I" } : Jvm.MethodName) prog_13_method_70_code (2 : Nat) (Option.some Jvm.ClassFile.FieldType.int)) ∈ lw_all := lw_g (lw_at lw_m6 37 rfl) rfl
theorem q1295 : (Jvm.Cond.castable "TickShareModel" "java/lang/Object") ∈ lw_tbl := lw_at lw_m6 46 rfl
theorem in_X2 : ∀ w ∈ wsX20, w ∈ lw_all := lw_in wsX20 [931, 933, 935, 937, 939, 941, 943, 945, 947, 949, 951, 953, 955, 957, 959, 961, 963, 965, 967, 969, 971, 973, 975, 977, 979, 981, 983, 985, 987, 989, 991, 993, 995, 997, 999, 1001, 1003, 1005] (by decide +kernel) (by decide +kernel)
