/-! HeldTongue -/
set_option maxRecDepth 100000
def RX0 : String := "HeldTongue"
def TX0 : u_T := fun k => match k with
  | 0 => ("HeldTongue", "lexicons", "[LHeldTongue$Lexicon;", true)
  | 1 => ("HeldTongue", "mute", "LHeldTongue$Lexicon;", true)
  | 2 => ("HeldTongue", "moment", "LHeldTongue$Moment;", true)
  | 3 => ("HeldTongue", "texts", "I", false)
  | 4 => ("HeldTongue", "text", "I", false)
  | 5 => ("HeldTongue", "n", "I", false)
  | 6 => ("HeldTongue", "imageTexts", "I", false)
  | 7 => ("HeldTongue", "imageText", "I", false)
  | 8 => ("HeldTongue", "imageN", "I", false)
  | 9 => ("HeldTongue", "row", "[I", true)
  | 10 => ("HeldTongue", "imageRow", "[I", true)
  | 11 => ("HeldTongue", "isFresh", "Z", false)
  | 12 => ("HeldTongue", "tape", "[B", true)
  | 13 => ("HeldTongue", "taped", "I", false)
  | 14 => ("HeldTongue", "fault", "I", false)
  | 15 => ("HeldTongue", "faultPlace", "I", false)
  | 16 => ("HeldTongue", "counts", "[I", true)
  | 17 => ("HeldTongue", "rows", "[I", true)
  | 18 => ("HeldTongue", "one", "[I", true)
  | 19 => ("HeldTongue", "asked", "[I", true)
  | 20 => ("HeldTongue", "ways", "[[J", true)
  | 21 => ("HeldTongue", "askedMany", "I", false)
  | 22 => ("HeldTongue", "senses", "[LHeldTongue$Sense;", true)
  | 23 => ("HeldTongue", "ms", "[I", true)
  | 24 => ("HeldTongue", "eases", "[I", true)
  | 25 => ("HeldTongue", "held", "[[I", true)
  | 26 => ("HeldTongue", "sorts", "[I", true)
  | 27 => ("HeldTongue", "marks", "[I", true)
  | 28 => ("HeldTongue", "partsFrom", "[I", true)
  | 29 => ("HeldTongue", "parts", "[I", true)
  | 30 => ("HeldTongue", "meantMany", "I", false)
  | 31 => ("HeldTongue", "kinds", "[I", true)
  | 32 => ("HeldTongue", "weights", "[I", true)
  | 33 => ("HeldTongue", "madeBy", "[I", true)
  | 34 => ("HeldTongue", "meanings", "[I", true)
  | 35 => ("HeldTongue", "things", "I", false)
  | 36 => ("HeldTongue", "heard", "[I", true)
  | 37 => ("HeldTongue", "fewest", "[I", true)
  | 38 => ("HeldTongue", "some", "[I", true)
  | 39 => ("HeldTongue", "due", "I", false)
  | _ => ("HeldTongue", "sayings", "[[I", true)
def tyX0 : Nat → FieldType := fun k => match k with
  | 0 => .array (.object "HeldTongue$Lexicon")
  | 1 => .object "HeldTongue$Lexicon"
  | 2 => .object "HeldTongue$Moment"
  | 3 => .int
  | 4 => .int
  | 5 => .int
  | 6 => .int
  | 7 => .int
  | 8 => .int
  | 9 => .array .int
  | 10 => .array .int
  | 11 => .boolean
  | 12 => .array .byte
  | 13 => .int
  | 14 => .int
  | 15 => .int
  | 16 => .array .int
  | 17 => .array .int
  | 18 => .array .int
  | 19 => .array .int
  | 20 => .array (.array .long)
  | 21 => .int
  | 22 => .array (.object "HeldTongue$Sense")
  | 23 => .array .int
  | 24 => .array .int
  | 25 => .array (.array .int)
  | 26 => .array .int
  | 27 => .array .int
  | 28 => .array .int
  | 29 => .array .int
  | 30 => .int
  | 31 => .array .int
  | 32 => .array .int
  | 33 => .array .int
  | 34 => .array .int
  | 35 => .int
  | 36 => .array .int
  | 37 => .array .int
  | 38 => .array .int
  | 39 => .int
  | _ => .array (.array .int)
abbrev wsX00 : List Cond := u_ws RX0 TX0 41
set_option maxRecDepth 100000 in
theorem nmX0 : ∀ a, a < 41 → ∀ b, b < 41 → a ≠ b → (TX0 a).2.1 ≠ (TX0 b).2.1 := by decide +kernel
set_option maxRecDepth 100000 in
theorem tyX0_ok : ∀ k, k < 41 → parseFieldDescriptor (TX0 k).2.2.1 = some (tyX0 k) := by decide +kernel
abbrev cX0_init : ByteArray := prog_1_method_2_code
def yX0_init : MethodName := ⟨RX0, "<init>", "()V"⟩
def dkwX0_init_12 : List UInt8 := [181, 0, 116, 42, 17, 18, 192, 189, 0, 119, 181, 0, 120, 177]
abbrev dktX0_init_12 : List UInt8 := dkwX0_init_12 ++ []
def dkwX0_init_11 : List UInt8 := [181, 0, 107, 42, 8, 188, 10, 181, 0, 110, 42, 17, 18, 192, 188, 10, 181, 0, 113, 42, 16, 32, 188, 10]
abbrev dktX0_init_11 : List UInt8 := dkwX0_init_11 ++ dktX0_init_12
def dkwX0_init_10 : List UInt8 := [181, 0, 98, 42, 16, 25, 188, 10, 181, 0, 101, 42, 16, 25, 188, 10, 181, 0, 104, 42, 16, 25, 188, 10]
abbrev dktX0_init_10 : List UInt8 := dkwX0_init_10 ++ dktX0_init_11
def dkwX0_init_9 : List UInt8 := [17, 31, 65, 188, 10, 181, 0, 92, 42, 17, 62, 128, 188, 10, 181, 0, 95, 42, 16, 25, 188, 10]
abbrev dktX0_init_9 : List UInt8 := dkwX0_init_9 ++ dktX0_init_10
def dkwX0_init_8 : List UInt8 := [181, 0, 83, 42, 17, 31, 64, 188, 10, 181, 0, 86, 42, 17, 31, 64, 188, 10, 181, 0, 89, 42]
abbrev dktX0_init_8 : List UInt8 := dkwX0_init_8 ++ dktX0_init_9
def dkwX0_init_7 : List UInt8 := [188, 10, 181, 0, 75, 42, 17, 9, 96, 188, 10, 181, 0, 78, 42, 16, 6, 16, 24, 197, 0, 81, 2]
abbrev dktX0_init_7 : List UInt8 := dkwX0_init_7 ++ dktX0_init_8
def dkwX0_init_6 : List UInt8 := [42, 16, 31, 16, 24, 197, 0, 64, 2, 181, 0, 66, 42, 16, 24, 189, 0, 69, 181, 0, 71, 42, 16, 24]
abbrev dktX0_init_6 : List UInt8 := dkwX0_init_6 ++ dktX0_init_7
def dkwX0_init_5 : List UInt8 := [89, 7, 3, 79, 89, 8, 3, 79, 89, 16, 6, 3, 79, 181, 0, 58, 42, 16, 31, 188, 10, 181, 0, 61]
abbrev dktX0_init_5 : List UInt8 := dkwX0_init_5 ++ dktX0_init_6
def dkwX0_init_4 : List UInt8 := [181, 0, 55, 42, 16, 7, 188, 10, 89, 3, 4, 79, 89, 4, 3, 79, 89, 5, 3, 79, 89, 6, 3, 79]
abbrev dktX0_init_4 : List UInt8 := dkwX0_init_4 ++ dktX0_init_5
def dkwX0_init_3 : List UInt8 := [181, 0, 45, 42, 2, 181, 0, 48, 42, 17, 65, 160, 188, 10, 181, 0, 51, 42, 18, 54, 188, 10]
abbrev dktX0_init_3 : List UInt8 := dkwX0_init_3 ++ dktX0_init_4
def dkwX0_init_2 : List UInt8 := [188, 10, 181, 0, 34, 42, 16, 24, 188, 10, 181, 0, 38, 42, 17, 1, 44, 188, 8, 181, 0, 41, 42, 2]
abbrev dktX0_init_2 : List UInt8 := dkwX0_init_2 ++ dktX0_init_3
def dkwX0_init_1 : List UInt8 := [42, 187, 0, 20, 89, 183, 0, 22, 181, 0, 23, 42, 2, 181, 0, 27, 42, 2, 181, 0, 31, 42, 16, 24]
abbrev dktX0_init_1 : List UInt8 := dkwX0_init_1 ++ dktX0_init_2
def dkwX0_init_0 : List UInt8 := [42, 183, 0, 1, 42, 16, 6, 189, 0, 9, 181, 0, 11, 42, 187, 0, 9, 89, 183, 0, 15, 181, 0, 16]
abbrev dktX0_init_0 : List UInt8 := dkwX0_init_0 ++ dktX0_init_1
theorem dksX0_init_0 : cX0_init.data.toList.drop 0 = dktX0_init_0 := by decide +kernel
theorem dksX0_init_1 : cX0_init.data.toList.drop 24 = dktX0_init_1 := dk_seg dksX0_init_0 24 rfl rfl
theorem dksX0_init_2 : cX0_init.data.toList.drop 48 = dktX0_init_2 := dk_seg dksX0_init_1 24 rfl rfl
theorem dksX0_init_3 : cX0_init.data.toList.drop 72 = dktX0_init_3 := dk_seg dksX0_init_2 24 rfl rfl
theorem dksX0_init_4 : cX0_init.data.toList.drop 94 = dktX0_init_4 := dk_seg dksX0_init_3 22 rfl rfl
theorem dksX0_init_5 : cX0_init.data.toList.drop 118 = dktX0_init_5 := dk_seg dksX0_init_4 24 rfl rfl
theorem dksX0_init_6 : cX0_init.data.toList.drop 142 = dktX0_init_6 := dk_seg dksX0_init_5 24 rfl rfl
theorem dksX0_init_7 : cX0_init.data.toList.drop 166 = dktX0_init_7 := dk_seg dksX0_init_6 24 rfl rfl
theorem dksX0_init_8 : cX0_init.data.toList.drop 189 = dktX0_init_8 := dk_seg dksX0_init_7 23 rfl rfl
theorem dksX0_init_9 : cX0_init.data.toList.drop 211 = dktX0_init_9 := dk_seg dksX0_init_8 22 rfl rfl
theorem dksX0_init_10 : cX0_init.data.toList.drop 233 = dktX0_init_10 := dk_seg dksX0_init_9 22 rfl rfl
theorem dksX0_init_11 : cX0_init.data.toList.drop 257 = dktX0_init_11 := dk_seg dksX0_init_10 24 rfl rfl
theorem dksX0_init_12 : cX0_init.data.toList.drop 281 = dktX0_init_12 := dk_seg dksX0_init_11 24 rfl rfl
theorem dX0_init_0 : decode cX0_init 0 = .ok (.aload_n 0, 1) := dk_42 (dk_at dksX0_init_0 0 rfl rfl)
theorem dX0_init_1 : decode cX0_init 1 = .ok (.invokespecial 1, 3) := dk_183 0 1 (dk_at dksX0_init_0 1 rfl rfl)
theorem dX0_init_4 : decode cX0_init 4 = .ok (.aload_n 0, 1) := dk_42 (dk_at dksX0_init_0 4 rfl rfl)
theorem dX0_init_5 : decode cX0_init 5 = .ok (.bipush 6, 2) := dk_16 6 (dk_at dksX0_init_0 5 rfl rfl)
theorem dX0_init_7 : decode cX0_init 7 = .ok (.anewarray 9, 3) := dk_189 0 9 (dk_at dksX0_init_0 7 rfl rfl)
theorem dX0_init_10 : decode cX0_init 10 = .ok (.putfield 11, 3) := dk_181 0 11 (dk_at dksX0_init_0 10 rfl rfl)
theorem dX0_init_13 : decode cX0_init 13 = .ok (.aload_n 0, 1) := dk_42 (dk_at dksX0_init_0 13 rfl rfl)
theorem dX0_init_14 : decode cX0_init 14 = .ok (.new 9, 3) := dk_187 0 9 (dk_at dksX0_init_0 14 rfl rfl)
theorem dX0_init_17 : decode cX0_init 17 = .ok (.dup, 1) := dk_89 (dk_at dksX0_init_0 17 rfl rfl)
theorem dX0_init_18 : decode cX0_init 18 = .ok (.invokespecial 15, 3) := dk_183 0 15 (dk_at dksX0_init_0 18 rfl rfl)
theorem dX0_init_21 : decode cX0_init 21 = .ok (.putfield 16, 3) := dk_181 0 16 (dk_at dksX0_init_0 21 rfl rfl)
theorem dX0_init_24 : decode cX0_init 24 = .ok (.aload_n 0, 1) := dk_42 (dk_at dksX0_init_1 0 rfl rfl)
theorem dX0_init_25 : decode cX0_init 25 = .ok (.new 20, 3) := dk_187 0 20 (dk_at dksX0_init_1 1 rfl rfl)
theorem dX0_init_28 : decode cX0_init 28 = .ok (.dup, 1) := dk_89 (dk_at dksX0_init_1 4 rfl rfl)
theorem dX0_init_29 : decode cX0_init 29 = .ok (.invokespecial 22, 3) := dk_183 0 22 (dk_at dksX0_init_1 5 rfl rfl)
theorem dX0_init_32 : decode cX0_init 32 = .ok (.putfield 23, 3) := dk_181 0 23 (dk_at dksX0_init_1 8 rfl rfl)
theorem dX0_init_35 : decode cX0_init 35 = .ok (.aload_n 0, 1) := dk_42 (dk_at dksX0_init_1 11 rfl rfl)
theorem dX0_init_36 : decode cX0_init 36 = .ok (.iconst (-1), 1) := dk_2 (dk_at dksX0_init_1 12 rfl rfl)
theorem dX0_init_37 : decode cX0_init 37 = .ok (.putfield 27, 3) := dk_181 0 27 (dk_at dksX0_init_1 13 rfl rfl)
theorem dX0_init_40 : decode cX0_init 40 = .ok (.aload_n 0, 1) := dk_42 (dk_at dksX0_init_1 16 rfl rfl)
theorem dX0_init_41 : decode cX0_init 41 = .ok (.iconst (-1), 1) := dk_2 (dk_at dksX0_init_1 17 rfl rfl)
theorem dX0_init_42 : decode cX0_init 42 = .ok (.putfield 31, 3) := dk_181 0 31 (dk_at dksX0_init_1 18 rfl rfl)
theorem dX0_init_45 : decode cX0_init 45 = .ok (.aload_n 0, 1) := dk_42 (dk_at dksX0_init_1 21 rfl rfl)
theorem dX0_init_46 : decode cX0_init 46 = .ok (.bipush 24, 2) := dk_16 24 (dk_at dksX0_init_1 22 rfl rfl)
theorem dX0_init_48 : decode cX0_init 48 = .ok (.newarray .int, 2) := dk_188_10 (dk_at dksX0_init_2 0 rfl rfl)
theorem dX0_init_50 : decode cX0_init 50 = .ok (.putfield 34, 3) := dk_181 0 34 (dk_at dksX0_init_2 2 rfl rfl)
theorem dX0_init_53 : decode cX0_init 53 = .ok (.aload_n 0, 1) := dk_42 (dk_at dksX0_init_2 5 rfl rfl)
theorem dX0_init_54 : decode cX0_init 54 = .ok (.bipush 24, 2) := dk_16 24 (dk_at dksX0_init_2 6 rfl rfl)
theorem dX0_init_56 : decode cX0_init 56 = .ok (.newarray .int, 2) := dk_188_10 (dk_at dksX0_init_2 8 rfl rfl)
theorem dX0_init_58 : decode cX0_init 58 = .ok (.putfield 38, 3) := dk_181 0 38 (dk_at dksX0_init_2 10 rfl rfl)
theorem dX0_init_61 : decode cX0_init 61 = .ok (.aload_n 0, 1) := dk_42 (dk_at dksX0_init_2 13 rfl rfl)
theorem dX0_init_62 : decode cX0_init 62 = .ok (.sipush 300, 3) := dk_17 1 44 (dk_at dksX0_init_2 14 rfl rfl)
theorem dX0_init_65 : decode cX0_init 65 = .ok (.newarray .byte, 2) := dk_188_8 (dk_at dksX0_init_2 17 rfl rfl)
theorem dX0_init_67 : decode cX0_init 67 = .ok (.putfield 41, 3) := dk_181 0 41 (dk_at dksX0_init_2 19 rfl rfl)
theorem dX0_init_70 : decode cX0_init 70 = .ok (.aload_n 0, 1) := dk_42 (dk_at dksX0_init_2 22 rfl rfl)
theorem dX0_init_71 : decode cX0_init 71 = .ok (.iconst (-1), 1) := dk_2 (dk_at dksX0_init_2 23 rfl rfl)
theorem dX0_init_72 : decode cX0_init 72 = .ok (.putfield 45, 3) := dk_181 0 45 (dk_at dksX0_init_3 0 rfl rfl)
theorem dX0_init_75 : decode cX0_init 75 = .ok (.aload_n 0, 1) := dk_42 (dk_at dksX0_init_3 3 rfl rfl)
theorem dX0_init_76 : decode cX0_init 76 = .ok (.iconst (-1), 1) := dk_2 (dk_at dksX0_init_3 4 rfl rfl)
theorem dX0_init_77 : decode cX0_init 77 = .ok (.putfield 48, 3) := dk_181 0 48 (dk_at dksX0_init_3 5 rfl rfl)
theorem dX0_init_80 : decode cX0_init 80 = .ok (.aload_n 0, 1) := dk_42 (dk_at dksX0_init_3 8 rfl rfl)
theorem dX0_init_81 : decode cX0_init 81 = .ok (.sipush 16800, 3) := dk_17 65 160 (dk_at dksX0_init_3 9 rfl rfl)
theorem dX0_init_84 : decode cX0_init 84 = .ok (.newarray .int, 2) := dk_188_10 (dk_at dksX0_init_3 12 rfl rfl)
theorem dX0_init_86 : decode cX0_init 86 = .ok (.putfield 51, 3) := dk_181 0 51 (dk_at dksX0_init_3 14 rfl rfl)
theorem dX0_init_89 : decode cX0_init 89 = .ok (.aload_n 0, 1) := dk_42 (dk_at dksX0_init_3 17 rfl rfl)
theorem dX0_init_90 : decode cX0_init 90 = .ok (.ldc 54, 2) := dk_18 54 (dk_at dksX0_init_3 18 rfl rfl)
theorem dX0_init_92 : decode cX0_init 92 = .ok (.newarray .int, 2) := dk_188_10 (dk_at dksX0_init_3 20 rfl rfl)
theorem dX0_init_94 : decode cX0_init 94 = .ok (.putfield 55, 3) := dk_181 0 55 (dk_at dksX0_init_4 0 rfl rfl)
theorem dX0_init_97 : decode cX0_init 97 = .ok (.aload_n 0, 1) := dk_42 (dk_at dksX0_init_4 3 rfl rfl)
theorem dX0_init_98 : decode cX0_init 98 = .ok (.bipush 7, 2) := dk_16 7 (dk_at dksX0_init_4 4 rfl rfl)
theorem dX0_init_100 : decode cX0_init 100 = .ok (.newarray .int, 2) := dk_188_10 (dk_at dksX0_init_4 6 rfl rfl)
theorem dX0_init_102 : decode cX0_init 102 = .ok (.dup, 1) := dk_89 (dk_at dksX0_init_4 8 rfl rfl)
theorem dX0_init_103 : decode cX0_init 103 = .ok (.iconst 0, 1) := dk_3 (dk_at dksX0_init_4 9 rfl rfl)
theorem dX0_init_104 : decode cX0_init 104 = .ok (.iconst 1, 1) := dk_4 (dk_at dksX0_init_4 10 rfl rfl)
theorem dX0_init_105 : decode cX0_init 105 = .ok (.iastore, 1) := dk_79 (dk_at dksX0_init_4 11 rfl rfl)
theorem dX0_init_106 : decode cX0_init 106 = .ok (.dup, 1) := dk_89 (dk_at dksX0_init_4 12 rfl rfl)
theorem dX0_init_107 : decode cX0_init 107 = .ok (.iconst 1, 1) := dk_4 (dk_at dksX0_init_4 13 rfl rfl)
theorem dX0_init_108 : decode cX0_init 108 = .ok (.iconst 0, 1) := dk_3 (dk_at dksX0_init_4 14 rfl rfl)
theorem dX0_init_109 : decode cX0_init 109 = .ok (.iastore, 1) := dk_79 (dk_at dksX0_init_4 15 rfl rfl)
theorem dX0_init_110 : decode cX0_init 110 = .ok (.dup, 1) := dk_89 (dk_at dksX0_init_4 16 rfl rfl)
theorem dX0_init_111 : decode cX0_init 111 = .ok (.iconst 2, 1) := dk_5 (dk_at dksX0_init_4 17 rfl rfl)
theorem dX0_init_112 : decode cX0_init 112 = .ok (.iconst 0, 1) := dk_3 (dk_at dksX0_init_4 18 rfl rfl)
theorem dX0_init_113 : decode cX0_init 113 = .ok (.iastore, 1) := dk_79 (dk_at dksX0_init_4 19 rfl rfl)
theorem dX0_init_114 : decode cX0_init 114 = .ok (.dup, 1) := dk_89 (dk_at dksX0_init_4 20 rfl rfl)
theorem dX0_init_115 : decode cX0_init 115 = .ok (.iconst 3, 1) := dk_6 (dk_at dksX0_init_4 21 rfl rfl)
theorem dX0_init_116 : decode cX0_init 116 = .ok (.iconst 0, 1) := dk_3 (dk_at dksX0_init_4 22 rfl rfl)
theorem dX0_init_117 : decode cX0_init 117 = .ok (.iastore, 1) := dk_79 (dk_at dksX0_init_4 23 rfl rfl)
theorem dX0_init_118 : decode cX0_init 118 = .ok (.dup, 1) := dk_89 (dk_at dksX0_init_5 0 rfl rfl)
theorem dX0_init_119 : decode cX0_init 119 = .ok (.iconst 4, 1) := dk_7 (dk_at dksX0_init_5 1 rfl rfl)
theorem dX0_init_120 : decode cX0_init 120 = .ok (.iconst 0, 1) := dk_3 (dk_at dksX0_init_5 2 rfl rfl)
theorem dX0_init_121 : decode cX0_init 121 = .ok (.iastore, 1) := dk_79 (dk_at dksX0_init_5 3 rfl rfl)
theorem dX0_init_122 : decode cX0_init 122 = .ok (.dup, 1) := dk_89 (dk_at dksX0_init_5 4 rfl rfl)
theorem dX0_init_123 : decode cX0_init 123 = .ok (.iconst 5, 1) := dk_8 (dk_at dksX0_init_5 5 rfl rfl)
theorem dX0_init_124 : decode cX0_init 124 = .ok (.iconst 0, 1) := dk_3 (dk_at dksX0_init_5 6 rfl rfl)
theorem dX0_init_125 : decode cX0_init 125 = .ok (.iastore, 1) := dk_79 (dk_at dksX0_init_5 7 rfl rfl)
theorem dX0_init_126 : decode cX0_init 126 = .ok (.dup, 1) := dk_89 (dk_at dksX0_init_5 8 rfl rfl)
theorem dX0_init_127 : decode cX0_init 127 = .ok (.bipush 6, 2) := dk_16 6 (dk_at dksX0_init_5 9 rfl rfl)
theorem dX0_init_129 : decode cX0_init 129 = .ok (.iconst 0, 1) := dk_3 (dk_at dksX0_init_5 11 rfl rfl)
theorem dX0_init_130 : decode cX0_init 130 = .ok (.iastore, 1) := dk_79 (dk_at dksX0_init_5 12 rfl rfl)
theorem dX0_init_131 : decode cX0_init 131 = .ok (.putfield 58, 3) := dk_181 0 58 (dk_at dksX0_init_5 13 rfl rfl)
theorem dX0_init_134 : decode cX0_init 134 = .ok (.aload_n 0, 1) := dk_42 (dk_at dksX0_init_5 16 rfl rfl)
theorem dX0_init_135 : decode cX0_init 135 = .ok (.bipush 31, 2) := dk_16 31 (dk_at dksX0_init_5 17 rfl rfl)
theorem dX0_init_137 : decode cX0_init 137 = .ok (.newarray .int, 2) := dk_188_10 (dk_at dksX0_init_5 19 rfl rfl)
theorem dX0_init_139 : decode cX0_init 139 = .ok (.putfield 61, 3) := dk_181 0 61 (dk_at dksX0_init_5 21 rfl rfl)
theorem dX0_init_142 : decode cX0_init 142 = .ok (.aload_n 0, 1) := dk_42 (dk_at dksX0_init_6 0 rfl rfl)
theorem dX0_init_143 : decode cX0_init 143 = .ok (.bipush 31, 2) := dk_16 31 (dk_at dksX0_init_6 1 rfl rfl)
theorem dX0_init_145 : decode cX0_init 145 = .ok (.bipush 24, 2) := dk_16 24 (dk_at dksX0_init_6 3 rfl rfl)
theorem dX0_init_147 : decode cX0_init 147 = .ok (.multianewarray 64 2, 4) := by decide +kernel
theorem dX0_init_151 : decode cX0_init 151 = .ok (.putfield 66, 3) := dk_181 0 66 (dk_at dksX0_init_6 9 rfl rfl)
theorem dX0_init_154 : decode cX0_init 154 = .ok (.aload_n 0, 1) := dk_42 (dk_at dksX0_init_6 12 rfl rfl)
theorem dX0_init_155 : decode cX0_init 155 = .ok (.bipush 24, 2) := dk_16 24 (dk_at dksX0_init_6 13 rfl rfl)
theorem dX0_init_157 : decode cX0_init 157 = .ok (.anewarray 69, 3) := dk_189 0 69 (dk_at dksX0_init_6 15 rfl rfl)
theorem dX0_init_160 : decode cX0_init 160 = .ok (.putfield 71, 3) := dk_181 0 71 (dk_at dksX0_init_6 18 rfl rfl)
theorem dX0_init_163 : decode cX0_init 163 = .ok (.aload_n 0, 1) := dk_42 (dk_at dksX0_init_6 21 rfl rfl)
theorem dX0_init_164 : decode cX0_init 164 = .ok (.bipush 24, 2) := dk_16 24 (dk_at dksX0_init_6 22 rfl rfl)
theorem dX0_init_166 : decode cX0_init 166 = .ok (.newarray .int, 2) := dk_188_10 (dk_at dksX0_init_7 0 rfl rfl)
theorem dX0_init_168 : decode cX0_init 168 = .ok (.putfield 75, 3) := dk_181 0 75 (dk_at dksX0_init_7 2 rfl rfl)
theorem dX0_init_171 : decode cX0_init 171 = .ok (.aload_n 0, 1) := dk_42 (dk_at dksX0_init_7 5 rfl rfl)
theorem dX0_init_172 : decode cX0_init 172 = .ok (.sipush 2400, 3) := dk_17 9 96 (dk_at dksX0_init_7 6 rfl rfl)
theorem dX0_init_175 : decode cX0_init 175 = .ok (.newarray .int, 2) := dk_188_10 (dk_at dksX0_init_7 9 rfl rfl)
theorem dX0_init_177 : decode cX0_init 177 = .ok (.putfield 78, 3) := dk_181 0 78 (dk_at dksX0_init_7 11 rfl rfl)
theorem dX0_init_180 : decode cX0_init 180 = .ok (.aload_n 0, 1) := dk_42 (dk_at dksX0_init_7 14 rfl rfl)
theorem dX0_init_181 : decode cX0_init 181 = .ok (.bipush 6, 2) := dk_16 6 (dk_at dksX0_init_7 15 rfl rfl)
theorem dX0_init_183 : decode cX0_init 183 = .ok (.bipush 24, 2) := dk_16 24 (dk_at dksX0_init_7 17 rfl rfl)
theorem dX0_init_185 : decode cX0_init 185 = .ok (.multianewarray 81 2, 4) := by decide +kernel
theorem dX0_init_189 : decode cX0_init 189 = .ok (.putfield 83, 3) := dk_181 0 83 (dk_at dksX0_init_8 0 rfl rfl)
theorem dX0_init_192 : decode cX0_init 192 = .ok (.aload_n 0, 1) := dk_42 (dk_at dksX0_init_8 3 rfl rfl)
theorem dX0_init_193 : decode cX0_init 193 = .ok (.sipush 8000, 3) := dk_17 31 64 (dk_at dksX0_init_8 4 rfl rfl)
theorem dX0_init_196 : decode cX0_init 196 = .ok (.newarray .int, 2) := dk_188_10 (dk_at dksX0_init_8 7 rfl rfl)
theorem dX0_init_198 : decode cX0_init 198 = .ok (.putfield 86, 3) := dk_181 0 86 (dk_at dksX0_init_8 9 rfl rfl)
theorem dX0_init_201 : decode cX0_init 201 = .ok (.aload_n 0, 1) := dk_42 (dk_at dksX0_init_8 12 rfl rfl)
theorem dX0_init_202 : decode cX0_init 202 = .ok (.sipush 8000, 3) := dk_17 31 64 (dk_at dksX0_init_8 13 rfl rfl)
theorem dX0_init_205 : decode cX0_init 205 = .ok (.newarray .int, 2) := dk_188_10 (dk_at dksX0_init_8 16 rfl rfl)
theorem dX0_init_207 : decode cX0_init 207 = .ok (.putfield 89, 3) := dk_181 0 89 (dk_at dksX0_init_8 18 rfl rfl)
theorem dX0_init_210 : decode cX0_init 210 = .ok (.aload_n 0, 1) := dk_42 (dk_at dksX0_init_8 21 rfl rfl)
theorem dX0_init_211 : decode cX0_init 211 = .ok (.sipush 8001, 3) := dk_17 31 65 (dk_at dksX0_init_9 0 rfl rfl)
theorem dX0_init_214 : decode cX0_init 214 = .ok (.newarray .int, 2) := dk_188_10 (dk_at dksX0_init_9 3 rfl rfl)
theorem dX0_init_216 : decode cX0_init 216 = .ok (.putfield 92, 3) := dk_181 0 92 (dk_at dksX0_init_9 5 rfl rfl)
theorem dX0_init_219 : decode cX0_init 219 = .ok (.aload_n 0, 1) := dk_42 (dk_at dksX0_init_9 8 rfl rfl)
theorem dX0_init_220 : decode cX0_init 220 = .ok (.sipush 16000, 3) := dk_17 62 128 (dk_at dksX0_init_9 9 rfl rfl)
theorem dX0_init_223 : decode cX0_init 223 = .ok (.newarray .int, 2) := dk_188_10 (dk_at dksX0_init_9 12 rfl rfl)
theorem dX0_init_225 : decode cX0_init 225 = .ok (.putfield 95, 3) := dk_181 0 95 (dk_at dksX0_init_9 14 rfl rfl)
theorem dX0_init_228 : decode cX0_init 228 = .ok (.aload_n 0, 1) := dk_42 (dk_at dksX0_init_9 17 rfl rfl)
theorem dX0_init_229 : decode cX0_init 229 = .ok (.bipush 25, 2) := dk_16 25 (dk_at dksX0_init_9 18 rfl rfl)
theorem dX0_init_231 : decode cX0_init 231 = .ok (.newarray .int, 2) := dk_188_10 (dk_at dksX0_init_9 20 rfl rfl)
theorem dX0_init_233 : decode cX0_init 233 = .ok (.putfield 98, 3) := dk_181 0 98 (dk_at dksX0_init_10 0 rfl rfl)
theorem dX0_init_236 : decode cX0_init 236 = .ok (.aload_n 0, 1) := dk_42 (dk_at dksX0_init_10 3 rfl rfl)
theorem dX0_init_237 : decode cX0_init 237 = .ok (.bipush 25, 2) := dk_16 25 (dk_at dksX0_init_10 4 rfl rfl)
theorem dX0_init_239 : decode cX0_init 239 = .ok (.newarray .int, 2) := dk_188_10 (dk_at dksX0_init_10 6 rfl rfl)
theorem dX0_init_241 : decode cX0_init 241 = .ok (.putfield 101, 3) := dk_181 0 101 (dk_at dksX0_init_10 8 rfl rfl)
theorem dX0_init_244 : decode cX0_init 244 = .ok (.aload_n 0, 1) := dk_42 (dk_at dksX0_init_10 11 rfl rfl)
theorem dX0_init_245 : decode cX0_init 245 = .ok (.bipush 25, 2) := dk_16 25 (dk_at dksX0_init_10 12 rfl rfl)
theorem dX0_init_247 : decode cX0_init 247 = .ok (.newarray .int, 2) := dk_188_10 (dk_at dksX0_init_10 14 rfl rfl)
theorem dX0_init_249 : decode cX0_init 249 = .ok (.putfield 104, 3) := dk_181 0 104 (dk_at dksX0_init_10 16 rfl rfl)
theorem dX0_init_252 : decode cX0_init 252 = .ok (.aload_n 0, 1) := dk_42 (dk_at dksX0_init_10 19 rfl rfl)
theorem dX0_init_253 : decode cX0_init 253 = .ok (.bipush 25, 2) := dk_16 25 (dk_at dksX0_init_10 20 rfl rfl)
theorem dX0_init_255 : decode cX0_init 255 = .ok (.newarray .int, 2) := dk_188_10 (dk_at dksX0_init_10 22 rfl rfl)
theorem dX0_init_257 : decode cX0_init 257 = .ok (.putfield 107, 3) := dk_181 0 107 (dk_at dksX0_init_11 0 rfl rfl)
theorem dX0_init_260 : decode cX0_init 260 = .ok (.aload_n 0, 1) := dk_42 (dk_at dksX0_init_11 3 rfl rfl)
theorem dX0_init_261 : decode cX0_init 261 = .ok (.iconst 5, 1) := dk_8 (dk_at dksX0_init_11 4 rfl rfl)
theorem dX0_init_262 : decode cX0_init 262 = .ok (.newarray .int, 2) := dk_188_10 (dk_at dksX0_init_11 5 rfl rfl)
theorem dX0_init_264 : decode cX0_init 264 = .ok (.putfield 110, 3) := dk_181 0 110 (dk_at dksX0_init_11 7 rfl rfl)
theorem dX0_init_267 : decode cX0_init 267 = .ok (.aload_n 0, 1) := dk_42 (dk_at dksX0_init_11 10 rfl rfl)
theorem dX0_init_268 : decode cX0_init 268 = .ok (.sipush 4800, 3) := dk_17 18 192 (dk_at dksX0_init_11 11 rfl rfl)
theorem dX0_init_271 : decode cX0_init 271 = .ok (.newarray .int, 2) := dk_188_10 (dk_at dksX0_init_11 14 rfl rfl)
theorem dX0_init_273 : decode cX0_init 273 = .ok (.putfield 113, 3) := dk_181 0 113 (dk_at dksX0_init_11 16 rfl rfl)
theorem dX0_init_276 : decode cX0_init 276 = .ok (.aload_n 0, 1) := dk_42 (dk_at dksX0_init_11 19 rfl rfl)
theorem dX0_init_277 : decode cX0_init 277 = .ok (.bipush 32, 2) := dk_16 32 (dk_at dksX0_init_11 20 rfl rfl)
theorem dX0_init_279 : decode cX0_init 279 = .ok (.newarray .int, 2) := dk_188_10 (dk_at dksX0_init_11 22 rfl rfl)
theorem dX0_init_281 : decode cX0_init 281 = .ok (.putfield 116, 3) := dk_181 0 116 (dk_at dksX0_init_12 0 rfl rfl)
theorem dX0_init_284 : decode cX0_init 284 = .ok (.aload_n 0, 1) := dk_42 (dk_at dksX0_init_12 3 rfl rfl)
theorem dX0_init_285 : decode cX0_init 285 = .ok (.sipush 4800, 3) := dk_17 18 192 (dk_at dksX0_init_12 4 rfl rfl)
theorem dX0_init_288 : decode cX0_init 288 = .ok (.anewarray 119, 3) := dk_189 0 119 (dk_at dksX0_init_12 7 rfl rfl)
theorem dX0_init_291 : decode cX0_init 291 = .ok (.putfield 120, 3) := dk_181 0 120 (dk_at dksX0_init_12 10 rfl rfl)
theorem dX0_init_294 : decode cX0_init 294 = .ok (.return_, 1) := dk_177 (dk_at dksX0_init_12 13 rfl rfl)
abbrev cX0_feed : ByteArray := prog_1_method_4_code
def yX0_feed : MethodName := ⟨RX0, "feed", "(IIIII)I"⟩
def dkwX0_feed_2 : List UInt8 := [172]
abbrev dktX0_feed_2 : List UInt8 := dkwX0_feed_2 ++ []
def dkwX0_feed_1 : List UInt8 := [182, 0, 126, 42, 29, 182, 0, 126, 42, 21, 4, 182, 0, 126, 42, 21, 5, 182, 0, 126, 42, 180, 0, 123]
abbrev dktX0_feed_1 : List UInt8 := dkwX0_feed_1 ++ dktX0_feed_2
def dkwX0_feed_0 : List UInt8 := [42, 180, 0, 123, 16, 20, 96, 17, 1, 44, 164, 0, 5, 2, 172, 42, 27, 182, 0, 126, 42, 28]
abbrev dktX0_feed_0 : List UInt8 := dkwX0_feed_0 ++ dktX0_feed_1
theorem dksX0_feed_0 : cX0_feed.data.toList.drop 0 = dktX0_feed_0 := by decide +kernel
theorem dksX0_feed_1 : cX0_feed.data.toList.drop 22 = dktX0_feed_1 := dk_seg dksX0_feed_0 22 rfl rfl
theorem dksX0_feed_2 : cX0_feed.data.toList.drop 46 = dktX0_feed_2 := dk_seg dksX0_feed_1 24 rfl rfl
theorem dX0_feed_0 : decode cX0_feed 0 = .ok (.aload_n 0, 1) := dk_42 (dk_at dksX0_feed_0 0 rfl rfl)
theorem dX0_feed_1 : decode cX0_feed 1 = .ok (.getfield 123, 3) := dk_180 0 123 (dk_at dksX0_feed_0 1 rfl rfl)
theorem dX0_feed_4 : decode cX0_feed 4 = .ok (.bipush 20, 2) := dk_16 20 (dk_at dksX0_feed_0 4 rfl rfl)
theorem dX0_feed_6 : decode cX0_feed 6 = .ok (.iadd, 1) := dk_96 (dk_at dksX0_feed_0 6 rfl rfl)
theorem dX0_feed_7 : decode cX0_feed 7 = .ok (.sipush 300, 3) := dk_17 1 44 (dk_at dksX0_feed_0 7 rfl rfl)
theorem dX0_feed_10 : decode cX0_feed 10 = .ok (.if_icmp .le 5, 3) := dk_164 0 5 (dk_at dksX0_feed_0 10 rfl rfl)
theorem dX0_feed_13 : decode cX0_feed 13 = .ok (.iconst (-1), 1) := dk_2 (dk_at dksX0_feed_0 13 rfl rfl)
theorem dX0_feed_14 : decode cX0_feed 14 = .ok (.ireturn, 1) := dk_172 (dk_at dksX0_feed_0 14 rfl rfl)
theorem dX0_feed_15 : decode cX0_feed 15 = .ok (.aload_n 0, 1) := dk_42 (dk_at dksX0_feed_0 15 rfl rfl)
theorem dX0_feed_16 : decode cX0_feed 16 = .ok (.iload_n 1, 1) := dk_27 (dk_at dksX0_feed_0 16 rfl rfl)
theorem dX0_feed_17 : decode cX0_feed 17 = .ok (.invokevirtual 126, 3) := dk_182 0 126 (dk_at dksX0_feed_0 17 rfl rfl)
theorem dX0_feed_20 : decode cX0_feed 20 = .ok (.aload_n 0, 1) := dk_42 (dk_at dksX0_feed_0 20 rfl rfl)
theorem dX0_feed_21 : decode cX0_feed 21 = .ok (.iload_n 2, 1) := dk_28 (dk_at dksX0_feed_0 21 rfl rfl)
theorem dX0_feed_22 : decode cX0_feed 22 = .ok (.invokevirtual 126, 3) := dk_182 0 126 (dk_at dksX0_feed_1 0 rfl rfl)
theorem dX0_feed_25 : decode cX0_feed 25 = .ok (.aload_n 0, 1) := dk_42 (dk_at dksX0_feed_1 3 rfl rfl)
theorem dX0_feed_26 : decode cX0_feed 26 = .ok (.iload_n 3, 1) := dk_29 (dk_at dksX0_feed_1 4 rfl rfl)
theorem dX0_feed_27 : decode cX0_feed 27 = .ok (.invokevirtual 126, 3) := dk_182 0 126 (dk_at dksX0_feed_1 5 rfl rfl)
theorem dX0_feed_30 : decode cX0_feed 30 = .ok (.aload_n 0, 1) := dk_42 (dk_at dksX0_feed_1 8 rfl rfl)
theorem dX0_feed_31 : decode cX0_feed 31 = .ok (.iload 4, 2) := dk_21 4 (dk_at dksX0_feed_1 9 rfl rfl)
theorem dX0_feed_33 : decode cX0_feed 33 = .ok (.invokevirtual 126, 3) := dk_182 0 126 (dk_at dksX0_feed_1 11 rfl rfl)
theorem dX0_feed_36 : decode cX0_feed 36 = .ok (.aload_n 0, 1) := dk_42 (dk_at dksX0_feed_1 14 rfl rfl)
theorem dX0_feed_37 : decode cX0_feed 37 = .ok (.iload 5, 2) := dk_21 5 (dk_at dksX0_feed_1 15 rfl rfl)
theorem dX0_feed_39 : decode cX0_feed 39 = .ok (.invokevirtual 126, 3) := dk_182 0 126 (dk_at dksX0_feed_1 17 rfl rfl)
theorem dX0_feed_42 : decode cX0_feed 42 = .ok (.aload_n 0, 1) := dk_42 (dk_at dksX0_feed_1 20 rfl rfl)
theorem dX0_feed_43 : decode cX0_feed 43 = .ok (.getfield 123, 3) := dk_180 0 123 (dk_at dksX0_feed_1 21 rfl rfl)
theorem dX0_feed_46 : decode cX0_feed 46 = .ok (.ireturn, 1) := dk_172 (dk_at dksX0_feed_2 0 rfl rfl)
abbrev cX0_four : ByteArray := prog_1_method_5_code
def yX0_four : MethodName := ⟨RX0, "four", "(I)V"⟩
def dkwX0_four_1 : List UInt8 := [122, 145, 84, 132, 2, 248, 167, 255, 229, 177]
abbrev dktX0_four_1 : List UInt8 := dkwX0_four_1 ++ []
def dkwX0_four_0 : List UInt8 := [16, 24, 61, 28, 155, 0, 29, 42, 180, 0, 41, 42, 89, 180, 0, 123, 90, 4, 96, 181, 0, 123, 27, 28]
abbrev dktX0_four_0 : List UInt8 := dkwX0_four_0 ++ dktX0_four_1
theorem dksX0_four_0 : cX0_four.data.toList.drop 0 = dktX0_four_0 := by decide +kernel
theorem dksX0_four_1 : cX0_four.data.toList.drop 24 = dktX0_four_1 := dk_seg dksX0_four_0 24 rfl rfl
theorem dX0_four_0 : decode cX0_four 0 = .ok (.bipush 24, 2) := dk_16 24 (dk_at dksX0_four_0 0 rfl rfl)
theorem dX0_four_2 : decode cX0_four 2 = .ok (.istore_n 2, 1) := dk_61 (dk_at dksX0_four_0 2 rfl rfl)
theorem dX0_four_3 : decode cX0_four 3 = .ok (.iload_n 2, 1) := dk_28 (dk_at dksX0_four_0 3 rfl rfl)
theorem dX0_four_4 : decode cX0_four 4 = .ok (.ifCond .lt 29, 3) := dk_155 0 29 (dk_at dksX0_four_0 4 rfl rfl)
theorem dX0_four_7 : decode cX0_four 7 = .ok (.aload_n 0, 1) := dk_42 (dk_at dksX0_four_0 7 rfl rfl)
theorem dX0_four_8 : decode cX0_four 8 = .ok (.getfield 41, 3) := dk_180 0 41 (dk_at dksX0_four_0 8 rfl rfl)
theorem dX0_four_11 : decode cX0_four 11 = .ok (.aload_n 0, 1) := dk_42 (dk_at dksX0_four_0 11 rfl rfl)
theorem dX0_four_12 : decode cX0_four 12 = .ok (.dup, 1) := dk_89 (dk_at dksX0_four_0 12 rfl rfl)
theorem dX0_four_13 : decode cX0_four 13 = .ok (.getfield 123, 3) := dk_180 0 123 (dk_at dksX0_four_0 13 rfl rfl)
theorem dX0_four_16 : decode cX0_four 16 = .ok (.dup_x1, 1) := dk_90 (dk_at dksX0_four_0 16 rfl rfl)
theorem dX0_four_17 : decode cX0_four 17 = .ok (.iconst 1, 1) := dk_4 (dk_at dksX0_four_0 17 rfl rfl)
theorem dX0_four_18 : decode cX0_four 18 = .ok (.iadd, 1) := dk_96 (dk_at dksX0_four_0 18 rfl rfl)
theorem dX0_four_19 : decode cX0_four 19 = .ok (.putfield 123, 3) := dk_181 0 123 (dk_at dksX0_four_0 19 rfl rfl)
theorem dX0_four_22 : decode cX0_four 22 = .ok (.iload_n 1, 1) := dk_27 (dk_at dksX0_four_0 22 rfl rfl)
theorem dX0_four_23 : decode cX0_four 23 = .ok (.iload_n 2, 1) := dk_28 (dk_at dksX0_four_0 23 rfl rfl)
theorem dX0_four_24 : decode cX0_four 24 = .ok (.ishr, 1) := dk_122 (dk_at dksX0_four_1 0 rfl rfl)
theorem dX0_four_25 : decode cX0_four 25 = .ok (.i2b, 1) := dk_145 (dk_at dksX0_four_1 1 rfl rfl)
theorem dX0_four_26 : decode cX0_four 26 = .ok (.bastore, 1) := dk_84 (dk_at dksX0_four_1 2 rfl rfl)
theorem dX0_four_27 : decode cX0_four 27 = .ok (.iinc 2 (-8), 3) := dk_132 2 248 (dk_at dksX0_four_1 3 rfl rfl)
theorem dX0_four_30 : decode cX0_four 30 = .ok (.goto (-27), 3) := dk_167 255 229 (dk_at dksX0_four_1 6 rfl rfl)
theorem dX0_four_33 : decode cX0_four 33 = .ok (.return_, 1) := dk_177 (dk_at dksX0_four_1 9 rfl rfl)
abbrev cX0_end : ByteArray := prog_1_method_6_code
def yX0_end : MethodName := ⟨RX0, "end", "(I)I"⟩
def dkwX0_end_0 : List UInt8 := [27, 3, 42, 180, 0, 123, 184, 0, 130, 154, 0, 5, 2, 172, 42, 27, 181, 0, 123, 27, 172]
abbrev dktX0_end_0 : List UInt8 := dkwX0_end_0 ++ []
theorem dksX0_end_0 : cX0_end.data.toList.drop 0 = dktX0_end_0 := by decide +kernel
theorem dX0_end_0 : decode cX0_end 0 = .ok (.iload_n 1, 1) := dk_27 (dk_at dksX0_end_0 0 rfl rfl)
theorem dX0_end_1 : decode cX0_end 1 = .ok (.iconst 0, 1) := dk_3 (dk_at dksX0_end_0 1 rfl rfl)
theorem dX0_end_2 : decode cX0_end 2 = .ok (.aload_n 0, 1) := dk_42 (dk_at dksX0_end_0 2 rfl rfl)
theorem dX0_end_3 : decode cX0_end 3 = .ok (.getfield 123, 3) := dk_180 0 123 (dk_at dksX0_end_0 3 rfl rfl)
theorem dX0_end_6 : decode cX0_end 6 = .ok (.invokestatic 130, 3) := dk_184 0 130 (dk_at dksX0_end_0 6 rfl rfl)
theorem dX0_end_9 : decode cX0_end 9 = .ok (.ifCond .ne 5, 3) := dk_154 0 5 (dk_at dksX0_end_0 9 rfl rfl)
theorem dX0_end_12 : decode cX0_end 12 = .ok (.iconst (-1), 1) := dk_2 (dk_at dksX0_end_0 12 rfl rfl)
theorem dX0_end_13 : decode cX0_end 13 = .ok (.ireturn, 1) := dk_172 (dk_at dksX0_end_0 13 rfl rfl)
theorem dX0_end_14 : decode cX0_end 14 = .ok (.aload_n 0, 1) := dk_42 (dk_at dksX0_end_0 14 rfl rfl)
theorem dX0_end_15 : decode cX0_end 15 = .ok (.iload_n 1, 1) := dk_27 (dk_at dksX0_end_0 15 rfl rfl)
theorem dX0_end_16 : decode cX0_end 16 = .ok (.putfield 123, 3) := dk_181 0 123 (dk_at dksX0_end_0 16 rfl rfl)
theorem dX0_end_19 : decode cX0_end 19 = .ok (.iload_n 1, 1) := dk_27 (dk_at dksX0_end_0 19 rfl rfl)
theorem dX0_end_20 : decode cX0_end 20 = .ok (.ireturn, 1) := dk_172 (dk_at dksX0_end_0 20 rfl rfl)
abbrev cX0_in : ByteArray := prog_1_method_1_code
def yX0_in : MethodName := ⟨RX0, "in", "(III)Z"⟩
def dkwX0_in_0 : List UInt8 := [26, 27, 161, 0, 12, 26, 28, 163, 0, 7, 4, 167, 0, 4, 3, 172]
abbrev dktX0_in_0 : List UInt8 := dkwX0_in_0 ++ []
theorem dksX0_in_0 : cX0_in.data.toList.drop 0 = dktX0_in_0 := by decide +kernel
theorem dX0_in_0 : decode cX0_in 0 = .ok (.iload_n 0, 1) := dk_26 (dk_at dksX0_in_0 0 rfl rfl)
theorem dX0_in_1 : decode cX0_in 1 = .ok (.iload_n 1, 1) := dk_27 (dk_at dksX0_in_0 1 rfl rfl)
theorem dX0_in_2 : decode cX0_in 2 = .ok (.if_icmp .lt 12, 3) := dk_161 0 12 (dk_at dksX0_in_0 2 rfl rfl)
theorem dX0_in_5 : decode cX0_in 5 = .ok (.iload_n 0, 1) := dk_26 (dk_at dksX0_in_0 5 rfl rfl)
theorem dX0_in_6 : decode cX0_in 6 = .ok (.iload_n 2, 1) := dk_28 (dk_at dksX0_in_0 6 rfl rfl)
theorem dX0_in_7 : decode cX0_in 7 = .ok (.if_icmp .gt 7, 3) := dk_163 0 7 (dk_at dksX0_in_0 7 rfl rfl)
theorem dX0_in_10 : decode cX0_in 10 = .ok (.iconst 1, 1) := dk_4 (dk_at dksX0_in_0 10 rfl rfl)
theorem dX0_in_11 : decode cX0_in 11 = .ok (.goto 4, 3) := dk_167 0 4 (dk_at dksX0_in_0 11 rfl rfl)
theorem dX0_in_14 : decode cX0_in 14 = .ok (.iconst 0, 1) := dk_3 (dk_at dksX0_in_0 14 rfl rfl)
theorem dX0_in_15 : decode cX0_in 15 = .ok (.ireturn, 1) := dk_172 (dk_at dksX0_in_0 15 rfl rfl)
abbrev cX0_text : ByteArray := prog_1_method_7_code
def yX0_text : MethodName := ⟨RX0, "text", "()I"⟩
def dkwX0_text_3 : List UInt8 := [180, 0, 151, 181, 0, 48, 2, 172, 42, 89, 180, 0, 134, 90, 4, 96, 181, 0, 134, 172]
abbrev dktX0_text_3 : List UInt8 := dkwX0_text_3 ++ []
def dkwX0_text_2 : List UInt8 := [181, 0, 45, 42, 2, 181, 0, 48, 167, 0, 22, 77, 42, 44, 180, 0, 148, 181, 0, 45, 42, 44]
abbrev dktX0_text_2 : List UInt8 := dkwX0_text_2 ++ dktX0_text_3
def dkwX0_text_1 : List UInt8 := [183, 0, 139, 76, 42, 3, 181, 0, 123, 42, 180, 0, 11, 42, 180, 0, 134, 43, 182, 0, 142, 83, 42, 3]
abbrev dktX0_text_1 : List UInt8 := dkwX0_text_1 ++ dktX0_text_2
def dkwX0_text_0 : List UInt8 := [42, 180, 0, 134, 16, 6, 160, 0, 5, 2, 172, 187, 0, 137, 89, 42, 180, 0, 41, 42, 180, 0, 123]
abbrev dktX0_text_0 : List UInt8 := dkwX0_text_0 ++ dktX0_text_1
theorem dksX0_text_0 : cX0_text.data.toList.drop 0 = dktX0_text_0 := by decide +kernel
theorem dksX0_text_1 : cX0_text.data.toList.drop 23 = dktX0_text_1 := dk_seg dksX0_text_0 23 rfl rfl
theorem dksX0_text_2 : cX0_text.data.toList.drop 47 = dktX0_text_2 := dk_seg dksX0_text_1 24 rfl rfl
theorem dksX0_text_3 : cX0_text.data.toList.drop 69 = dktX0_text_3 := dk_seg dksX0_text_2 22 rfl rfl
theorem dX0_text_0 : decode cX0_text 0 = .ok (.aload_n 0, 1) := dk_42 (dk_at dksX0_text_0 0 rfl rfl)
theorem dX0_text_1 : decode cX0_text 1 = .ok (.getfield 134, 3) := dk_180 0 134 (dk_at dksX0_text_0 1 rfl rfl)
theorem dX0_text_4 : decode cX0_text 4 = .ok (.bipush 6, 2) := dk_16 6 (dk_at dksX0_text_0 4 rfl rfl)
theorem dX0_text_6 : decode cX0_text 6 = .ok (.if_icmp .ne 5, 3) := dk_160 0 5 (dk_at dksX0_text_0 6 rfl rfl)
theorem dX0_text_9 : decode cX0_text 9 = .ok (.iconst (-1), 1) := dk_2 (dk_at dksX0_text_0 9 rfl rfl)
theorem dX0_text_10 : decode cX0_text 10 = .ok (.ireturn, 1) := dk_172 (dk_at dksX0_text_0 10 rfl rfl)
theorem dX0_text_11 : decode cX0_text 11 = .ok (.new 137, 3) := dk_187 0 137 (dk_at dksX0_text_0 11 rfl rfl)
theorem dX0_text_14 : decode cX0_text 14 = .ok (.dup, 1) := dk_89 (dk_at dksX0_text_0 14 rfl rfl)
theorem dX0_text_15 : decode cX0_text 15 = .ok (.aload_n 0, 1) := dk_42 (dk_at dksX0_text_0 15 rfl rfl)
theorem dX0_text_16 : decode cX0_text 16 = .ok (.getfield 41, 3) := dk_180 0 41 (dk_at dksX0_text_0 16 rfl rfl)
theorem dX0_text_19 : decode cX0_text 19 = .ok (.aload_n 0, 1) := dk_42 (dk_at dksX0_text_0 19 rfl rfl)
theorem dX0_text_20 : decode cX0_text 20 = .ok (.getfield 123, 3) := dk_180 0 123 (dk_at dksX0_text_0 20 rfl rfl)
theorem dX0_text_23 : decode cX0_text 23 = .ok (.invokespecial 139, 3) := dk_183 0 139 (dk_at dksX0_text_1 0 rfl rfl)
theorem dX0_text_26 : decode cX0_text 26 = .ok (.astore_n 1, 1) := dk_76 (dk_at dksX0_text_1 3 rfl rfl)
theorem dX0_text_27 : decode cX0_text 27 = .ok (.aload_n 0, 1) := dk_42 (dk_at dksX0_text_1 4 rfl rfl)
theorem dX0_text_28 : decode cX0_text 28 = .ok (.iconst 0, 1) := dk_3 (dk_at dksX0_text_1 5 rfl rfl)
theorem dX0_text_29 : decode cX0_text 29 = .ok (.putfield 123, 3) := dk_181 0 123 (dk_at dksX0_text_1 6 rfl rfl)
theorem dX0_text_32 : decode cX0_text 32 = .ok (.aload_n 0, 1) := dk_42 (dk_at dksX0_text_1 9 rfl rfl)
theorem dX0_text_33 : decode cX0_text 33 = .ok (.getfield 11, 3) := dk_180 0 11 (dk_at dksX0_text_1 10 rfl rfl)
theorem dX0_text_36 : decode cX0_text 36 = .ok (.aload_n 0, 1) := dk_42 (dk_at dksX0_text_1 13 rfl rfl)
theorem dX0_text_37 : decode cX0_text 37 = .ok (.getfield 134, 3) := dk_180 0 134 (dk_at dksX0_text_1 14 rfl rfl)
theorem dX0_text_40 : decode cX0_text 40 = .ok (.aload_n 1, 1) := dk_43 (dk_at dksX0_text_1 17 rfl rfl)
theorem dX0_text_41 : decode cX0_text 41 = .ok (.invokevirtual 142, 3) := dk_182 0 142 (dk_at dksX0_text_1 18 rfl rfl)
theorem dX0_text_44 : decode cX0_text 44 = .ok (.aastore, 1) := dk_83 (dk_at dksX0_text_1 21 rfl rfl)
theorem dX0_text_45 : decode cX0_text 45 = .ok (.aload_n 0, 1) := dk_42 (dk_at dksX0_text_1 22 rfl rfl)
theorem dX0_text_46 : decode cX0_text 46 = .ok (.iconst 0, 1) := dk_3 (dk_at dksX0_text_1 23 rfl rfl)
theorem dX0_text_47 : decode cX0_text 47 = .ok (.putfield 45, 3) := dk_181 0 45 (dk_at dksX0_text_2 0 rfl rfl)
theorem dX0_text_50 : decode cX0_text 50 = .ok (.aload_n 0, 1) := dk_42 (dk_at dksX0_text_2 3 rfl rfl)
theorem dX0_text_51 : decode cX0_text 51 = .ok (.iconst (-1), 1) := dk_2 (dk_at dksX0_text_2 4 rfl rfl)
theorem dX0_text_52 : decode cX0_text 52 = .ok (.putfield 48, 3) := dk_181 0 48 (dk_at dksX0_text_2 5 rfl rfl)
theorem dX0_text_55 : decode cX0_text 55 = .ok (.goto 22, 3) := dk_167 0 22 (dk_at dksX0_text_2 8 rfl rfl)
theorem dX0_text_58 : decode cX0_text 58 = .ok (.astore_n 2, 1) := dk_77 (dk_at dksX0_text_2 11 rfl rfl)
theorem dX0_text_59 : decode cX0_text 59 = .ok (.aload_n 0, 1) := dk_42 (dk_at dksX0_text_2 12 rfl rfl)
theorem dX0_text_60 : decode cX0_text 60 = .ok (.aload_n 2, 1) := dk_44 (dk_at dksX0_text_2 13 rfl rfl)
theorem dX0_text_61 : decode cX0_text 61 = .ok (.getfield 148, 3) := dk_180 0 148 (dk_at dksX0_text_2 14 rfl rfl)
theorem dX0_text_64 : decode cX0_text 64 = .ok (.putfield 45, 3) := dk_181 0 45 (dk_at dksX0_text_2 17 rfl rfl)
theorem dX0_text_67 : decode cX0_text 67 = .ok (.aload_n 0, 1) := dk_42 (dk_at dksX0_text_2 20 rfl rfl)
theorem dX0_text_68 : decode cX0_text 68 = .ok (.aload_n 2, 1) := dk_44 (dk_at dksX0_text_2 21 rfl rfl)
theorem dX0_text_69 : decode cX0_text 69 = .ok (.getfield 151, 3) := dk_180 0 151 (dk_at dksX0_text_3 0 rfl rfl)
theorem dX0_text_72 : decode cX0_text 72 = .ok (.putfield 48, 3) := dk_181 0 48 (dk_at dksX0_text_3 3 rfl rfl)
theorem dX0_text_75 : decode cX0_text 75 = .ok (.iconst (-1), 1) := dk_2 (dk_at dksX0_text_3 6 rfl rfl)
theorem dX0_text_76 : decode cX0_text 76 = .ok (.ireturn, 1) := dk_172 (dk_at dksX0_text_3 7 rfl rfl)
theorem dX0_text_77 : decode cX0_text 77 = .ok (.aload_n 0, 1) := dk_42 (dk_at dksX0_text_3 8 rfl rfl)
theorem dX0_text_78 : decode cX0_text 78 = .ok (.dup, 1) := dk_89 (dk_at dksX0_text_3 9 rfl rfl)
theorem dX0_text_79 : decode cX0_text 79 = .ok (.getfield 134, 3) := dk_180 0 134 (dk_at dksX0_text_3 10 rfl rfl)
theorem dX0_text_82 : decode cX0_text 82 = .ok (.dup_x1, 1) := dk_90 (dk_at dksX0_text_3 13 rfl rfl)
theorem dX0_text_83 : decode cX0_text 83 = .ok (.iconst 1, 1) := dk_4 (dk_at dksX0_text_3 14 rfl rfl)
theorem dX0_text_84 : decode cX0_text 84 = .ok (.iadd, 1) := dk_96 (dk_at dksX0_text_3 15 rfl rfl)
theorem dX0_text_85 : decode cX0_text 85 = .ok (.putfield 134, 3) := dk_181 0 134 (dk_at dksX0_text_3 16 rfl rfl)
theorem dX0_text_88 : decode cX0_text 88 = .ok (.ireturn, 1) := dk_172 (dk_at dksX0_text_3 19 rfl rfl)
abbrev cX0_fault : ByteArray := prog_1_method_8_code
def yX0_fault : MethodName := ⟨RX0, "fault", "(I)I"⟩
def dkwX0_fault_1 : List UInt8 := [172]
abbrev dktX0_fault_1 : List UInt8 := dkwX0_fault_1 ++ []
def dkwX0_fault_0 : List UInt8 := [27, 154, 0, 10, 42, 180, 0, 45, 167, 0, 16, 27, 4, 160, 0, 10, 42, 180, 0, 48, 167, 0, 4, 2]
abbrev dktX0_fault_0 : List UInt8 := dkwX0_fault_0 ++ dktX0_fault_1
theorem dksX0_fault_0 : cX0_fault.data.toList.drop 0 = dktX0_fault_0 := by decide +kernel
theorem dksX0_fault_1 : cX0_fault.data.toList.drop 24 = dktX0_fault_1 := dk_seg dksX0_fault_0 24 rfl rfl
theorem dX0_fault_0 : decode cX0_fault 0 = .ok (.iload_n 1, 1) := dk_27 (dk_at dksX0_fault_0 0 rfl rfl)
theorem dX0_fault_1 : decode cX0_fault 1 = .ok (.ifCond .ne 10, 3) := dk_154 0 10 (dk_at dksX0_fault_0 1 rfl rfl)
theorem dX0_fault_4 : decode cX0_fault 4 = .ok (.aload_n 0, 1) := dk_42 (dk_at dksX0_fault_0 4 rfl rfl)
theorem dX0_fault_5 : decode cX0_fault 5 = .ok (.getfield 45, 3) := dk_180 0 45 (dk_at dksX0_fault_0 5 rfl rfl)
theorem dX0_fault_8 : decode cX0_fault 8 = .ok (.goto 16, 3) := dk_167 0 16 (dk_at dksX0_fault_0 8 rfl rfl)
theorem dX0_fault_11 : decode cX0_fault 11 = .ok (.iload_n 1, 1) := dk_27 (dk_at dksX0_fault_0 11 rfl rfl)
theorem dX0_fault_12 : decode cX0_fault 12 = .ok (.iconst 1, 1) := dk_4 (dk_at dksX0_fault_0 12 rfl rfl)
theorem dX0_fault_13 : decode cX0_fault 13 = .ok (.if_icmp .ne 10, 3) := dk_160 0 10 (dk_at dksX0_fault_0 13 rfl rfl)
theorem dX0_fault_16 : decode cX0_fault 16 = .ok (.aload_n 0, 1) := dk_42 (dk_at dksX0_fault_0 16 rfl rfl)
theorem dX0_fault_17 : decode cX0_fault 17 = .ok (.getfield 48, 3) := dk_180 0 48 (dk_at dksX0_fault_0 17 rfl rfl)
theorem dX0_fault_20 : decode cX0_fault 20 = .ok (.goto 4, 3) := dk_167 0 4 (dk_at dksX0_fault_0 20 rfl rfl)
theorem dX0_fault_23 : decode cX0_fault 23 = .ok (.iconst (-1), 1) := dk_2 (dk_at dksX0_fault_0 23 rfl rfl)
theorem dX0_fault_24 : decode cX0_fault 24 = .ok (.ireturn, 1) := dk_172 (dk_at dksX0_fault_1 0 rfl rfl)
abbrev cX0_by : ByteArray := prog_1_method_9_code
def yX0_by : MethodName := ⟨RX0, "by", "(I)Z"⟩
def dkwX0_by_1 : List UInt8 := [181, 0, 154, 4, 172]
abbrev dktX0_by_1 : List UInt8 := dkwX0_by_1 ++ []
def dkwX0_by_0 : List UInt8 := [27, 2, 42, 180, 0, 134, 4, 100, 184, 0, 130, 154, 0, 5, 3, 172, 42, 27, 181, 0, 27, 42, 3]
abbrev dktX0_by_0 : List UInt8 := dkwX0_by_0 ++ dktX0_by_1
theorem dksX0_by_0 : cX0_by.data.toList.drop 0 = dktX0_by_0 := by decide +kernel
theorem dksX0_by_1 : cX0_by.data.toList.drop 23 = dktX0_by_1 := dk_seg dksX0_by_0 23 rfl rfl
theorem dX0_by_0 : decode cX0_by 0 = .ok (.iload_n 1, 1) := dk_27 (dk_at dksX0_by_0 0 rfl rfl)
theorem dX0_by_1 : decode cX0_by 1 = .ok (.iconst (-1), 1) := dk_2 (dk_at dksX0_by_0 1 rfl rfl)
theorem dX0_by_2 : decode cX0_by 2 = .ok (.aload_n 0, 1) := dk_42 (dk_at dksX0_by_0 2 rfl rfl)
theorem dX0_by_3 : decode cX0_by 3 = .ok (.getfield 134, 3) := dk_180 0 134 (dk_at dksX0_by_0 3 rfl rfl)
theorem dX0_by_6 : decode cX0_by 6 = .ok (.iconst 1, 1) := dk_4 (dk_at dksX0_by_0 6 rfl rfl)
theorem dX0_by_7 : decode cX0_by 7 = .ok (.isub, 1) := dk_100 (dk_at dksX0_by_0 7 rfl rfl)
theorem dX0_by_8 : decode cX0_by 8 = .ok (.invokestatic 130, 3) := dk_184 0 130 (dk_at dksX0_by_0 8 rfl rfl)
theorem dX0_by_11 : decode cX0_by 11 = .ok (.ifCond .ne 5, 3) := dk_154 0 5 (dk_at dksX0_by_0 11 rfl rfl)
theorem dX0_by_14 : decode cX0_by 14 = .ok (.iconst 0, 1) := dk_3 (dk_at dksX0_by_0 14 rfl rfl)
theorem dX0_by_15 : decode cX0_by 15 = .ok (.ireturn, 1) := dk_172 (dk_at dksX0_by_0 15 rfl rfl)
theorem dX0_by_16 : decode cX0_by 16 = .ok (.aload_n 0, 1) := dk_42 (dk_at dksX0_by_0 16 rfl rfl)
theorem dX0_by_17 : decode cX0_by 17 = .ok (.iload_n 1, 1) := dk_27 (dk_at dksX0_by_0 17 rfl rfl)
theorem dX0_by_18 : decode cX0_by 18 = .ok (.putfield 27, 3) := dk_181 0 27 (dk_at dksX0_by_0 18 rfl rfl)
theorem dX0_by_21 : decode cX0_by 21 = .ok (.aload_n 0, 1) := dk_42 (dk_at dksX0_by_0 21 rfl rfl)
theorem dX0_by_22 : decode cX0_by 22 = .ok (.iconst 0, 1) := dk_3 (dk_at dksX0_by_0 22 rfl rfl)
theorem dX0_by_23 : decode cX0_by 23 = .ok (.putfield 154, 3) := dk_181 0 154 (dk_at dksX0_by_1 0 rfl rfl)
theorem dX0_by_26 : decode cX0_by 26 = .ok (.iconst 1, 1) := dk_4 (dk_at dksX0_by_1 3 rfl rfl)
theorem dX0_by_27 : decode cX0_by 27 = .ok (.ireturn, 1) := dk_172 (dk_at dksX0_by_1 4 rfl rfl)
abbrev cX0_say : ByteArray := prog_1_method_10_code
def yX0_say : MethodName := ⟨RX0, "say", "(I)I"⟩
def dkwX0_say_2 : List UInt8 := [181, 0, 158, 172]
abbrev dktX0_say_2 : List UInt8 := dkwX0_say_2 ++ []
def dkwX0_say_1 : List UInt8 := [180, 0, 34, 42, 180, 0, 158, 27, 79, 42, 3, 181, 0, 154, 42, 89, 180, 0, 158, 4, 96, 90]
abbrev dktX0_say_1 : List UInt8 := dkwX0_say_1 ++ dktX0_say_2
def dkwX0_say_0 : List UInt8 := [27, 3, 16, 19, 184, 0, 130, 153, 0, 12, 42, 180, 0, 158, 16, 24, 160, 0, 5, 2, 172, 42]
abbrev dktX0_say_0 : List UInt8 := dkwX0_say_0 ++ dktX0_say_1
theorem dksX0_say_0 : cX0_say.data.toList.drop 0 = dktX0_say_0 := by decide +kernel
theorem dksX0_say_1 : cX0_say.data.toList.drop 22 = dktX0_say_1 := dk_seg dksX0_say_0 22 rfl rfl
theorem dksX0_say_2 : cX0_say.data.toList.drop 44 = dktX0_say_2 := dk_seg dksX0_say_1 22 rfl rfl
theorem dX0_say_0 : decode cX0_say 0 = .ok (.iload_n 1, 1) := dk_27 (dk_at dksX0_say_0 0 rfl rfl)
theorem dX0_say_1 : decode cX0_say 1 = .ok (.iconst 0, 1) := dk_3 (dk_at dksX0_say_0 1 rfl rfl)
theorem dX0_say_2 : decode cX0_say 2 = .ok (.bipush 19, 2) := dk_16 19 (dk_at dksX0_say_0 2 rfl rfl)
theorem dX0_say_4 : decode cX0_say 4 = .ok (.invokestatic 130, 3) := dk_184 0 130 (dk_at dksX0_say_0 4 rfl rfl)
theorem dX0_say_7 : decode cX0_say 7 = .ok (.ifCond .eq 12, 3) := dk_153 0 12 (dk_at dksX0_say_0 7 rfl rfl)
theorem dX0_say_10 : decode cX0_say 10 = .ok (.aload_n 0, 1) := dk_42 (dk_at dksX0_say_0 10 rfl rfl)
theorem dX0_say_11 : decode cX0_say 11 = .ok (.getfield 158, 3) := dk_180 0 158 (dk_at dksX0_say_0 11 rfl rfl)
theorem dX0_say_14 : decode cX0_say 14 = .ok (.bipush 24, 2) := dk_16 24 (dk_at dksX0_say_0 14 rfl rfl)
theorem dX0_say_16 : decode cX0_say 16 = .ok (.if_icmp .ne 5, 3) := dk_160 0 5 (dk_at dksX0_say_0 16 rfl rfl)
theorem dX0_say_19 : decode cX0_say 19 = .ok (.iconst (-1), 1) := dk_2 (dk_at dksX0_say_0 19 rfl rfl)
theorem dX0_say_20 : decode cX0_say 20 = .ok (.ireturn, 1) := dk_172 (dk_at dksX0_say_0 20 rfl rfl)
theorem dX0_say_21 : decode cX0_say 21 = .ok (.aload_n 0, 1) := dk_42 (dk_at dksX0_say_0 21 rfl rfl)
theorem dX0_say_22 : decode cX0_say 22 = .ok (.getfield 34, 3) := dk_180 0 34 (dk_at dksX0_say_1 0 rfl rfl)
theorem dX0_say_25 : decode cX0_say 25 = .ok (.aload_n 0, 1) := dk_42 (dk_at dksX0_say_1 3 rfl rfl)
theorem dX0_say_26 : decode cX0_say 26 = .ok (.getfield 158, 3) := dk_180 0 158 (dk_at dksX0_say_1 4 rfl rfl)
theorem dX0_say_29 : decode cX0_say 29 = .ok (.iload_n 1, 1) := dk_27 (dk_at dksX0_say_1 7 rfl rfl)
theorem dX0_say_30 : decode cX0_say 30 = .ok (.iastore, 1) := dk_79 (dk_at dksX0_say_1 8 rfl rfl)
theorem dX0_say_31 : decode cX0_say 31 = .ok (.aload_n 0, 1) := dk_42 (dk_at dksX0_say_1 9 rfl rfl)
theorem dX0_say_32 : decode cX0_say 32 = .ok (.iconst 0, 1) := dk_3 (dk_at dksX0_say_1 10 rfl rfl)
theorem dX0_say_33 : decode cX0_say 33 = .ok (.putfield 154, 3) := dk_181 0 154 (dk_at dksX0_say_1 11 rfl rfl)
theorem dX0_say_36 : decode cX0_say 36 = .ok (.aload_n 0, 1) := dk_42 (dk_at dksX0_say_1 14 rfl rfl)
theorem dX0_say_37 : decode cX0_say 37 = .ok (.dup, 1) := dk_89 (dk_at dksX0_say_1 15 rfl rfl)
theorem dX0_say_38 : decode cX0_say 38 = .ok (.getfield 158, 3) := dk_180 0 158 (dk_at dksX0_say_1 16 rfl rfl)
theorem dX0_say_41 : decode cX0_say 41 = .ok (.iconst 1, 1) := dk_4 (dk_at dksX0_say_1 19 rfl rfl)
theorem dX0_say_42 : decode cX0_say 42 = .ok (.iadd, 1) := dk_96 (dk_at dksX0_say_1 20 rfl rfl)
theorem dX0_say_43 : decode cX0_say 43 = .ok (.dup_x1, 1) := dk_90 (dk_at dksX0_say_1 21 rfl rfl)
theorem dX0_say_44 : decode cX0_say 44 = .ok (.putfield 158, 3) := dk_181 0 158 (dk_at dksX0_say_2 0 rfl rfl)
theorem dX0_say_47 : decode cX0_say 47 = .ok (.ireturn, 1) := dk_172 (dk_at dksX0_say_2 3 rfl rfl)
abbrev cX0_unsay : ByteArray := prog_1_method_11_code
def yX0_unsay : MethodName := ⟨RX0, "unsay", "(I)I"⟩
def dkwX0_unsay_1 : List UInt8 := [42, 3, 181, 0, 154, 42, 180, 0, 158, 172]
abbrev dktX0_unsay_1 : List UInt8 := dkwX0_unsay_1 ++ []
def dkwX0_unsay_0 : List UInt8 := [27, 3, 42, 180, 0, 158, 184, 0, 130, 154, 0, 5, 2, 172, 42, 89, 180, 0, 158, 27, 100, 181, 0, 158]
abbrev dktX0_unsay_0 : List UInt8 := dkwX0_unsay_0 ++ dktX0_unsay_1
theorem dksX0_unsay_0 : cX0_unsay.data.toList.drop 0 = dktX0_unsay_0 := by decide +kernel
theorem dksX0_unsay_1 : cX0_unsay.data.toList.drop 24 = dktX0_unsay_1 := dk_seg dksX0_unsay_0 24 rfl rfl
theorem dX0_unsay_0 : decode cX0_unsay 0 = .ok (.iload_n 1, 1) := dk_27 (dk_at dksX0_unsay_0 0 rfl rfl)
theorem dX0_unsay_1 : decode cX0_unsay 1 = .ok (.iconst 0, 1) := dk_3 (dk_at dksX0_unsay_0 1 rfl rfl)
theorem dX0_unsay_2 : decode cX0_unsay 2 = .ok (.aload_n 0, 1) := dk_42 (dk_at dksX0_unsay_0 2 rfl rfl)
theorem dX0_unsay_3 : decode cX0_unsay 3 = .ok (.getfield 158, 3) := dk_180 0 158 (dk_at dksX0_unsay_0 3 rfl rfl)
theorem dX0_unsay_6 : decode cX0_unsay 6 = .ok (.invokestatic 130, 3) := dk_184 0 130 (dk_at dksX0_unsay_0 6 rfl rfl)
theorem dX0_unsay_9 : decode cX0_unsay 9 = .ok (.ifCond .ne 5, 3) := dk_154 0 5 (dk_at dksX0_unsay_0 9 rfl rfl)
theorem dX0_unsay_12 : decode cX0_unsay 12 = .ok (.iconst (-1), 1) := dk_2 (dk_at dksX0_unsay_0 12 rfl rfl)
theorem dX0_unsay_13 : decode cX0_unsay 13 = .ok (.ireturn, 1) := dk_172 (dk_at dksX0_unsay_0 13 rfl rfl)
theorem dX0_unsay_14 : decode cX0_unsay 14 = .ok (.aload_n 0, 1) := dk_42 (dk_at dksX0_unsay_0 14 rfl rfl)
theorem dX0_unsay_15 : decode cX0_unsay 15 = .ok (.dup, 1) := dk_89 (dk_at dksX0_unsay_0 15 rfl rfl)
theorem dX0_unsay_16 : decode cX0_unsay 16 = .ok (.getfield 158, 3) := dk_180 0 158 (dk_at dksX0_unsay_0 16 rfl rfl)
theorem dX0_unsay_19 : decode cX0_unsay 19 = .ok (.iload_n 1, 1) := dk_27 (dk_at dksX0_unsay_0 19 rfl rfl)
theorem dX0_unsay_20 : decode cX0_unsay 20 = .ok (.isub, 1) := dk_100 (dk_at dksX0_unsay_0 20 rfl rfl)
theorem dX0_unsay_21 : decode cX0_unsay 21 = .ok (.putfield 158, 3) := dk_181 0 158 (dk_at dksX0_unsay_0 21 rfl rfl)
theorem dX0_unsay_24 : decode cX0_unsay 24 = .ok (.aload_n 0, 1) := dk_42 (dk_at dksX0_unsay_1 0 rfl rfl)
theorem dX0_unsay_25 : decode cX0_unsay 25 = .ok (.iconst 0, 1) := dk_3 (dk_at dksX0_unsay_1 1 rfl rfl)
theorem dX0_unsay_26 : decode cX0_unsay 26 = .ok (.putfield 154, 3) := dk_181 0 154 (dk_at dksX0_unsay_1 2 rfl rfl)
theorem dX0_unsay_29 : decode cX0_unsay 29 = .ok (.aload_n 0, 1) := dk_42 (dk_at dksX0_unsay_1 5 rfl rfl)
theorem dX0_unsay_30 : decode cX0_unsay 30 = .ok (.getfield 158, 3) := dk_180 0 158 (dk_at dksX0_unsay_1 6 rfl rfl)
theorem dX0_unsay_33 : decode cX0_unsay 33 = .ok (.ireturn, 1) := dk_172 (dk_at dksX0_unsay_1 9 rfl rfl)
abbrev cX0_word : ByteArray := prog_1_method_12_code
def yX0_word : MethodName := ⟨RX0, "word", "(I)I"⟩
def dkwX0_word_1 : List UInt8 := [172]
abbrev dktX0_word_1 : List UInt8 := dkwX0_word_1 ++ []
def dkwX0_word_0 : List UInt8 := [27, 3, 42, 180, 0, 158, 4, 100, 184, 0, 130, 153, 0, 12, 42, 180, 0, 34, 27, 46, 167, 0, 4, 2]
abbrev dktX0_word_0 : List UInt8 := dkwX0_word_0 ++ dktX0_word_1
theorem dksX0_word_0 : cX0_word.data.toList.drop 0 = dktX0_word_0 := by decide +kernel
theorem dksX0_word_1 : cX0_word.data.toList.drop 24 = dktX0_word_1 := dk_seg dksX0_word_0 24 rfl rfl
theorem dX0_word_0 : decode cX0_word 0 = .ok (.iload_n 1, 1) := dk_27 (dk_at dksX0_word_0 0 rfl rfl)
theorem dX0_word_1 : decode cX0_word 1 = .ok (.iconst 0, 1) := dk_3 (dk_at dksX0_word_0 1 rfl rfl)
theorem dX0_word_2 : decode cX0_word 2 = .ok (.aload_n 0, 1) := dk_42 (dk_at dksX0_word_0 2 rfl rfl)
theorem dX0_word_3 : decode cX0_word 3 = .ok (.getfield 158, 3) := dk_180 0 158 (dk_at dksX0_word_0 3 rfl rfl)
theorem dX0_word_6 : decode cX0_word 6 = .ok (.iconst 1, 1) := dk_4 (dk_at dksX0_word_0 6 rfl rfl)
theorem dX0_word_7 : decode cX0_word 7 = .ok (.isub, 1) := dk_100 (dk_at dksX0_word_0 7 rfl rfl)
theorem dX0_word_8 : decode cX0_word 8 = .ok (.invokestatic 130, 3) := dk_184 0 130 (dk_at dksX0_word_0 8 rfl rfl)
theorem dX0_word_11 : decode cX0_word 11 = .ok (.ifCond .eq 12, 3) := dk_153 0 12 (dk_at dksX0_word_0 11 rfl rfl)
theorem dX0_word_14 : decode cX0_word 14 = .ok (.aload_n 0, 1) := dk_42 (dk_at dksX0_word_0 14 rfl rfl)
theorem dX0_word_15 : decode cX0_word 15 = .ok (.getfield 34, 3) := dk_180 0 34 (dk_at dksX0_word_0 15 rfl rfl)
theorem dX0_word_18 : decode cX0_word 18 = .ok (.iload_n 1, 1) := dk_27 (dk_at dksX0_word_0 18 rfl rfl)
theorem dX0_word_19 : decode cX0_word 19 = .ok (.iaload, 1) := dk_46 (dk_at dksX0_word_0 19 rfl rfl)
theorem dX0_word_20 : decode cX0_word 20 = .ok (.goto 4, 3) := dk_167 0 4 (dk_at dksX0_word_0 20 rfl rfl)
theorem dX0_word_23 : decode cX0_word 23 = .ok (.iconst (-1), 1) := dk_2 (dk_at dksX0_word_0 23 rfl rfl)
theorem dX0_word_24 : decode cX0_word 24 = .ok (.ireturn, 1) := dk_172 (dk_at dksX0_word_1 0 rfl rfl)
abbrev cX0_count : ByteArray := prog_1_method_21_code
def yX0_count : MethodName := ⟨RX0, "count", "(I)I"⟩
def dkwX0_count_1 : List UInt8 := [167, 0, 21, 42, 180, 0, 51, 3, 42, 180, 0, 158, 4, 100, 3, 184, 0, 199, 27, 96, 46, 172]
abbrev dktX0_count_1 : List UInt8 := dkwX0_count_1 ++ []
def dkwX0_count_0 : List UInt8 := [27, 3, 16, 6, 184, 0, 130, 154, 0, 5, 2, 172, 42, 182, 0, 219, 42, 180, 0, 158, 154, 0, 7, 3]
abbrev dktX0_count_0 : List UInt8 := dkwX0_count_0 ++ dktX0_count_1
theorem dksX0_count_0 : cX0_count.data.toList.drop 0 = dktX0_count_0 := by decide +kernel
theorem dksX0_count_1 : cX0_count.data.toList.drop 24 = dktX0_count_1 := dk_seg dksX0_count_0 24 rfl rfl
theorem dX0_count_0 : decode cX0_count 0 = .ok (.iload_n 1, 1) := dk_27 (dk_at dksX0_count_0 0 rfl rfl)
theorem dX0_count_1 : decode cX0_count 1 = .ok (.iconst 0, 1) := dk_3 (dk_at dksX0_count_0 1 rfl rfl)
theorem dX0_count_2 : decode cX0_count 2 = .ok (.bipush 6, 2) := dk_16 6 (dk_at dksX0_count_0 2 rfl rfl)
theorem dX0_count_4 : decode cX0_count 4 = .ok (.invokestatic 130, 3) := dk_184 0 130 (dk_at dksX0_count_0 4 rfl rfl)
theorem dX0_count_7 : decode cX0_count 7 = .ok (.ifCond .ne 5, 3) := dk_154 0 5 (dk_at dksX0_count_0 7 rfl rfl)
theorem dX0_count_10 : decode cX0_count 10 = .ok (.iconst (-1), 1) := dk_2 (dk_at dksX0_count_0 10 rfl rfl)
theorem dX0_count_11 : decode cX0_count 11 = .ok (.ireturn, 1) := dk_172 (dk_at dksX0_count_0 11 rfl rfl)
theorem dX0_count_12 : decode cX0_count 12 = .ok (.aload_n 0, 1) := dk_42 (dk_at dksX0_count_0 12 rfl rfl)
theorem dX0_count_13 : decode cX0_count 13 = .ok (.invokevirtual 219, 3) := dk_182 0 219 (dk_at dksX0_count_0 13 rfl rfl)
theorem dX0_count_16 : decode cX0_count 16 = .ok (.aload_n 0, 1) := dk_42 (dk_at dksX0_count_0 16 rfl rfl)
theorem dX0_count_17 : decode cX0_count 17 = .ok (.getfield 158, 3) := dk_180 0 158 (dk_at dksX0_count_0 17 rfl rfl)
theorem dX0_count_20 : decode cX0_count 20 = .ok (.ifCond .ne 7, 3) := dk_154 0 7 (dk_at dksX0_count_0 20 rfl rfl)
theorem dX0_count_23 : decode cX0_count 23 = .ok (.iconst 0, 1) := dk_3 (dk_at dksX0_count_0 23 rfl rfl)
theorem dX0_count_24 : decode cX0_count 24 = .ok (.goto 21, 3) := dk_167 0 21 (dk_at dksX0_count_1 0 rfl rfl)
theorem dX0_count_27 : decode cX0_count 27 = .ok (.aload_n 0, 1) := dk_42 (dk_at dksX0_count_1 3 rfl rfl)
theorem dX0_count_28 : decode cX0_count 28 = .ok (.getfield 51, 3) := dk_180 0 51 (dk_at dksX0_count_1 4 rfl rfl)
theorem dX0_count_31 : decode cX0_count 31 = .ok (.iconst 0, 1) := dk_3 (dk_at dksX0_count_1 7 rfl rfl)
theorem dX0_count_32 : decode cX0_count 32 = .ok (.aload_n 0, 1) := dk_42 (dk_at dksX0_count_1 8 rfl rfl)
theorem dX0_count_33 : decode cX0_count 33 = .ok (.getfield 158, 3) := dk_180 0 158 (dk_at dksX0_count_1 9 rfl rfl)
theorem dX0_count_36 : decode cX0_count 36 = .ok (.iconst 1, 1) := dk_4 (dk_at dksX0_count_1 12 rfl rfl)
theorem dX0_count_37 : decode cX0_count 37 = .ok (.isub, 1) := dk_100 (dk_at dksX0_count_1 13 rfl rfl)
theorem dX0_count_38 : decode cX0_count 38 = .ok (.iconst 0, 1) := dk_3 (dk_at dksX0_count_1 14 rfl rfl)
theorem dX0_count_39 : decode cX0_count 39 = .ok (.invokestatic 199, 3) := dk_184 0 199 (dk_at dksX0_count_1 15 rfl rfl)
theorem dX0_count_42 : decode cX0_count 42 = .ok (.iload_n 1, 1) := dk_27 (dk_at dksX0_count_1 18 rfl rfl)
theorem dX0_count_43 : decode cX0_count 43 = .ok (.iadd, 1) := dk_96 (dk_at dksX0_count_1 19 rfl rfl)
theorem dX0_count_44 : decode cX0_count 44 = .ok (.iaload, 1) := dk_46 (dk_at dksX0_count_1 20 rfl rfl)
theorem dX0_count_45 : decode cX0_count 45 = .ok (.ireturn, 1) := dk_172 (dk_at dksX0_count_1 21 rfl rfl)
abbrev cX0_reckon : ByteArray := prog_1_method_18_code
def yX0_reckon : MethodName := ⟨RX0, "reckon", "()V"⟩
def dkwX0_reckon_12 : List UInt8 := [132, 3, 1, 167, 255, 145, 132, 2, 1, 167, 255, 37, 132, 1, 255, 167, 255, 25, 177]
abbrev dktX0_reckon_12 : List UInt8 := dkwX0_reckon_12 ++ []
def dkwX0_reckon_11 : List UInt8 := [28, 29, 21, 4, 4, 100, 184, 0, 182, 184, 0, 171, 132, 5, 1, 167, 255, 204, 132, 4, 1, 167, 255, 189]
abbrev dktX0_reckon_11 : List UInt8 := dkwX0_reckon_11 ++ dktX0_reckon_12
def dkwX0_reckon_10 : List UInt8 := [21, 4, 184, 0, 182, 42, 180, 0, 51, 27, 21, 5, 29, 184, 0, 199, 42, 180, 0, 55, 21, 5, 4, 96]
abbrev dktX0_reckon_10 : List UInt8 := dkwX0_reckon_10 ++ dktX0_reckon_11
def dkwX0_reckon_9 : List UInt8 := [54, 4, 21, 4, 8, 163, 0, 67, 27, 54, 5, 21, 5, 28, 162, 0, 52, 42, 180, 0, 55, 27, 28, 29]
abbrev dktX0_reckon_9 : List UInt8 := dkwX0_reckon_9 ++ dktX0_reckon_10
def dkwX0_reckon_8 : List UInt8 := [4, 184, 0, 182, 42, 180, 0, 51, 27, 28, 29, 184, 0, 199, 42, 180, 0, 58, 3, 184, 0, 171, 5]
abbrev dktX0_reckon_8 : List UInt8 := dkwX0_reckon_8 ++ dktX0_reckon_9
def dkwX0_reckon_7 : List UInt8 := [167, 255, 221, 132, 5, 1, 167, 255, 182, 3, 62, 29, 16, 8, 162, 0, 111, 42, 180, 0, 55, 27, 28, 29]
abbrev dktX0_reckon_7 : List UInt8 := dkwX0_reckon_7 ++ dktX0_reckon_8
def dkwX0_reckon_6 : List UInt8 := [25, 6, 180, 0, 196, 184, 0, 199, 25, 6, 21, 7, 27, 28, 4, 100, 182, 0, 203, 132, 7, 1]
abbrev dktX0_reckon_6 : List UInt8 := dkwX0_reckon_6 ++ dktX0_reckon_7
def dkwX0_reckon_5 : List UInt8 := [28, 46, 159, 0, 6, 167, 0, 44, 4, 54, 7, 21, 7, 25, 6, 182, 0, 193, 163, 0, 31, 42, 27, 28]
abbrev dktX0_reckon_5 : List UInt8 := dkwX0_reckon_5 ++ dktX0_reckon_6
def dkwX0_reckon_4 : List UInt8 := [54, 5, 21, 5, 21, 4, 162, 0, 73, 45, 21, 5, 50, 58, 6, 25, 6, 180, 0, 190, 42, 180, 0, 34]
abbrev dktX0_reckon_4 : List UInt8 := dkwX0_reckon_4 ++ dktX0_reckon_5
def dkwX0_reckon_3 : List UInt8 := [27, 61, 28, 42, 180, 0, 158, 162, 0, 217, 42, 182, 0, 186, 180, 0, 189, 78, 45, 190, 54, 4, 3]
abbrev dktX0_reckon_3 : List UInt8 := dkwX0_reckon_3 ++ dktX0_reckon_4
def dkwX0_reckon_2 : List UInt8 := [42, 180, 0, 55, 27, 3, 79, 132, 1, 1, 167, 255, 237, 42, 180, 0, 158, 4, 100, 60, 27, 155, 0, 233]
abbrev dktX0_reckon_2 : List UInt8 := dkwX0_reckon_2 ++ dktX0_reckon_3
def dkwX0_reckon_1 : List UInt8 := [42, 180, 0, 51, 27, 3, 79, 132, 1, 1, 167, 255, 237, 3, 60, 27, 42, 180, 0, 55, 190, 162, 0, 16]
abbrev dktX0_reckon_1 : List UInt8 := dkwX0_reckon_1 ++ dktX0_reckon_2
def dkwX0_reckon_0 : List UInt8 := [42, 180, 0, 154, 153, 0, 4, 177, 42, 4, 181, 0, 154, 3, 60, 27, 42, 180, 0, 51, 190, 162, 0, 16]
abbrev dktX0_reckon_0 : List UInt8 := dkwX0_reckon_0 ++ dktX0_reckon_1
theorem dksX0_reckon_0 : cX0_reckon.data.toList.drop 0 = dktX0_reckon_0 := by decide +kernel
theorem dksX0_reckon_1 : cX0_reckon.data.toList.drop 24 = dktX0_reckon_1 := dk_seg dksX0_reckon_0 24 rfl rfl
theorem dksX0_reckon_2 : cX0_reckon.data.toList.drop 48 = dktX0_reckon_2 := dk_seg dksX0_reckon_1 24 rfl rfl
theorem dksX0_reckon_3 : cX0_reckon.data.toList.drop 72 = dktX0_reckon_3 := dk_seg dksX0_reckon_2 24 rfl rfl
theorem dksX0_reckon_4 : cX0_reckon.data.toList.drop 95 = dktX0_reckon_4 := dk_seg dksX0_reckon_3 23 rfl rfl
theorem dksX0_reckon_5 : cX0_reckon.data.toList.drop 119 = dktX0_reckon_5 := dk_seg dksX0_reckon_4 24 rfl rfl
theorem dksX0_reckon_6 : cX0_reckon.data.toList.drop 143 = dktX0_reckon_6 := dk_seg dksX0_reckon_5 24 rfl rfl
theorem dksX0_reckon_7 : cX0_reckon.data.toList.drop 165 = dktX0_reckon_7 := dk_seg dksX0_reckon_6 22 rfl rfl
theorem dksX0_reckon_8 : cX0_reckon.data.toList.drop 189 = dktX0_reckon_8 := dk_seg dksX0_reckon_7 24 rfl rfl
theorem dksX0_reckon_9 : cX0_reckon.data.toList.drop 212 = dktX0_reckon_9 := dk_seg dksX0_reckon_8 23 rfl rfl
theorem dksX0_reckon_10 : cX0_reckon.data.toList.drop 236 = dktX0_reckon_10 := dk_seg dksX0_reckon_9 24 rfl rfl
theorem dksX0_reckon_11 : cX0_reckon.data.toList.drop 260 = dktX0_reckon_11 := dk_seg dksX0_reckon_10 24 rfl rfl
theorem dksX0_reckon_12 : cX0_reckon.data.toList.drop 284 = dktX0_reckon_12 := dk_seg dksX0_reckon_11 24 rfl rfl
theorem dX0_reckon_0 : decode cX0_reckon 0 = .ok (.aload_n 0, 1) := dk_42 (dk_at dksX0_reckon_0 0 rfl rfl)
theorem dX0_reckon_1 : decode cX0_reckon 1 = .ok (.getfield 154, 3) := dk_180 0 154 (dk_at dksX0_reckon_0 1 rfl rfl)
theorem dX0_reckon_4 : decode cX0_reckon 4 = .ok (.ifCond .eq 4, 3) := dk_153 0 4 (dk_at dksX0_reckon_0 4 rfl rfl)
theorem dX0_reckon_7 : decode cX0_reckon 7 = .ok (.return_, 1) := dk_177 (dk_at dksX0_reckon_0 7 rfl rfl)
theorem dX0_reckon_8 : decode cX0_reckon 8 = .ok (.aload_n 0, 1) := dk_42 (dk_at dksX0_reckon_0 8 rfl rfl)
theorem dX0_reckon_9 : decode cX0_reckon 9 = .ok (.iconst 1, 1) := dk_4 (dk_at dksX0_reckon_0 9 rfl rfl)
theorem dX0_reckon_10 : decode cX0_reckon 10 = .ok (.putfield 154, 3) := dk_181 0 154 (dk_at dksX0_reckon_0 10 rfl rfl)
theorem dX0_reckon_13 : decode cX0_reckon 13 = .ok (.iconst 0, 1) := dk_3 (dk_at dksX0_reckon_0 13 rfl rfl)
theorem dX0_reckon_14 : decode cX0_reckon 14 = .ok (.istore_n 1, 1) := dk_60 (dk_at dksX0_reckon_0 14 rfl rfl)
theorem dX0_reckon_15 : decode cX0_reckon 15 = .ok (.iload_n 1, 1) := dk_27 (dk_at dksX0_reckon_0 15 rfl rfl)
theorem dX0_reckon_16 : decode cX0_reckon 16 = .ok (.aload_n 0, 1) := dk_42 (dk_at dksX0_reckon_0 16 rfl rfl)
theorem dX0_reckon_17 : decode cX0_reckon 17 = .ok (.getfield 51, 3) := dk_180 0 51 (dk_at dksX0_reckon_0 17 rfl rfl)
theorem dX0_reckon_20 : decode cX0_reckon 20 = .ok (.arraylength, 1) := dk_190 (dk_at dksX0_reckon_0 20 rfl rfl)
theorem dX0_reckon_21 : decode cX0_reckon 21 = .ok (.if_icmp .ge 16, 3) := dk_162 0 16 (dk_at dksX0_reckon_0 21 rfl rfl)
theorem dX0_reckon_24 : decode cX0_reckon 24 = .ok (.aload_n 0, 1) := dk_42 (dk_at dksX0_reckon_1 0 rfl rfl)
theorem dX0_reckon_25 : decode cX0_reckon 25 = .ok (.getfield 51, 3) := dk_180 0 51 (dk_at dksX0_reckon_1 1 rfl rfl)
theorem dX0_reckon_28 : decode cX0_reckon 28 = .ok (.iload_n 1, 1) := dk_27 (dk_at dksX0_reckon_1 4 rfl rfl)
theorem dX0_reckon_29 : decode cX0_reckon 29 = .ok (.iconst 0, 1) := dk_3 (dk_at dksX0_reckon_1 5 rfl rfl)
theorem dX0_reckon_30 : decode cX0_reckon 30 = .ok (.iastore, 1) := dk_79 (dk_at dksX0_reckon_1 6 rfl rfl)
theorem dX0_reckon_31 : decode cX0_reckon 31 = .ok (.iinc 1 1, 3) := dk_132 1 1 (dk_at dksX0_reckon_1 7 rfl rfl)
theorem dX0_reckon_34 : decode cX0_reckon 34 = .ok (.goto (-19), 3) := dk_167 255 237 (dk_at dksX0_reckon_1 10 rfl rfl)
theorem dX0_reckon_37 : decode cX0_reckon 37 = .ok (.iconst 0, 1) := dk_3 (dk_at dksX0_reckon_1 13 rfl rfl)
theorem dX0_reckon_38 : decode cX0_reckon 38 = .ok (.istore_n 1, 1) := dk_60 (dk_at dksX0_reckon_1 14 rfl rfl)
theorem dX0_reckon_39 : decode cX0_reckon 39 = .ok (.iload_n 1, 1) := dk_27 (dk_at dksX0_reckon_1 15 rfl rfl)
theorem dX0_reckon_40 : decode cX0_reckon 40 = .ok (.aload_n 0, 1) := dk_42 (dk_at dksX0_reckon_1 16 rfl rfl)
theorem dX0_reckon_41 : decode cX0_reckon 41 = .ok (.getfield 55, 3) := dk_180 0 55 (dk_at dksX0_reckon_1 17 rfl rfl)
theorem dX0_reckon_44 : decode cX0_reckon 44 = .ok (.arraylength, 1) := dk_190 (dk_at dksX0_reckon_1 20 rfl rfl)
theorem dX0_reckon_45 : decode cX0_reckon 45 = .ok (.if_icmp .ge 16, 3) := dk_162 0 16 (dk_at dksX0_reckon_1 21 rfl rfl)
theorem dX0_reckon_48 : decode cX0_reckon 48 = .ok (.aload_n 0, 1) := dk_42 (dk_at dksX0_reckon_2 0 rfl rfl)
theorem dX0_reckon_49 : decode cX0_reckon 49 = .ok (.getfield 55, 3) := dk_180 0 55 (dk_at dksX0_reckon_2 1 rfl rfl)
theorem dX0_reckon_52 : decode cX0_reckon 52 = .ok (.iload_n 1, 1) := dk_27 (dk_at dksX0_reckon_2 4 rfl rfl)
theorem dX0_reckon_53 : decode cX0_reckon 53 = .ok (.iconst 0, 1) := dk_3 (dk_at dksX0_reckon_2 5 rfl rfl)
theorem dX0_reckon_54 : decode cX0_reckon 54 = .ok (.iastore, 1) := dk_79 (dk_at dksX0_reckon_2 6 rfl rfl)
theorem dX0_reckon_55 : decode cX0_reckon 55 = .ok (.iinc 1 1, 3) := dk_132 1 1 (dk_at dksX0_reckon_2 7 rfl rfl)
theorem dX0_reckon_58 : decode cX0_reckon 58 = .ok (.goto (-19), 3) := dk_167 255 237 (dk_at dksX0_reckon_2 10 rfl rfl)
theorem dX0_reckon_61 : decode cX0_reckon 61 = .ok (.aload_n 0, 1) := dk_42 (dk_at dksX0_reckon_2 13 rfl rfl)
theorem dX0_reckon_62 : decode cX0_reckon 62 = .ok (.getfield 158, 3) := dk_180 0 158 (dk_at dksX0_reckon_2 14 rfl rfl)
theorem dX0_reckon_65 : decode cX0_reckon 65 = .ok (.iconst 1, 1) := dk_4 (dk_at dksX0_reckon_2 17 rfl rfl)
theorem dX0_reckon_66 : decode cX0_reckon 66 = .ok (.isub, 1) := dk_100 (dk_at dksX0_reckon_2 18 rfl rfl)
theorem dX0_reckon_67 : decode cX0_reckon 67 = .ok (.istore_n 1, 1) := dk_60 (dk_at dksX0_reckon_2 19 rfl rfl)
theorem dX0_reckon_68 : decode cX0_reckon 68 = .ok (.iload_n 1, 1) := dk_27 (dk_at dksX0_reckon_2 20 rfl rfl)
theorem dX0_reckon_69 : decode cX0_reckon 69 = .ok (.ifCond .lt 233, 3) := dk_155 0 233 (dk_at dksX0_reckon_2 21 rfl rfl)
theorem dX0_reckon_72 : decode cX0_reckon 72 = .ok (.iload_n 1, 1) := dk_27 (dk_at dksX0_reckon_3 0 rfl rfl)
theorem dX0_reckon_73 : decode cX0_reckon 73 = .ok (.istore_n 2, 1) := dk_61 (dk_at dksX0_reckon_3 1 rfl rfl)
theorem dX0_reckon_74 : decode cX0_reckon 74 = .ok (.iload_n 2, 1) := dk_28 (dk_at dksX0_reckon_3 2 rfl rfl)
theorem dX0_reckon_75 : decode cX0_reckon 75 = .ok (.aload_n 0, 1) := dk_42 (dk_at dksX0_reckon_3 3 rfl rfl)
theorem dX0_reckon_76 : decode cX0_reckon 76 = .ok (.getfield 158, 3) := dk_180 0 158 (dk_at dksX0_reckon_3 4 rfl rfl)
theorem dX0_reckon_79 : decode cX0_reckon 79 = .ok (.if_icmp .ge 217, 3) := dk_162 0 217 (dk_at dksX0_reckon_3 7 rfl rfl)
theorem dX0_reckon_82 : decode cX0_reckon 82 = .ok (.aload_n 0, 1) := dk_42 (dk_at dksX0_reckon_3 10 rfl rfl)
theorem dX0_reckon_83 : decode cX0_reckon 83 = .ok (.invokevirtual 186, 3) := dk_182 0 186 (dk_at dksX0_reckon_3 11 rfl rfl)
theorem dX0_reckon_86 : decode cX0_reckon 86 = .ok (.getfield 189, 3) := dk_180 0 189 (dk_at dksX0_reckon_3 14 rfl rfl)
theorem dX0_reckon_89 : decode cX0_reckon 89 = .ok (.astore_n 3, 1) := dk_78 (dk_at dksX0_reckon_3 17 rfl rfl)
theorem dX0_reckon_90 : decode cX0_reckon 90 = .ok (.aload_n 3, 1) := dk_45 (dk_at dksX0_reckon_3 18 rfl rfl)
theorem dX0_reckon_91 : decode cX0_reckon 91 = .ok (.arraylength, 1) := dk_190 (dk_at dksX0_reckon_3 19 rfl rfl)
theorem dX0_reckon_92 : decode cX0_reckon 92 = .ok (.istore 4, 2) := dk_54 4 (dk_at dksX0_reckon_3 20 rfl rfl)
theorem dX0_reckon_94 : decode cX0_reckon 94 = .ok (.iconst 0, 1) := dk_3 (dk_at dksX0_reckon_3 22 rfl rfl)
theorem dX0_reckon_95 : decode cX0_reckon 95 = .ok (.istore 5, 2) := dk_54 5 (dk_at dksX0_reckon_4 0 rfl rfl)
theorem dX0_reckon_97 : decode cX0_reckon 97 = .ok (.iload 5, 2) := dk_21 5 (dk_at dksX0_reckon_4 2 rfl rfl)
theorem dX0_reckon_99 : decode cX0_reckon 99 = .ok (.iload 4, 2) := dk_21 4 (dk_at dksX0_reckon_4 4 rfl rfl)
theorem dX0_reckon_101 : decode cX0_reckon 101 = .ok (.if_icmp .ge 73, 3) := dk_162 0 73 (dk_at dksX0_reckon_4 6 rfl rfl)
theorem dX0_reckon_104 : decode cX0_reckon 104 = .ok (.aload_n 3, 1) := dk_45 (dk_at dksX0_reckon_4 9 rfl rfl)
theorem dX0_reckon_105 : decode cX0_reckon 105 = .ok (.iload 5, 2) := dk_21 5 (dk_at dksX0_reckon_4 10 rfl rfl)
theorem dX0_reckon_107 : decode cX0_reckon 107 = .ok (.aaload, 1) := dk_50 (dk_at dksX0_reckon_4 12 rfl rfl)
theorem dX0_reckon_108 : decode cX0_reckon 108 = .ok (.astore 6, 2) := dk_58 6 (dk_at dksX0_reckon_4 13 rfl rfl)
theorem dX0_reckon_110 : decode cX0_reckon 110 = .ok (.aload 6, 2) := dk_25 6 (dk_at dksX0_reckon_4 15 rfl rfl)
theorem dX0_reckon_112 : decode cX0_reckon 112 = .ok (.getfield 190, 3) := dk_180 0 190 (dk_at dksX0_reckon_4 17 rfl rfl)
theorem dX0_reckon_115 : decode cX0_reckon 115 = .ok (.aload_n 0, 1) := dk_42 (dk_at dksX0_reckon_4 20 rfl rfl)
theorem dX0_reckon_116 : decode cX0_reckon 116 = .ok (.getfield 34, 3) := dk_180 0 34 (dk_at dksX0_reckon_4 21 rfl rfl)
theorem dX0_reckon_119 : decode cX0_reckon 119 = .ok (.iload_n 2, 1) := dk_28 (dk_at dksX0_reckon_5 0 rfl rfl)
theorem dX0_reckon_120 : decode cX0_reckon 120 = .ok (.iaload, 1) := dk_46 (dk_at dksX0_reckon_5 1 rfl rfl)
theorem dX0_reckon_121 : decode cX0_reckon 121 = .ok (.if_icmp .eq 6, 3) := dk_159 0 6 (dk_at dksX0_reckon_5 2 rfl rfl)
theorem dX0_reckon_124 : decode cX0_reckon 124 = .ok (.goto 44, 3) := dk_167 0 44 (dk_at dksX0_reckon_5 5 rfl rfl)
theorem dX0_reckon_127 : decode cX0_reckon 127 = .ok (.iconst 1, 1) := dk_4 (dk_at dksX0_reckon_5 8 rfl rfl)
theorem dX0_reckon_128 : decode cX0_reckon 128 = .ok (.istore 7, 2) := dk_54 7 (dk_at dksX0_reckon_5 9 rfl rfl)
theorem dX0_reckon_130 : decode cX0_reckon 130 = .ok (.iload 7, 2) := dk_21 7 (dk_at dksX0_reckon_5 11 rfl rfl)
theorem dX0_reckon_132 : decode cX0_reckon 132 = .ok (.aload 6, 2) := dk_25 6 (dk_at dksX0_reckon_5 13 rfl rfl)
theorem dX0_reckon_134 : decode cX0_reckon 134 = .ok (.invokevirtual 193, 3) := dk_182 0 193 (dk_at dksX0_reckon_5 15 rfl rfl)
theorem dX0_reckon_137 : decode cX0_reckon 137 = .ok (.if_icmp .gt 31, 3) := dk_163 0 31 (dk_at dksX0_reckon_5 18 rfl rfl)
theorem dX0_reckon_140 : decode cX0_reckon 140 = .ok (.aload_n 0, 1) := dk_42 (dk_at dksX0_reckon_5 21 rfl rfl)
theorem dX0_reckon_141 : decode cX0_reckon 141 = .ok (.iload_n 1, 1) := dk_27 (dk_at dksX0_reckon_5 22 rfl rfl)
theorem dX0_reckon_142 : decode cX0_reckon 142 = .ok (.iload_n 2, 1) := dk_28 (dk_at dksX0_reckon_5 23 rfl rfl)
theorem dX0_reckon_143 : decode cX0_reckon 143 = .ok (.aload 6, 2) := dk_25 6 (dk_at dksX0_reckon_6 0 rfl rfl)
theorem dX0_reckon_145 : decode cX0_reckon 145 = .ok (.getfield 196, 3) := dk_180 0 196 (dk_at dksX0_reckon_6 2 rfl rfl)
theorem dX0_reckon_148 : decode cX0_reckon 148 = .ok (.invokestatic 199, 3) := dk_184 0 199 (dk_at dksX0_reckon_6 5 rfl rfl)
theorem dX0_reckon_151 : decode cX0_reckon 151 = .ok (.aload 6, 2) := dk_25 6 (dk_at dksX0_reckon_6 8 rfl rfl)
theorem dX0_reckon_153 : decode cX0_reckon 153 = .ok (.iload 7, 2) := dk_21 7 (dk_at dksX0_reckon_6 10 rfl rfl)
theorem dX0_reckon_155 : decode cX0_reckon 155 = .ok (.iload_n 1, 1) := dk_27 (dk_at dksX0_reckon_6 12 rfl rfl)
theorem dX0_reckon_156 : decode cX0_reckon 156 = .ok (.iload_n 2, 1) := dk_28 (dk_at dksX0_reckon_6 13 rfl rfl)
theorem dX0_reckon_157 : decode cX0_reckon 157 = .ok (.iconst 1, 1) := dk_4 (dk_at dksX0_reckon_6 14 rfl rfl)
theorem dX0_reckon_158 : decode cX0_reckon 158 = .ok (.isub, 1) := dk_100 (dk_at dksX0_reckon_6 15 rfl rfl)
theorem dX0_reckon_159 : decode cX0_reckon 159 = .ok (.invokevirtual 203, 3) := dk_182 0 203 (dk_at dksX0_reckon_6 16 rfl rfl)
theorem dX0_reckon_162 : decode cX0_reckon 162 = .ok (.iinc 7 1, 3) := dk_132 7 1 (dk_at dksX0_reckon_6 19 rfl rfl)
theorem dX0_reckon_165 : decode cX0_reckon 165 = .ok (.goto (-35), 3) := dk_167 255 221 (dk_at dksX0_reckon_7 0 rfl rfl)
theorem dX0_reckon_168 : decode cX0_reckon 168 = .ok (.iinc 5 1, 3) := dk_132 5 1 (dk_at dksX0_reckon_7 3 rfl rfl)
theorem dX0_reckon_171 : decode cX0_reckon 171 = .ok (.goto (-74), 3) := dk_167 255 182 (dk_at dksX0_reckon_7 6 rfl rfl)
theorem dX0_reckon_174 : decode cX0_reckon 174 = .ok (.iconst 0, 1) := dk_3 (dk_at dksX0_reckon_7 9 rfl rfl)
theorem dX0_reckon_175 : decode cX0_reckon 175 = .ok (.istore_n 3, 1) := dk_62 (dk_at dksX0_reckon_7 10 rfl rfl)
theorem dX0_reckon_176 : decode cX0_reckon 176 = .ok (.iload_n 3, 1) := dk_29 (dk_at dksX0_reckon_7 11 rfl rfl)
theorem dX0_reckon_177 : decode cX0_reckon 177 = .ok (.bipush 8, 2) := dk_16 8 (dk_at dksX0_reckon_7 12 rfl rfl)
theorem dX0_reckon_179 : decode cX0_reckon 179 = .ok (.if_icmp .ge 111, 3) := dk_162 0 111 (dk_at dksX0_reckon_7 14 rfl rfl)
theorem dX0_reckon_182 : decode cX0_reckon 182 = .ok (.aload_n 0, 1) := dk_42 (dk_at dksX0_reckon_7 17 rfl rfl)
theorem dX0_reckon_183 : decode cX0_reckon 183 = .ok (.getfield 55, 3) := dk_180 0 55 (dk_at dksX0_reckon_7 18 rfl rfl)
theorem dX0_reckon_186 : decode cX0_reckon 186 = .ok (.iload_n 1, 1) := dk_27 (dk_at dksX0_reckon_7 21 rfl rfl)
theorem dX0_reckon_187 : decode cX0_reckon 187 = .ok (.iload_n 2, 1) := dk_28 (dk_at dksX0_reckon_7 22 rfl rfl)
theorem dX0_reckon_188 : decode cX0_reckon 188 = .ok (.iload_n 3, 1) := dk_29 (dk_at dksX0_reckon_7 23 rfl rfl)
theorem dX0_reckon_189 : decode cX0_reckon 189 = .ok (.iconst 1, 1) := dk_4 (dk_at dksX0_reckon_8 0 rfl rfl)
theorem dX0_reckon_190 : decode cX0_reckon 190 = .ok (.invokestatic 182, 3) := dk_184 0 182 (dk_at dksX0_reckon_8 1 rfl rfl)
theorem dX0_reckon_193 : decode cX0_reckon 193 = .ok (.aload_n 0, 1) := dk_42 (dk_at dksX0_reckon_8 4 rfl rfl)
theorem dX0_reckon_194 : decode cX0_reckon 194 = .ok (.getfield 51, 3) := dk_180 0 51 (dk_at dksX0_reckon_8 5 rfl rfl)
theorem dX0_reckon_197 : decode cX0_reckon 197 = .ok (.iload_n 1, 1) := dk_27 (dk_at dksX0_reckon_8 8 rfl rfl)
theorem dX0_reckon_198 : decode cX0_reckon 198 = .ok (.iload_n 2, 1) := dk_28 (dk_at dksX0_reckon_8 9 rfl rfl)
theorem dX0_reckon_199 : decode cX0_reckon 199 = .ok (.iload_n 3, 1) := dk_29 (dk_at dksX0_reckon_8 10 rfl rfl)
theorem dX0_reckon_200 : decode cX0_reckon 200 = .ok (.invokestatic 199, 3) := dk_184 0 199 (dk_at dksX0_reckon_8 11 rfl rfl)
theorem dX0_reckon_203 : decode cX0_reckon 203 = .ok (.aload_n 0, 1) := dk_42 (dk_at dksX0_reckon_8 14 rfl rfl)
theorem dX0_reckon_204 : decode cX0_reckon 204 = .ok (.getfield 58, 3) := dk_180 0 58 (dk_at dksX0_reckon_8 15 rfl rfl)
theorem dX0_reckon_207 : decode cX0_reckon 207 = .ok (.iconst 0, 1) := dk_3 (dk_at dksX0_reckon_8 18 rfl rfl)
theorem dX0_reckon_208 : decode cX0_reckon 208 = .ok (.invokestatic 171, 3) := dk_184 0 171 (dk_at dksX0_reckon_8 19 rfl rfl)
theorem dX0_reckon_211 : decode cX0_reckon 211 = .ok (.iconst 2, 1) := dk_5 (dk_at dksX0_reckon_8 22 rfl rfl)
theorem dX0_reckon_212 : decode cX0_reckon 212 = .ok (.istore 4, 2) := dk_54 4 (dk_at dksX0_reckon_9 0 rfl rfl)
theorem dX0_reckon_214 : decode cX0_reckon 214 = .ok (.iload 4, 2) := dk_21 4 (dk_at dksX0_reckon_9 2 rfl rfl)
theorem dX0_reckon_216 : decode cX0_reckon 216 = .ok (.iconst 5, 1) := dk_8 (dk_at dksX0_reckon_9 4 rfl rfl)
theorem dX0_reckon_217 : decode cX0_reckon 217 = .ok (.if_icmp .gt 67, 3) := dk_163 0 67 (dk_at dksX0_reckon_9 5 rfl rfl)
theorem dX0_reckon_220 : decode cX0_reckon 220 = .ok (.iload_n 1, 1) := dk_27 (dk_at dksX0_reckon_9 8 rfl rfl)
theorem dX0_reckon_221 : decode cX0_reckon 221 = .ok (.istore 5, 2) := dk_54 5 (dk_at dksX0_reckon_9 9 rfl rfl)
theorem dX0_reckon_223 : decode cX0_reckon 223 = .ok (.iload 5, 2) := dk_21 5 (dk_at dksX0_reckon_9 11 rfl rfl)
theorem dX0_reckon_225 : decode cX0_reckon 225 = .ok (.iload_n 2, 1) := dk_28 (dk_at dksX0_reckon_9 13 rfl rfl)
theorem dX0_reckon_226 : decode cX0_reckon 226 = .ok (.if_icmp .ge 52, 3) := dk_162 0 52 (dk_at dksX0_reckon_9 14 rfl rfl)
theorem dX0_reckon_229 : decode cX0_reckon 229 = .ok (.aload_n 0, 1) := dk_42 (dk_at dksX0_reckon_9 17 rfl rfl)
theorem dX0_reckon_230 : decode cX0_reckon 230 = .ok (.getfield 55, 3) := dk_180 0 55 (dk_at dksX0_reckon_9 18 rfl rfl)
theorem dX0_reckon_233 : decode cX0_reckon 233 = .ok (.iload_n 1, 1) := dk_27 (dk_at dksX0_reckon_9 21 rfl rfl)
theorem dX0_reckon_234 : decode cX0_reckon 234 = .ok (.iload_n 2, 1) := dk_28 (dk_at dksX0_reckon_9 22 rfl rfl)
theorem dX0_reckon_235 : decode cX0_reckon 235 = .ok (.iload_n 3, 1) := dk_29 (dk_at dksX0_reckon_9 23 rfl rfl)
theorem dX0_reckon_236 : decode cX0_reckon 236 = .ok (.iload 4, 2) := dk_21 4 (dk_at dksX0_reckon_10 0 rfl rfl)
theorem dX0_reckon_238 : decode cX0_reckon 238 = .ok (.invokestatic 182, 3) := dk_184 0 182 (dk_at dksX0_reckon_10 2 rfl rfl)
theorem dX0_reckon_241 : decode cX0_reckon 241 = .ok (.aload_n 0, 1) := dk_42 (dk_at dksX0_reckon_10 5 rfl rfl)
theorem dX0_reckon_242 : decode cX0_reckon 242 = .ok (.getfield 51, 3) := dk_180 0 51 (dk_at dksX0_reckon_10 6 rfl rfl)
theorem dX0_reckon_245 : decode cX0_reckon 245 = .ok (.iload_n 1, 1) := dk_27 (dk_at dksX0_reckon_10 9 rfl rfl)
theorem dX0_reckon_246 : decode cX0_reckon 246 = .ok (.iload 5, 2) := dk_21 5 (dk_at dksX0_reckon_10 10 rfl rfl)
theorem dX0_reckon_248 : decode cX0_reckon 248 = .ok (.iload_n 3, 1) := dk_29 (dk_at dksX0_reckon_10 12 rfl rfl)
theorem dX0_reckon_249 : decode cX0_reckon 249 = .ok (.invokestatic 199, 3) := dk_184 0 199 (dk_at dksX0_reckon_10 13 rfl rfl)
theorem dX0_reckon_252 : decode cX0_reckon 252 = .ok (.aload_n 0, 1) := dk_42 (dk_at dksX0_reckon_10 16 rfl rfl)
theorem dX0_reckon_253 : decode cX0_reckon 253 = .ok (.getfield 55, 3) := dk_180 0 55 (dk_at dksX0_reckon_10 17 rfl rfl)
theorem dX0_reckon_256 : decode cX0_reckon 256 = .ok (.iload 5, 2) := dk_21 5 (dk_at dksX0_reckon_10 20 rfl rfl)
theorem dX0_reckon_258 : decode cX0_reckon 258 = .ok (.iconst 1, 1) := dk_4 (dk_at dksX0_reckon_10 22 rfl rfl)
theorem dX0_reckon_259 : decode cX0_reckon 259 = .ok (.iadd, 1) := dk_96 (dk_at dksX0_reckon_10 23 rfl rfl)
theorem dX0_reckon_260 : decode cX0_reckon 260 = .ok (.iload_n 2, 1) := dk_28 (dk_at dksX0_reckon_11 0 rfl rfl)
theorem dX0_reckon_261 : decode cX0_reckon 261 = .ok (.iload_n 3, 1) := dk_29 (dk_at dksX0_reckon_11 1 rfl rfl)
theorem dX0_reckon_262 : decode cX0_reckon 262 = .ok (.iload 4, 2) := dk_21 4 (dk_at dksX0_reckon_11 2 rfl rfl)
theorem dX0_reckon_264 : decode cX0_reckon 264 = .ok (.iconst 1, 1) := dk_4 (dk_at dksX0_reckon_11 4 rfl rfl)
theorem dX0_reckon_265 : decode cX0_reckon 265 = .ok (.isub, 1) := dk_100 (dk_at dksX0_reckon_11 5 rfl rfl)
theorem dX0_reckon_266 : decode cX0_reckon 266 = .ok (.invokestatic 182, 3) := dk_184 0 182 (dk_at dksX0_reckon_11 6 rfl rfl)
theorem dX0_reckon_269 : decode cX0_reckon 269 = .ok (.invokestatic 171, 3) := dk_184 0 171 (dk_at dksX0_reckon_11 9 rfl rfl)
theorem dX0_reckon_272 : decode cX0_reckon 272 = .ok (.iinc 5 1, 3) := dk_132 5 1 (dk_at dksX0_reckon_11 12 rfl rfl)
theorem dX0_reckon_275 : decode cX0_reckon 275 = .ok (.goto (-52), 3) := dk_167 255 204 (dk_at dksX0_reckon_11 15 rfl rfl)
theorem dX0_reckon_278 : decode cX0_reckon 278 = .ok (.iinc 4 1, 3) := dk_132 4 1 (dk_at dksX0_reckon_11 18 rfl rfl)
theorem dX0_reckon_281 : decode cX0_reckon 281 = .ok (.goto (-67), 3) := dk_167 255 189 (dk_at dksX0_reckon_11 21 rfl rfl)
theorem dX0_reckon_284 : decode cX0_reckon 284 = .ok (.iinc 3 1, 3) := dk_132 3 1 (dk_at dksX0_reckon_12 0 rfl rfl)
theorem dX0_reckon_287 : decode cX0_reckon 287 = .ok (.goto (-111), 3) := dk_167 255 145 (dk_at dksX0_reckon_12 3 rfl rfl)
theorem dX0_reckon_290 : decode cX0_reckon 290 = .ok (.iinc 2 1, 3) := dk_132 2 1 (dk_at dksX0_reckon_12 6 rfl rfl)
theorem dX0_reckon_293 : decode cX0_reckon 293 = .ok (.goto (-219), 3) := dk_167 255 37 (dk_at dksX0_reckon_12 9 rfl rfl)
theorem dX0_reckon_296 : decode cX0_reckon 296 = .ok (.iinc 1 (-1), 3) := dk_132 1 255 (dk_at dksX0_reckon_12 12 rfl rfl)
theorem dX0_reckon_299 : decode cX0_reckon 299 = .ok (.goto (-231), 3) := dk_167 255 25 (dk_at dksX0_reckon_12 15 rfl rfl)
theorem dX0_reckon_302 : decode cX0_reckon 302 = .ok (.return_, 1) := dk_177 (dk_at dksX0_reckon_12 18 rfl rfl)
abbrev cX0_lexicon : ByteArray := prog_1_method_3_code
def yX0_lexicon : MethodName := ⟨RX0, "lexicon", "()LHeldTongue$Lexicon;"⟩
def dkwX0_lexicon_0 : List UInt8 := [42, 180, 0, 27, 156, 0, 10, 42, 180, 0, 16, 167, 0, 12, 42, 180, 0, 11, 42, 180, 0, 27, 50, 176]
abbrev dktX0_lexicon_0 : List UInt8 := dkwX0_lexicon_0 ++ []
theorem dksX0_lexicon_0 : cX0_lexicon.data.toList.drop 0 = dktX0_lexicon_0 := by decide +kernel
theorem dX0_lexicon_0 : decode cX0_lexicon 0 = .ok (.aload_n 0, 1) := dk_42 (dk_at dksX0_lexicon_0 0 rfl rfl)
theorem dX0_lexicon_1 : decode cX0_lexicon 1 = .ok (.getfield 27, 3) := dk_180 0 27 (dk_at dksX0_lexicon_0 1 rfl rfl)
theorem dX0_lexicon_4 : decode cX0_lexicon 4 = .ok (.ifCond .ge 10, 3) := dk_156 0 10 (dk_at dksX0_lexicon_0 4 rfl rfl)
theorem dX0_lexicon_7 : decode cX0_lexicon 7 = .ok (.aload_n 0, 1) := dk_42 (dk_at dksX0_lexicon_0 7 rfl rfl)
theorem dX0_lexicon_8 : decode cX0_lexicon 8 = .ok (.getfield 16, 3) := dk_180 0 16 (dk_at dksX0_lexicon_0 8 rfl rfl)
theorem dX0_lexicon_11 : decode cX0_lexicon 11 = .ok (.goto 12, 3) := dk_167 0 12 (dk_at dksX0_lexicon_0 11 rfl rfl)
theorem dX0_lexicon_14 : decode cX0_lexicon 14 = .ok (.aload_n 0, 1) := dk_42 (dk_at dksX0_lexicon_0 14 rfl rfl)
theorem dX0_lexicon_15 : decode cX0_lexicon 15 = .ok (.getfield 11, 3) := dk_180 0 11 (dk_at dksX0_lexicon_0 15 rfl rfl)
theorem dX0_lexicon_18 : decode cX0_lexicon 18 = .ok (.aload_n 0, 1) := dk_42 (dk_at dksX0_lexicon_0 18 rfl rfl)
theorem dX0_lexicon_19 : decode cX0_lexicon 19 = .ok (.getfield 27, 3) := dk_180 0 27 (dk_at dksX0_lexicon_0 19 rfl rfl)
theorem dX0_lexicon_22 : decode cX0_lexicon 22 = .ok (.aaload, 1) := dk_50 (dk_at dksX0_lexicon_0 22 rfl rfl)
theorem dX0_lexicon_23 : decode cX0_lexicon 23 = .ok (.areturn, 1) := dk_176 (dk_at dksX0_lexicon_0 23 rfl rfl)
abbrev cX0_countAt : ByteArray := prog_1_method_14_code
def yX0_countAt : MethodName := ⟨RX0, "countAt", "(III)I"⟩
def dkwX0_countAt_0 : List UInt8 := [16, 7, 16, 8, 26, 27, 184, 0, 161, 104, 28, 96, 104, 172]
abbrev dktX0_countAt_0 : List UInt8 := dkwX0_countAt_0 ++ []
theorem dksX0_countAt_0 : cX0_countAt.data.toList.drop 0 = dktX0_countAt_0 := by decide +kernel
theorem dX0_countAt_0 : decode cX0_countAt 0 = .ok (.bipush 7, 2) := dk_16 7 (dk_at dksX0_countAt_0 0 rfl rfl)
theorem dX0_countAt_2 : decode cX0_countAt 2 = .ok (.bipush 8, 2) := dk_16 8 (dk_at dksX0_countAt_0 2 rfl rfl)
theorem dX0_countAt_4 : decode cX0_countAt 4 = .ok (.iload_n 0, 1) := dk_26 (dk_at dksX0_countAt_0 4 rfl rfl)
theorem dX0_countAt_5 : decode cX0_countAt 5 = .ok (.iload_n 1, 1) := dk_27 (dk_at dksX0_countAt_0 5 rfl rfl)
theorem dX0_countAt_6 : decode cX0_countAt 6 = .ok (.invokestatic 161, 3) := dk_184 0 161 (dk_at dksX0_countAt_0 6 rfl rfl)
theorem dX0_countAt_9 : decode cX0_countAt 9 = .ok (.imul, 1) := dk_104 (dk_at dksX0_countAt_0 9 rfl rfl)
theorem dX0_countAt_10 : decode cX0_countAt 10 = .ok (.iload_n 2, 1) := dk_28 (dk_at dksX0_countAt_0 10 rfl rfl)
theorem dX0_countAt_11 : decode cX0_countAt 11 = .ok (.iadd, 1) := dk_96 (dk_at dksX0_countAt_0 11 rfl rfl)
theorem dX0_countAt_12 : decode cX0_countAt 12 = .ok (.imul, 1) := dk_104 (dk_at dksX0_countAt_0 12 rfl rfl)
theorem dX0_countAt_13 : decode cX0_countAt 13 = .ok (.ireturn, 1) := dk_172 (dk_at dksX0_countAt_0 13 rfl rfl)
abbrev cX0_spanAt : ByteArray := prog_1_method_13_code
def yX0_spanAt : MethodName := ⟨RX0, "spanAt", "(II)I"⟩
def dkwX0_spanAt_0 : List UInt8 := [27, 27, 4, 96, 104, 5, 108, 26, 96, 172]
abbrev dktX0_spanAt_0 : List UInt8 := dkwX0_spanAt_0 ++ []
theorem dksX0_spanAt_0 : cX0_spanAt.data.toList.drop 0 = dktX0_spanAt_0 := by decide +kernel
theorem dX0_spanAt_0 : decode cX0_spanAt 0 = .ok (.iload_n 1, 1) := dk_27 (dk_at dksX0_spanAt_0 0 rfl rfl)
theorem dX0_spanAt_1 : decode cX0_spanAt 1 = .ok (.iload_n 1, 1) := dk_27 (dk_at dksX0_spanAt_0 1 rfl rfl)
theorem dX0_spanAt_2 : decode cX0_spanAt 2 = .ok (.iconst 1, 1) := dk_4 (dk_at dksX0_spanAt_0 2 rfl rfl)
theorem dX0_spanAt_3 : decode cX0_spanAt 3 = .ok (.iadd, 1) := dk_96 (dk_at dksX0_spanAt_0 3 rfl rfl)
theorem dX0_spanAt_4 : decode cX0_spanAt 4 = .ok (.imul, 1) := dk_104 (dk_at dksX0_spanAt_0 4 rfl rfl)
theorem dX0_spanAt_5 : decode cX0_spanAt 5 = .ok (.iconst 2, 1) := dk_5 (dk_at dksX0_spanAt_0 5 rfl rfl)
theorem dX0_spanAt_6 : decode cX0_spanAt 6 = .ok (.idiv, 1) := dk_108 (dk_at dksX0_spanAt_0 6 rfl rfl)
theorem dX0_spanAt_7 : decode cX0_spanAt 7 = .ok (.iload_n 0, 1) := dk_26 (dk_at dksX0_spanAt_0 7 rfl rfl)
theorem dX0_spanAt_8 : decode cX0_spanAt 8 = .ok (.iadd, 1) := dk_96 (dk_at dksX0_spanAt_0 8 rfl rfl)
theorem dX0_spanAt_9 : decode cX0_spanAt 9 = .ok (.ireturn, 1) := dk_172 (dk_at dksX0_spanAt_0 9 rfl rfl)
abbrev cX0_addWays : ByteArray := prog_1_method_17_code
def yX0_addWays : MethodName := ⟨RX0, "addWays", "(ILHeldTongue$Sense;III)V"⟩
def dkwX0_addWays_9 : List UInt8 := [184, 0, 182, 184, 0, 171, 132, 9, 1, 167, 255, 192, 177]
abbrev dktX0_addWays_9 : List UInt8 := dkwX0_addWays_9 ++ []
def dkwX0_addWays_8 : List UInt8 := [180, 0, 55, 21, 9, 4, 96, 21, 5, 44, 29, 21, 6, 4, 100, 182, 0, 175, 21, 6, 21, 8, 100]
abbrev dktX0_addWays_8 : List UInt8 := dkwX0_addWays_8 ++ dktX0_addWays_9
def dkwX0_addWays_7 : List UInt8 := [180, 0, 51, 27, 42, 180, 0, 55, 21, 4, 21, 9, 44, 29, 3, 182, 0, 175, 21, 8, 184, 0, 182, 42]
abbrev dktX0_addWays_7 : List UInt8 := dkwX0_addWays_7 ++ dktX0_addWays_8
def dkwX0_addWays_6 : List UInt8 := [160, 0, 7, 29, 167, 0, 4, 4, 54, 8, 21, 4, 54, 9, 21, 9, 21, 5, 162, 0, 63, 42]
abbrev dktX0_addWays_6 : List UInt8 := dkwX0_addWays_6 ++ dktX0_addWays_7
def dkwX0_addWays_5 : List UInt8 := [182, 0, 175, 21, 6, 184, 0, 182, 42, 180, 0, 58, 3, 184, 0, 171, 177, 44, 182, 0, 178, 6]
abbrev dktX0_addWays_5 : List UInt8 := dkwX0_addWays_5 ++ dktX0_addWays_6
def dkwX0_addWays_4 : List UInt8 := [21, 6, 8, 163, 0, 36, 42, 180, 0, 51, 27, 42, 180, 0, 55, 21, 4, 21, 5, 44, 29, 3]
abbrev dktX0_addWays_4 : List UInt8 := dkwX0_addWays_4 ++ dktX0_addWays_5
def dkwX0_addWays_3 : List UInt8 := [160, 0, 9, 132, 7, 1, 167, 255, 230, 21, 7, 21, 6, 160, 0, 50, 44, 182, 0, 178, 6, 160, 0, 9]
abbrev dktX0_addWays_3 : List UInt8 := dkwX0_addWays_3 ++ dktX0_addWays_4
def dkwX0_addWays_2 : List UInt8 := [54, 7, 21, 7, 21, 6, 162, 0, 25, 44, 29, 21, 7, 182, 0, 175, 44, 29, 3, 182, 0, 175]
abbrev dktX0_addWays_2 : List UInt8 := dkwX0_addWays_2 ++ dktX0_addWays_3
def dkwX0_addWays_1 : List UInt8 := [42, 180, 0, 58, 3, 42, 180, 0, 58, 3, 184, 0, 171, 177, 21, 4, 21, 5, 164, 0, 4, 177, 3]
abbrev dktX0_addWays_1 : List UInt8 := dkwX0_addWays_1 ++ dktX0_addWays_2
def dkwX0_addWays_0 : List UInt8 := [44, 29, 182, 0, 167, 54, 6, 21, 6, 154, 0, 29, 21, 4, 21, 5, 164, 0, 21, 42, 180, 0, 51, 27]
abbrev dktX0_addWays_0 : List UInt8 := dkwX0_addWays_0 ++ dktX0_addWays_1
theorem dksX0_addWays_0 : cX0_addWays.data.toList.drop 0 = dktX0_addWays_0 := by decide +kernel
theorem dksX0_addWays_1 : cX0_addWays.data.toList.drop 24 = dktX0_addWays_1 := dk_seg dksX0_addWays_0 24 rfl rfl
theorem dksX0_addWays_2 : cX0_addWays.data.toList.drop 47 = dktX0_addWays_2 := dk_seg dksX0_addWays_1 23 rfl rfl
theorem dksX0_addWays_3 : cX0_addWays.data.toList.drop 69 = dktX0_addWays_3 := dk_seg dksX0_addWays_2 22 rfl rfl
theorem dksX0_addWays_4 : cX0_addWays.data.toList.drop 93 = dktX0_addWays_4 := dk_seg dksX0_addWays_3 24 rfl rfl
theorem dksX0_addWays_5 : cX0_addWays.data.toList.drop 115 = dktX0_addWays_5 := dk_seg dksX0_addWays_4 22 rfl rfl
theorem dksX0_addWays_6 : cX0_addWays.data.toList.drop 137 = dktX0_addWays_6 := dk_seg dksX0_addWays_5 22 rfl rfl
theorem dksX0_addWays_7 : cX0_addWays.data.toList.drop 159 = dktX0_addWays_7 := dk_seg dksX0_addWays_6 22 rfl rfl
theorem dksX0_addWays_8 : cX0_addWays.data.toList.drop 183 = dktX0_addWays_8 := dk_seg dksX0_addWays_7 24 rfl rfl
theorem dksX0_addWays_9 : cX0_addWays.data.toList.drop 206 = dktX0_addWays_9 := dk_seg dksX0_addWays_8 23 rfl rfl
theorem dX0_addWays_0 : decode cX0_addWays 0 = .ok (.aload_n 2, 1) := dk_44 (dk_at dksX0_addWays_0 0 rfl rfl)
theorem dX0_addWays_1 : decode cX0_addWays 1 = .ok (.iload_n 3, 1) := dk_29 (dk_at dksX0_addWays_0 1 rfl rfl)
theorem dX0_addWays_2 : decode cX0_addWays 2 = .ok (.invokevirtual 167, 3) := dk_182 0 167 (dk_at dksX0_addWays_0 2 rfl rfl)
theorem dX0_addWays_5 : decode cX0_addWays 5 = .ok (.istore 6, 2) := dk_54 6 (dk_at dksX0_addWays_0 5 rfl rfl)
theorem dX0_addWays_7 : decode cX0_addWays 7 = .ok (.iload 6, 2) := dk_21 6 (dk_at dksX0_addWays_0 7 rfl rfl)
theorem dX0_addWays_9 : decode cX0_addWays 9 = .ok (.ifCond .ne 29, 3) := dk_154 0 29 (dk_at dksX0_addWays_0 9 rfl rfl)
theorem dX0_addWays_12 : decode cX0_addWays 12 = .ok (.iload 4, 2) := dk_21 4 (dk_at dksX0_addWays_0 12 rfl rfl)
theorem dX0_addWays_14 : decode cX0_addWays 14 = .ok (.iload 5, 2) := dk_21 5 (dk_at dksX0_addWays_0 14 rfl rfl)
theorem dX0_addWays_16 : decode cX0_addWays 16 = .ok (.if_icmp .le 21, 3) := dk_164 0 21 (dk_at dksX0_addWays_0 16 rfl rfl)
theorem dX0_addWays_19 : decode cX0_addWays 19 = .ok (.aload_n 0, 1) := dk_42 (dk_at dksX0_addWays_0 19 rfl rfl)
theorem dX0_addWays_20 : decode cX0_addWays 20 = .ok (.getfield 51, 3) := dk_180 0 51 (dk_at dksX0_addWays_0 20 rfl rfl)
theorem dX0_addWays_23 : decode cX0_addWays 23 = .ok (.iload_n 1, 1) := dk_27 (dk_at dksX0_addWays_0 23 rfl rfl)
theorem dX0_addWays_24 : decode cX0_addWays 24 = .ok (.aload_n 0, 1) := dk_42 (dk_at dksX0_addWays_1 0 rfl rfl)
theorem dX0_addWays_25 : decode cX0_addWays 25 = .ok (.getfield 58, 3) := dk_180 0 58 (dk_at dksX0_addWays_1 1 rfl rfl)
theorem dX0_addWays_28 : decode cX0_addWays 28 = .ok (.iconst 0, 1) := dk_3 (dk_at dksX0_addWays_1 4 rfl rfl)
theorem dX0_addWays_29 : decode cX0_addWays 29 = .ok (.aload_n 0, 1) := dk_42 (dk_at dksX0_addWays_1 5 rfl rfl)
theorem dX0_addWays_30 : decode cX0_addWays 30 = .ok (.getfield 58, 3) := dk_180 0 58 (dk_at dksX0_addWays_1 6 rfl rfl)
theorem dX0_addWays_33 : decode cX0_addWays 33 = .ok (.iconst 0, 1) := dk_3 (dk_at dksX0_addWays_1 9 rfl rfl)
theorem dX0_addWays_34 : decode cX0_addWays 34 = .ok (.invokestatic 171, 3) := dk_184 0 171 (dk_at dksX0_addWays_1 10 rfl rfl)
theorem dX0_addWays_37 : decode cX0_addWays 37 = .ok (.return_, 1) := dk_177 (dk_at dksX0_addWays_1 13 rfl rfl)
theorem dX0_addWays_38 : decode cX0_addWays 38 = .ok (.iload 4, 2) := dk_21 4 (dk_at dksX0_addWays_1 14 rfl rfl)
theorem dX0_addWays_40 : decode cX0_addWays 40 = .ok (.iload 5, 2) := dk_21 5 (dk_at dksX0_addWays_1 16 rfl rfl)
theorem dX0_addWays_42 : decode cX0_addWays 42 = .ok (.if_icmp .le 4, 3) := dk_164 0 4 (dk_at dksX0_addWays_1 18 rfl rfl)
theorem dX0_addWays_45 : decode cX0_addWays 45 = .ok (.return_, 1) := dk_177 (dk_at dksX0_addWays_1 21 rfl rfl)
theorem dX0_addWays_46 : decode cX0_addWays 46 = .ok (.iconst 0, 1) := dk_3 (dk_at dksX0_addWays_1 22 rfl rfl)
theorem dX0_addWays_47 : decode cX0_addWays 47 = .ok (.istore 7, 2) := dk_54 7 (dk_at dksX0_addWays_2 0 rfl rfl)
theorem dX0_addWays_49 : decode cX0_addWays 49 = .ok (.iload 7, 2) := dk_21 7 (dk_at dksX0_addWays_2 2 rfl rfl)
theorem dX0_addWays_51 : decode cX0_addWays 51 = .ok (.iload 6, 2) := dk_21 6 (dk_at dksX0_addWays_2 4 rfl rfl)
theorem dX0_addWays_53 : decode cX0_addWays 53 = .ok (.if_icmp .ge 25, 3) := dk_162 0 25 (dk_at dksX0_addWays_2 6 rfl rfl)
theorem dX0_addWays_56 : decode cX0_addWays 56 = .ok (.aload_n 2, 1) := dk_44 (dk_at dksX0_addWays_2 9 rfl rfl)
theorem dX0_addWays_57 : decode cX0_addWays 57 = .ok (.iload_n 3, 1) := dk_29 (dk_at dksX0_addWays_2 10 rfl rfl)
theorem dX0_addWays_58 : decode cX0_addWays 58 = .ok (.iload 7, 2) := dk_21 7 (dk_at dksX0_addWays_2 11 rfl rfl)
theorem dX0_addWays_60 : decode cX0_addWays 60 = .ok (.invokevirtual 175, 3) := dk_182 0 175 (dk_at dksX0_addWays_2 13 rfl rfl)
theorem dX0_addWays_63 : decode cX0_addWays 63 = .ok (.aload_n 2, 1) := dk_44 (dk_at dksX0_addWays_2 16 rfl rfl)
theorem dX0_addWays_64 : decode cX0_addWays 64 = .ok (.iload_n 3, 1) := dk_29 (dk_at dksX0_addWays_2 17 rfl rfl)
theorem dX0_addWays_65 : decode cX0_addWays 65 = .ok (.iconst 0, 1) := dk_3 (dk_at dksX0_addWays_2 18 rfl rfl)
theorem dX0_addWays_66 : decode cX0_addWays 66 = .ok (.invokevirtual 175, 3) := dk_182 0 175 (dk_at dksX0_addWays_2 19 rfl rfl)
theorem dX0_addWays_69 : decode cX0_addWays 69 = .ok (.if_icmp .ne 9, 3) := dk_160 0 9 (dk_at dksX0_addWays_3 0 rfl rfl)
theorem dX0_addWays_72 : decode cX0_addWays 72 = .ok (.iinc 7 1, 3) := dk_132 7 1 (dk_at dksX0_addWays_3 3 rfl rfl)
theorem dX0_addWays_75 : decode cX0_addWays 75 = .ok (.goto (-26), 3) := dk_167 255 230 (dk_at dksX0_addWays_3 6 rfl rfl)
theorem dX0_addWays_78 : decode cX0_addWays 78 = .ok (.iload 7, 2) := dk_21 7 (dk_at dksX0_addWays_3 9 rfl rfl)
theorem dX0_addWays_80 : decode cX0_addWays 80 = .ok (.iload 6, 2) := dk_21 6 (dk_at dksX0_addWays_3 11 rfl rfl)
theorem dX0_addWays_82 : decode cX0_addWays 82 = .ok (.if_icmp .ne 50, 3) := dk_160 0 50 (dk_at dksX0_addWays_3 13 rfl rfl)
theorem dX0_addWays_85 : decode cX0_addWays 85 = .ok (.aload_n 2, 1) := dk_44 (dk_at dksX0_addWays_3 16 rfl rfl)
theorem dX0_addWays_86 : decode cX0_addWays 86 = .ok (.invokevirtual 178, 3) := dk_182 0 178 (dk_at dksX0_addWays_3 17 rfl rfl)
theorem dX0_addWays_89 : decode cX0_addWays 89 = .ok (.iconst 3, 1) := dk_6 (dk_at dksX0_addWays_3 20 rfl rfl)
theorem dX0_addWays_90 : decode cX0_addWays 90 = .ok (.if_icmp .ne 9, 3) := dk_160 0 9 (dk_at dksX0_addWays_3 21 rfl rfl)
theorem dX0_addWays_93 : decode cX0_addWays 93 = .ok (.iload 6, 2) := dk_21 6 (dk_at dksX0_addWays_4 0 rfl rfl)
theorem dX0_addWays_95 : decode cX0_addWays 95 = .ok (.iconst 5, 1) := dk_8 (dk_at dksX0_addWays_4 2 rfl rfl)
theorem dX0_addWays_96 : decode cX0_addWays 96 = .ok (.if_icmp .gt 36, 3) := dk_163 0 36 (dk_at dksX0_addWays_4 3 rfl rfl)
theorem dX0_addWays_99 : decode cX0_addWays 99 = .ok (.aload_n 0, 1) := dk_42 (dk_at dksX0_addWays_4 6 rfl rfl)
theorem dX0_addWays_100 : decode cX0_addWays 100 = .ok (.getfield 51, 3) := dk_180 0 51 (dk_at dksX0_addWays_4 7 rfl rfl)
theorem dX0_addWays_103 : decode cX0_addWays 103 = .ok (.iload_n 1, 1) := dk_27 (dk_at dksX0_addWays_4 10 rfl rfl)
theorem dX0_addWays_104 : decode cX0_addWays 104 = .ok (.aload_n 0, 1) := dk_42 (dk_at dksX0_addWays_4 11 rfl rfl)
theorem dX0_addWays_105 : decode cX0_addWays 105 = .ok (.getfield 55, 3) := dk_180 0 55 (dk_at dksX0_addWays_4 12 rfl rfl)
theorem dX0_addWays_108 : decode cX0_addWays 108 = .ok (.iload 4, 2) := dk_21 4 (dk_at dksX0_addWays_4 15 rfl rfl)
theorem dX0_addWays_110 : decode cX0_addWays 110 = .ok (.iload 5, 2) := dk_21 5 (dk_at dksX0_addWays_4 17 rfl rfl)
theorem dX0_addWays_112 : decode cX0_addWays 112 = .ok (.aload_n 2, 1) := dk_44 (dk_at dksX0_addWays_4 19 rfl rfl)
theorem dX0_addWays_113 : decode cX0_addWays 113 = .ok (.iload_n 3, 1) := dk_29 (dk_at dksX0_addWays_4 20 rfl rfl)
theorem dX0_addWays_114 : decode cX0_addWays 114 = .ok (.iconst 0, 1) := dk_3 (dk_at dksX0_addWays_4 21 rfl rfl)
theorem dX0_addWays_115 : decode cX0_addWays 115 = .ok (.invokevirtual 175, 3) := dk_182 0 175 (dk_at dksX0_addWays_5 0 rfl rfl)
theorem dX0_addWays_118 : decode cX0_addWays 118 = .ok (.iload 6, 2) := dk_21 6 (dk_at dksX0_addWays_5 3 rfl rfl)
theorem dX0_addWays_120 : decode cX0_addWays 120 = .ok (.invokestatic 182, 3) := dk_184 0 182 (dk_at dksX0_addWays_5 5 rfl rfl)
theorem dX0_addWays_123 : decode cX0_addWays 123 = .ok (.aload_n 0, 1) := dk_42 (dk_at dksX0_addWays_5 8 rfl rfl)
theorem dX0_addWays_124 : decode cX0_addWays 124 = .ok (.getfield 58, 3) := dk_180 0 58 (dk_at dksX0_addWays_5 9 rfl rfl)
theorem dX0_addWays_127 : decode cX0_addWays 127 = .ok (.iconst 0, 1) := dk_3 (dk_at dksX0_addWays_5 12 rfl rfl)
theorem dX0_addWays_128 : decode cX0_addWays 128 = .ok (.invokestatic 171, 3) := dk_184 0 171 (dk_at dksX0_addWays_5 13 rfl rfl)
theorem dX0_addWays_131 : decode cX0_addWays 131 = .ok (.return_, 1) := dk_177 (dk_at dksX0_addWays_5 16 rfl rfl)
theorem dX0_addWays_132 : decode cX0_addWays 132 = .ok (.aload_n 2, 1) := dk_44 (dk_at dksX0_addWays_5 17 rfl rfl)
theorem dX0_addWays_133 : decode cX0_addWays 133 = .ok (.invokevirtual 178, 3) := dk_182 0 178 (dk_at dksX0_addWays_5 18 rfl rfl)
theorem dX0_addWays_136 : decode cX0_addWays 136 = .ok (.iconst 3, 1) := dk_6 (dk_at dksX0_addWays_5 21 rfl rfl)
theorem dX0_addWays_137 : decode cX0_addWays 137 = .ok (.if_icmp .ne 7, 3) := dk_160 0 7 (dk_at dksX0_addWays_6 0 rfl rfl)
theorem dX0_addWays_140 : decode cX0_addWays 140 = .ok (.iload_n 3, 1) := dk_29 (dk_at dksX0_addWays_6 3 rfl rfl)
theorem dX0_addWays_141 : decode cX0_addWays 141 = .ok (.goto 4, 3) := dk_167 0 4 (dk_at dksX0_addWays_6 4 rfl rfl)
theorem dX0_addWays_144 : decode cX0_addWays 144 = .ok (.iconst 1, 1) := dk_4 (dk_at dksX0_addWays_6 7 rfl rfl)
theorem dX0_addWays_145 : decode cX0_addWays 145 = .ok (.istore 8, 2) := dk_54 8 (dk_at dksX0_addWays_6 8 rfl rfl)
theorem dX0_addWays_147 : decode cX0_addWays 147 = .ok (.iload 4, 2) := dk_21 4 (dk_at dksX0_addWays_6 10 rfl rfl)
theorem dX0_addWays_149 : decode cX0_addWays 149 = .ok (.istore 9, 2) := dk_54 9 (dk_at dksX0_addWays_6 12 rfl rfl)
theorem dX0_addWays_151 : decode cX0_addWays 151 = .ok (.iload 9, 2) := dk_21 9 (dk_at dksX0_addWays_6 14 rfl rfl)
theorem dX0_addWays_153 : decode cX0_addWays 153 = .ok (.iload 5, 2) := dk_21 5 (dk_at dksX0_addWays_6 16 rfl rfl)
theorem dX0_addWays_155 : decode cX0_addWays 155 = .ok (.if_icmp .ge 63, 3) := dk_162 0 63 (dk_at dksX0_addWays_6 18 rfl rfl)
theorem dX0_addWays_158 : decode cX0_addWays 158 = .ok (.aload_n 0, 1) := dk_42 (dk_at dksX0_addWays_6 21 rfl rfl)
theorem dX0_addWays_159 : decode cX0_addWays 159 = .ok (.getfield 51, 3) := dk_180 0 51 (dk_at dksX0_addWays_7 0 rfl rfl)
theorem dX0_addWays_162 : decode cX0_addWays 162 = .ok (.iload_n 1, 1) := dk_27 (dk_at dksX0_addWays_7 3 rfl rfl)
theorem dX0_addWays_163 : decode cX0_addWays 163 = .ok (.aload_n 0, 1) := dk_42 (dk_at dksX0_addWays_7 4 rfl rfl)
theorem dX0_addWays_164 : decode cX0_addWays 164 = .ok (.getfield 55, 3) := dk_180 0 55 (dk_at dksX0_addWays_7 5 rfl rfl)
theorem dX0_addWays_167 : decode cX0_addWays 167 = .ok (.iload 4, 2) := dk_21 4 (dk_at dksX0_addWays_7 8 rfl rfl)
theorem dX0_addWays_169 : decode cX0_addWays 169 = .ok (.iload 9, 2) := dk_21 9 (dk_at dksX0_addWays_7 10 rfl rfl)
theorem dX0_addWays_171 : decode cX0_addWays 171 = .ok (.aload_n 2, 1) := dk_44 (dk_at dksX0_addWays_7 12 rfl rfl)
theorem dX0_addWays_172 : decode cX0_addWays 172 = .ok (.iload_n 3, 1) := dk_29 (dk_at dksX0_addWays_7 13 rfl rfl)
theorem dX0_addWays_173 : decode cX0_addWays 173 = .ok (.iconst 0, 1) := dk_3 (dk_at dksX0_addWays_7 14 rfl rfl)
theorem dX0_addWays_174 : decode cX0_addWays 174 = .ok (.invokevirtual 175, 3) := dk_182 0 175 (dk_at dksX0_addWays_7 15 rfl rfl)
theorem dX0_addWays_177 : decode cX0_addWays 177 = .ok (.iload 8, 2) := dk_21 8 (dk_at dksX0_addWays_7 18 rfl rfl)
theorem dX0_addWays_179 : decode cX0_addWays 179 = .ok (.invokestatic 182, 3) := dk_184 0 182 (dk_at dksX0_addWays_7 20 rfl rfl)
theorem dX0_addWays_182 : decode cX0_addWays 182 = .ok (.aload_n 0, 1) := dk_42 (dk_at dksX0_addWays_7 23 rfl rfl)
theorem dX0_addWays_183 : decode cX0_addWays 183 = .ok (.getfield 55, 3) := dk_180 0 55 (dk_at dksX0_addWays_8 0 rfl rfl)
theorem dX0_addWays_186 : decode cX0_addWays 186 = .ok (.iload 9, 2) := dk_21 9 (dk_at dksX0_addWays_8 3 rfl rfl)
theorem dX0_addWays_188 : decode cX0_addWays 188 = .ok (.iconst 1, 1) := dk_4 (dk_at dksX0_addWays_8 5 rfl rfl)
theorem dX0_addWays_189 : decode cX0_addWays 189 = .ok (.iadd, 1) := dk_96 (dk_at dksX0_addWays_8 6 rfl rfl)
theorem dX0_addWays_190 : decode cX0_addWays 190 = .ok (.iload 5, 2) := dk_21 5 (dk_at dksX0_addWays_8 7 rfl rfl)
theorem dX0_addWays_192 : decode cX0_addWays 192 = .ok (.aload_n 2, 1) := dk_44 (dk_at dksX0_addWays_8 9 rfl rfl)
theorem dX0_addWays_193 : decode cX0_addWays 193 = .ok (.iload_n 3, 1) := dk_29 (dk_at dksX0_addWays_8 10 rfl rfl)
theorem dX0_addWays_194 : decode cX0_addWays 194 = .ok (.iload 6, 2) := dk_21 6 (dk_at dksX0_addWays_8 11 rfl rfl)
theorem dX0_addWays_196 : decode cX0_addWays 196 = .ok (.iconst 1, 1) := dk_4 (dk_at dksX0_addWays_8 13 rfl rfl)
theorem dX0_addWays_197 : decode cX0_addWays 197 = .ok (.isub, 1) := dk_100 (dk_at dksX0_addWays_8 14 rfl rfl)
theorem dX0_addWays_198 : decode cX0_addWays 198 = .ok (.invokevirtual 175, 3) := dk_182 0 175 (dk_at dksX0_addWays_8 15 rfl rfl)
theorem dX0_addWays_201 : decode cX0_addWays 201 = .ok (.iload 6, 2) := dk_21 6 (dk_at dksX0_addWays_8 18 rfl rfl)
theorem dX0_addWays_203 : decode cX0_addWays 203 = .ok (.iload 8, 2) := dk_21 8 (dk_at dksX0_addWays_8 20 rfl rfl)
theorem dX0_addWays_205 : decode cX0_addWays 205 = .ok (.isub, 1) := dk_100 (dk_at dksX0_addWays_8 22 rfl rfl)
theorem dX0_addWays_206 : decode cX0_addWays 206 = .ok (.invokestatic 182, 3) := dk_184 0 182 (dk_at dksX0_addWays_9 0 rfl rfl)
theorem dX0_addWays_209 : decode cX0_addWays 209 = .ok (.invokestatic 171, 3) := dk_184 0 171 (dk_at dksX0_addWays_9 3 rfl rfl)
theorem dX0_addWays_212 : decode cX0_addWays 212 = .ok (.iinc 9 1, 3) := dk_132 9 1 (dk_at dksX0_addWays_9 6 rfl rfl)
theorem dX0_addWays_215 : decode cX0_addWays 215 = .ok (.goto (-64), 3) := dk_167 255 192 (dk_at dksX0_addWays_9 9 rfl rfl)
theorem dX0_addWays_218 : decode cX0_addWays 218 = .ok (.return_, 1) := dk_177 (dk_at dksX0_addWays_9 12 rfl rfl)
abbrev cX0_add : ByteArray := prog_1_method_16_code
def yX0_add : MethodName := ⟨RX0, "add", "([II[II[II)V"⟩
def dkwX0_add_4 : List UInt8 := [132, 9, 1, 167, 255, 186, 132, 6, 1, 167, 255, 155, 177]
abbrev dktX0_add_4 : List UInt8 := dkwX0_add_4 ++ []
def dkwX0_add_3 : List UInt8 := [42, 27, 21, 6, 96, 21, 9, 96, 22, 10, 20, 0, 165, 113, 136, 79, 22, 10, 20, 0, 165, 109, 55, 7]
abbrev dktX0_add_3 : List UInt8 := dkwX0_add_3 ++ dktX0_add_4
def dkwX0_add_2 : List UInt8 := [133, 22, 7, 97, 44, 29, 21, 6, 96, 46, 133, 25, 4, 21, 5, 21, 9, 96, 46, 133, 105, 97, 55, 10]
abbrev dktX0_add_2 : List UInt8 := dkwX0_add_2 ++ dktX0_add_3
def dkwX0_add_1 : List UInt8 := [55, 7, 3, 54, 9, 21, 6, 21, 9, 96, 16, 7, 162, 0, 66, 42, 27, 21, 6, 96, 21, 9, 96, 46]
abbrev dktX0_add_1 : List UInt8 := dkwX0_add_1 ++ dktX0_add_2
def dkwX0_add_0 : List UInt8 := [3, 54, 6, 21, 6, 16, 7, 162, 0, 100, 44, 29, 21, 6, 96, 46, 154, 0, 6, 167, 0, 82, 9]
abbrev dktX0_add_0 : List UInt8 := dkwX0_add_0 ++ dktX0_add_1
theorem dksX0_add_0 : cX0_add.data.toList.drop 0 = dktX0_add_0 := by decide +kernel
theorem dksX0_add_1 : cX0_add.data.toList.drop 23 = dktX0_add_1 := dk_seg dksX0_add_0 23 rfl rfl
theorem dksX0_add_2 : cX0_add.data.toList.drop 47 = dktX0_add_2 := dk_seg dksX0_add_1 24 rfl rfl
theorem dksX0_add_3 : cX0_add.data.toList.drop 71 = dktX0_add_3 := dk_seg dksX0_add_2 24 rfl rfl
theorem dksX0_add_4 : cX0_add.data.toList.drop 95 = dktX0_add_4 := dk_seg dksX0_add_3 24 rfl rfl
theorem dX0_add_0 : decode cX0_add 0 = .ok (.iconst 0, 1) := dk_3 (dk_at dksX0_add_0 0 rfl rfl)
theorem dX0_add_1 : decode cX0_add 1 = .ok (.istore 6, 2) := dk_54 6 (dk_at dksX0_add_0 1 rfl rfl)
theorem dX0_add_3 : decode cX0_add 3 = .ok (.iload 6, 2) := dk_21 6 (dk_at dksX0_add_0 3 rfl rfl)
theorem dX0_add_5 : decode cX0_add 5 = .ok (.bipush 7, 2) := dk_16 7 (dk_at dksX0_add_0 5 rfl rfl)
theorem dX0_add_7 : decode cX0_add 7 = .ok (.if_icmp .ge 100, 3) := dk_162 0 100 (dk_at dksX0_add_0 7 rfl rfl)
theorem dX0_add_10 : decode cX0_add 10 = .ok (.aload_n 2, 1) := dk_44 (dk_at dksX0_add_0 10 rfl rfl)
theorem dX0_add_11 : decode cX0_add 11 = .ok (.iload_n 3, 1) := dk_29 (dk_at dksX0_add_0 11 rfl rfl)
theorem dX0_add_12 : decode cX0_add 12 = .ok (.iload 6, 2) := dk_21 6 (dk_at dksX0_add_0 12 rfl rfl)
theorem dX0_add_14 : decode cX0_add 14 = .ok (.iadd, 1) := dk_96 (dk_at dksX0_add_0 14 rfl rfl)
theorem dX0_add_15 : decode cX0_add 15 = .ok (.iaload, 1) := dk_46 (dk_at dksX0_add_0 15 rfl rfl)
theorem dX0_add_16 : decode cX0_add 16 = .ok (.ifCond .ne 6, 3) := dk_154 0 6 (dk_at dksX0_add_0 16 rfl rfl)
theorem dX0_add_19 : decode cX0_add 19 = .ok (.goto 82, 3) := dk_167 0 82 (dk_at dksX0_add_0 19 rfl rfl)
theorem dX0_add_22 : decode cX0_add 22 = .ok (.lconst 0, 1) := dk_9 (dk_at dksX0_add_0 22 rfl rfl)
theorem dX0_add_23 : decode cX0_add 23 = .ok (.lstore 7, 2) := dk_55 7 (dk_at dksX0_add_1 0 rfl rfl)
theorem dX0_add_25 : decode cX0_add 25 = .ok (.iconst 0, 1) := dk_3 (dk_at dksX0_add_1 2 rfl rfl)
theorem dX0_add_26 : decode cX0_add 26 = .ok (.istore 9, 2) := dk_54 9 (dk_at dksX0_add_1 3 rfl rfl)
theorem dX0_add_28 : decode cX0_add 28 = .ok (.iload 6, 2) := dk_21 6 (dk_at dksX0_add_1 5 rfl rfl)
theorem dX0_add_30 : decode cX0_add 30 = .ok (.iload 9, 2) := dk_21 9 (dk_at dksX0_add_1 7 rfl rfl)
theorem dX0_add_32 : decode cX0_add 32 = .ok (.iadd, 1) := dk_96 (dk_at dksX0_add_1 9 rfl rfl)
theorem dX0_add_33 : decode cX0_add 33 = .ok (.bipush 7, 2) := dk_16 7 (dk_at dksX0_add_1 10 rfl rfl)
theorem dX0_add_35 : decode cX0_add 35 = .ok (.if_icmp .ge 66, 3) := dk_162 0 66 (dk_at dksX0_add_1 12 rfl rfl)
theorem dX0_add_38 : decode cX0_add 38 = .ok (.aload_n 0, 1) := dk_42 (dk_at dksX0_add_1 15 rfl rfl)
theorem dX0_add_39 : decode cX0_add 39 = .ok (.iload_n 1, 1) := dk_27 (dk_at dksX0_add_1 16 rfl rfl)
theorem dX0_add_40 : decode cX0_add 40 = .ok (.iload 6, 2) := dk_21 6 (dk_at dksX0_add_1 17 rfl rfl)
theorem dX0_add_42 : decode cX0_add 42 = .ok (.iadd, 1) := dk_96 (dk_at dksX0_add_1 19 rfl rfl)
theorem dX0_add_43 : decode cX0_add 43 = .ok (.iload 9, 2) := dk_21 9 (dk_at dksX0_add_1 20 rfl rfl)
theorem dX0_add_45 : decode cX0_add 45 = .ok (.iadd, 1) := dk_96 (dk_at dksX0_add_1 22 rfl rfl)
theorem dX0_add_46 : decode cX0_add 46 = .ok (.iaload, 1) := dk_46 (dk_at dksX0_add_1 23 rfl rfl)
theorem dX0_add_47 : decode cX0_add 47 = .ok (.i2l, 1) := dk_133 (dk_at dksX0_add_2 0 rfl rfl)
theorem dX0_add_48 : decode cX0_add 48 = .ok (.lload 7, 2) := dk_22 7 (dk_at dksX0_add_2 1 rfl rfl)
theorem dX0_add_50 : decode cX0_add 50 = .ok (.ladd, 1) := dk_97 (dk_at dksX0_add_2 3 rfl rfl)
theorem dX0_add_51 : decode cX0_add 51 = .ok (.aload_n 2, 1) := dk_44 (dk_at dksX0_add_2 4 rfl rfl)
theorem dX0_add_52 : decode cX0_add 52 = .ok (.iload_n 3, 1) := dk_29 (dk_at dksX0_add_2 5 rfl rfl)
theorem dX0_add_53 : decode cX0_add 53 = .ok (.iload 6, 2) := dk_21 6 (dk_at dksX0_add_2 6 rfl rfl)
theorem dX0_add_55 : decode cX0_add 55 = .ok (.iadd, 1) := dk_96 (dk_at dksX0_add_2 8 rfl rfl)
theorem dX0_add_56 : decode cX0_add 56 = .ok (.iaload, 1) := dk_46 (dk_at dksX0_add_2 9 rfl rfl)
theorem dX0_add_57 : decode cX0_add 57 = .ok (.i2l, 1) := dk_133 (dk_at dksX0_add_2 10 rfl rfl)
theorem dX0_add_58 : decode cX0_add 58 = .ok (.aload 4, 2) := dk_25 4 (dk_at dksX0_add_2 11 rfl rfl)
theorem dX0_add_60 : decode cX0_add 60 = .ok (.iload 5, 2) := dk_21 5 (dk_at dksX0_add_2 13 rfl rfl)
theorem dX0_add_62 : decode cX0_add 62 = .ok (.iload 9, 2) := dk_21 9 (dk_at dksX0_add_2 15 rfl rfl)
theorem dX0_add_64 : decode cX0_add 64 = .ok (.iadd, 1) := dk_96 (dk_at dksX0_add_2 17 rfl rfl)
theorem dX0_add_65 : decode cX0_add 65 = .ok (.iaload, 1) := dk_46 (dk_at dksX0_add_2 18 rfl rfl)
theorem dX0_add_66 : decode cX0_add 66 = .ok (.i2l, 1) := dk_133 (dk_at dksX0_add_2 19 rfl rfl)
theorem dX0_add_67 : decode cX0_add 67 = .ok (.lmul, 1) := dk_105 (dk_at dksX0_add_2 20 rfl rfl)
theorem dX0_add_68 : decode cX0_add 68 = .ok (.ladd, 1) := dk_97 (dk_at dksX0_add_2 21 rfl rfl)
theorem dX0_add_69 : decode cX0_add 69 = .ok (.lstore 10, 2) := dk_55 10 (dk_at dksX0_add_2 22 rfl rfl)
theorem dX0_add_71 : decode cX0_add 71 = .ok (.aload_n 0, 1) := dk_42 (dk_at dksX0_add_3 0 rfl rfl)
theorem dX0_add_72 : decode cX0_add 72 = .ok (.iload_n 1, 1) := dk_27 (dk_at dksX0_add_3 1 rfl rfl)
theorem dX0_add_73 : decode cX0_add 73 = .ok (.iload 6, 2) := dk_21 6 (dk_at dksX0_add_3 2 rfl rfl)
theorem dX0_add_75 : decode cX0_add 75 = .ok (.iadd, 1) := dk_96 (dk_at dksX0_add_3 4 rfl rfl)
theorem dX0_add_76 : decode cX0_add 76 = .ok (.iload 9, 2) := dk_21 9 (dk_at dksX0_add_3 5 rfl rfl)
theorem dX0_add_78 : decode cX0_add 78 = .ok (.iadd, 1) := dk_96 (dk_at dksX0_add_3 7 rfl rfl)
theorem dX0_add_79 : decode cX0_add 79 = .ok (.lload 10, 2) := dk_22 10 (dk_at dksX0_add_3 8 rfl rfl)
theorem dX0_add_81 : decode cX0_add 81 = .ok (.ldc2_w 165, 3) := dk_20 0 165 (dk_at dksX0_add_3 10 rfl rfl)
theorem dX0_add_84 : decode cX0_add 84 = .ok (.lrem, 1) := dk_113 (dk_at dksX0_add_3 13 rfl rfl)
theorem dX0_add_85 : decode cX0_add 85 = .ok (.l2i, 1) := dk_136 (dk_at dksX0_add_3 14 rfl rfl)
theorem dX0_add_86 : decode cX0_add 86 = .ok (.iastore, 1) := dk_79 (dk_at dksX0_add_3 15 rfl rfl)
theorem dX0_add_87 : decode cX0_add 87 = .ok (.lload 10, 2) := dk_22 10 (dk_at dksX0_add_3 16 rfl rfl)
theorem dX0_add_89 : decode cX0_add 89 = .ok (.ldc2_w 165, 3) := dk_20 0 165 (dk_at dksX0_add_3 18 rfl rfl)
theorem dX0_add_92 : decode cX0_add 92 = .ok (.ldiv, 1) := dk_109 (dk_at dksX0_add_3 21 rfl rfl)
theorem dX0_add_93 : decode cX0_add 93 = .ok (.lstore 7, 2) := dk_55 7 (dk_at dksX0_add_3 22 rfl rfl)
theorem dX0_add_95 : decode cX0_add 95 = .ok (.iinc 9 1, 3) := dk_132 9 1 (dk_at dksX0_add_4 0 rfl rfl)
theorem dX0_add_98 : decode cX0_add 98 = .ok (.goto (-70), 3) := dk_167 255 186 (dk_at dksX0_add_4 3 rfl rfl)
theorem dX0_add_101 : decode cX0_add 101 = .ok (.iinc 6 1, 3) := dk_132 6 1 (dk_at dksX0_add_4 6 rfl rfl)
theorem dX0_add_104 : decode cX0_add 104 = .ok (.goto (-101), 3) := dk_167 255 155 (dk_at dksX0_add_4 9 rfl rfl)
theorem dX0_add_107 : decode cX0_add 107 = .ok (.return_, 1) := dk_177 (dk_at dksX0_add_4 12 rfl rfl)
abbrev cX0_rowAt : ByteArray := prog_1_method_15_code
def yX0_rowAt : MethodName := ⟨RX0, "rowAt", "(IIII)I"⟩
def dkwX0_rowAt_0 : List UInt8 := [16, 7, 8, 16, 8, 26, 27, 184, 0, 161, 104, 28, 96, 104, 29, 96, 4, 100, 104, 172]
abbrev dktX0_rowAt_0 : List UInt8 := dkwX0_rowAt_0 ++ []
theorem dksX0_rowAt_0 : cX0_rowAt.data.toList.drop 0 = dktX0_rowAt_0 := by decide +kernel
theorem dX0_rowAt_0 : decode cX0_rowAt 0 = .ok (.bipush 7, 2) := dk_16 7 (dk_at dksX0_rowAt_0 0 rfl rfl)
theorem dX0_rowAt_2 : decode cX0_rowAt 2 = .ok (.iconst 5, 1) := dk_8 (dk_at dksX0_rowAt_0 2 rfl rfl)
theorem dX0_rowAt_3 : decode cX0_rowAt 3 = .ok (.bipush 8, 2) := dk_16 8 (dk_at dksX0_rowAt_0 3 rfl rfl)
theorem dX0_rowAt_5 : decode cX0_rowAt 5 = .ok (.iload_n 0, 1) := dk_26 (dk_at dksX0_rowAt_0 5 rfl rfl)
theorem dX0_rowAt_6 : decode cX0_rowAt 6 = .ok (.iload_n 1, 1) := dk_27 (dk_at dksX0_rowAt_0 6 rfl rfl)
theorem dX0_rowAt_7 : decode cX0_rowAt 7 = .ok (.invokestatic 161, 3) := dk_184 0 161 (dk_at dksX0_rowAt_0 7 rfl rfl)
theorem dX0_rowAt_10 : decode cX0_rowAt 10 = .ok (.imul, 1) := dk_104 (dk_at dksX0_rowAt_0 10 rfl rfl)
theorem dX0_rowAt_11 : decode cX0_rowAt 11 = .ok (.iload_n 2, 1) := dk_28 (dk_at dksX0_rowAt_0 11 rfl rfl)
theorem dX0_rowAt_12 : decode cX0_rowAt 12 = .ok (.iadd, 1) := dk_96 (dk_at dksX0_rowAt_0 12 rfl rfl)
theorem dX0_rowAt_13 : decode cX0_rowAt 13 = .ok (.imul, 1) := dk_104 (dk_at dksX0_rowAt_0 13 rfl rfl)
theorem dX0_rowAt_14 : decode cX0_rowAt 14 = .ok (.iload_n 3, 1) := dk_29 (dk_at dksX0_rowAt_0 14 rfl rfl)
theorem dX0_rowAt_15 : decode cX0_rowAt 15 = .ok (.iadd, 1) := dk_96 (dk_at dksX0_rowAt_0 15 rfl rfl)
theorem dX0_rowAt_16 : decode cX0_rowAt 16 = .ok (.iconst 1, 1) := dk_4 (dk_at dksX0_rowAt_0 16 rfl rfl)
theorem dX0_rowAt_17 : decode cX0_rowAt 17 = .ok (.isub, 1) := dk_100 (dk_at dksX0_rowAt_0 17 rfl rfl)
theorem dX0_rowAt_18 : decode cX0_rowAt 18 = .ok (.imul, 1) := dk_104 (dk_at dksX0_rowAt_0 18 rfl rfl)
theorem dX0_rowAt_19 : decode cX0_rowAt 19 = .ok (.ireturn, 1) := dk_172 (dk_at dksX0_rowAt_0 19 rfl rfl)
abbrev cX0_span : ByteArray := prog_1_method_22_code
def yX0_span : MethodName := ⟨RX0, "span", "(II)I"⟩
def dkwX0_span_3 : List UInt8 := [132, 4, 1, 167, 255, 222, 29, 172]
abbrev dktX0_span_3 : List UInt8 := dkwX0_span_3 ++ []
def dkwX0_span_2 : List UInt8 := [29, 42, 27, 28, 21, 4, 182, 0, 215, 9, 148, 158, 0, 10, 4, 21, 4, 120, 167, 0, 4, 3, 128, 62]
abbrev dktX0_span_2 : List UInt8 := dkwX0_span_2 ++ dktX0_span_3
def dkwX0_span_1 : List UInt8 := [184, 0, 130, 154, 0, 5, 2, 172, 42, 182, 0, 219, 3, 62, 3, 54, 4, 21, 4, 16, 8, 162, 0, 33]
abbrev dktX0_span_1 : List UInt8 := dkwX0_span_1 ++ dktX0_span_2
def dkwX0_span_0 : List UInt8 := [27, 3, 42, 180, 0, 158, 4, 100, 184, 0, 130, 153, 0, 17, 28, 27, 42, 180, 0, 158, 4, 100]
abbrev dktX0_span_0 : List UInt8 := dkwX0_span_0 ++ dktX0_span_1
theorem dksX0_span_0 : cX0_span.data.toList.drop 0 = dktX0_span_0 := by decide +kernel
theorem dksX0_span_1 : cX0_span.data.toList.drop 22 = dktX0_span_1 := dk_seg dksX0_span_0 22 rfl rfl
theorem dksX0_span_2 : cX0_span.data.toList.drop 46 = dktX0_span_2 := dk_seg dksX0_span_1 24 rfl rfl
theorem dksX0_span_3 : cX0_span.data.toList.drop 70 = dktX0_span_3 := dk_seg dksX0_span_2 24 rfl rfl
theorem dX0_span_0 : decode cX0_span 0 = .ok (.iload_n 1, 1) := dk_27 (dk_at dksX0_span_0 0 rfl rfl)
theorem dX0_span_1 : decode cX0_span 1 = .ok (.iconst 0, 1) := dk_3 (dk_at dksX0_span_0 1 rfl rfl)
theorem dX0_span_2 : decode cX0_span 2 = .ok (.aload_n 0, 1) := dk_42 (dk_at dksX0_span_0 2 rfl rfl)
theorem dX0_span_3 : decode cX0_span 3 = .ok (.getfield 158, 3) := dk_180 0 158 (dk_at dksX0_span_0 3 rfl rfl)
theorem dX0_span_6 : decode cX0_span 6 = .ok (.iconst 1, 1) := dk_4 (dk_at dksX0_span_0 6 rfl rfl)
theorem dX0_span_7 : decode cX0_span 7 = .ok (.isub, 1) := dk_100 (dk_at dksX0_span_0 7 rfl rfl)
theorem dX0_span_8 : decode cX0_span 8 = .ok (.invokestatic 130, 3) := dk_184 0 130 (dk_at dksX0_span_0 8 rfl rfl)
theorem dX0_span_11 : decode cX0_span 11 = .ok (.ifCond .eq 17, 3) := dk_153 0 17 (dk_at dksX0_span_0 11 rfl rfl)
theorem dX0_span_14 : decode cX0_span 14 = .ok (.iload_n 2, 1) := dk_28 (dk_at dksX0_span_0 14 rfl rfl)
theorem dX0_span_15 : decode cX0_span 15 = .ok (.iload_n 1, 1) := dk_27 (dk_at dksX0_span_0 15 rfl rfl)
theorem dX0_span_16 : decode cX0_span 16 = .ok (.aload_n 0, 1) := dk_42 (dk_at dksX0_span_0 16 rfl rfl)
theorem dX0_span_17 : decode cX0_span 17 = .ok (.getfield 158, 3) := dk_180 0 158 (dk_at dksX0_span_0 17 rfl rfl)
theorem dX0_span_20 : decode cX0_span 20 = .ok (.iconst 1, 1) := dk_4 (dk_at dksX0_span_0 20 rfl rfl)
theorem dX0_span_21 : decode cX0_span 21 = .ok (.isub, 1) := dk_100 (dk_at dksX0_span_0 21 rfl rfl)
theorem dX0_span_22 : decode cX0_span 22 = .ok (.invokestatic 130, 3) := dk_184 0 130 (dk_at dksX0_span_1 0 rfl rfl)
theorem dX0_span_25 : decode cX0_span 25 = .ok (.ifCond .ne 5, 3) := dk_154 0 5 (dk_at dksX0_span_1 3 rfl rfl)
theorem dX0_span_28 : decode cX0_span 28 = .ok (.iconst (-1), 1) := dk_2 (dk_at dksX0_span_1 6 rfl rfl)
theorem dX0_span_29 : decode cX0_span 29 = .ok (.ireturn, 1) := dk_172 (dk_at dksX0_span_1 7 rfl rfl)
theorem dX0_span_30 : decode cX0_span 30 = .ok (.aload_n 0, 1) := dk_42 (dk_at dksX0_span_1 8 rfl rfl)
theorem dX0_span_31 : decode cX0_span 31 = .ok (.invokevirtual 219, 3) := dk_182 0 219 (dk_at dksX0_span_1 9 rfl rfl)
theorem dX0_span_34 : decode cX0_span 34 = .ok (.iconst 0, 1) := dk_3 (dk_at dksX0_span_1 12 rfl rfl)
theorem dX0_span_35 : decode cX0_span 35 = .ok (.istore_n 3, 1) := dk_62 (dk_at dksX0_span_1 13 rfl rfl)
theorem dX0_span_36 : decode cX0_span 36 = .ok (.iconst 0, 1) := dk_3 (dk_at dksX0_span_1 14 rfl rfl)
theorem dX0_span_37 : decode cX0_span 37 = .ok (.istore 4, 2) := dk_54 4 (dk_at dksX0_span_1 15 rfl rfl)
theorem dX0_span_39 : decode cX0_span 39 = .ok (.iload 4, 2) := dk_21 4 (dk_at dksX0_span_1 17 rfl rfl)
theorem dX0_span_41 : decode cX0_span 41 = .ok (.bipush 8, 2) := dk_16 8 (dk_at dksX0_span_1 19 rfl rfl)
theorem dX0_span_43 : decode cX0_span 43 = .ok (.if_icmp .ge 33, 3) := dk_162 0 33 (dk_at dksX0_span_1 21 rfl rfl)
theorem dX0_span_46 : decode cX0_span 46 = .ok (.iload_n 3, 1) := dk_29 (dk_at dksX0_span_2 0 rfl rfl)
theorem dX0_span_47 : decode cX0_span 47 = .ok (.aload_n 0, 1) := dk_42 (dk_at dksX0_span_2 1 rfl rfl)
theorem dX0_span_48 : decode cX0_span 48 = .ok (.iload_n 1, 1) := dk_27 (dk_at dksX0_span_2 2 rfl rfl)
theorem dX0_span_49 : decode cX0_span 49 = .ok (.iload_n 2, 1) := dk_28 (dk_at dksX0_span_2 3 rfl rfl)
theorem dX0_span_50 : decode cX0_span 50 = .ok (.iload 4, 2) := dk_21 4 (dk_at dksX0_span_2 4 rfl rfl)
theorem dX0_span_52 : decode cX0_span 52 = .ok (.invokevirtual 215, 3) := dk_182 0 215 (dk_at dksX0_span_2 6 rfl rfl)
theorem dX0_span_55 : decode cX0_span 55 = .ok (.lconst 0, 1) := dk_9 (dk_at dksX0_span_2 9 rfl rfl)
theorem dX0_span_56 : decode cX0_span 56 = .ok (.lcmp, 1) := dk_148 (dk_at dksX0_span_2 10 rfl rfl)
theorem dX0_span_57 : decode cX0_span 57 = .ok (.ifCond .le 10, 3) := dk_158 0 10 (dk_at dksX0_span_2 11 rfl rfl)
theorem dX0_span_60 : decode cX0_span 60 = .ok (.iconst 1, 1) := dk_4 (dk_at dksX0_span_2 14 rfl rfl)
theorem dX0_span_61 : decode cX0_span 61 = .ok (.iload 4, 2) := dk_21 4 (dk_at dksX0_span_2 15 rfl rfl)
theorem dX0_span_63 : decode cX0_span 63 = .ok (.ishl, 1) := dk_120 (dk_at dksX0_span_2 17 rfl rfl)
theorem dX0_span_64 : decode cX0_span 64 = .ok (.goto 4, 3) := dk_167 0 4 (dk_at dksX0_span_2 18 rfl rfl)
theorem dX0_span_67 : decode cX0_span 67 = .ok (.iconst 0, 1) := dk_3 (dk_at dksX0_span_2 21 rfl rfl)
theorem dX0_span_68 : decode cX0_span 68 = .ok (.ior, 1) := dk_128 (dk_at dksX0_span_2 22 rfl rfl)
theorem dX0_span_69 : decode cX0_span 69 = .ok (.istore_n 3, 1) := dk_62 (dk_at dksX0_span_2 23 rfl rfl)
theorem dX0_span_70 : decode cX0_span 70 = .ok (.iinc 4 1, 3) := dk_132 4 1 (dk_at dksX0_span_3 0 rfl rfl)
theorem dX0_span_73 : decode cX0_span 73 = .ok (.goto (-34), 3) := dk_167 255 222 (dk_at dksX0_span_3 3 rfl rfl)
theorem dX0_span_76 : decode cX0_span 76 = .ok (.iload_n 3, 1) := dk_29 (dk_at dksX0_span_3 6 rfl rfl)
theorem dX0_span_77 : decode cX0_span 77 = .ok (.ireturn, 1) := dk_172 (dk_at dksX0_span_3 7 rfl rfl)
abbrev cX0_capped : ByteArray := prog_1_method_19_code
def yX0_capped : MethodName := ⟨RX0, "capped", "(III)J"⟩
def dkwX0_capped_2 : List UInt8 := [21, 4, 4, 96, 46, 133, 20, 0, 165, 105, 42, 180, 0, 51, 21, 4, 46, 133, 97, 184, 0, 209, 173]
abbrev dktX0_capped_2 : List UInt8 := dkwX0_capped_2 ++ []
def dkwX0_capped_1 : List UInt8 := [21, 5, 96, 46, 158, 0, 7, 20, 0, 207, 173, 132, 5, 1, 167, 255, 229, 20, 0, 207, 42, 180, 0, 51]
abbrev dktX0_capped_1 : List UInt8 := dkwX0_capped_1 ++ dktX0_capped_2
def dkwX0_capped_0 : List UInt8 := [27, 28, 29, 184, 0, 199, 54, 4, 5, 54, 5, 21, 5, 16, 7, 162, 0, 26, 42, 180, 0, 51, 21, 4]
abbrev dktX0_capped_0 : List UInt8 := dkwX0_capped_0 ++ dktX0_capped_1
theorem dksX0_capped_0 : cX0_capped.data.toList.drop 0 = dktX0_capped_0 := by decide +kernel
theorem dksX0_capped_1 : cX0_capped.data.toList.drop 24 = dktX0_capped_1 := dk_seg dksX0_capped_0 24 rfl rfl
theorem dksX0_capped_2 : cX0_capped.data.toList.drop 48 = dktX0_capped_2 := dk_seg dksX0_capped_1 24 rfl rfl
theorem dX0_capped_0 : decode cX0_capped 0 = .ok (.iload_n 1, 1) := dk_27 (dk_at dksX0_capped_0 0 rfl rfl)
theorem dX0_capped_1 : decode cX0_capped 1 = .ok (.iload_n 2, 1) := dk_28 (dk_at dksX0_capped_0 1 rfl rfl)
theorem dX0_capped_2 : decode cX0_capped 2 = .ok (.iload_n 3, 1) := dk_29 (dk_at dksX0_capped_0 2 rfl rfl)
theorem dX0_capped_3 : decode cX0_capped 3 = .ok (.invokestatic 199, 3) := dk_184 0 199 (dk_at dksX0_capped_0 3 rfl rfl)
theorem dX0_capped_6 : decode cX0_capped 6 = .ok (.istore 4, 2) := dk_54 4 (dk_at dksX0_capped_0 6 rfl rfl)
theorem dX0_capped_8 : decode cX0_capped 8 = .ok (.iconst 2, 1) := dk_5 (dk_at dksX0_capped_0 8 rfl rfl)
theorem dX0_capped_9 : decode cX0_capped 9 = .ok (.istore 5, 2) := dk_54 5 (dk_at dksX0_capped_0 9 rfl rfl)
theorem dX0_capped_11 : decode cX0_capped 11 = .ok (.iload 5, 2) := dk_21 5 (dk_at dksX0_capped_0 11 rfl rfl)
theorem dX0_capped_13 : decode cX0_capped 13 = .ok (.bipush 7, 2) := dk_16 7 (dk_at dksX0_capped_0 13 rfl rfl)
theorem dX0_capped_15 : decode cX0_capped 15 = .ok (.if_icmp .ge 26, 3) := dk_162 0 26 (dk_at dksX0_capped_0 15 rfl rfl)
theorem dX0_capped_18 : decode cX0_capped 18 = .ok (.aload_n 0, 1) := dk_42 (dk_at dksX0_capped_0 18 rfl rfl)
theorem dX0_capped_19 : decode cX0_capped 19 = .ok (.getfield 51, 3) := dk_180 0 51 (dk_at dksX0_capped_0 19 rfl rfl)
theorem dX0_capped_22 : decode cX0_capped 22 = .ok (.iload 4, 2) := dk_21 4 (dk_at dksX0_capped_0 22 rfl rfl)
theorem dX0_capped_24 : decode cX0_capped 24 = .ok (.iload 5, 2) := dk_21 5 (dk_at dksX0_capped_1 0 rfl rfl)
theorem dX0_capped_26 : decode cX0_capped 26 = .ok (.iadd, 1) := dk_96 (dk_at dksX0_capped_1 2 rfl rfl)
theorem dX0_capped_27 : decode cX0_capped 27 = .ok (.iaload, 1) := dk_46 (dk_at dksX0_capped_1 3 rfl rfl)
theorem dX0_capped_28 : decode cX0_capped 28 = .ok (.ifCond .le 7, 3) := dk_158 0 7 (dk_at dksX0_capped_1 4 rfl rfl)
theorem dX0_capped_31 : decode cX0_capped 31 = .ok (.ldc2_w 207, 3) := dk_20 0 207 (dk_at dksX0_capped_1 7 rfl rfl)
theorem dX0_capped_34 : decode cX0_capped 34 = .ok (.lreturn, 1) := dk_173 (dk_at dksX0_capped_1 10 rfl rfl)
theorem dX0_capped_35 : decode cX0_capped 35 = .ok (.iinc 5 1, 3) := dk_132 5 1 (dk_at dksX0_capped_1 11 rfl rfl)
theorem dX0_capped_38 : decode cX0_capped 38 = .ok (.goto (-27), 3) := dk_167 255 229 (dk_at dksX0_capped_1 14 rfl rfl)
theorem dX0_capped_41 : decode cX0_capped 41 = .ok (.ldc2_w 207, 3) := dk_20 0 207 (dk_at dksX0_capped_1 17 rfl rfl)
theorem dX0_capped_44 : decode cX0_capped 44 = .ok (.aload_n 0, 1) := dk_42 (dk_at dksX0_capped_1 20 rfl rfl)
theorem dX0_capped_45 : decode cX0_capped 45 = .ok (.getfield 51, 3) := dk_180 0 51 (dk_at dksX0_capped_1 21 rfl rfl)
theorem dX0_capped_48 : decode cX0_capped 48 = .ok (.iload 4, 2) := dk_21 4 (dk_at dksX0_capped_2 0 rfl rfl)
theorem dX0_capped_50 : decode cX0_capped 50 = .ok (.iconst 1, 1) := dk_4 (dk_at dksX0_capped_2 2 rfl rfl)
theorem dX0_capped_51 : decode cX0_capped 51 = .ok (.iadd, 1) := dk_96 (dk_at dksX0_capped_2 3 rfl rfl)
theorem dX0_capped_52 : decode cX0_capped 52 = .ok (.iaload, 1) := dk_46 (dk_at dksX0_capped_2 4 rfl rfl)
theorem dX0_capped_53 : decode cX0_capped 53 = .ok (.i2l, 1) := dk_133 (dk_at dksX0_capped_2 5 rfl rfl)
theorem dX0_capped_54 : decode cX0_capped 54 = .ok (.ldc2_w 165, 3) := dk_20 0 165 (dk_at dksX0_capped_2 6 rfl rfl)
theorem dX0_capped_57 : decode cX0_capped 57 = .ok (.lmul, 1) := dk_105 (dk_at dksX0_capped_2 9 rfl rfl)
theorem dX0_capped_58 : decode cX0_capped 58 = .ok (.aload_n 0, 1) := dk_42 (dk_at dksX0_capped_2 10 rfl rfl)
theorem dX0_capped_59 : decode cX0_capped 59 = .ok (.getfield 51, 3) := dk_180 0 51 (dk_at dksX0_capped_2 11 rfl rfl)
theorem dX0_capped_62 : decode cX0_capped 62 = .ok (.iload 4, 2) := dk_21 4 (dk_at dksX0_capped_2 14 rfl rfl)
theorem dX0_capped_64 : decode cX0_capped 64 = .ok (.iaload, 1) := dk_46 (dk_at dksX0_capped_2 16 rfl rfl)
theorem dX0_capped_65 : decode cX0_capped 65 = .ok (.i2l, 1) := dk_133 (dk_at dksX0_capped_2 17 rfl rfl)
theorem dX0_capped_66 : decode cX0_capped 66 = .ok (.ladd, 1) := dk_97 (dk_at dksX0_capped_2 18 rfl rfl)
theorem dX0_capped_67 : decode cX0_capped 67 = .ok (.invokestatic 209, 3) := dk_184 0 209 (dk_at dksX0_capped_2 19 rfl rfl)
theorem dX0_capped_70 : decode cX0_capped 70 = .ok (.lreturn, 1) := dk_173 (dk_at dksX0_capped_2 22 rfl rfl)
abbrev cX0_sense : ByteArray := prog_1_method_27_code
def yX0_sense : MethodName := ⟨RX0, "sense", "(II)I"⟩
def dkwX0_sense_1 : List UInt8 := [180, 0, 71, 28, 50, 180, 0, 243, 167, 0, 4, 2, 172]
abbrev dktX0_sense_1 : List UInt8 := dkwX0_sense_1 ++ []
def dkwX0_sense_0 : List UInt8 := [28, 3, 42, 180, 0, 158, 4, 100, 184, 0, 130, 153, 0, 23, 42, 27, 182, 0, 239, 153, 0, 15, 42]
abbrev dktX0_sense_0 : List UInt8 := dkwX0_sense_0 ++ dktX0_sense_1
theorem dksX0_sense_0 : cX0_sense.data.toList.drop 0 = dktX0_sense_0 := by decide +kernel
theorem dksX0_sense_1 : cX0_sense.data.toList.drop 23 = dktX0_sense_1 := dk_seg dksX0_sense_0 23 rfl rfl
theorem dX0_sense_0 : decode cX0_sense 0 = .ok (.iload_n 2, 1) := dk_28 (dk_at dksX0_sense_0 0 rfl rfl)
theorem dX0_sense_1 : decode cX0_sense 1 = .ok (.iconst 0, 1) := dk_3 (dk_at dksX0_sense_0 1 rfl rfl)
theorem dX0_sense_2 : decode cX0_sense 2 = .ok (.aload_n 0, 1) := dk_42 (dk_at dksX0_sense_0 2 rfl rfl)
theorem dX0_sense_3 : decode cX0_sense 3 = .ok (.getfield 158, 3) := dk_180 0 158 (dk_at dksX0_sense_0 3 rfl rfl)
theorem dX0_sense_6 : decode cX0_sense 6 = .ok (.iconst 1, 1) := dk_4 (dk_at dksX0_sense_0 6 rfl rfl)
theorem dX0_sense_7 : decode cX0_sense 7 = .ok (.isub, 1) := dk_100 (dk_at dksX0_sense_0 7 rfl rfl)
theorem dX0_sense_8 : decode cX0_sense 8 = .ok (.invokestatic 130, 3) := dk_184 0 130 (dk_at dksX0_sense_0 8 rfl rfl)
theorem dX0_sense_11 : decode cX0_sense 11 = .ok (.ifCond .eq 23, 3) := dk_153 0 23 (dk_at dksX0_sense_0 11 rfl rfl)
theorem dX0_sense_14 : decode cX0_sense 14 = .ok (.aload_n 0, 1) := dk_42 (dk_at dksX0_sense_0 14 rfl rfl)
theorem dX0_sense_15 : decode cX0_sense 15 = .ok (.iload_n 1, 1) := dk_27 (dk_at dksX0_sense_0 15 rfl rfl)
theorem dX0_sense_16 : decode cX0_sense 16 = .ok (.invokevirtual 239, 3) := dk_182 0 239 (dk_at dksX0_sense_0 16 rfl rfl)
theorem dX0_sense_19 : decode cX0_sense 19 = .ok (.ifCond .eq 15, 3) := dk_153 0 15 (dk_at dksX0_sense_0 19 rfl rfl)
theorem dX0_sense_22 : decode cX0_sense 22 = .ok (.aload_n 0, 1) := dk_42 (dk_at dksX0_sense_0 22 rfl rfl)
theorem dX0_sense_23 : decode cX0_sense 23 = .ok (.getfield 71, 3) := dk_180 0 71 (dk_at dksX0_sense_1 0 rfl rfl)
theorem dX0_sense_26 : decode cX0_sense 26 = .ok (.iload_n 2, 1) := dk_28 (dk_at dksX0_sense_1 3 rfl rfl)
theorem dX0_sense_27 : decode cX0_sense 27 = .ok (.aaload, 1) := dk_50 (dk_at dksX0_sense_1 4 rfl rfl)
theorem dX0_sense_28 : decode cX0_sense 28 = .ok (.getfield 243, 3) := dk_180 0 243 (dk_at dksX0_sense_1 5 rfl rfl)
theorem dX0_sense_31 : decode cX0_sense 31 = .ok (.goto 4, 3) := dk_167 0 4 (dk_at dksX0_sense_1 8 rfl rfl)
theorem dX0_sense_34 : decode cX0_sense 34 = .ok (.iconst (-1), 1) := dk_2 (dk_at dksX0_sense_1 11 rfl rfl)
theorem dX0_sense_35 : decode cX0_sense 35 = .ok (.ireturn, 1) := dk_172 (dk_at dksX0_sense_1 12 rfl rfl)
abbrev cX0_find : ByteArray := prog_1_method_26_code
def yX0_find : MethodName := ⟨RX0, "find", "(I)Z"⟩
def dkwX0_find_11 : List UInt8 := [21, 11, 79, 132, 11, 1, 167, 255, 134, 132, 9, 1, 167, 255, 73, 132, 4, 255, 167, 255, 20, 4, 172]
abbrev dktX0_find_11 : List UInt8 := dkwX0_find_11 ++ []
def dkwX0_find_10 : List UInt8 := [32, 22, 12, 101, 65, 167, 0, 21, 42, 180, 0, 71, 21, 4, 25, 10, 83, 42, 180, 0, 75, 21, 4]
abbrev dktX0_find_10 : List UInt8 := dkwX0_find_10 ++ dktX0_find_11
def dkwX0_find_9 : List UInt8 := [182, 0, 232, 132, 12, 1, 167, 255, 228, 42, 21, 4, 182, 0, 235, 55, 12, 32, 22, 12, 148, 155, 0, 11]
abbrev dktX0_find_9 : List UInt8 := dkwX0_find_9 ++ dktX0_find_10
def dkwX0_find_8 : List UInt8 := [21, 12, 25, 10, 21, 11, 182, 0, 167, 162, 0, 22, 42, 25, 10, 21, 11, 21, 12, 182, 0, 175]
abbrev dktX0_find_8 : List UInt8 := dkwX0_find_8 ++ dktX0_find_9
def dkwX0_find_7 : List UInt8 := [181, 0, 222, 21, 5, 25, 10, 21, 11, 182, 0, 167, 96, 21, 4, 164, 0, 6, 167, 0, 78, 3, 54, 12]
abbrev dktX0_find_7 : List UInt8 := dkwX0_find_7 ++ dktX0_find_8
def dkwX0_find_6 : List UInt8 := [21, 11, 25, 10, 182, 0, 193, 163, 0, 118, 42, 180, 0, 71, 21, 4, 50, 199, 0, 108, 42, 21, 5]
abbrev dktX0_find_6 : List UInt8 := dkwX0_find_6 ++ dktX0_find_7
def dkwX0_find_5 : List UInt8 := [180, 0, 196, 21, 6, 160, 0, 144, 42, 180, 0, 71, 21, 4, 50, 198, 0, 6, 167, 0, 131, 4, 54, 11]
abbrev dktX0_find_5 : List UInt8 := dkwX0_find_5 ++ dktX0_find_6
def dkwX0_find_4 : List UInt8 := [25, 7, 21, 9, 50, 58, 10, 25, 10, 180, 0, 190, 42, 180, 0, 34, 21, 4, 46, 160, 0, 154, 25, 10]
abbrev dktX0_find_4 : List UInt8 := dkwX0_find_4 ++ dktX0_find_5
def dkwX0_find_3 : List UInt8 := [42, 182, 0, 186, 180, 0, 189, 58, 7, 25, 7, 190, 54, 8, 3, 54, 9, 21, 9, 21, 8, 162, 0, 182]
abbrev dktX0_find_3 : List UInt8 := dkwX0_find_3 ++ dktX0_find_4
def dkwX0_find_2 : List UInt8 := [180, 0, 222, 4, 100, 54, 5, 42, 180, 0, 61, 21, 5, 46, 54, 6, 42, 180, 0, 71, 21, 4, 1, 83]
abbrev dktX0_find_2 : List UInt8 := dkwX0_find_2 ++ dktX0_find_3
def dkwX0_find_1 : List UInt8 := [3, 181, 0, 222, 42, 3, 182, 0, 232, 42, 180, 0, 158, 4, 100, 54, 4, 21, 4, 155, 0, 237, 42]
abbrev dktX0_find_1 : List UInt8 := dkwX0_find_1 ++ dktX0_find_2
def dkwX0_find_0 : List UInt8 := [42, 182, 0, 219, 27, 155, 0, 13, 27, 133, 42, 182, 0, 228, 148, 155, 0, 5, 3, 172, 27, 133, 65, 42]
abbrev dktX0_find_0 : List UInt8 := dkwX0_find_0 ++ dktX0_find_1
theorem dksX0_find_0 : cX0_find.data.toList.drop 0 = dktX0_find_0 := by decide +kernel
theorem dksX0_find_1 : cX0_find.data.toList.drop 24 = dktX0_find_1 := dk_seg dksX0_find_0 24 rfl rfl
theorem dksX0_find_2 : cX0_find.data.toList.drop 47 = dktX0_find_2 := dk_seg dksX0_find_1 23 rfl rfl
theorem dksX0_find_3 : cX0_find.data.toList.drop 71 = dktX0_find_3 := dk_seg dksX0_find_2 24 rfl rfl
theorem dksX0_find_4 : cX0_find.data.toList.drop 95 = dktX0_find_4 := dk_seg dksX0_find_3 24 rfl rfl
theorem dksX0_find_5 : cX0_find.data.toList.drop 119 = dktX0_find_5 := dk_seg dksX0_find_4 24 rfl rfl
theorem dksX0_find_6 : cX0_find.data.toList.drop 143 = dktX0_find_6 := dk_seg dksX0_find_5 24 rfl rfl
theorem dksX0_find_7 : cX0_find.data.toList.drop 166 = dktX0_find_7 := dk_seg dksX0_find_6 23 rfl rfl
theorem dksX0_find_8 : cX0_find.data.toList.drop 190 = dktX0_find_8 := dk_seg dksX0_find_7 24 rfl rfl
theorem dksX0_find_9 : cX0_find.data.toList.drop 212 = dktX0_find_9 := dk_seg dksX0_find_8 22 rfl rfl
theorem dksX0_find_10 : cX0_find.data.toList.drop 236 = dktX0_find_10 := dk_seg dksX0_find_9 24 rfl rfl
theorem dksX0_find_11 : cX0_find.data.toList.drop 259 = dktX0_find_11 := dk_seg dksX0_find_10 23 rfl rfl
theorem dX0_find_0 : decode cX0_find 0 = .ok (.aload_n 0, 1) := dk_42 (dk_at dksX0_find_0 0 rfl rfl)
theorem dX0_find_1 : decode cX0_find 1 = .ok (.invokevirtual 219, 3) := dk_182 0 219 (dk_at dksX0_find_0 1 rfl rfl)
theorem dX0_find_4 : decode cX0_find 4 = .ok (.iload_n 1, 1) := dk_27 (dk_at dksX0_find_0 4 rfl rfl)
theorem dX0_find_5 : decode cX0_find 5 = .ok (.ifCond .lt 13, 3) := dk_155 0 13 (dk_at dksX0_find_0 5 rfl rfl)
theorem dX0_find_8 : decode cX0_find 8 = .ok (.iload_n 1, 1) := dk_27 (dk_at dksX0_find_0 8 rfl rfl)
theorem dX0_find_9 : decode cX0_find 9 = .ok (.i2l, 1) := dk_133 (dk_at dksX0_find_0 9 rfl rfl)
theorem dX0_find_10 : decode cX0_find 10 = .ok (.aload_n 0, 1) := dk_42 (dk_at dksX0_find_0 10 rfl rfl)
theorem dX0_find_11 : decode cX0_find 11 = .ok (.invokevirtual 228, 3) := dk_182 0 228 (dk_at dksX0_find_0 11 rfl rfl)
theorem dX0_find_14 : decode cX0_find 14 = .ok (.lcmp, 1) := dk_148 (dk_at dksX0_find_0 14 rfl rfl)
theorem dX0_find_15 : decode cX0_find 15 = .ok (.ifCond .lt 5, 3) := dk_155 0 5 (dk_at dksX0_find_0 15 rfl rfl)
theorem dX0_find_18 : decode cX0_find 18 = .ok (.iconst 0, 1) := dk_3 (dk_at dksX0_find_0 18 rfl rfl)
theorem dX0_find_19 : decode cX0_find 19 = .ok (.ireturn, 1) := dk_172 (dk_at dksX0_find_0 19 rfl rfl)
theorem dX0_find_20 : decode cX0_find 20 = .ok (.iload_n 1, 1) := dk_27 (dk_at dksX0_find_0 20 rfl rfl)
theorem dX0_find_21 : decode cX0_find 21 = .ok (.i2l, 1) := dk_133 (dk_at dksX0_find_0 21 rfl rfl)
theorem dX0_find_22 : decode cX0_find 22 = .ok (.lstore_n 2, 1) := dk_65 (dk_at dksX0_find_0 22 rfl rfl)
theorem dX0_find_23 : decode cX0_find 23 = .ok (.aload_n 0, 1) := dk_42 (dk_at dksX0_find_0 23 rfl rfl)
theorem dX0_find_24 : decode cX0_find 24 = .ok (.iconst 0, 1) := dk_3 (dk_at dksX0_find_1 0 rfl rfl)
theorem dX0_find_25 : decode cX0_find 25 = .ok (.putfield 222, 3) := dk_181 0 222 (dk_at dksX0_find_1 1 rfl rfl)
theorem dX0_find_28 : decode cX0_find 28 = .ok (.aload_n 0, 1) := dk_42 (dk_at dksX0_find_1 4 rfl rfl)
theorem dX0_find_29 : decode cX0_find 29 = .ok (.iconst 0, 1) := dk_3 (dk_at dksX0_find_1 5 rfl rfl)
theorem dX0_find_30 : decode cX0_find 30 = .ok (.invokevirtual 232, 3) := dk_182 0 232 (dk_at dksX0_find_1 6 rfl rfl)
theorem dX0_find_33 : decode cX0_find 33 = .ok (.aload_n 0, 1) := dk_42 (dk_at dksX0_find_1 9 rfl rfl)
theorem dX0_find_34 : decode cX0_find 34 = .ok (.getfield 158, 3) := dk_180 0 158 (dk_at dksX0_find_1 10 rfl rfl)
theorem dX0_find_37 : decode cX0_find 37 = .ok (.iconst 1, 1) := dk_4 (dk_at dksX0_find_1 13 rfl rfl)
theorem dX0_find_38 : decode cX0_find 38 = .ok (.isub, 1) := dk_100 (dk_at dksX0_find_1 14 rfl rfl)
theorem dX0_find_39 : decode cX0_find 39 = .ok (.istore 4, 2) := dk_54 4 (dk_at dksX0_find_1 15 rfl rfl)
theorem dX0_find_41 : decode cX0_find 41 = .ok (.iload 4, 2) := dk_21 4 (dk_at dksX0_find_1 17 rfl rfl)
theorem dX0_find_43 : decode cX0_find 43 = .ok (.ifCond .lt 237, 3) := dk_155 0 237 (dk_at dksX0_find_1 19 rfl rfl)
theorem dX0_find_46 : decode cX0_find 46 = .ok (.aload_n 0, 1) := dk_42 (dk_at dksX0_find_1 22 rfl rfl)
theorem dX0_find_47 : decode cX0_find 47 = .ok (.getfield 222, 3) := dk_180 0 222 (dk_at dksX0_find_2 0 rfl rfl)
theorem dX0_find_50 : decode cX0_find 50 = .ok (.iconst 1, 1) := dk_4 (dk_at dksX0_find_2 3 rfl rfl)
theorem dX0_find_51 : decode cX0_find 51 = .ok (.isub, 1) := dk_100 (dk_at dksX0_find_2 4 rfl rfl)
theorem dX0_find_52 : decode cX0_find 52 = .ok (.istore 5, 2) := dk_54 5 (dk_at dksX0_find_2 5 rfl rfl)
theorem dX0_find_54 : decode cX0_find 54 = .ok (.aload_n 0, 1) := dk_42 (dk_at dksX0_find_2 7 rfl rfl)
theorem dX0_find_55 : decode cX0_find 55 = .ok (.getfield 61, 3) := dk_180 0 61 (dk_at dksX0_find_2 8 rfl rfl)
theorem dX0_find_58 : decode cX0_find 58 = .ok (.iload 5, 2) := dk_21 5 (dk_at dksX0_find_2 11 rfl rfl)
theorem dX0_find_60 : decode cX0_find 60 = .ok (.iaload, 1) := dk_46 (dk_at dksX0_find_2 13 rfl rfl)
theorem dX0_find_61 : decode cX0_find 61 = .ok (.istore 6, 2) := dk_54 6 (dk_at dksX0_find_2 14 rfl rfl)
theorem dX0_find_63 : decode cX0_find 63 = .ok (.aload_n 0, 1) := dk_42 (dk_at dksX0_find_2 16 rfl rfl)
theorem dX0_find_64 : decode cX0_find 64 = .ok (.getfield 71, 3) := dk_180 0 71 (dk_at dksX0_find_2 17 rfl rfl)
theorem dX0_find_67 : decode cX0_find 67 = .ok (.iload 4, 2) := dk_21 4 (dk_at dksX0_find_2 20 rfl rfl)
theorem dX0_find_69 : decode cX0_find 69 = .ok (.aconst_null, 1) := dk_1 (dk_at dksX0_find_2 22 rfl rfl)
theorem dX0_find_70 : decode cX0_find 70 = .ok (.aastore, 1) := dk_83 (dk_at dksX0_find_2 23 rfl rfl)
theorem dX0_find_71 : decode cX0_find 71 = .ok (.aload_n 0, 1) := dk_42 (dk_at dksX0_find_3 0 rfl rfl)
theorem dX0_find_72 : decode cX0_find 72 = .ok (.invokevirtual 186, 3) := dk_182 0 186 (dk_at dksX0_find_3 1 rfl rfl)
theorem dX0_find_75 : decode cX0_find 75 = .ok (.getfield 189, 3) := dk_180 0 189 (dk_at dksX0_find_3 4 rfl rfl)
theorem dX0_find_78 : decode cX0_find 78 = .ok (.astore 7, 2) := dk_58 7 (dk_at dksX0_find_3 7 rfl rfl)
theorem dX0_find_80 : decode cX0_find 80 = .ok (.aload 7, 2) := dk_25 7 (dk_at dksX0_find_3 9 rfl rfl)
theorem dX0_find_82 : decode cX0_find 82 = .ok (.arraylength, 1) := dk_190 (dk_at dksX0_find_3 11 rfl rfl)
theorem dX0_find_83 : decode cX0_find 83 = .ok (.istore 8, 2) := dk_54 8 (dk_at dksX0_find_3 12 rfl rfl)
theorem dX0_find_85 : decode cX0_find 85 = .ok (.iconst 0, 1) := dk_3 (dk_at dksX0_find_3 14 rfl rfl)
theorem dX0_find_86 : decode cX0_find 86 = .ok (.istore 9, 2) := dk_54 9 (dk_at dksX0_find_3 15 rfl rfl)
theorem dX0_find_88 : decode cX0_find 88 = .ok (.iload 9, 2) := dk_21 9 (dk_at dksX0_find_3 17 rfl rfl)
theorem dX0_find_90 : decode cX0_find 90 = .ok (.iload 8, 2) := dk_21 8 (dk_at dksX0_find_3 19 rfl rfl)
theorem dX0_find_92 : decode cX0_find 92 = .ok (.if_icmp .ge 182, 3) := dk_162 0 182 (dk_at dksX0_find_3 21 rfl rfl)
theorem dX0_find_95 : decode cX0_find 95 = .ok (.aload 7, 2) := dk_25 7 (dk_at dksX0_find_4 0 rfl rfl)
theorem dX0_find_97 : decode cX0_find 97 = .ok (.iload 9, 2) := dk_21 9 (dk_at dksX0_find_4 2 rfl rfl)
theorem dX0_find_99 : decode cX0_find 99 = .ok (.aaload, 1) := dk_50 (dk_at dksX0_find_4 4 rfl rfl)
theorem dX0_find_100 : decode cX0_find 100 = .ok (.astore 10, 2) := dk_58 10 (dk_at dksX0_find_4 5 rfl rfl)
theorem dX0_find_102 : decode cX0_find 102 = .ok (.aload 10, 2) := dk_25 10 (dk_at dksX0_find_4 7 rfl rfl)
theorem dX0_find_104 : decode cX0_find 104 = .ok (.getfield 190, 3) := dk_180 0 190 (dk_at dksX0_find_4 9 rfl rfl)
theorem dX0_find_107 : decode cX0_find 107 = .ok (.aload_n 0, 1) := dk_42 (dk_at dksX0_find_4 12 rfl rfl)
theorem dX0_find_108 : decode cX0_find 108 = .ok (.getfield 34, 3) := dk_180 0 34 (dk_at dksX0_find_4 13 rfl rfl)
theorem dX0_find_111 : decode cX0_find 111 = .ok (.iload 4, 2) := dk_21 4 (dk_at dksX0_find_4 16 rfl rfl)
theorem dX0_find_113 : decode cX0_find 113 = .ok (.iaload, 1) := dk_46 (dk_at dksX0_find_4 18 rfl rfl)
theorem dX0_find_114 : decode cX0_find 114 = .ok (.if_icmp .ne 154, 3) := dk_160 0 154 (dk_at dksX0_find_4 19 rfl rfl)
theorem dX0_find_117 : decode cX0_find 117 = .ok (.aload 10, 2) := dk_25 10 (dk_at dksX0_find_4 22 rfl rfl)
theorem dX0_find_119 : decode cX0_find 119 = .ok (.getfield 196, 3) := dk_180 0 196 (dk_at dksX0_find_5 0 rfl rfl)
theorem dX0_find_122 : decode cX0_find 122 = .ok (.iload 6, 2) := dk_21 6 (dk_at dksX0_find_5 3 rfl rfl)
theorem dX0_find_124 : decode cX0_find 124 = .ok (.if_icmp .ne 144, 3) := dk_160 0 144 (dk_at dksX0_find_5 5 rfl rfl)
theorem dX0_find_127 : decode cX0_find 127 = .ok (.aload_n 0, 1) := dk_42 (dk_at dksX0_find_5 8 rfl rfl)
theorem dX0_find_128 : decode cX0_find 128 = .ok (.getfield 71, 3) := dk_180 0 71 (dk_at dksX0_find_5 9 rfl rfl)
theorem dX0_find_131 : decode cX0_find 131 = .ok (.iload 4, 2) := dk_21 4 (dk_at dksX0_find_5 12 rfl rfl)
theorem dX0_find_133 : decode cX0_find 133 = .ok (.aaload, 1) := dk_50 (dk_at dksX0_find_5 14 rfl rfl)
theorem dX0_find_134 : decode cX0_find 134 = .ok (.ifnull 6, 3) := dk_198 0 6 (dk_at dksX0_find_5 15 rfl rfl)
theorem dX0_find_137 : decode cX0_find 137 = .ok (.goto 131, 3) := dk_167 0 131 (dk_at dksX0_find_5 18 rfl rfl)
theorem dX0_find_140 : decode cX0_find 140 = .ok (.iconst 1, 1) := dk_4 (dk_at dksX0_find_5 21 rfl rfl)
theorem dX0_find_141 : decode cX0_find 141 = .ok (.istore 11, 2) := dk_54 11 (dk_at dksX0_find_5 22 rfl rfl)
theorem dX0_find_143 : decode cX0_find 143 = .ok (.iload 11, 2) := dk_21 11 (dk_at dksX0_find_6 0 rfl rfl)
theorem dX0_find_145 : decode cX0_find 145 = .ok (.aload 10, 2) := dk_25 10 (dk_at dksX0_find_6 2 rfl rfl)
theorem dX0_find_147 : decode cX0_find 147 = .ok (.invokevirtual 193, 3) := dk_182 0 193 (dk_at dksX0_find_6 4 rfl rfl)
theorem dX0_find_150 : decode cX0_find 150 = .ok (.if_icmp .gt 118, 3) := dk_163 0 118 (dk_at dksX0_find_6 7 rfl rfl)
theorem dX0_find_153 : decode cX0_find 153 = .ok (.aload_n 0, 1) := dk_42 (dk_at dksX0_find_6 10 rfl rfl)
theorem dX0_find_154 : decode cX0_find 154 = .ok (.getfield 71, 3) := dk_180 0 71 (dk_at dksX0_find_6 11 rfl rfl)
theorem dX0_find_157 : decode cX0_find 157 = .ok (.iload 4, 2) := dk_21 4 (dk_at dksX0_find_6 14 rfl rfl)
theorem dX0_find_159 : decode cX0_find 159 = .ok (.aaload, 1) := dk_50 (dk_at dksX0_find_6 16 rfl rfl)
theorem dX0_find_160 : decode cX0_find 160 = .ok (.ifnonnull 108, 3) := dk_199 0 108 (dk_at dksX0_find_6 17 rfl rfl)
theorem dX0_find_163 : decode cX0_find 163 = .ok (.aload_n 0, 1) := dk_42 (dk_at dksX0_find_6 20 rfl rfl)
theorem dX0_find_164 : decode cX0_find 164 = .ok (.iload 5, 2) := dk_21 5 (dk_at dksX0_find_6 21 rfl rfl)
theorem dX0_find_166 : decode cX0_find 166 = .ok (.putfield 222, 3) := dk_181 0 222 (dk_at dksX0_find_7 0 rfl rfl)
theorem dX0_find_169 : decode cX0_find 169 = .ok (.iload 5, 2) := dk_21 5 (dk_at dksX0_find_7 3 rfl rfl)
theorem dX0_find_171 : decode cX0_find 171 = .ok (.aload 10, 2) := dk_25 10 (dk_at dksX0_find_7 5 rfl rfl)
theorem dX0_find_173 : decode cX0_find 173 = .ok (.iload 11, 2) := dk_21 11 (dk_at dksX0_find_7 7 rfl rfl)
theorem dX0_find_175 : decode cX0_find 175 = .ok (.invokevirtual 167, 3) := dk_182 0 167 (dk_at dksX0_find_7 9 rfl rfl)
theorem dX0_find_178 : decode cX0_find 178 = .ok (.iadd, 1) := dk_96 (dk_at dksX0_find_7 12 rfl rfl)
theorem dX0_find_179 : decode cX0_find 179 = .ok (.iload 4, 2) := dk_21 4 (dk_at dksX0_find_7 13 rfl rfl)
theorem dX0_find_181 : decode cX0_find 181 = .ok (.if_icmp .le 6, 3) := dk_164 0 6 (dk_at dksX0_find_7 15 rfl rfl)
theorem dX0_find_184 : decode cX0_find 184 = .ok (.goto 78, 3) := dk_167 0 78 (dk_at dksX0_find_7 18 rfl rfl)
theorem dX0_find_187 : decode cX0_find 187 = .ok (.iconst 0, 1) := dk_3 (dk_at dksX0_find_7 21 rfl rfl)
theorem dX0_find_188 : decode cX0_find 188 = .ok (.istore 12, 2) := dk_54 12 (dk_at dksX0_find_7 22 rfl rfl)
theorem dX0_find_190 : decode cX0_find 190 = .ok (.iload 12, 2) := dk_21 12 (dk_at dksX0_find_8 0 rfl rfl)
theorem dX0_find_192 : decode cX0_find 192 = .ok (.aload 10, 2) := dk_25 10 (dk_at dksX0_find_8 2 rfl rfl)
theorem dX0_find_194 : decode cX0_find 194 = .ok (.iload 11, 2) := dk_21 11 (dk_at dksX0_find_8 4 rfl rfl)
theorem dX0_find_196 : decode cX0_find 196 = .ok (.invokevirtual 167, 3) := dk_182 0 167 (dk_at dksX0_find_8 6 rfl rfl)
theorem dX0_find_199 : decode cX0_find 199 = .ok (.if_icmp .ge 22, 3) := dk_162 0 22 (dk_at dksX0_find_8 9 rfl rfl)
theorem dX0_find_202 : decode cX0_find 202 = .ok (.aload_n 0, 1) := dk_42 (dk_at dksX0_find_8 12 rfl rfl)
theorem dX0_find_203 : decode cX0_find 203 = .ok (.aload 10, 2) := dk_25 10 (dk_at dksX0_find_8 13 rfl rfl)
theorem dX0_find_205 : decode cX0_find 205 = .ok (.iload 11, 2) := dk_21 11 (dk_at dksX0_find_8 15 rfl rfl)
theorem dX0_find_207 : decode cX0_find 207 = .ok (.iload 12, 2) := dk_21 12 (dk_at dksX0_find_8 17 rfl rfl)
theorem dX0_find_209 : decode cX0_find 209 = .ok (.invokevirtual 175, 3) := dk_182 0 175 (dk_at dksX0_find_8 19 rfl rfl)
theorem dX0_find_212 : decode cX0_find 212 = .ok (.invokevirtual 232, 3) := dk_182 0 232 (dk_at dksX0_find_9 0 rfl rfl)
theorem dX0_find_215 : decode cX0_find 215 = .ok (.iinc 12 1, 3) := dk_132 12 1 (dk_at dksX0_find_9 3 rfl rfl)
theorem dX0_find_218 : decode cX0_find 218 = .ok (.goto (-28), 3) := dk_167 255 228 (dk_at dksX0_find_9 6 rfl rfl)
theorem dX0_find_221 : decode cX0_find 221 = .ok (.aload_n 0, 1) := dk_42 (dk_at dksX0_find_9 9 rfl rfl)
theorem dX0_find_222 : decode cX0_find 222 = .ok (.iload 4, 2) := dk_21 4 (dk_at dksX0_find_9 10 rfl rfl)
theorem dX0_find_224 : decode cX0_find 224 = .ok (.invokevirtual 235, 3) := dk_182 0 235 (dk_at dksX0_find_9 12 rfl rfl)
theorem dX0_find_227 : decode cX0_find 227 = .ok (.lstore 12, 2) := dk_55 12 (dk_at dksX0_find_9 15 rfl rfl)
theorem dX0_find_229 : decode cX0_find 229 = .ok (.lload_n 2, 1) := dk_32 (dk_at dksX0_find_9 17 rfl rfl)
theorem dX0_find_230 : decode cX0_find 230 = .ok (.lload 12, 2) := dk_22 12 (dk_at dksX0_find_9 18 rfl rfl)
theorem dX0_find_232 : decode cX0_find 232 = .ok (.lcmp, 1) := dk_148 (dk_at dksX0_find_9 20 rfl rfl)
theorem dX0_find_233 : decode cX0_find 233 = .ok (.ifCond .lt 11, 3) := dk_155 0 11 (dk_at dksX0_find_9 21 rfl rfl)
theorem dX0_find_236 : decode cX0_find 236 = .ok (.lload_n 2, 1) := dk_32 (dk_at dksX0_find_10 0 rfl rfl)
theorem dX0_find_237 : decode cX0_find 237 = .ok (.lload 12, 2) := dk_22 12 (dk_at dksX0_find_10 1 rfl rfl)
theorem dX0_find_239 : decode cX0_find 239 = .ok (.lsub, 1) := dk_101 (dk_at dksX0_find_10 3 rfl rfl)
theorem dX0_find_240 : decode cX0_find 240 = .ok (.lstore_n 2, 1) := dk_65 (dk_at dksX0_find_10 4 rfl rfl)
theorem dX0_find_241 : decode cX0_find 241 = .ok (.goto 21, 3) := dk_167 0 21 (dk_at dksX0_find_10 5 rfl rfl)
theorem dX0_find_244 : decode cX0_find 244 = .ok (.aload_n 0, 1) := dk_42 (dk_at dksX0_find_10 8 rfl rfl)
theorem dX0_find_245 : decode cX0_find 245 = .ok (.getfield 71, 3) := dk_180 0 71 (dk_at dksX0_find_10 9 rfl rfl)
theorem dX0_find_248 : decode cX0_find 248 = .ok (.iload 4, 2) := dk_21 4 (dk_at dksX0_find_10 12 rfl rfl)
theorem dX0_find_250 : decode cX0_find 250 = .ok (.aload 10, 2) := dk_25 10 (dk_at dksX0_find_10 14 rfl rfl)
theorem dX0_find_252 : decode cX0_find 252 = .ok (.aastore, 1) := dk_83 (dk_at dksX0_find_10 16 rfl rfl)
theorem dX0_find_253 : decode cX0_find 253 = .ok (.aload_n 0, 1) := dk_42 (dk_at dksX0_find_10 17 rfl rfl)
theorem dX0_find_254 : decode cX0_find 254 = .ok (.getfield 75, 3) := dk_180 0 75 (dk_at dksX0_find_10 18 rfl rfl)
theorem dX0_find_257 : decode cX0_find 257 = .ok (.iload 4, 2) := dk_21 4 (dk_at dksX0_find_10 21 rfl rfl)
theorem dX0_find_259 : decode cX0_find 259 = .ok (.iload 11, 2) := dk_21 11 (dk_at dksX0_find_11 0 rfl rfl)
theorem dX0_find_261 : decode cX0_find 261 = .ok (.iastore, 1) := dk_79 (dk_at dksX0_find_11 2 rfl rfl)
theorem dX0_find_262 : decode cX0_find 262 = .ok (.iinc 11 1, 3) := dk_132 11 1 (dk_at dksX0_find_11 3 rfl rfl)
theorem dX0_find_265 : decode cX0_find 265 = .ok (.goto (-122), 3) := dk_167 255 134 (dk_at dksX0_find_11 6 rfl rfl)
theorem dX0_find_268 : decode cX0_find 268 = .ok (.iinc 9 1, 3) := dk_132 9 1 (dk_at dksX0_find_11 9 rfl rfl)
theorem dX0_find_271 : decode cX0_find 271 = .ok (.goto (-183), 3) := dk_167 255 73 (dk_at dksX0_find_11 12 rfl rfl)
theorem dX0_find_274 : decode cX0_find 274 = .ok (.iinc 4 (-1), 3) := dk_132 4 255 (dk_at dksX0_find_11 15 rfl rfl)
theorem dX0_find_277 : decode cX0_find 277 = .ok (.goto (-236), 3) := dk_167 255 20 (dk_at dksX0_find_11 18 rfl rfl)
theorem dX0_find_280 : decode cX0_find 280 = .ok (.iconst 1, 1) := dk_4 (dk_at dksX0_find_11 21 rfl rfl)
theorem dX0_find_281 : decode cX0_find 281 = .ok (.ireturn, 1) := dk_172 (dk_at dksX0_find_11 22 rfl rfl)
abbrev cX0_all : ByteArray := prog_1_method_20_code
def yX0_all : MethodName := ⟨RX0, "all", "()J"⟩
def dkwX0_all_0 : List UInt8 := [42, 180, 0, 158, 154, 0, 7, 9, 167, 0, 15, 42, 3, 42, 180, 0, 158, 4, 100, 3, 182, 0, 215, 173]
abbrev dktX0_all_0 : List UInt8 := dkwX0_all_0 ++ []
theorem dksX0_all_0 : cX0_all.data.toList.drop 0 = dktX0_all_0 := by decide +kernel
theorem dX0_all_0 : decode cX0_all 0 = .ok (.aload_n 0, 1) := dk_42 (dk_at dksX0_all_0 0 rfl rfl)
theorem dX0_all_1 : decode cX0_all 1 = .ok (.getfield 158, 3) := dk_180 0 158 (dk_at dksX0_all_0 1 rfl rfl)
theorem dX0_all_4 : decode cX0_all 4 = .ok (.ifCond .ne 7, 3) := dk_154 0 7 (dk_at dksX0_all_0 4 rfl rfl)
theorem dX0_all_7 : decode cX0_all 7 = .ok (.lconst 0, 1) := dk_9 (dk_at dksX0_all_0 7 rfl rfl)
theorem dX0_all_8 : decode cX0_all 8 = .ok (.goto 15, 3) := dk_167 0 15 (dk_at dksX0_all_0 8 rfl rfl)
theorem dX0_all_11 : decode cX0_all 11 = .ok (.aload_n 0, 1) := dk_42 (dk_at dksX0_all_0 11 rfl rfl)
theorem dX0_all_12 : decode cX0_all 12 = .ok (.iconst 0, 1) := dk_3 (dk_at dksX0_all_0 12 rfl rfl)
theorem dX0_all_13 : decode cX0_all 13 = .ok (.aload_n 0, 1) := dk_42 (dk_at dksX0_all_0 13 rfl rfl)
theorem dX0_all_14 : decode cX0_all 14 = .ok (.getfield 158, 3) := dk_180 0 158 (dk_at dksX0_all_0 14 rfl rfl)
theorem dX0_all_17 : decode cX0_all 17 = .ok (.iconst 1, 1) := dk_4 (dk_at dksX0_all_0 17 rfl rfl)
theorem dX0_all_18 : decode cX0_all 18 = .ok (.isub, 1) := dk_100 (dk_at dksX0_all_0 18 rfl rfl)
theorem dX0_all_19 : decode cX0_all 19 = .ok (.iconst 0, 1) := dk_3 (dk_at dksX0_all_0 19 rfl rfl)
theorem dX0_all_20 : decode cX0_all 20 = .ok (.invokevirtual 215, 3) := dk_182 0 215 (dk_at dksX0_all_0 20 rfl rfl)
theorem dX0_all_23 : decode cX0_all 23 = .ok (.lreturn, 1) := dk_173 (dk_at dksX0_all_0 23 rfl rfl)
abbrev cX0_push : ByteArray := prog_1_method_23_code
def yX0_push : MethodName := ⟨RX0, "push", "(I)V"⟩
def dkwX0_push_5 : List UInt8 := [167, 255, 192, 42, 180, 0, 66, 28, 50, 29, 22, 4, 80, 132, 3, 1, 167, 255, 148, 177]
abbrev dktX0_push_5 : List UInt8 := dkwX0_push_5 ++ []
def dkwX0_push_4 : List UInt8 := [42, 21, 6, 4, 96, 29, 27, 182, 0, 215, 184, 0, 225, 97, 184, 0, 209, 55, 4, 132, 6, 1]
abbrev dktX0_push_4 : List UInt8 := dkwX0_push_4 ++ dktX0_push_5
def dkwX0_push_3 : List UInt8 := [21, 6, 47, 9, 148, 158, 0, 38, 20, 0, 207, 22, 4, 42, 180, 0, 66, 28, 4, 100, 50, 21, 6, 47]
abbrev dktX0_push_3 : List UInt8 := dkwX0_push_3 ++ dktX0_push_4
def dkwX0_push_2 : List UInt8 := [55, 4, 3, 54, 6, 21, 6, 29, 162, 0, 64, 28, 158, 0, 60, 42, 180, 0, 66, 28, 4, 100, 50]
abbrev dktX0_push_2 : List UInt8 := dkwX0_push_2 ++ dktX0_push_3
def dkwX0_push_1 : List UInt8 := [29, 42, 180, 0, 158, 162, 0, 106, 28, 154, 0, 13, 42, 3, 29, 27, 182, 0, 215, 167, 0, 4, 9]
abbrev dktX0_push_1 : List UInt8 := dkwX0_push_1 ++ dktX0_push_2
def dkwX0_push_0 : List UInt8 := [42, 180, 0, 222, 61, 42, 180, 0, 61, 28, 27, 79, 42, 89, 180, 0, 222, 4, 96, 181, 0, 222, 3, 62]
abbrev dktX0_push_0 : List UInt8 := dkwX0_push_0 ++ dktX0_push_1
theorem dksX0_push_0 : cX0_push.data.toList.drop 0 = dktX0_push_0 := by decide +kernel
theorem dksX0_push_1 : cX0_push.data.toList.drop 24 = dktX0_push_1 := dk_seg dksX0_push_0 24 rfl rfl
theorem dksX0_push_2 : cX0_push.data.toList.drop 47 = dktX0_push_2 := dk_seg dksX0_push_1 23 rfl rfl
theorem dksX0_push_3 : cX0_push.data.toList.drop 70 = dktX0_push_3 := dk_seg dksX0_push_2 23 rfl rfl
theorem dksX0_push_4 : cX0_push.data.toList.drop 94 = dktX0_push_4 := dk_seg dksX0_push_3 24 rfl rfl
theorem dksX0_push_5 : cX0_push.data.toList.drop 116 = dktX0_push_5 := dk_seg dksX0_push_4 22 rfl rfl
theorem dX0_push_0 : decode cX0_push 0 = .ok (.aload_n 0, 1) := dk_42 (dk_at dksX0_push_0 0 rfl rfl)
theorem dX0_push_1 : decode cX0_push 1 = .ok (.getfield 222, 3) := dk_180 0 222 (dk_at dksX0_push_0 1 rfl rfl)
theorem dX0_push_4 : decode cX0_push 4 = .ok (.istore_n 2, 1) := dk_61 (dk_at dksX0_push_0 4 rfl rfl)
theorem dX0_push_5 : decode cX0_push 5 = .ok (.aload_n 0, 1) := dk_42 (dk_at dksX0_push_0 5 rfl rfl)
theorem dX0_push_6 : decode cX0_push 6 = .ok (.getfield 61, 3) := dk_180 0 61 (dk_at dksX0_push_0 6 rfl rfl)
theorem dX0_push_9 : decode cX0_push 9 = .ok (.iload_n 2, 1) := dk_28 (dk_at dksX0_push_0 9 rfl rfl)
theorem dX0_push_10 : decode cX0_push 10 = .ok (.iload_n 1, 1) := dk_27 (dk_at dksX0_push_0 10 rfl rfl)
theorem dX0_push_11 : decode cX0_push 11 = .ok (.iastore, 1) := dk_79 (dk_at dksX0_push_0 11 rfl rfl)
theorem dX0_push_12 : decode cX0_push 12 = .ok (.aload_n 0, 1) := dk_42 (dk_at dksX0_push_0 12 rfl rfl)
theorem dX0_push_13 : decode cX0_push 13 = .ok (.dup, 1) := dk_89 (dk_at dksX0_push_0 13 rfl rfl)
theorem dX0_push_14 : decode cX0_push 14 = .ok (.getfield 222, 3) := dk_180 0 222 (dk_at dksX0_push_0 14 rfl rfl)
theorem dX0_push_17 : decode cX0_push 17 = .ok (.iconst 1, 1) := dk_4 (dk_at dksX0_push_0 17 rfl rfl)
theorem dX0_push_18 : decode cX0_push 18 = .ok (.iadd, 1) := dk_96 (dk_at dksX0_push_0 18 rfl rfl)
theorem dX0_push_19 : decode cX0_push 19 = .ok (.putfield 222, 3) := dk_181 0 222 (dk_at dksX0_push_0 19 rfl rfl)
theorem dX0_push_22 : decode cX0_push 22 = .ok (.iconst 0, 1) := dk_3 (dk_at dksX0_push_0 22 rfl rfl)
theorem dX0_push_23 : decode cX0_push 23 = .ok (.istore_n 3, 1) := dk_62 (dk_at dksX0_push_0 23 rfl rfl)
theorem dX0_push_24 : decode cX0_push 24 = .ok (.iload_n 3, 1) := dk_29 (dk_at dksX0_push_1 0 rfl rfl)
theorem dX0_push_25 : decode cX0_push 25 = .ok (.aload_n 0, 1) := dk_42 (dk_at dksX0_push_1 1 rfl rfl)
theorem dX0_push_26 : decode cX0_push 26 = .ok (.getfield 158, 3) := dk_180 0 158 (dk_at dksX0_push_1 2 rfl rfl)
theorem dX0_push_29 : decode cX0_push 29 = .ok (.if_icmp .ge 106, 3) := dk_162 0 106 (dk_at dksX0_push_1 5 rfl rfl)
theorem dX0_push_32 : decode cX0_push 32 = .ok (.iload_n 2, 1) := dk_28 (dk_at dksX0_push_1 8 rfl rfl)
theorem dX0_push_33 : decode cX0_push 33 = .ok (.ifCond .ne 13, 3) := dk_154 0 13 (dk_at dksX0_push_1 9 rfl rfl)
theorem dX0_push_36 : decode cX0_push 36 = .ok (.aload_n 0, 1) := dk_42 (dk_at dksX0_push_1 12 rfl rfl)
theorem dX0_push_37 : decode cX0_push 37 = .ok (.iconst 0, 1) := dk_3 (dk_at dksX0_push_1 13 rfl rfl)
theorem dX0_push_38 : decode cX0_push 38 = .ok (.iload_n 3, 1) := dk_29 (dk_at dksX0_push_1 14 rfl rfl)
theorem dX0_push_39 : decode cX0_push 39 = .ok (.iload_n 1, 1) := dk_27 (dk_at dksX0_push_1 15 rfl rfl)
theorem dX0_push_40 : decode cX0_push 40 = .ok (.invokevirtual 215, 3) := dk_182 0 215 (dk_at dksX0_push_1 16 rfl rfl)
theorem dX0_push_43 : decode cX0_push 43 = .ok (.goto 4, 3) := dk_167 0 4 (dk_at dksX0_push_1 19 rfl rfl)
theorem dX0_push_46 : decode cX0_push 46 = .ok (.lconst 0, 1) := dk_9 (dk_at dksX0_push_1 22 rfl rfl)
theorem dX0_push_47 : decode cX0_push 47 = .ok (.lstore 4, 2) := dk_55 4 (dk_at dksX0_push_2 0 rfl rfl)
theorem dX0_push_49 : decode cX0_push 49 = .ok (.iconst 0, 1) := dk_3 (dk_at dksX0_push_2 2 rfl rfl)
theorem dX0_push_50 : decode cX0_push 50 = .ok (.istore 6, 2) := dk_54 6 (dk_at dksX0_push_2 3 rfl rfl)
theorem dX0_push_52 : decode cX0_push 52 = .ok (.iload 6, 2) := dk_21 6 (dk_at dksX0_push_2 5 rfl rfl)
theorem dX0_push_54 : decode cX0_push 54 = .ok (.iload_n 3, 1) := dk_29 (dk_at dksX0_push_2 7 rfl rfl)
theorem dX0_push_55 : decode cX0_push 55 = .ok (.if_icmp .ge 64, 3) := dk_162 0 64 (dk_at dksX0_push_2 8 rfl rfl)
theorem dX0_push_58 : decode cX0_push 58 = .ok (.iload_n 2, 1) := dk_28 (dk_at dksX0_push_2 11 rfl rfl)
theorem dX0_push_59 : decode cX0_push 59 = .ok (.ifCond .le 60, 3) := dk_158 0 60 (dk_at dksX0_push_2 12 rfl rfl)
theorem dX0_push_62 : decode cX0_push 62 = .ok (.aload_n 0, 1) := dk_42 (dk_at dksX0_push_2 15 rfl rfl)
theorem dX0_push_63 : decode cX0_push 63 = .ok (.getfield 66, 3) := dk_180 0 66 (dk_at dksX0_push_2 16 rfl rfl)
theorem dX0_push_66 : decode cX0_push 66 = .ok (.iload_n 2, 1) := dk_28 (dk_at dksX0_push_2 19 rfl rfl)
theorem dX0_push_67 : decode cX0_push 67 = .ok (.iconst 1, 1) := dk_4 (dk_at dksX0_push_2 20 rfl rfl)
theorem dX0_push_68 : decode cX0_push 68 = .ok (.isub, 1) := dk_100 (dk_at dksX0_push_2 21 rfl rfl)
theorem dX0_push_69 : decode cX0_push 69 = .ok (.aaload, 1) := dk_50 (dk_at dksX0_push_2 22 rfl rfl)
theorem dX0_push_70 : decode cX0_push 70 = .ok (.iload 6, 2) := dk_21 6 (dk_at dksX0_push_3 0 rfl rfl)
theorem dX0_push_72 : decode cX0_push 72 = .ok (.laload, 1) := dk_47 (dk_at dksX0_push_3 2 rfl rfl)
theorem dX0_push_73 : decode cX0_push 73 = .ok (.lconst 0, 1) := dk_9 (dk_at dksX0_push_3 3 rfl rfl)
theorem dX0_push_74 : decode cX0_push 74 = .ok (.lcmp, 1) := dk_148 (dk_at dksX0_push_3 4 rfl rfl)
theorem dX0_push_75 : decode cX0_push 75 = .ok (.ifCond .le 38, 3) := dk_158 0 38 (dk_at dksX0_push_3 5 rfl rfl)
theorem dX0_push_78 : decode cX0_push 78 = .ok (.ldc2_w 207, 3) := dk_20 0 207 (dk_at dksX0_push_3 8 rfl rfl)
theorem dX0_push_81 : decode cX0_push 81 = .ok (.lload 4, 2) := dk_22 4 (dk_at dksX0_push_3 11 rfl rfl)
theorem dX0_push_83 : decode cX0_push 83 = .ok (.aload_n 0, 1) := dk_42 (dk_at dksX0_push_3 13 rfl rfl)
theorem dX0_push_84 : decode cX0_push 84 = .ok (.getfield 66, 3) := dk_180 0 66 (dk_at dksX0_push_3 14 rfl rfl)
theorem dX0_push_87 : decode cX0_push 87 = .ok (.iload_n 2, 1) := dk_28 (dk_at dksX0_push_3 17 rfl rfl)
theorem dX0_push_88 : decode cX0_push 88 = .ok (.iconst 1, 1) := dk_4 (dk_at dksX0_push_3 18 rfl rfl)
theorem dX0_push_89 : decode cX0_push 89 = .ok (.isub, 1) := dk_100 (dk_at dksX0_push_3 19 rfl rfl)
theorem dX0_push_90 : decode cX0_push 90 = .ok (.aaload, 1) := dk_50 (dk_at dksX0_push_3 20 rfl rfl)
theorem dX0_push_91 : decode cX0_push 91 = .ok (.iload 6, 2) := dk_21 6 (dk_at dksX0_push_3 21 rfl rfl)
theorem dX0_push_93 : decode cX0_push 93 = .ok (.laload, 1) := dk_47 (dk_at dksX0_push_3 23 rfl rfl)
theorem dX0_push_94 : decode cX0_push 94 = .ok (.aload_n 0, 1) := dk_42 (dk_at dksX0_push_4 0 rfl rfl)
theorem dX0_push_95 : decode cX0_push 95 = .ok (.iload 6, 2) := dk_21 6 (dk_at dksX0_push_4 1 rfl rfl)
theorem dX0_push_97 : decode cX0_push 97 = .ok (.iconst 1, 1) := dk_4 (dk_at dksX0_push_4 3 rfl rfl)
theorem dX0_push_98 : decode cX0_push 98 = .ok (.iadd, 1) := dk_96 (dk_at dksX0_push_4 4 rfl rfl)
theorem dX0_push_99 : decode cX0_push 99 = .ok (.iload_n 3, 1) := dk_29 (dk_at dksX0_push_4 5 rfl rfl)
theorem dX0_push_100 : decode cX0_push 100 = .ok (.iload_n 1, 1) := dk_27 (dk_at dksX0_push_4 6 rfl rfl)
theorem dX0_push_101 : decode cX0_push 101 = .ok (.invokevirtual 215, 3) := dk_182 0 215 (dk_at dksX0_push_4 7 rfl rfl)
theorem dX0_push_104 : decode cX0_push 104 = .ok (.invokestatic 225, 3) := dk_184 0 225 (dk_at dksX0_push_4 10 rfl rfl)
theorem dX0_push_107 : decode cX0_push 107 = .ok (.ladd, 1) := dk_97 (dk_at dksX0_push_4 13 rfl rfl)
theorem dX0_push_108 : decode cX0_push 108 = .ok (.invokestatic 209, 3) := dk_184 0 209 (dk_at dksX0_push_4 14 rfl rfl)
theorem dX0_push_111 : decode cX0_push 111 = .ok (.lstore 4, 2) := dk_55 4 (dk_at dksX0_push_4 17 rfl rfl)
theorem dX0_push_113 : decode cX0_push 113 = .ok (.iinc 6 1, 3) := dk_132 6 1 (dk_at dksX0_push_4 19 rfl rfl)
theorem dX0_push_116 : decode cX0_push 116 = .ok (.goto (-64), 3) := dk_167 255 192 (dk_at dksX0_push_5 0 rfl rfl)
theorem dX0_push_119 : decode cX0_push 119 = .ok (.aload_n 0, 1) := dk_42 (dk_at dksX0_push_5 3 rfl rfl)
theorem dX0_push_120 : decode cX0_push 120 = .ok (.getfield 66, 3) := dk_180 0 66 (dk_at dksX0_push_5 4 rfl rfl)
theorem dX0_push_123 : decode cX0_push 123 = .ok (.iload_n 2, 1) := dk_28 (dk_at dksX0_push_5 7 rfl rfl)
theorem dX0_push_124 : decode cX0_push 124 = .ok (.aaload, 1) := dk_50 (dk_at dksX0_push_5 8 rfl rfl)
theorem dX0_push_125 : decode cX0_push 125 = .ok (.iload_n 3, 1) := dk_29 (dk_at dksX0_push_5 9 rfl rfl)
theorem dX0_push_126 : decode cX0_push 126 = .ok (.lload 4, 2) := dk_22 4 (dk_at dksX0_push_5 10 rfl rfl)
theorem dX0_push_128 : decode cX0_push 128 = .ok (.lastore, 1) := dk_80 (dk_at dksX0_push_5 12 rfl rfl)
theorem dX0_push_129 : decode cX0_push 129 = .ok (.iinc 3 1, 3) := dk_132 3 1 (dk_at dksX0_push_5 13 rfl rfl)
theorem dX0_push_132 : decode cX0_push 132 = .ok (.goto (-108), 3) := dk_167 255 148 (dk_at dksX0_push_5 16 rfl rfl)
theorem dX0_push_135 : decode cX0_push 135 = .ok (.return_, 1) := dk_177 (dk_at dksX0_push_5 19 rfl rfl)
abbrev cX0_times : ByteArray := prog_1_method_24_code
def yX0_times : MethodName := ⟨RX0, "times", "(JJ)J"⟩
def dkwX0_times_0 : List UInt8 := [32, 20, 0, 207, 30, 109, 148, 158, 0, 9, 20, 0, 207, 167, 0, 6, 30, 32, 105, 173]
abbrev dktX0_times_0 : List UInt8 := dkwX0_times_0 ++ []
theorem dksX0_times_0 : cX0_times.data.toList.drop 0 = dktX0_times_0 := by decide +kernel
theorem dX0_times_0 : decode cX0_times 0 = .ok (.lload_n 2, 1) := dk_32 (dk_at dksX0_times_0 0 rfl rfl)
theorem dX0_times_1 : decode cX0_times 1 = .ok (.ldc2_w 207, 3) := dk_20 0 207 (dk_at dksX0_times_0 1 rfl rfl)
theorem dX0_times_4 : decode cX0_times 4 = .ok (.lload_n 0, 1) := dk_30 (dk_at dksX0_times_0 4 rfl rfl)
theorem dX0_times_5 : decode cX0_times 5 = .ok (.ldiv, 1) := dk_109 (dk_at dksX0_times_0 5 rfl rfl)
theorem dX0_times_6 : decode cX0_times 6 = .ok (.lcmp, 1) := dk_148 (dk_at dksX0_times_0 6 rfl rfl)
theorem dX0_times_7 : decode cX0_times 7 = .ok (.ifCond .le 9, 3) := dk_158 0 9 (dk_at dksX0_times_0 7 rfl rfl)
theorem dX0_times_10 : decode cX0_times 10 = .ok (.ldc2_w 207, 3) := dk_20 0 207 (dk_at dksX0_times_0 10 rfl rfl)
theorem dX0_times_13 : decode cX0_times 13 = .ok (.goto 6, 3) := dk_167 0 6 (dk_at dksX0_times_0 13 rfl rfl)
theorem dX0_times_16 : decode cX0_times 16 = .ok (.lload_n 0, 1) := dk_30 (dk_at dksX0_times_0 16 rfl rfl)
theorem dX0_times_17 : decode cX0_times 17 = .ok (.lload_n 2, 1) := dk_32 (dk_at dksX0_times_0 17 rfl rfl)
theorem dX0_times_18 : decode cX0_times 18 = .ok (.lmul, 1) := dk_105 (dk_at dksX0_times_0 18 rfl rfl)
theorem dX0_times_19 : decode cX0_times 19 = .ok (.lreturn, 1) := dk_173 (dk_at dksX0_times_0 19 rfl rfl)
abbrev cX0_ahead : ByteArray := prog_1_method_25_code
def yX0_ahead : MethodName := ⟨RX0, "ahead", "(I)J"⟩
def dkwX0_ahead_1 : List UInt8 := [167, 0, 18, 42, 180, 0, 66, 42, 180, 0, 222, 4, 100, 50, 27, 4, 100, 47, 173]
abbrev dktX0_ahead_1 : List UInt8 := dkwX0_ahead_1 ++ []
def dkwX0_ahead_0 : List UInt8 := [42, 180, 0, 222, 154, 0, 15, 27, 154, 0, 7, 10, 167, 0, 30, 9, 167, 0, 26, 27, 154, 0, 7, 9]
abbrev dktX0_ahead_0 : List UInt8 := dkwX0_ahead_0 ++ dktX0_ahead_1
theorem dksX0_ahead_0 : cX0_ahead.data.toList.drop 0 = dktX0_ahead_0 := by decide +kernel
theorem dksX0_ahead_1 : cX0_ahead.data.toList.drop 24 = dktX0_ahead_1 := dk_seg dksX0_ahead_0 24 rfl rfl
theorem dX0_ahead_0 : decode cX0_ahead 0 = .ok (.aload_n 0, 1) := dk_42 (dk_at dksX0_ahead_0 0 rfl rfl)
theorem dX0_ahead_1 : decode cX0_ahead 1 = .ok (.getfield 222, 3) := dk_180 0 222 (dk_at dksX0_ahead_0 1 rfl rfl)
theorem dX0_ahead_4 : decode cX0_ahead 4 = .ok (.ifCond .ne 15, 3) := dk_154 0 15 (dk_at dksX0_ahead_0 4 rfl rfl)
theorem dX0_ahead_7 : decode cX0_ahead 7 = .ok (.iload_n 1, 1) := dk_27 (dk_at dksX0_ahead_0 7 rfl rfl)
theorem dX0_ahead_8 : decode cX0_ahead 8 = .ok (.ifCond .ne 7, 3) := dk_154 0 7 (dk_at dksX0_ahead_0 8 rfl rfl)
theorem dX0_ahead_11 : decode cX0_ahead 11 = .ok (.lconst 1, 1) := dk_10 (dk_at dksX0_ahead_0 11 rfl rfl)
theorem dX0_ahead_12 : decode cX0_ahead 12 = .ok (.goto 30, 3) := dk_167 0 30 (dk_at dksX0_ahead_0 12 rfl rfl)
theorem dX0_ahead_15 : decode cX0_ahead 15 = .ok (.lconst 0, 1) := dk_9 (dk_at dksX0_ahead_0 15 rfl rfl)
theorem dX0_ahead_16 : decode cX0_ahead 16 = .ok (.goto 26, 3) := dk_167 0 26 (dk_at dksX0_ahead_0 16 rfl rfl)
theorem dX0_ahead_19 : decode cX0_ahead 19 = .ok (.iload_n 1, 1) := dk_27 (dk_at dksX0_ahead_0 19 rfl rfl)
theorem dX0_ahead_20 : decode cX0_ahead 20 = .ok (.ifCond .ne 7, 3) := dk_154 0 7 (dk_at dksX0_ahead_0 20 rfl rfl)
theorem dX0_ahead_23 : decode cX0_ahead 23 = .ok (.lconst 0, 1) := dk_9 (dk_at dksX0_ahead_0 23 rfl rfl)
theorem dX0_ahead_24 : decode cX0_ahead 24 = .ok (.goto 18, 3) := dk_167 0 18 (dk_at dksX0_ahead_1 0 rfl rfl)
theorem dX0_ahead_27 : decode cX0_ahead 27 = .ok (.aload_n 0, 1) := dk_42 (dk_at dksX0_ahead_1 3 rfl rfl)
theorem dX0_ahead_28 : decode cX0_ahead 28 = .ok (.getfield 66, 3) := dk_180 0 66 (dk_at dksX0_ahead_1 4 rfl rfl)
theorem dX0_ahead_31 : decode cX0_ahead 31 = .ok (.aload_n 0, 1) := dk_42 (dk_at dksX0_ahead_1 7 rfl rfl)
theorem dX0_ahead_32 : decode cX0_ahead 32 = .ok (.getfield 222, 3) := dk_180 0 222 (dk_at dksX0_ahead_1 8 rfl rfl)
theorem dX0_ahead_35 : decode cX0_ahead 35 = .ok (.iconst 1, 1) := dk_4 (dk_at dksX0_ahead_1 11 rfl rfl)
theorem dX0_ahead_36 : decode cX0_ahead 36 = .ok (.isub, 1) := dk_100 (dk_at dksX0_ahead_1 12 rfl rfl)
theorem dX0_ahead_37 : decode cX0_ahead 37 = .ok (.aaload, 1) := dk_50 (dk_at dksX0_ahead_1 13 rfl rfl)
theorem dX0_ahead_38 : decode cX0_ahead 38 = .ok (.iload_n 1, 1) := dk_27 (dk_at dksX0_ahead_1 14 rfl rfl)
theorem dX0_ahead_39 : decode cX0_ahead 39 = .ok (.iconst 1, 1) := dk_4 (dk_at dksX0_ahead_1 15 rfl rfl)
theorem dX0_ahead_40 : decode cX0_ahead 40 = .ok (.isub, 1) := dk_100 (dk_at dksX0_ahead_1 16 rfl rfl)
theorem dX0_ahead_41 : decode cX0_ahead 41 = .ok (.laload, 1) := dk_47 (dk_at dksX0_ahead_1 17 rfl rfl)
theorem dX0_ahead_42 : decode cX0_ahead 42 = .ok (.lreturn, 1) := dk_173 (dk_at dksX0_ahead_1 18 rfl rfl)
abbrev cX0_taken : ByteArray := prog_1_method_28_code
def yX0_taken : MethodName := ⟨RX0, "taken", "(II)I"⟩
def dkwX0_taken_1 : List UInt8 := [180, 0, 75, 28, 46, 167, 0, 4, 2, 172]
abbrev dktX0_taken_1 : List UInt8 := dkwX0_taken_1 ++ []
def dkwX0_taken_0 : List UInt8 := [28, 3, 42, 180, 0, 158, 4, 100, 184, 0, 130, 153, 0, 20, 42, 27, 182, 0, 239, 153, 0, 12, 42]
abbrev dktX0_taken_0 : List UInt8 := dkwX0_taken_0 ++ dktX0_taken_1
theorem dksX0_taken_0 : cX0_taken.data.toList.drop 0 = dktX0_taken_0 := by decide +kernel
theorem dksX0_taken_1 : cX0_taken.data.toList.drop 23 = dktX0_taken_1 := dk_seg dksX0_taken_0 23 rfl rfl
theorem dX0_taken_0 : decode cX0_taken 0 = .ok (.iload_n 2, 1) := dk_28 (dk_at dksX0_taken_0 0 rfl rfl)
theorem dX0_taken_1 : decode cX0_taken 1 = .ok (.iconst 0, 1) := dk_3 (dk_at dksX0_taken_0 1 rfl rfl)
theorem dX0_taken_2 : decode cX0_taken 2 = .ok (.aload_n 0, 1) := dk_42 (dk_at dksX0_taken_0 2 rfl rfl)
theorem dX0_taken_3 : decode cX0_taken 3 = .ok (.getfield 158, 3) := dk_180 0 158 (dk_at dksX0_taken_0 3 rfl rfl)
theorem dX0_taken_6 : decode cX0_taken 6 = .ok (.iconst 1, 1) := dk_4 (dk_at dksX0_taken_0 6 rfl rfl)
theorem dX0_taken_7 : decode cX0_taken 7 = .ok (.isub, 1) := dk_100 (dk_at dksX0_taken_0 7 rfl rfl)
theorem dX0_taken_8 : decode cX0_taken 8 = .ok (.invokestatic 130, 3) := dk_184 0 130 (dk_at dksX0_taken_0 8 rfl rfl)
theorem dX0_taken_11 : decode cX0_taken 11 = .ok (.ifCond .eq 20, 3) := dk_153 0 20 (dk_at dksX0_taken_0 11 rfl rfl)
theorem dX0_taken_14 : decode cX0_taken 14 = .ok (.aload_n 0, 1) := dk_42 (dk_at dksX0_taken_0 14 rfl rfl)
theorem dX0_taken_15 : decode cX0_taken 15 = .ok (.iload_n 1, 1) := dk_27 (dk_at dksX0_taken_0 15 rfl rfl)
theorem dX0_taken_16 : decode cX0_taken 16 = .ok (.invokevirtual 239, 3) := dk_182 0 239 (dk_at dksX0_taken_0 16 rfl rfl)
theorem dX0_taken_19 : decode cX0_taken 19 = .ok (.ifCond .eq 12, 3) := dk_153 0 12 (dk_at dksX0_taken_0 19 rfl rfl)
theorem dX0_taken_22 : decode cX0_taken 22 = .ok (.aload_n 0, 1) := dk_42 (dk_at dksX0_taken_0 22 rfl rfl)
theorem dX0_taken_23 : decode cX0_taken 23 = .ok (.getfield 75, 3) := dk_180 0 75 (dk_at dksX0_taken_1 0 rfl rfl)
theorem dX0_taken_26 : decode cX0_taken 26 = .ok (.iload_n 2, 1) := dk_28 (dk_at dksX0_taken_1 3 rfl rfl)
theorem dX0_taken_27 : decode cX0_taken 27 = .ok (.iaload, 1) := dk_46 (dk_at dksX0_taken_1 4 rfl rfl)
theorem dX0_taken_28 : decode cX0_taken 28 = .ok (.goto 4, 3) := dk_167 0 4 (dk_at dksX0_taken_1 5 rfl rfl)
theorem dX0_taken_31 : decode cX0_taken 31 = .ok (.iconst (-1), 1) := dk_2 (dk_at dksX0_taken_1 8 rfl rfl)
theorem dX0_taken_32 : decode cX0_taken 32 = .ok (.ireturn, 1) := dk_172 (dk_at dksX0_taken_1 9 rfl rfl)
abbrev cX0_open : ByteArray := prog_1_method_29_code
def yX0_open : MethodName := ⟨RX0, "open", "()I"⟩
def dkwX0_open_6 : List UInt8 := [167, 255, 149, 27, 172]
abbrev dktX0_open_6 : List UInt8 := dkwX0_open_6 ++ []
def dkwX0_open_5 : List UInt8 := [158, 0, 13, 27, 4, 25, 5, 180, 0, 190, 120, 128, 60, 132, 6, 1, 167, 255, 181, 132, 4, 1]
abbrev dktX0_open_5 : List UInt8 := dkwX0_open_5 ++ dktX0_open_6
def dkwX0_open_4 : List UInt8 := [182, 0, 175, 182, 0, 232, 132, 7, 1, 167, 255, 228, 42, 42, 180, 0, 158, 182, 0, 235, 9, 148]
abbrev dktX0_open_4 : List UInt8 := dkwX0_open_4 ++ dktX0_open_5
def dkwX0_open_3 : List UInt8 := [3, 54, 7, 21, 7, 25, 5, 21, 6, 182, 0, 167, 162, 0, 22, 42, 25, 5, 21, 6, 21, 7]
abbrev dktX0_open_3 : List UInt8 := dkwX0_open_3 ++ dktX0_open_4
def dkwX0_open_2 : List UInt8 := [153, 0, 6, 167, 0, 84, 4, 54, 6, 21, 6, 25, 5, 182, 0, 193, 163, 0, 71, 42, 3, 181, 0, 222]
abbrev dktX0_open_2 : List UInt8 := dkwX0_open_2 ++ dktX0_open_3
def dkwX0_open_1 : List UInt8 := [77, 44, 190, 62, 3, 54, 4, 21, 4, 29, 162, 0, 107, 44, 21, 4, 50, 58, 5, 25, 5, 180, 0, 196]
abbrev dktX0_open_1 : List UInt8 := dkwX0_open_1 ++ dktX0_open_2
def dkwX0_open_0 : List UInt8 := [42, 180, 0, 158, 16, 24, 160, 0, 5, 3, 172, 42, 182, 0, 219, 3, 60, 42, 182, 0, 186, 180, 0, 189]
abbrev dktX0_open_0 : List UInt8 := dkwX0_open_0 ++ dktX0_open_1
theorem dksX0_open_0 : cX0_open.data.toList.drop 0 = dktX0_open_0 := by decide +kernel
theorem dksX0_open_1 : cX0_open.data.toList.drop 24 = dktX0_open_1 := dk_seg dksX0_open_0 24 rfl rfl
theorem dksX0_open_2 : cX0_open.data.toList.drop 48 = dktX0_open_2 := dk_seg dksX0_open_1 24 rfl rfl
theorem dksX0_open_3 : cX0_open.data.toList.drop 72 = dktX0_open_3 := dk_seg dksX0_open_2 24 rfl rfl
theorem dksX0_open_4 : cX0_open.data.toList.drop 94 = dktX0_open_4 := dk_seg dksX0_open_3 22 rfl rfl
theorem dksX0_open_5 : cX0_open.data.toList.drop 116 = dktX0_open_5 := dk_seg dksX0_open_4 22 rfl rfl
theorem dksX0_open_6 : cX0_open.data.toList.drop 138 = dktX0_open_6 := dk_seg dksX0_open_5 22 rfl rfl
theorem dX0_open_0 : decode cX0_open 0 = .ok (.aload_n 0, 1) := dk_42 (dk_at dksX0_open_0 0 rfl rfl)
theorem dX0_open_1 : decode cX0_open 1 = .ok (.getfield 158, 3) := dk_180 0 158 (dk_at dksX0_open_0 1 rfl rfl)
theorem dX0_open_4 : decode cX0_open 4 = .ok (.bipush 24, 2) := dk_16 24 (dk_at dksX0_open_0 4 rfl rfl)
theorem dX0_open_6 : decode cX0_open 6 = .ok (.if_icmp .ne 5, 3) := dk_160 0 5 (dk_at dksX0_open_0 6 rfl rfl)
theorem dX0_open_9 : decode cX0_open 9 = .ok (.iconst 0, 1) := dk_3 (dk_at dksX0_open_0 9 rfl rfl)
theorem dX0_open_10 : decode cX0_open 10 = .ok (.ireturn, 1) := dk_172 (dk_at dksX0_open_0 10 rfl rfl)
theorem dX0_open_11 : decode cX0_open 11 = .ok (.aload_n 0, 1) := dk_42 (dk_at dksX0_open_0 11 rfl rfl)
theorem dX0_open_12 : decode cX0_open 12 = .ok (.invokevirtual 219, 3) := dk_182 0 219 (dk_at dksX0_open_0 12 rfl rfl)
theorem dX0_open_15 : decode cX0_open 15 = .ok (.iconst 0, 1) := dk_3 (dk_at dksX0_open_0 15 rfl rfl)
theorem dX0_open_16 : decode cX0_open 16 = .ok (.istore_n 1, 1) := dk_60 (dk_at dksX0_open_0 16 rfl rfl)
theorem dX0_open_17 : decode cX0_open 17 = .ok (.aload_n 0, 1) := dk_42 (dk_at dksX0_open_0 17 rfl rfl)
theorem dX0_open_18 : decode cX0_open 18 = .ok (.invokevirtual 186, 3) := dk_182 0 186 (dk_at dksX0_open_0 18 rfl rfl)
theorem dX0_open_21 : decode cX0_open 21 = .ok (.getfield 189, 3) := dk_180 0 189 (dk_at dksX0_open_0 21 rfl rfl)
theorem dX0_open_24 : decode cX0_open 24 = .ok (.astore_n 2, 1) := dk_77 (dk_at dksX0_open_1 0 rfl rfl)
theorem dX0_open_25 : decode cX0_open 25 = .ok (.aload_n 2, 1) := dk_44 (dk_at dksX0_open_1 1 rfl rfl)
theorem dX0_open_26 : decode cX0_open 26 = .ok (.arraylength, 1) := dk_190 (dk_at dksX0_open_1 2 rfl rfl)
theorem dX0_open_27 : decode cX0_open 27 = .ok (.istore_n 3, 1) := dk_62 (dk_at dksX0_open_1 3 rfl rfl)
theorem dX0_open_28 : decode cX0_open 28 = .ok (.iconst 0, 1) := dk_3 (dk_at dksX0_open_1 4 rfl rfl)
theorem dX0_open_29 : decode cX0_open 29 = .ok (.istore 4, 2) := dk_54 4 (dk_at dksX0_open_1 5 rfl rfl)
theorem dX0_open_31 : decode cX0_open 31 = .ok (.iload 4, 2) := dk_21 4 (dk_at dksX0_open_1 7 rfl rfl)
theorem dX0_open_33 : decode cX0_open 33 = .ok (.iload_n 3, 1) := dk_29 (dk_at dksX0_open_1 9 rfl rfl)
theorem dX0_open_34 : decode cX0_open 34 = .ok (.if_icmp .ge 107, 3) := dk_162 0 107 (dk_at dksX0_open_1 10 rfl rfl)
theorem dX0_open_37 : decode cX0_open 37 = .ok (.aload_n 2, 1) := dk_44 (dk_at dksX0_open_1 13 rfl rfl)
theorem dX0_open_38 : decode cX0_open 38 = .ok (.iload 4, 2) := dk_21 4 (dk_at dksX0_open_1 14 rfl rfl)
theorem dX0_open_40 : decode cX0_open 40 = .ok (.aaload, 1) := dk_50 (dk_at dksX0_open_1 16 rfl rfl)
theorem dX0_open_41 : decode cX0_open 41 = .ok (.astore 5, 2) := dk_58 5 (dk_at dksX0_open_1 17 rfl rfl)
theorem dX0_open_43 : decode cX0_open 43 = .ok (.aload 5, 2) := dk_25 5 (dk_at dksX0_open_1 19 rfl rfl)
theorem dX0_open_45 : decode cX0_open 45 = .ok (.getfield 196, 3) := dk_180 0 196 (dk_at dksX0_open_1 21 rfl rfl)
theorem dX0_open_48 : decode cX0_open 48 = .ok (.ifCond .eq 6, 3) := dk_153 0 6 (dk_at dksX0_open_2 0 rfl rfl)
theorem dX0_open_51 : decode cX0_open 51 = .ok (.goto 84, 3) := dk_167 0 84 (dk_at dksX0_open_2 3 rfl rfl)
theorem dX0_open_54 : decode cX0_open 54 = .ok (.iconst 1, 1) := dk_4 (dk_at dksX0_open_2 6 rfl rfl)
theorem dX0_open_55 : decode cX0_open 55 = .ok (.istore 6, 2) := dk_54 6 (dk_at dksX0_open_2 7 rfl rfl)
theorem dX0_open_57 : decode cX0_open 57 = .ok (.iload 6, 2) := dk_21 6 (dk_at dksX0_open_2 9 rfl rfl)
theorem dX0_open_59 : decode cX0_open 59 = .ok (.aload 5, 2) := dk_25 5 (dk_at dksX0_open_2 11 rfl rfl)
theorem dX0_open_61 : decode cX0_open 61 = .ok (.invokevirtual 193, 3) := dk_182 0 193 (dk_at dksX0_open_2 13 rfl rfl)
theorem dX0_open_64 : decode cX0_open 64 = .ok (.if_icmp .gt 71, 3) := dk_163 0 71 (dk_at dksX0_open_2 16 rfl rfl)
theorem dX0_open_67 : decode cX0_open 67 = .ok (.aload_n 0, 1) := dk_42 (dk_at dksX0_open_2 19 rfl rfl)
theorem dX0_open_68 : decode cX0_open 68 = .ok (.iconst 0, 1) := dk_3 (dk_at dksX0_open_2 20 rfl rfl)
theorem dX0_open_69 : decode cX0_open 69 = .ok (.putfield 222, 3) := dk_181 0 222 (dk_at dksX0_open_2 21 rfl rfl)
theorem dX0_open_72 : decode cX0_open 72 = .ok (.iconst 0, 1) := dk_3 (dk_at dksX0_open_3 0 rfl rfl)
theorem dX0_open_73 : decode cX0_open 73 = .ok (.istore 7, 2) := dk_54 7 (dk_at dksX0_open_3 1 rfl rfl)
theorem dX0_open_75 : decode cX0_open 75 = .ok (.iload 7, 2) := dk_21 7 (dk_at dksX0_open_3 3 rfl rfl)
theorem dX0_open_77 : decode cX0_open 77 = .ok (.aload 5, 2) := dk_25 5 (dk_at dksX0_open_3 5 rfl rfl)
theorem dX0_open_79 : decode cX0_open 79 = .ok (.iload 6, 2) := dk_21 6 (dk_at dksX0_open_3 7 rfl rfl)
theorem dX0_open_81 : decode cX0_open 81 = .ok (.invokevirtual 167, 3) := dk_182 0 167 (dk_at dksX0_open_3 9 rfl rfl)
theorem dX0_open_84 : decode cX0_open 84 = .ok (.if_icmp .ge 22, 3) := dk_162 0 22 (dk_at dksX0_open_3 12 rfl rfl)
theorem dX0_open_87 : decode cX0_open 87 = .ok (.aload_n 0, 1) := dk_42 (dk_at dksX0_open_3 15 rfl rfl)
theorem dX0_open_88 : decode cX0_open 88 = .ok (.aload 5, 2) := dk_25 5 (dk_at dksX0_open_3 16 rfl rfl)
theorem dX0_open_90 : decode cX0_open 90 = .ok (.iload 6, 2) := dk_21 6 (dk_at dksX0_open_3 18 rfl rfl)
theorem dX0_open_92 : decode cX0_open 92 = .ok (.iload 7, 2) := dk_21 7 (dk_at dksX0_open_3 20 rfl rfl)
theorem dX0_open_94 : decode cX0_open 94 = .ok (.invokevirtual 175, 3) := dk_182 0 175 (dk_at dksX0_open_4 0 rfl rfl)
theorem dX0_open_97 : decode cX0_open 97 = .ok (.invokevirtual 232, 3) := dk_182 0 232 (dk_at dksX0_open_4 3 rfl rfl)
theorem dX0_open_100 : decode cX0_open 100 = .ok (.iinc 7 1, 3) := dk_132 7 1 (dk_at dksX0_open_4 6 rfl rfl)
theorem dX0_open_103 : decode cX0_open 103 = .ok (.goto (-28), 3) := dk_167 255 228 (dk_at dksX0_open_4 9 rfl rfl)
theorem dX0_open_106 : decode cX0_open 106 = .ok (.aload_n 0, 1) := dk_42 (dk_at dksX0_open_4 12 rfl rfl)
theorem dX0_open_107 : decode cX0_open 107 = .ok (.aload_n 0, 1) := dk_42 (dk_at dksX0_open_4 13 rfl rfl)
theorem dX0_open_108 : decode cX0_open 108 = .ok (.getfield 158, 3) := dk_180 0 158 (dk_at dksX0_open_4 14 rfl rfl)
theorem dX0_open_111 : decode cX0_open 111 = .ok (.invokevirtual 235, 3) := dk_182 0 235 (dk_at dksX0_open_4 17 rfl rfl)
theorem dX0_open_114 : decode cX0_open 114 = .ok (.lconst 0, 1) := dk_9 (dk_at dksX0_open_4 20 rfl rfl)
theorem dX0_open_115 : decode cX0_open 115 = .ok (.lcmp, 1) := dk_148 (dk_at dksX0_open_4 21 rfl rfl)
theorem dX0_open_116 : decode cX0_open 116 = .ok (.ifCond .le 13, 3) := dk_158 0 13 (dk_at dksX0_open_5 0 rfl rfl)
theorem dX0_open_119 : decode cX0_open 119 = .ok (.iload_n 1, 1) := dk_27 (dk_at dksX0_open_5 3 rfl rfl)
theorem dX0_open_120 : decode cX0_open 120 = .ok (.iconst 1, 1) := dk_4 (dk_at dksX0_open_5 4 rfl rfl)
theorem dX0_open_121 : decode cX0_open 121 = .ok (.aload 5, 2) := dk_25 5 (dk_at dksX0_open_5 5 rfl rfl)
theorem dX0_open_123 : decode cX0_open 123 = .ok (.getfield 190, 3) := dk_180 0 190 (dk_at dksX0_open_5 7 rfl rfl)
theorem dX0_open_126 : decode cX0_open 126 = .ok (.ishl, 1) := dk_120 (dk_at dksX0_open_5 10 rfl rfl)
theorem dX0_open_127 : decode cX0_open 127 = .ok (.ior, 1) := dk_128 (dk_at dksX0_open_5 11 rfl rfl)
theorem dX0_open_128 : decode cX0_open 128 = .ok (.istore_n 1, 1) := dk_60 (dk_at dksX0_open_5 12 rfl rfl)
theorem dX0_open_129 : decode cX0_open 129 = .ok (.iinc 6 1, 3) := dk_132 6 1 (dk_at dksX0_open_5 13 rfl rfl)
theorem dX0_open_132 : decode cX0_open 132 = .ok (.goto (-75), 3) := dk_167 255 181 (dk_at dksX0_open_5 16 rfl rfl)
theorem dX0_open_135 : decode cX0_open 135 = .ok (.iinc 4 1, 3) := dk_132 4 1 (dk_at dksX0_open_5 19 rfl rfl)
theorem dX0_open_138 : decode cX0_open 138 = .ok (.goto (-107), 3) := dk_167 255 149 (dk_at dksX0_open_6 0 rfl rfl)
theorem dX0_open_141 : decode cX0_open 141 = .ok (.iload_n 1, 1) := dk_27 (dk_at dksX0_open_6 3 rfl rfl)
theorem dX0_open_142 : decode cX0_open 142 = .ok (.ireturn, 1) := dk_172 (dk_at dksX0_open_6 4 rfl rfl)
abbrev cX0_most : ByteArray := prog_1_method_33_code
def yX0_most : MethodName := ⟨RX0, "most", "(I)I"⟩
def dkwX0_most_1 : List UInt8 := [167, 0, 4, 2, 172]
abbrev dktX0_most_1 : List UInt8 := dkwX0_most_1 ++ []
def dkwX0_most_0 : List UInt8 := [27, 2, 160, 0, 10, 42, 182, 0, 255, 167, 0, 19, 42, 27, 182, 0, 239, 153, 0, 10, 42, 182, 1, 2]
abbrev dktX0_most_0 : List UInt8 := dkwX0_most_0 ++ dktX0_most_1
theorem dksX0_most_0 : cX0_most.data.toList.drop 0 = dktX0_most_0 := by decide +kernel
theorem dksX0_most_1 : cX0_most.data.toList.drop 24 = dktX0_most_1 := dk_seg dksX0_most_0 24 rfl rfl
theorem dX0_most_0 : decode cX0_most 0 = .ok (.iload_n 1, 1) := dk_27 (dk_at dksX0_most_0 0 rfl rfl)
theorem dX0_most_1 : decode cX0_most 1 = .ok (.iconst (-1), 1) := dk_2 (dk_at dksX0_most_0 1 rfl rfl)
theorem dX0_most_2 : decode cX0_most 2 = .ok (.if_icmp .ne 10, 3) := dk_160 0 10 (dk_at dksX0_most_0 2 rfl rfl)
theorem dX0_most_5 : decode cX0_most 5 = .ok (.aload_n 0, 1) := dk_42 (dk_at dksX0_most_0 5 rfl rfl)
theorem dX0_most_6 : decode cX0_most 6 = .ok (.invokevirtual 255, 3) := dk_182 0 255 (dk_at dksX0_most_0 6 rfl rfl)
theorem dX0_most_9 : decode cX0_most 9 = .ok (.goto 19, 3) := dk_167 0 19 (dk_at dksX0_most_0 9 rfl rfl)
theorem dX0_most_12 : decode cX0_most 12 = .ok (.aload_n 0, 1) := dk_42 (dk_at dksX0_most_0 12 rfl rfl)
theorem dX0_most_13 : decode cX0_most 13 = .ok (.iload_n 1, 1) := dk_27 (dk_at dksX0_most_0 13 rfl rfl)
theorem dX0_most_14 : decode cX0_most 14 = .ok (.invokevirtual 239, 3) := dk_182 0 239 (dk_at dksX0_most_0 14 rfl rfl)
theorem dX0_most_17 : decode cX0_most 17 = .ok (.ifCond .eq 10, 3) := dk_153 0 10 (dk_at dksX0_most_0 17 rfl rfl)
theorem dX0_most_20 : decode cX0_most 20 = .ok (.aload_n 0, 1) := dk_42 (dk_at dksX0_most_0 20 rfl rfl)
theorem dX0_most_21 : decode cX0_most 21 = .ok (.invokevirtual 258, 3) := dk_182 1 2 (dk_at dksX0_most_0 21 rfl rfl)
theorem dX0_most_24 : decode cX0_most 24 = .ok (.goto 4, 3) := dk_167 0 4 (dk_at dksX0_most_1 0 rfl rfl)
theorem dX0_most_27 : decode cX0_most 27 = .ok (.iconst (-1), 1) := dk_2 (dk_at dksX0_most_1 3 rfl rfl)
theorem dX0_most_28 : decode cX0_most 28 = .ok (.ireturn, 1) := dk_172 (dk_at dksX0_most_1 4 rfl rfl)
abbrev cX0_ease : ByteArray := prog_1_method_32_code
def yX0_ease : MethodName := ⟨RX0, "ease", "()I"⟩
def dkwX0_ease_10 : List UInt8 := [184, 0, 161, 104, 46, 172]
abbrev dktX0_ease_10 : List UInt8 := dkwX0_ease_10 ++ []
def dkwX0_ease_9 : List UInt8 := [17, 3, 232, 161, 0, 7, 2, 167, 0, 21, 42, 180, 0, 78, 16, 8, 3, 42, 180, 0, 158, 4, 100]
abbrev dktX0_ease_9 : List UInt8 := dkwX0_ease_9 ++ dktX0_ease_10
def dkwX0_ease_8 : List UInt8 := [180, 0, 158, 153, 0, 27, 42, 180, 0, 78, 16, 8, 3, 42, 180, 0, 158, 4, 100, 184, 0, 161, 104, 46]
abbrev dktX0_ease_8 : List UInt8 := dkwX0_ease_8 ++ dktX0_ease_9
def dkwX0_ease_7 : List UInt8 := [167, 255, 210, 132, 5, 1, 167, 255, 155, 132, 2, 1, 167, 255, 94, 132, 1, 255, 167, 255, 82, 42]
abbrev dktX0_ease_7 : List UInt8 := dkwX0_ease_7 ++ dktX0_ease_8
def dkwX0_ease_6 : List UInt8 := [46, 4, 42, 25, 6, 21, 8, 27, 28, 4, 100, 182, 0, 251, 184, 0, 246, 184, 0, 249, 79, 132, 8, 1]
abbrev dktX0_ease_6 : List UInt8 := dkwX0_ease_6 ++ dktX0_ease_7
def dkwX0_ease_5 : List UInt8 := [54, 8, 21, 8, 25, 6, 182, 0, 193, 163, 0, 42, 42, 180, 0, 78, 21, 7, 42, 180, 0, 78, 21, 7]
abbrev dktX0_ease_5 : List UInt8 := dkwX0_ease_5 ++ dktX0_ease_6
def dkwX0_ease_4 : List UInt8 := [159, 0, 6, 167, 0, 71, 16, 8, 27, 28, 184, 0, 161, 104, 25, 6, 180, 0, 196, 96, 54, 7, 4]
abbrev dktX0_ease_4 : List UInt8 := dkwX0_ease_4 ++ dktX0_ease_5
def dkwX0_ease_3 : List UInt8 := [21, 4, 162, 0, 100, 45, 21, 5, 50, 58, 6, 25, 6, 180, 0, 190, 42, 180, 0, 34, 28, 46]
abbrev dktX0_ease_3 : List UInt8 := dkwX0_ease_3 ++ dktX0_ease_4
def dkwX0_ease_2 : List UInt8 := [132, 3, 1, 167, 255, 229, 42, 182, 0, 186, 180, 0, 189, 78, 45, 190, 54, 4, 3, 54, 5, 21, 5]
abbrev dktX0_ease_2 : List UInt8 := dkwX0_ease_2 ++ dktX0_ease_3
def dkwX0_ease_1 : List UInt8 := [16, 8, 162, 0, 27, 42, 180, 0, 78, 16, 8, 27, 28, 184, 0, 161, 104, 29, 96, 17, 3, 232, 79]
abbrev dktX0_ease_1 : List UInt8 := dkwX0_ease_1 ++ dktX0_ease_2
def dkwX0_ease_0 : List UInt8 := [42, 180, 0, 158, 4, 100, 60, 27, 155, 0, 176, 27, 61, 28, 42, 180, 0, 158, 162, 0, 160, 3, 62, 29]
abbrev dktX0_ease_0 : List UInt8 := dkwX0_ease_0 ++ dktX0_ease_1
theorem dksX0_ease_0 : cX0_ease.data.toList.drop 0 = dktX0_ease_0 := by decide +kernel
theorem dksX0_ease_1 : cX0_ease.data.toList.drop 24 = dktX0_ease_1 := dk_seg dksX0_ease_0 24 rfl rfl
theorem dksX0_ease_2 : cX0_ease.data.toList.drop 47 = dktX0_ease_2 := dk_seg dksX0_ease_1 23 rfl rfl
theorem dksX0_ease_3 : cX0_ease.data.toList.drop 70 = dktX0_ease_3 := dk_seg dksX0_ease_2 23 rfl rfl
theorem dksX0_ease_4 : cX0_ease.data.toList.drop 92 = dktX0_ease_4 := dk_seg dksX0_ease_3 22 rfl rfl
theorem dksX0_ease_5 : cX0_ease.data.toList.drop 115 = dktX0_ease_5 := dk_seg dksX0_ease_4 23 rfl rfl
theorem dksX0_ease_6 : cX0_ease.data.toList.drop 139 = dktX0_ease_6 := dk_seg dksX0_ease_5 24 rfl rfl
theorem dksX0_ease_7 : cX0_ease.data.toList.drop 163 = dktX0_ease_7 := dk_seg dksX0_ease_6 24 rfl rfl
theorem dksX0_ease_8 : cX0_ease.data.toList.drop 185 = dktX0_ease_8 := dk_seg dksX0_ease_7 22 rfl rfl
theorem dksX0_ease_9 : cX0_ease.data.toList.drop 209 = dktX0_ease_9 := dk_seg dksX0_ease_8 24 rfl rfl
theorem dksX0_ease_10 : cX0_ease.data.toList.drop 232 = dktX0_ease_10 := dk_seg dksX0_ease_9 23 rfl rfl
theorem dX0_ease_0 : decode cX0_ease 0 = .ok (.aload_n 0, 1) := dk_42 (dk_at dksX0_ease_0 0 rfl rfl)
theorem dX0_ease_1 : decode cX0_ease 1 = .ok (.getfield 158, 3) := dk_180 0 158 (dk_at dksX0_ease_0 1 rfl rfl)
theorem dX0_ease_4 : decode cX0_ease 4 = .ok (.iconst 1, 1) := dk_4 (dk_at dksX0_ease_0 4 rfl rfl)
theorem dX0_ease_5 : decode cX0_ease 5 = .ok (.isub, 1) := dk_100 (dk_at dksX0_ease_0 5 rfl rfl)
theorem dX0_ease_6 : decode cX0_ease 6 = .ok (.istore_n 1, 1) := dk_60 (dk_at dksX0_ease_0 6 rfl rfl)
theorem dX0_ease_7 : decode cX0_ease 7 = .ok (.iload_n 1, 1) := dk_27 (dk_at dksX0_ease_0 7 rfl rfl)
theorem dX0_ease_8 : decode cX0_ease 8 = .ok (.ifCond .lt 176, 3) := dk_155 0 176 (dk_at dksX0_ease_0 8 rfl rfl)
theorem dX0_ease_11 : decode cX0_ease 11 = .ok (.iload_n 1, 1) := dk_27 (dk_at dksX0_ease_0 11 rfl rfl)
theorem dX0_ease_12 : decode cX0_ease 12 = .ok (.istore_n 2, 1) := dk_61 (dk_at dksX0_ease_0 12 rfl rfl)
theorem dX0_ease_13 : decode cX0_ease 13 = .ok (.iload_n 2, 1) := dk_28 (dk_at dksX0_ease_0 13 rfl rfl)
theorem dX0_ease_14 : decode cX0_ease 14 = .ok (.aload_n 0, 1) := dk_42 (dk_at dksX0_ease_0 14 rfl rfl)
theorem dX0_ease_15 : decode cX0_ease 15 = .ok (.getfield 158, 3) := dk_180 0 158 (dk_at dksX0_ease_0 15 rfl rfl)
theorem dX0_ease_18 : decode cX0_ease 18 = .ok (.if_icmp .ge 160, 3) := dk_162 0 160 (dk_at dksX0_ease_0 18 rfl rfl)
theorem dX0_ease_21 : decode cX0_ease 21 = .ok (.iconst 0, 1) := dk_3 (dk_at dksX0_ease_0 21 rfl rfl)
theorem dX0_ease_22 : decode cX0_ease 22 = .ok (.istore_n 3, 1) := dk_62 (dk_at dksX0_ease_0 22 rfl rfl)
theorem dX0_ease_23 : decode cX0_ease 23 = .ok (.iload_n 3, 1) := dk_29 (dk_at dksX0_ease_0 23 rfl rfl)
theorem dX0_ease_24 : decode cX0_ease 24 = .ok (.bipush 8, 2) := dk_16 8 (dk_at dksX0_ease_1 0 rfl rfl)
theorem dX0_ease_26 : decode cX0_ease 26 = .ok (.if_icmp .ge 27, 3) := dk_162 0 27 (dk_at dksX0_ease_1 2 rfl rfl)
theorem dX0_ease_29 : decode cX0_ease 29 = .ok (.aload_n 0, 1) := dk_42 (dk_at dksX0_ease_1 5 rfl rfl)
theorem dX0_ease_30 : decode cX0_ease 30 = .ok (.getfield 78, 3) := dk_180 0 78 (dk_at dksX0_ease_1 6 rfl rfl)
theorem dX0_ease_33 : decode cX0_ease 33 = .ok (.bipush 8, 2) := dk_16 8 (dk_at dksX0_ease_1 9 rfl rfl)
theorem dX0_ease_35 : decode cX0_ease 35 = .ok (.iload_n 1, 1) := dk_27 (dk_at dksX0_ease_1 11 rfl rfl)
theorem dX0_ease_36 : decode cX0_ease 36 = .ok (.iload_n 2, 1) := dk_28 (dk_at dksX0_ease_1 12 rfl rfl)
theorem dX0_ease_37 : decode cX0_ease 37 = .ok (.invokestatic 161, 3) := dk_184 0 161 (dk_at dksX0_ease_1 13 rfl rfl)
theorem dX0_ease_40 : decode cX0_ease 40 = .ok (.imul, 1) := dk_104 (dk_at dksX0_ease_1 16 rfl rfl)
theorem dX0_ease_41 : decode cX0_ease 41 = .ok (.iload_n 3, 1) := dk_29 (dk_at dksX0_ease_1 17 rfl rfl)
theorem dX0_ease_42 : decode cX0_ease 42 = .ok (.iadd, 1) := dk_96 (dk_at dksX0_ease_1 18 rfl rfl)
theorem dX0_ease_43 : decode cX0_ease 43 = .ok (.sipush 1000, 3) := dk_17 3 232 (dk_at dksX0_ease_1 19 rfl rfl)
theorem dX0_ease_46 : decode cX0_ease 46 = .ok (.iastore, 1) := dk_79 (dk_at dksX0_ease_1 22 rfl rfl)
theorem dX0_ease_47 : decode cX0_ease 47 = .ok (.iinc 3 1, 3) := dk_132 3 1 (dk_at dksX0_ease_2 0 rfl rfl)
theorem dX0_ease_50 : decode cX0_ease 50 = .ok (.goto (-27), 3) := dk_167 255 229 (dk_at dksX0_ease_2 3 rfl rfl)
theorem dX0_ease_53 : decode cX0_ease 53 = .ok (.aload_n 0, 1) := dk_42 (dk_at dksX0_ease_2 6 rfl rfl)
theorem dX0_ease_54 : decode cX0_ease 54 = .ok (.invokevirtual 186, 3) := dk_182 0 186 (dk_at dksX0_ease_2 7 rfl rfl)
theorem dX0_ease_57 : decode cX0_ease 57 = .ok (.getfield 189, 3) := dk_180 0 189 (dk_at dksX0_ease_2 10 rfl rfl)
theorem dX0_ease_60 : decode cX0_ease 60 = .ok (.astore_n 3, 1) := dk_78 (dk_at dksX0_ease_2 13 rfl rfl)
theorem dX0_ease_61 : decode cX0_ease 61 = .ok (.aload_n 3, 1) := dk_45 (dk_at dksX0_ease_2 14 rfl rfl)
theorem dX0_ease_62 : decode cX0_ease 62 = .ok (.arraylength, 1) := dk_190 (dk_at dksX0_ease_2 15 rfl rfl)
theorem dX0_ease_63 : decode cX0_ease 63 = .ok (.istore 4, 2) := dk_54 4 (dk_at dksX0_ease_2 16 rfl rfl)
theorem dX0_ease_65 : decode cX0_ease 65 = .ok (.iconst 0, 1) := dk_3 (dk_at dksX0_ease_2 18 rfl rfl)
theorem dX0_ease_66 : decode cX0_ease 66 = .ok (.istore 5, 2) := dk_54 5 (dk_at dksX0_ease_2 19 rfl rfl)
theorem dX0_ease_68 : decode cX0_ease 68 = .ok (.iload 5, 2) := dk_21 5 (dk_at dksX0_ease_2 21 rfl rfl)
theorem dX0_ease_70 : decode cX0_ease 70 = .ok (.iload 4, 2) := dk_21 4 (dk_at dksX0_ease_3 0 rfl rfl)
theorem dX0_ease_72 : decode cX0_ease 72 = .ok (.if_icmp .ge 100, 3) := dk_162 0 100 (dk_at dksX0_ease_3 2 rfl rfl)
theorem dX0_ease_75 : decode cX0_ease 75 = .ok (.aload_n 3, 1) := dk_45 (dk_at dksX0_ease_3 5 rfl rfl)
theorem dX0_ease_76 : decode cX0_ease 76 = .ok (.iload 5, 2) := dk_21 5 (dk_at dksX0_ease_3 6 rfl rfl)
theorem dX0_ease_78 : decode cX0_ease 78 = .ok (.aaload, 1) := dk_50 (dk_at dksX0_ease_3 8 rfl rfl)
theorem dX0_ease_79 : decode cX0_ease 79 = .ok (.astore 6, 2) := dk_58 6 (dk_at dksX0_ease_3 9 rfl rfl)
theorem dX0_ease_81 : decode cX0_ease 81 = .ok (.aload 6, 2) := dk_25 6 (dk_at dksX0_ease_3 11 rfl rfl)
theorem dX0_ease_83 : decode cX0_ease 83 = .ok (.getfield 190, 3) := dk_180 0 190 (dk_at dksX0_ease_3 13 rfl rfl)
theorem dX0_ease_86 : decode cX0_ease 86 = .ok (.aload_n 0, 1) := dk_42 (dk_at dksX0_ease_3 16 rfl rfl)
theorem dX0_ease_87 : decode cX0_ease 87 = .ok (.getfield 34, 3) := dk_180 0 34 (dk_at dksX0_ease_3 17 rfl rfl)
theorem dX0_ease_90 : decode cX0_ease 90 = .ok (.iload_n 2, 1) := dk_28 (dk_at dksX0_ease_3 20 rfl rfl)
theorem dX0_ease_91 : decode cX0_ease 91 = .ok (.iaload, 1) := dk_46 (dk_at dksX0_ease_3 21 rfl rfl)
theorem dX0_ease_92 : decode cX0_ease 92 = .ok (.if_icmp .eq 6, 3) := dk_159 0 6 (dk_at dksX0_ease_4 0 rfl rfl)
theorem dX0_ease_95 : decode cX0_ease 95 = .ok (.goto 71, 3) := dk_167 0 71 (dk_at dksX0_ease_4 3 rfl rfl)
theorem dX0_ease_98 : decode cX0_ease 98 = .ok (.bipush 8, 2) := dk_16 8 (dk_at dksX0_ease_4 6 rfl rfl)
theorem dX0_ease_100 : decode cX0_ease 100 = .ok (.iload_n 1, 1) := dk_27 (dk_at dksX0_ease_4 8 rfl rfl)
theorem dX0_ease_101 : decode cX0_ease 101 = .ok (.iload_n 2, 1) := dk_28 (dk_at dksX0_ease_4 9 rfl rfl)
theorem dX0_ease_102 : decode cX0_ease 102 = .ok (.invokestatic 161, 3) := dk_184 0 161 (dk_at dksX0_ease_4 10 rfl rfl)
theorem dX0_ease_105 : decode cX0_ease 105 = .ok (.imul, 1) := dk_104 (dk_at dksX0_ease_4 13 rfl rfl)
theorem dX0_ease_106 : decode cX0_ease 106 = .ok (.aload 6, 2) := dk_25 6 (dk_at dksX0_ease_4 14 rfl rfl)
theorem dX0_ease_108 : decode cX0_ease 108 = .ok (.getfield 196, 3) := dk_180 0 196 (dk_at dksX0_ease_4 16 rfl rfl)
theorem dX0_ease_111 : decode cX0_ease 111 = .ok (.iadd, 1) := dk_96 (dk_at dksX0_ease_4 19 rfl rfl)
theorem dX0_ease_112 : decode cX0_ease 112 = .ok (.istore 7, 2) := dk_54 7 (dk_at dksX0_ease_4 20 rfl rfl)
theorem dX0_ease_114 : decode cX0_ease 114 = .ok (.iconst 1, 1) := dk_4 (dk_at dksX0_ease_4 22 rfl rfl)
theorem dX0_ease_115 : decode cX0_ease 115 = .ok (.istore 8, 2) := dk_54 8 (dk_at dksX0_ease_5 0 rfl rfl)
theorem dX0_ease_117 : decode cX0_ease 117 = .ok (.iload 8, 2) := dk_21 8 (dk_at dksX0_ease_5 2 rfl rfl)
theorem dX0_ease_119 : decode cX0_ease 119 = .ok (.aload 6, 2) := dk_25 6 (dk_at dksX0_ease_5 4 rfl rfl)
theorem dX0_ease_121 : decode cX0_ease 121 = .ok (.invokevirtual 193, 3) := dk_182 0 193 (dk_at dksX0_ease_5 6 rfl rfl)
theorem dX0_ease_124 : decode cX0_ease 124 = .ok (.if_icmp .gt 42, 3) := dk_163 0 42 (dk_at dksX0_ease_5 9 rfl rfl)
theorem dX0_ease_127 : decode cX0_ease 127 = .ok (.aload_n 0, 1) := dk_42 (dk_at dksX0_ease_5 12 rfl rfl)
theorem dX0_ease_128 : decode cX0_ease 128 = .ok (.getfield 78, 3) := dk_180 0 78 (dk_at dksX0_ease_5 13 rfl rfl)
theorem dX0_ease_131 : decode cX0_ease 131 = .ok (.iload 7, 2) := dk_21 7 (dk_at dksX0_ease_5 16 rfl rfl)
theorem dX0_ease_133 : decode cX0_ease 133 = .ok (.aload_n 0, 1) := dk_42 (dk_at dksX0_ease_5 18 rfl rfl)
theorem dX0_ease_134 : decode cX0_ease 134 = .ok (.getfield 78, 3) := dk_180 0 78 (dk_at dksX0_ease_5 19 rfl rfl)
theorem dX0_ease_137 : decode cX0_ease 137 = .ok (.iload 7, 2) := dk_21 7 (dk_at dksX0_ease_5 22 rfl rfl)
theorem dX0_ease_139 : decode cX0_ease 139 = .ok (.iaload, 1) := dk_46 (dk_at dksX0_ease_6 0 rfl rfl)
theorem dX0_ease_140 : decode cX0_ease 140 = .ok (.iconst 1, 1) := dk_4 (dk_at dksX0_ease_6 1 rfl rfl)
theorem dX0_ease_141 : decode cX0_ease 141 = .ok (.aload_n 0, 1) := dk_42 (dk_at dksX0_ease_6 2 rfl rfl)
theorem dX0_ease_142 : decode cX0_ease 142 = .ok (.aload 6, 2) := dk_25 6 (dk_at dksX0_ease_6 3 rfl rfl)
theorem dX0_ease_144 : decode cX0_ease 144 = .ok (.iload 8, 2) := dk_21 8 (dk_at dksX0_ease_6 5 rfl rfl)
theorem dX0_ease_146 : decode cX0_ease 146 = .ok (.iload_n 1, 1) := dk_27 (dk_at dksX0_ease_6 7 rfl rfl)
theorem dX0_ease_147 : decode cX0_ease 147 = .ok (.iload_n 2, 1) := dk_28 (dk_at dksX0_ease_6 8 rfl rfl)
theorem dX0_ease_148 : decode cX0_ease 148 = .ok (.iconst 1, 1) := dk_4 (dk_at dksX0_ease_6 9 rfl rfl)
theorem dX0_ease_149 : decode cX0_ease 149 = .ok (.isub, 1) := dk_100 (dk_at dksX0_ease_6 10 rfl rfl)
theorem dX0_ease_150 : decode cX0_ease 150 = .ok (.invokevirtual 251, 3) := dk_182 0 251 (dk_at dksX0_ease_6 11 rfl rfl)
theorem dX0_ease_153 : decode cX0_ease 153 = .ok (.invokestatic 246, 3) := dk_184 0 246 (dk_at dksX0_ease_6 14 rfl rfl)
theorem dX0_ease_156 : decode cX0_ease 156 = .ok (.invokestatic 249, 3) := dk_184 0 249 (dk_at dksX0_ease_6 17 rfl rfl)
theorem dX0_ease_159 : decode cX0_ease 159 = .ok (.iastore, 1) := dk_79 (dk_at dksX0_ease_6 20 rfl rfl)
theorem dX0_ease_160 : decode cX0_ease 160 = .ok (.iinc 8 1, 3) := dk_132 8 1 (dk_at dksX0_ease_6 21 rfl rfl)
theorem dX0_ease_163 : decode cX0_ease 163 = .ok (.goto (-46), 3) := dk_167 255 210 (dk_at dksX0_ease_7 0 rfl rfl)
theorem dX0_ease_166 : decode cX0_ease 166 = .ok (.iinc 5 1, 3) := dk_132 5 1 (dk_at dksX0_ease_7 3 rfl rfl)
theorem dX0_ease_169 : decode cX0_ease 169 = .ok (.goto (-101), 3) := dk_167 255 155 (dk_at dksX0_ease_7 6 rfl rfl)
theorem dX0_ease_172 : decode cX0_ease 172 = .ok (.iinc 2 1, 3) := dk_132 2 1 (dk_at dksX0_ease_7 9 rfl rfl)
theorem dX0_ease_175 : decode cX0_ease 175 = .ok (.goto (-162), 3) := dk_167 255 94 (dk_at dksX0_ease_7 12 rfl rfl)
theorem dX0_ease_178 : decode cX0_ease 178 = .ok (.iinc 1 (-1), 3) := dk_132 1 255 (dk_at dksX0_ease_7 15 rfl rfl)
theorem dX0_ease_181 : decode cX0_ease 181 = .ok (.goto (-174), 3) := dk_167 255 82 (dk_at dksX0_ease_7 18 rfl rfl)
theorem dX0_ease_184 : decode cX0_ease 184 = .ok (.aload_n 0, 1) := dk_42 (dk_at dksX0_ease_7 21 rfl rfl)
theorem dX0_ease_185 : decode cX0_ease 185 = .ok (.getfield 158, 3) := dk_180 0 158 (dk_at dksX0_ease_8 0 rfl rfl)
theorem dX0_ease_188 : decode cX0_ease 188 = .ok (.ifCond .eq 27, 3) := dk_153 0 27 (dk_at dksX0_ease_8 3 rfl rfl)
theorem dX0_ease_191 : decode cX0_ease 191 = .ok (.aload_n 0, 1) := dk_42 (dk_at dksX0_ease_8 6 rfl rfl)
theorem dX0_ease_192 : decode cX0_ease 192 = .ok (.getfield 78, 3) := dk_180 0 78 (dk_at dksX0_ease_8 7 rfl rfl)
theorem dX0_ease_195 : decode cX0_ease 195 = .ok (.bipush 8, 2) := dk_16 8 (dk_at dksX0_ease_8 10 rfl rfl)
theorem dX0_ease_197 : decode cX0_ease 197 = .ok (.iconst 0, 1) := dk_3 (dk_at dksX0_ease_8 12 rfl rfl)
theorem dX0_ease_198 : decode cX0_ease 198 = .ok (.aload_n 0, 1) := dk_42 (dk_at dksX0_ease_8 13 rfl rfl)
theorem dX0_ease_199 : decode cX0_ease 199 = .ok (.getfield 158, 3) := dk_180 0 158 (dk_at dksX0_ease_8 14 rfl rfl)
theorem dX0_ease_202 : decode cX0_ease 202 = .ok (.iconst 1, 1) := dk_4 (dk_at dksX0_ease_8 17 rfl rfl)
theorem dX0_ease_203 : decode cX0_ease 203 = .ok (.isub, 1) := dk_100 (dk_at dksX0_ease_8 18 rfl rfl)
theorem dX0_ease_204 : decode cX0_ease 204 = .ok (.invokestatic 161, 3) := dk_184 0 161 (dk_at dksX0_ease_8 19 rfl rfl)
theorem dX0_ease_207 : decode cX0_ease 207 = .ok (.imul, 1) := dk_104 (dk_at dksX0_ease_8 22 rfl rfl)
theorem dX0_ease_208 : decode cX0_ease 208 = .ok (.iaload, 1) := dk_46 (dk_at dksX0_ease_8 23 rfl rfl)
theorem dX0_ease_209 : decode cX0_ease 209 = .ok (.sipush 1000, 3) := dk_17 3 232 (dk_at dksX0_ease_9 0 rfl rfl)
theorem dX0_ease_212 : decode cX0_ease 212 = .ok (.if_icmp .lt 7, 3) := dk_161 0 7 (dk_at dksX0_ease_9 3 rfl rfl)
theorem dX0_ease_215 : decode cX0_ease 215 = .ok (.iconst (-1), 1) := dk_2 (dk_at dksX0_ease_9 6 rfl rfl)
theorem dX0_ease_216 : decode cX0_ease 216 = .ok (.goto 21, 3) := dk_167 0 21 (dk_at dksX0_ease_9 7 rfl rfl)
theorem dX0_ease_219 : decode cX0_ease 219 = .ok (.aload_n 0, 1) := dk_42 (dk_at dksX0_ease_9 10 rfl rfl)
theorem dX0_ease_220 : decode cX0_ease 220 = .ok (.getfield 78, 3) := dk_180 0 78 (dk_at dksX0_ease_9 11 rfl rfl)
theorem dX0_ease_223 : decode cX0_ease 223 = .ok (.bipush 8, 2) := dk_16 8 (dk_at dksX0_ease_9 14 rfl rfl)
theorem dX0_ease_225 : decode cX0_ease 225 = .ok (.iconst 0, 1) := dk_3 (dk_at dksX0_ease_9 16 rfl rfl)
theorem dX0_ease_226 : decode cX0_ease 226 = .ok (.aload_n 0, 1) := dk_42 (dk_at dksX0_ease_9 17 rfl rfl)
theorem dX0_ease_227 : decode cX0_ease 227 = .ok (.getfield 158, 3) := dk_180 0 158 (dk_at dksX0_ease_9 18 rfl rfl)
theorem dX0_ease_230 : decode cX0_ease 230 = .ok (.iconst 1, 1) := dk_4 (dk_at dksX0_ease_9 21 rfl rfl)
theorem dX0_ease_231 : decode cX0_ease 231 = .ok (.isub, 1) := dk_100 (dk_at dksX0_ease_9 22 rfl rfl)
theorem dX0_ease_232 : decode cX0_ease 232 = .ok (.invokestatic 161, 3) := dk_184 0 161 (dk_at dksX0_ease_10 0 rfl rfl)
theorem dX0_ease_235 : decode cX0_ease 235 = .ok (.imul, 1) := dk_104 (dk_at dksX0_ease_10 3 rfl rfl)
theorem dX0_ease_236 : decode cX0_ease 236 = .ok (.iaload, 1) := dk_46 (dk_at dksX0_ease_10 4 rfl rfl)
theorem dX0_ease_237 : decode cX0_ease 237 = .ok (.ireturn, 1) := dk_172 (dk_at dksX0_ease_10 5 rfl rfl)
abbrev cX0_easeOf : ByteArray := prog_1_method_31_code
def yX0_easeOf : MethodName := ⟨RX0, "easeOf", "(LHeldTongue$Sense;III)I"⟩
def dkwX0_easeOf_8 : List UInt8 := [180, 0, 83, 21, 5, 4, 100, 50, 21, 4, 46, 172]
abbrev dktX0_easeOf_8 : List UInt8 := dkwX0_easeOf_8 ++ []
def dkwX0_easeOf_7 : List UInt8 := [180, 0, 83, 21, 6, 50, 21, 7, 21, 8, 79, 132, 7, 1, 167, 255, 129, 132, 6, 1, 167, 255, 113, 42]
abbrev dktX0_easeOf_7 : List UInt8 := dkwX0_easeOf_7 ++ dktX0_easeOf_8
def dkwX0_easeOf_6 : List UInt8 := [21, 6, 182, 0, 175, 96, 46, 96, 184, 0, 246, 184, 0, 249, 54, 8, 132, 9, 1, 167, 255, 191, 42]
abbrev dktX0_easeOf_6 : List UInt8 := dkwX0_easeOf_6 ++ dktX0_easeOf_7
def dkwX0_easeOf_5 : List UInt8 := [21, 9, 46, 21, 6, 42, 180, 0, 78, 16, 8, 21, 9, 4, 96, 21, 7, 184, 0, 161, 104, 43, 28]
abbrev dktX0_easeOf_5 : List UInt8 := dkwX0_easeOf_5 ++ dktX0_easeOf_6
def dkwX0_easeOf_4 : List UInt8 := [21, 9, 21, 7, 162, 0, 64, 21, 6, 158, 0, 59, 21, 8, 42, 180, 0, 83, 21, 6, 4, 100, 50]
abbrev dktX0_easeOf_4 : List UInt8 := dkwX0_easeOf_4 ++ dktX0_easeOf_5
def dkwX0_easeOf_3 : List UInt8 := [184, 0, 161, 104, 43, 28, 3, 182, 0, 175, 96, 46, 167, 0, 6, 17, 3, 232, 54, 8, 29, 54, 9]
abbrev dktX0_easeOf_3 : List UInt8 := dkwX0_easeOf_3 ++ dktX0_easeOf_4
def dkwX0_easeOf_2 : List UInt8 := [29, 54, 7, 21, 7, 21, 4, 163, 0, 126, 21, 6, 154, 0, 27, 42, 180, 0, 78, 16, 8, 29, 21, 7]
abbrev dktX0_easeOf_2 : List UInt8 := dkwX0_easeOf_2 ++ dktX0_easeOf_3
def dkwX0_easeOf_1 : List UInt8 := [17, 3, 232, 172, 29, 21, 4, 164, 0, 7, 17, 3, 232, 172, 3, 54, 6, 21, 6, 21, 5, 162, 0, 142]
abbrev dktX0_easeOf_1 : List UInt8 := dkwX0_easeOf_1 ++ dktX0_easeOf_2
def dkwX0_easeOf_0 : List UInt8 := [43, 28, 182, 0, 167, 54, 5, 21, 5, 154, 0, 17, 29, 21, 4, 164, 0, 7, 3, 167, 0, 6]
abbrev dktX0_easeOf_0 : List UInt8 := dkwX0_easeOf_0 ++ dktX0_easeOf_1
theorem dksX0_easeOf_0 : cX0_easeOf.data.toList.drop 0 = dktX0_easeOf_0 := by decide +kernel
theorem dksX0_easeOf_1 : cX0_easeOf.data.toList.drop 22 = dktX0_easeOf_1 := dk_seg dksX0_easeOf_0 22 rfl rfl
theorem dksX0_easeOf_2 : cX0_easeOf.data.toList.drop 46 = dktX0_easeOf_2 := dk_seg dksX0_easeOf_1 24 rfl rfl
theorem dksX0_easeOf_3 : cX0_easeOf.data.toList.drop 70 = dktX0_easeOf_3 := dk_seg dksX0_easeOf_2 24 rfl rfl
theorem dksX0_easeOf_4 : cX0_easeOf.data.toList.drop 93 = dktX0_easeOf_4 := dk_seg dksX0_easeOf_3 23 rfl rfl
theorem dksX0_easeOf_5 : cX0_easeOf.data.toList.drop 116 = dktX0_easeOf_5 := dk_seg dksX0_easeOf_4 23 rfl rfl
theorem dksX0_easeOf_6 : cX0_easeOf.data.toList.drop 139 = dktX0_easeOf_6 := dk_seg dksX0_easeOf_5 23 rfl rfl
theorem dksX0_easeOf_7 : cX0_easeOf.data.toList.drop 162 = dktX0_easeOf_7 := dk_seg dksX0_easeOf_6 23 rfl rfl
theorem dksX0_easeOf_8 : cX0_easeOf.data.toList.drop 186 = dktX0_easeOf_8 := dk_seg dksX0_easeOf_7 24 rfl rfl
theorem dX0_easeOf_0 : decode cX0_easeOf 0 = .ok (.aload_n 1, 1) := dk_43 (dk_at dksX0_easeOf_0 0 rfl rfl)
theorem dX0_easeOf_1 : decode cX0_easeOf 1 = .ok (.iload_n 2, 1) := dk_28 (dk_at dksX0_easeOf_0 1 rfl rfl)
theorem dX0_easeOf_2 : decode cX0_easeOf 2 = .ok (.invokevirtual 167, 3) := dk_182 0 167 (dk_at dksX0_easeOf_0 2 rfl rfl)
theorem dX0_easeOf_5 : decode cX0_easeOf 5 = .ok (.istore 5, 2) := dk_54 5 (dk_at dksX0_easeOf_0 5 rfl rfl)
theorem dX0_easeOf_7 : decode cX0_easeOf 7 = .ok (.iload 5, 2) := dk_21 5 (dk_at dksX0_easeOf_0 7 rfl rfl)
theorem dX0_easeOf_9 : decode cX0_easeOf 9 = .ok (.ifCond .ne 17, 3) := dk_154 0 17 (dk_at dksX0_easeOf_0 9 rfl rfl)
theorem dX0_easeOf_12 : decode cX0_easeOf 12 = .ok (.iload_n 3, 1) := dk_29 (dk_at dksX0_easeOf_0 12 rfl rfl)
theorem dX0_easeOf_13 : decode cX0_easeOf 13 = .ok (.iload 4, 2) := dk_21 4 (dk_at dksX0_easeOf_0 13 rfl rfl)
theorem dX0_easeOf_15 : decode cX0_easeOf 15 = .ok (.if_icmp .le 7, 3) := dk_164 0 7 (dk_at dksX0_easeOf_0 15 rfl rfl)
theorem dX0_easeOf_18 : decode cX0_easeOf 18 = .ok (.iconst 0, 1) := dk_3 (dk_at dksX0_easeOf_0 18 rfl rfl)
theorem dX0_easeOf_19 : decode cX0_easeOf 19 = .ok (.goto 6, 3) := dk_167 0 6 (dk_at dksX0_easeOf_0 19 rfl rfl)
theorem dX0_easeOf_22 : decode cX0_easeOf 22 = .ok (.sipush 1000, 3) := dk_17 3 232 (dk_at dksX0_easeOf_1 0 rfl rfl)
theorem dX0_easeOf_25 : decode cX0_easeOf 25 = .ok (.ireturn, 1) := dk_172 (dk_at dksX0_easeOf_1 3 rfl rfl)
theorem dX0_easeOf_26 : decode cX0_easeOf 26 = .ok (.iload_n 3, 1) := dk_29 (dk_at dksX0_easeOf_1 4 rfl rfl)
theorem dX0_easeOf_27 : decode cX0_easeOf 27 = .ok (.iload 4, 2) := dk_21 4 (dk_at dksX0_easeOf_1 5 rfl rfl)
theorem dX0_easeOf_29 : decode cX0_easeOf 29 = .ok (.if_icmp .le 7, 3) := dk_164 0 7 (dk_at dksX0_easeOf_1 7 rfl rfl)
theorem dX0_easeOf_32 : decode cX0_easeOf 32 = .ok (.sipush 1000, 3) := dk_17 3 232 (dk_at dksX0_easeOf_1 10 rfl rfl)
theorem dX0_easeOf_35 : decode cX0_easeOf 35 = .ok (.ireturn, 1) := dk_172 (dk_at dksX0_easeOf_1 13 rfl rfl)
theorem dX0_easeOf_36 : decode cX0_easeOf 36 = .ok (.iconst 0, 1) := dk_3 (dk_at dksX0_easeOf_1 14 rfl rfl)
theorem dX0_easeOf_37 : decode cX0_easeOf 37 = .ok (.istore 6, 2) := dk_54 6 (dk_at dksX0_easeOf_1 15 rfl rfl)
theorem dX0_easeOf_39 : decode cX0_easeOf 39 = .ok (.iload 6, 2) := dk_21 6 (dk_at dksX0_easeOf_1 17 rfl rfl)
theorem dX0_easeOf_41 : decode cX0_easeOf 41 = .ok (.iload 5, 2) := dk_21 5 (dk_at dksX0_easeOf_1 19 rfl rfl)
theorem dX0_easeOf_43 : decode cX0_easeOf 43 = .ok (.if_icmp .ge 142, 3) := dk_162 0 142 (dk_at dksX0_easeOf_1 21 rfl rfl)
theorem dX0_easeOf_46 : decode cX0_easeOf 46 = .ok (.iload_n 3, 1) := dk_29 (dk_at dksX0_easeOf_2 0 rfl rfl)
theorem dX0_easeOf_47 : decode cX0_easeOf 47 = .ok (.istore 7, 2) := dk_54 7 (dk_at dksX0_easeOf_2 1 rfl rfl)
theorem dX0_easeOf_49 : decode cX0_easeOf 49 = .ok (.iload 7, 2) := dk_21 7 (dk_at dksX0_easeOf_2 3 rfl rfl)
theorem dX0_easeOf_51 : decode cX0_easeOf 51 = .ok (.iload 4, 2) := dk_21 4 (dk_at dksX0_easeOf_2 5 rfl rfl)
theorem dX0_easeOf_53 : decode cX0_easeOf 53 = .ok (.if_icmp .gt 126, 3) := dk_163 0 126 (dk_at dksX0_easeOf_2 7 rfl rfl)
theorem dX0_easeOf_56 : decode cX0_easeOf 56 = .ok (.iload 6, 2) := dk_21 6 (dk_at dksX0_easeOf_2 10 rfl rfl)
theorem dX0_easeOf_58 : decode cX0_easeOf 58 = .ok (.ifCond .ne 27, 3) := dk_154 0 27 (dk_at dksX0_easeOf_2 12 rfl rfl)
theorem dX0_easeOf_61 : decode cX0_easeOf 61 = .ok (.aload_n 0, 1) := dk_42 (dk_at dksX0_easeOf_2 15 rfl rfl)
theorem dX0_easeOf_62 : decode cX0_easeOf 62 = .ok (.getfield 78, 3) := dk_180 0 78 (dk_at dksX0_easeOf_2 16 rfl rfl)
theorem dX0_easeOf_65 : decode cX0_easeOf 65 = .ok (.bipush 8, 2) := dk_16 8 (dk_at dksX0_easeOf_2 19 rfl rfl)
theorem dX0_easeOf_67 : decode cX0_easeOf 67 = .ok (.iload_n 3, 1) := dk_29 (dk_at dksX0_easeOf_2 21 rfl rfl)
theorem dX0_easeOf_68 : decode cX0_easeOf 68 = .ok (.iload 7, 2) := dk_21 7 (dk_at dksX0_easeOf_2 22 rfl rfl)
theorem dX0_easeOf_70 : decode cX0_easeOf 70 = .ok (.invokestatic 161, 3) := dk_184 0 161 (dk_at dksX0_easeOf_3 0 rfl rfl)
theorem dX0_easeOf_73 : decode cX0_easeOf 73 = .ok (.imul, 1) := dk_104 (dk_at dksX0_easeOf_3 3 rfl rfl)
theorem dX0_easeOf_74 : decode cX0_easeOf 74 = .ok (.aload_n 1, 1) := dk_43 (dk_at dksX0_easeOf_3 4 rfl rfl)
theorem dX0_easeOf_75 : decode cX0_easeOf 75 = .ok (.iload_n 2, 1) := dk_28 (dk_at dksX0_easeOf_3 5 rfl rfl)
theorem dX0_easeOf_76 : decode cX0_easeOf 76 = .ok (.iconst 0, 1) := dk_3 (dk_at dksX0_easeOf_3 6 rfl rfl)
theorem dX0_easeOf_77 : decode cX0_easeOf 77 = .ok (.invokevirtual 175, 3) := dk_182 0 175 (dk_at dksX0_easeOf_3 7 rfl rfl)
theorem dX0_easeOf_80 : decode cX0_easeOf 80 = .ok (.iadd, 1) := dk_96 (dk_at dksX0_easeOf_3 10 rfl rfl)
theorem dX0_easeOf_81 : decode cX0_easeOf 81 = .ok (.iaload, 1) := dk_46 (dk_at dksX0_easeOf_3 11 rfl rfl)
theorem dX0_easeOf_82 : decode cX0_easeOf 82 = .ok (.goto 6, 3) := dk_167 0 6 (dk_at dksX0_easeOf_3 12 rfl rfl)
theorem dX0_easeOf_85 : decode cX0_easeOf 85 = .ok (.sipush 1000, 3) := dk_17 3 232 (dk_at dksX0_easeOf_3 15 rfl rfl)
theorem dX0_easeOf_88 : decode cX0_easeOf 88 = .ok (.istore 8, 2) := dk_54 8 (dk_at dksX0_easeOf_3 18 rfl rfl)
theorem dX0_easeOf_90 : decode cX0_easeOf 90 = .ok (.iload_n 3, 1) := dk_29 (dk_at dksX0_easeOf_3 20 rfl rfl)
theorem dX0_easeOf_91 : decode cX0_easeOf 91 = .ok (.istore 9, 2) := dk_54 9 (dk_at dksX0_easeOf_3 21 rfl rfl)
theorem dX0_easeOf_93 : decode cX0_easeOf 93 = .ok (.iload 9, 2) := dk_21 9 (dk_at dksX0_easeOf_4 0 rfl rfl)
theorem dX0_easeOf_95 : decode cX0_easeOf 95 = .ok (.iload 7, 2) := dk_21 7 (dk_at dksX0_easeOf_4 2 rfl rfl)
theorem dX0_easeOf_97 : decode cX0_easeOf 97 = .ok (.if_icmp .ge 64, 3) := dk_162 0 64 (dk_at dksX0_easeOf_4 4 rfl rfl)
theorem dX0_easeOf_100 : decode cX0_easeOf 100 = .ok (.iload 6, 2) := dk_21 6 (dk_at dksX0_easeOf_4 7 rfl rfl)
theorem dX0_easeOf_102 : decode cX0_easeOf 102 = .ok (.ifCond .le 59, 3) := dk_158 0 59 (dk_at dksX0_easeOf_4 9 rfl rfl)
theorem dX0_easeOf_105 : decode cX0_easeOf 105 = .ok (.iload 8, 2) := dk_21 8 (dk_at dksX0_easeOf_4 12 rfl rfl)
theorem dX0_easeOf_107 : decode cX0_easeOf 107 = .ok (.aload_n 0, 1) := dk_42 (dk_at dksX0_easeOf_4 14 rfl rfl)
theorem dX0_easeOf_108 : decode cX0_easeOf 108 = .ok (.getfield 83, 3) := dk_180 0 83 (dk_at dksX0_easeOf_4 15 rfl rfl)
theorem dX0_easeOf_111 : decode cX0_easeOf 111 = .ok (.iload 6, 2) := dk_21 6 (dk_at dksX0_easeOf_4 18 rfl rfl)
theorem dX0_easeOf_113 : decode cX0_easeOf 113 = .ok (.iconst 1, 1) := dk_4 (dk_at dksX0_easeOf_4 20 rfl rfl)
theorem dX0_easeOf_114 : decode cX0_easeOf 114 = .ok (.isub, 1) := dk_100 (dk_at dksX0_easeOf_4 21 rfl rfl)
theorem dX0_easeOf_115 : decode cX0_easeOf 115 = .ok (.aaload, 1) := dk_50 (dk_at dksX0_easeOf_4 22 rfl rfl)
theorem dX0_easeOf_116 : decode cX0_easeOf 116 = .ok (.iload 9, 2) := dk_21 9 (dk_at dksX0_easeOf_5 0 rfl rfl)
theorem dX0_easeOf_118 : decode cX0_easeOf 118 = .ok (.iaload, 1) := dk_46 (dk_at dksX0_easeOf_5 2 rfl rfl)
theorem dX0_easeOf_119 : decode cX0_easeOf 119 = .ok (.iload 6, 2) := dk_21 6 (dk_at dksX0_easeOf_5 3 rfl rfl)
theorem dX0_easeOf_121 : decode cX0_easeOf 121 = .ok (.aload_n 0, 1) := dk_42 (dk_at dksX0_easeOf_5 5 rfl rfl)
theorem dX0_easeOf_122 : decode cX0_easeOf 122 = .ok (.getfield 78, 3) := dk_180 0 78 (dk_at dksX0_easeOf_5 6 rfl rfl)
theorem dX0_easeOf_125 : decode cX0_easeOf 125 = .ok (.bipush 8, 2) := dk_16 8 (dk_at dksX0_easeOf_5 9 rfl rfl)
theorem dX0_easeOf_127 : decode cX0_easeOf 127 = .ok (.iload 9, 2) := dk_21 9 (dk_at dksX0_easeOf_5 11 rfl rfl)
theorem dX0_easeOf_129 : decode cX0_easeOf 129 = .ok (.iconst 1, 1) := dk_4 (dk_at dksX0_easeOf_5 13 rfl rfl)
theorem dX0_easeOf_130 : decode cX0_easeOf 130 = .ok (.iadd, 1) := dk_96 (dk_at dksX0_easeOf_5 14 rfl rfl)
theorem dX0_easeOf_131 : decode cX0_easeOf 131 = .ok (.iload 7, 2) := dk_21 7 (dk_at dksX0_easeOf_5 15 rfl rfl)
theorem dX0_easeOf_133 : decode cX0_easeOf 133 = .ok (.invokestatic 161, 3) := dk_184 0 161 (dk_at dksX0_easeOf_5 17 rfl rfl)
theorem dX0_easeOf_136 : decode cX0_easeOf 136 = .ok (.imul, 1) := dk_104 (dk_at dksX0_easeOf_5 20 rfl rfl)
theorem dX0_easeOf_137 : decode cX0_easeOf 137 = .ok (.aload_n 1, 1) := dk_43 (dk_at dksX0_easeOf_5 21 rfl rfl)
theorem dX0_easeOf_138 : decode cX0_easeOf 138 = .ok (.iload_n 2, 1) := dk_28 (dk_at dksX0_easeOf_5 22 rfl rfl)
theorem dX0_easeOf_139 : decode cX0_easeOf 139 = .ok (.iload 6, 2) := dk_21 6 (dk_at dksX0_easeOf_6 0 rfl rfl)
theorem dX0_easeOf_141 : decode cX0_easeOf 141 = .ok (.invokevirtual 175, 3) := dk_182 0 175 (dk_at dksX0_easeOf_6 2 rfl rfl)
theorem dX0_easeOf_144 : decode cX0_easeOf 144 = .ok (.iadd, 1) := dk_96 (dk_at dksX0_easeOf_6 5 rfl rfl)
theorem dX0_easeOf_145 : decode cX0_easeOf 145 = .ok (.iaload, 1) := dk_46 (dk_at dksX0_easeOf_6 6 rfl rfl)
theorem dX0_easeOf_146 : decode cX0_easeOf 146 = .ok (.iadd, 1) := dk_96 (dk_at dksX0_easeOf_6 7 rfl rfl)
theorem dX0_easeOf_147 : decode cX0_easeOf 147 = .ok (.invokestatic 246, 3) := dk_184 0 246 (dk_at dksX0_easeOf_6 8 rfl rfl)
theorem dX0_easeOf_150 : decode cX0_easeOf 150 = .ok (.invokestatic 249, 3) := dk_184 0 249 (dk_at dksX0_easeOf_6 11 rfl rfl)
theorem dX0_easeOf_153 : decode cX0_easeOf 153 = .ok (.istore 8, 2) := dk_54 8 (dk_at dksX0_easeOf_6 14 rfl rfl)
theorem dX0_easeOf_155 : decode cX0_easeOf 155 = .ok (.iinc 9 1, 3) := dk_132 9 1 (dk_at dksX0_easeOf_6 16 rfl rfl)
theorem dX0_easeOf_158 : decode cX0_easeOf 158 = .ok (.goto (-65), 3) := dk_167 255 191 (dk_at dksX0_easeOf_6 19 rfl rfl)
theorem dX0_easeOf_161 : decode cX0_easeOf 161 = .ok (.aload_n 0, 1) := dk_42 (dk_at dksX0_easeOf_6 22 rfl rfl)
theorem dX0_easeOf_162 : decode cX0_easeOf 162 = .ok (.getfield 83, 3) := dk_180 0 83 (dk_at dksX0_easeOf_7 0 rfl rfl)
theorem dX0_easeOf_165 : decode cX0_easeOf 165 = .ok (.iload 6, 2) := dk_21 6 (dk_at dksX0_easeOf_7 3 rfl rfl)
theorem dX0_easeOf_167 : decode cX0_easeOf 167 = .ok (.aaload, 1) := dk_50 (dk_at dksX0_easeOf_7 5 rfl rfl)
theorem dX0_easeOf_168 : decode cX0_easeOf 168 = .ok (.iload 7, 2) := dk_21 7 (dk_at dksX0_easeOf_7 6 rfl rfl)
theorem dX0_easeOf_170 : decode cX0_easeOf 170 = .ok (.iload 8, 2) := dk_21 8 (dk_at dksX0_easeOf_7 8 rfl rfl)
theorem dX0_easeOf_172 : decode cX0_easeOf 172 = .ok (.iastore, 1) := dk_79 (dk_at dksX0_easeOf_7 10 rfl rfl)
theorem dX0_easeOf_173 : decode cX0_easeOf 173 = .ok (.iinc 7 1, 3) := dk_132 7 1 (dk_at dksX0_easeOf_7 11 rfl rfl)
theorem dX0_easeOf_176 : decode cX0_easeOf 176 = .ok (.goto (-127), 3) := dk_167 255 129 (dk_at dksX0_easeOf_7 14 rfl rfl)
theorem dX0_easeOf_179 : decode cX0_easeOf 179 = .ok (.iinc 6 1, 3) := dk_132 6 1 (dk_at dksX0_easeOf_7 17 rfl rfl)
theorem dX0_easeOf_182 : decode cX0_easeOf 182 = .ok (.goto (-143), 3) := dk_167 255 113 (dk_at dksX0_easeOf_7 20 rfl rfl)
theorem dX0_easeOf_185 : decode cX0_easeOf 185 = .ok (.aload_n 0, 1) := dk_42 (dk_at dksX0_easeOf_7 23 rfl rfl)
theorem dX0_easeOf_186 : decode cX0_easeOf 186 = .ok (.getfield 83, 3) := dk_180 0 83 (dk_at dksX0_easeOf_8 0 rfl rfl)
theorem dX0_easeOf_189 : decode cX0_easeOf 189 = .ok (.iload 5, 2) := dk_21 5 (dk_at dksX0_easeOf_8 3 rfl rfl)
theorem dX0_easeOf_191 : decode cX0_easeOf 191 = .ok (.iconst 1, 1) := dk_4 (dk_at dksX0_easeOf_8 5 rfl rfl)
theorem dX0_easeOf_192 : decode cX0_easeOf 192 = .ok (.isub, 1) := dk_100 (dk_at dksX0_easeOf_8 6 rfl rfl)
theorem dX0_easeOf_193 : decode cX0_easeOf 193 = .ok (.aaload, 1) := dk_50 (dk_at dksX0_easeOf_8 7 rfl rfl)
theorem dX0_easeOf_194 : decode cX0_easeOf 194 = .ok (.iload 4, 2) := dk_21 4 (dk_at dksX0_easeOf_8 8 rfl rfl)
theorem dX0_easeOf_196 : decode cX0_easeOf 196 = .ok (.iaload, 1) := dk_46 (dk_at dksX0_easeOf_8 10 rfl rfl)
theorem dX0_easeOf_197 : decode cX0_easeOf 197 = .ok (.ireturn, 1) := dk_172 (dk_at dksX0_easeOf_8 11 rfl rfl)
abbrev cX0_mostOf : ByteArray := prog_1_method_30_code
def yX0_mostOf : MethodName := ⟨RX0, "mostOf", "()I"⟩
def dkwX0_mostOf_2 : List UInt8 := [172]
abbrev dktX0_mostOf_2 : List UInt8 := dkwX0_mostOf_2 ++ []
def dkwX0_mostOf_1 : List UInt8 := [180, 0, 75, 29, 46, 182, 0, 167, 100, 96, 60, 28, 27, 184, 0, 246, 61, 132, 3, 1, 167, 255, 219, 28]
abbrev dktX0_mostOf_1 : List UInt8 := dkwX0_mostOf_1 ++ dktX0_mostOf_2
def dkwX0_mostOf_0 : List UInt8 := [3, 60, 3, 61, 3, 62, 29, 42, 180, 0, 158, 162, 0, 35, 27, 4, 42, 180, 0, 71, 29, 50, 42]
abbrev dktX0_mostOf_0 : List UInt8 := dkwX0_mostOf_0 ++ dktX0_mostOf_1
theorem dksX0_mostOf_0 : cX0_mostOf.data.toList.drop 0 = dktX0_mostOf_0 := by decide +kernel
theorem dksX0_mostOf_1 : cX0_mostOf.data.toList.drop 23 = dktX0_mostOf_1 := dk_seg dksX0_mostOf_0 23 rfl rfl
theorem dksX0_mostOf_2 : cX0_mostOf.data.toList.drop 47 = dktX0_mostOf_2 := dk_seg dksX0_mostOf_1 24 rfl rfl
theorem dX0_mostOf_0 : decode cX0_mostOf 0 = .ok (.iconst 0, 1) := dk_3 (dk_at dksX0_mostOf_0 0 rfl rfl)
theorem dX0_mostOf_1 : decode cX0_mostOf 1 = .ok (.istore_n 1, 1) := dk_60 (dk_at dksX0_mostOf_0 1 rfl rfl)
theorem dX0_mostOf_2 : decode cX0_mostOf 2 = .ok (.iconst 0, 1) := dk_3 (dk_at dksX0_mostOf_0 2 rfl rfl)
theorem dX0_mostOf_3 : decode cX0_mostOf 3 = .ok (.istore_n 2, 1) := dk_61 (dk_at dksX0_mostOf_0 3 rfl rfl)
theorem dX0_mostOf_4 : decode cX0_mostOf 4 = .ok (.iconst 0, 1) := dk_3 (dk_at dksX0_mostOf_0 4 rfl rfl)
theorem dX0_mostOf_5 : decode cX0_mostOf 5 = .ok (.istore_n 3, 1) := dk_62 (dk_at dksX0_mostOf_0 5 rfl rfl)
theorem dX0_mostOf_6 : decode cX0_mostOf 6 = .ok (.iload_n 3, 1) := dk_29 (dk_at dksX0_mostOf_0 6 rfl rfl)
theorem dX0_mostOf_7 : decode cX0_mostOf 7 = .ok (.aload_n 0, 1) := dk_42 (dk_at dksX0_mostOf_0 7 rfl rfl)
theorem dX0_mostOf_8 : decode cX0_mostOf 8 = .ok (.getfield 158, 3) := dk_180 0 158 (dk_at dksX0_mostOf_0 8 rfl rfl)
theorem dX0_mostOf_11 : decode cX0_mostOf 11 = .ok (.if_icmp .ge 35, 3) := dk_162 0 35 (dk_at dksX0_mostOf_0 11 rfl rfl)
theorem dX0_mostOf_14 : decode cX0_mostOf 14 = .ok (.iload_n 1, 1) := dk_27 (dk_at dksX0_mostOf_0 14 rfl rfl)
theorem dX0_mostOf_15 : decode cX0_mostOf 15 = .ok (.iconst 1, 1) := dk_4 (dk_at dksX0_mostOf_0 15 rfl rfl)
theorem dX0_mostOf_16 : decode cX0_mostOf 16 = .ok (.aload_n 0, 1) := dk_42 (dk_at dksX0_mostOf_0 16 rfl rfl)
theorem dX0_mostOf_17 : decode cX0_mostOf 17 = .ok (.getfield 71, 3) := dk_180 0 71 (dk_at dksX0_mostOf_0 17 rfl rfl)
theorem dX0_mostOf_20 : decode cX0_mostOf 20 = .ok (.iload_n 3, 1) := dk_29 (dk_at dksX0_mostOf_0 20 rfl rfl)
theorem dX0_mostOf_21 : decode cX0_mostOf 21 = .ok (.aaload, 1) := dk_50 (dk_at dksX0_mostOf_0 21 rfl rfl)
theorem dX0_mostOf_22 : decode cX0_mostOf 22 = .ok (.aload_n 0, 1) := dk_42 (dk_at dksX0_mostOf_0 22 rfl rfl)
theorem dX0_mostOf_23 : decode cX0_mostOf 23 = .ok (.getfield 75, 3) := dk_180 0 75 (dk_at dksX0_mostOf_1 0 rfl rfl)
theorem dX0_mostOf_26 : decode cX0_mostOf 26 = .ok (.iload_n 3, 1) := dk_29 (dk_at dksX0_mostOf_1 3 rfl rfl)
theorem dX0_mostOf_27 : decode cX0_mostOf 27 = .ok (.iaload, 1) := dk_46 (dk_at dksX0_mostOf_1 4 rfl rfl)
theorem dX0_mostOf_28 : decode cX0_mostOf 28 = .ok (.invokevirtual 167, 3) := dk_182 0 167 (dk_at dksX0_mostOf_1 5 rfl rfl)
theorem dX0_mostOf_31 : decode cX0_mostOf 31 = .ok (.isub, 1) := dk_100 (dk_at dksX0_mostOf_1 8 rfl rfl)
theorem dX0_mostOf_32 : decode cX0_mostOf 32 = .ok (.iadd, 1) := dk_96 (dk_at dksX0_mostOf_1 9 rfl rfl)
theorem dX0_mostOf_33 : decode cX0_mostOf 33 = .ok (.istore_n 1, 1) := dk_60 (dk_at dksX0_mostOf_1 10 rfl rfl)
theorem dX0_mostOf_34 : decode cX0_mostOf 34 = .ok (.iload_n 2, 1) := dk_28 (dk_at dksX0_mostOf_1 11 rfl rfl)
theorem dX0_mostOf_35 : decode cX0_mostOf 35 = .ok (.iload_n 1, 1) := dk_27 (dk_at dksX0_mostOf_1 12 rfl rfl)
theorem dX0_mostOf_36 : decode cX0_mostOf 36 = .ok (.invokestatic 246, 3) := dk_184 0 246 (dk_at dksX0_mostOf_1 13 rfl rfl)
theorem dX0_mostOf_39 : decode cX0_mostOf 39 = .ok (.istore_n 2, 1) := dk_61 (dk_at dksX0_mostOf_1 16 rfl rfl)
theorem dX0_mostOf_40 : decode cX0_mostOf 40 = .ok (.iinc 3 1, 3) := dk_132 3 1 (dk_at dksX0_mostOf_1 17 rfl rfl)
theorem dX0_mostOf_43 : decode cX0_mostOf 43 = .ok (.goto (-37), 3) := dk_167 255 219 (dk_at dksX0_mostOf_1 20 rfl rfl)
theorem dX0_mostOf_46 : decode cX0_mostOf 46 = .ok (.iload_n 2, 1) := dk_28 (dk_at dksX0_mostOf_1 23 rfl rfl)
theorem dX0_mostOf_47 : decode cX0_mostOf 47 = .ok (.ireturn, 1) := dk_172 (dk_at dksX0_mostOf_2 0 rfl rfl)
abbrev cX0_weight : ByteArray := prog_1_method_41_code
def yX0_weight : MethodName := ⟨RX0, "weight", "(II)I"⟩
def dkwX0_weight_3 : List UInt8 := [4, 100, 46, 172]
abbrev dktX0_weight_3 : List UInt8 := dkwX0_weight_3 ++ []
def dkwX0_weight_2 : List UInt8 := [42, 180, 0, 75, 29, 46, 29, 182, 1, 54, 132, 3, 1, 167, 255, 231, 42, 180, 0, 101, 42, 180, 1, 21]
abbrev dktX0_weight_2 : List UInt8 := dkwX0_weight_2 ++ dktX0_weight_3
def dkwX0_weight_1 : List UInt8 := [42, 3, 181, 1, 5, 42, 3, 181, 1, 21, 3, 62, 29, 28, 163, 0, 26, 42, 42, 180, 0, 71, 29, 50]
abbrev dktX0_weight_1 : List UInt8 := dkwX0_weight_1 ++ dktX0_weight_2
def dkwX0_weight_0 : List UInt8 := [28, 3, 42, 180, 0, 158, 4, 100, 184, 0, 130, 153, 0, 11, 42, 27, 182, 0, 239, 154, 0, 5, 2, 172]
abbrev dktX0_weight_0 : List UInt8 := dkwX0_weight_0 ++ dktX0_weight_1
theorem dksX0_weight_0 : cX0_weight.data.toList.drop 0 = dktX0_weight_0 := by decide +kernel
theorem dksX0_weight_1 : cX0_weight.data.toList.drop 24 = dktX0_weight_1 := dk_seg dksX0_weight_0 24 rfl rfl
theorem dksX0_weight_2 : cX0_weight.data.toList.drop 48 = dktX0_weight_2 := dk_seg dksX0_weight_1 24 rfl rfl
theorem dksX0_weight_3 : cX0_weight.data.toList.drop 72 = dktX0_weight_3 := dk_seg dksX0_weight_2 24 rfl rfl
theorem dX0_weight_0 : decode cX0_weight 0 = .ok (.iload_n 2, 1) := dk_28 (dk_at dksX0_weight_0 0 rfl rfl)
theorem dX0_weight_1 : decode cX0_weight 1 = .ok (.iconst 0, 1) := dk_3 (dk_at dksX0_weight_0 1 rfl rfl)
theorem dX0_weight_2 : decode cX0_weight 2 = .ok (.aload_n 0, 1) := dk_42 (dk_at dksX0_weight_0 2 rfl rfl)
theorem dX0_weight_3 : decode cX0_weight 3 = .ok (.getfield 158, 3) := dk_180 0 158 (dk_at dksX0_weight_0 3 rfl rfl)
theorem dX0_weight_6 : decode cX0_weight 6 = .ok (.iconst 1, 1) := dk_4 (dk_at dksX0_weight_0 6 rfl rfl)
theorem dX0_weight_7 : decode cX0_weight 7 = .ok (.isub, 1) := dk_100 (dk_at dksX0_weight_0 7 rfl rfl)
theorem dX0_weight_8 : decode cX0_weight 8 = .ok (.invokestatic 130, 3) := dk_184 0 130 (dk_at dksX0_weight_0 8 rfl rfl)
theorem dX0_weight_11 : decode cX0_weight 11 = .ok (.ifCond .eq 11, 3) := dk_153 0 11 (dk_at dksX0_weight_0 11 rfl rfl)
theorem dX0_weight_14 : decode cX0_weight 14 = .ok (.aload_n 0, 1) := dk_42 (dk_at dksX0_weight_0 14 rfl rfl)
theorem dX0_weight_15 : decode cX0_weight 15 = .ok (.iload_n 1, 1) := dk_27 (dk_at dksX0_weight_0 15 rfl rfl)
theorem dX0_weight_16 : decode cX0_weight 16 = .ok (.invokevirtual 239, 3) := dk_182 0 239 (dk_at dksX0_weight_0 16 rfl rfl)
theorem dX0_weight_19 : decode cX0_weight 19 = .ok (.ifCond .ne 5, 3) := dk_154 0 5 (dk_at dksX0_weight_0 19 rfl rfl)
theorem dX0_weight_22 : decode cX0_weight 22 = .ok (.iconst (-1), 1) := dk_2 (dk_at dksX0_weight_0 22 rfl rfl)
theorem dX0_weight_23 : decode cX0_weight 23 = .ok (.ireturn, 1) := dk_172 (dk_at dksX0_weight_0 23 rfl rfl)
theorem dX0_weight_24 : decode cX0_weight 24 = .ok (.aload_n 0, 1) := dk_42 (dk_at dksX0_weight_1 0 rfl rfl)
theorem dX0_weight_25 : decode cX0_weight 25 = .ok (.iconst 0, 1) := dk_3 (dk_at dksX0_weight_1 1 rfl rfl)
theorem dX0_weight_26 : decode cX0_weight 26 = .ok (.putfield 261, 3) := dk_181 1 5 (dk_at dksX0_weight_1 2 rfl rfl)
theorem dX0_weight_29 : decode cX0_weight 29 = .ok (.aload_n 0, 1) := dk_42 (dk_at dksX0_weight_1 5 rfl rfl)
theorem dX0_weight_30 : decode cX0_weight 30 = .ok (.iconst 0, 1) := dk_3 (dk_at dksX0_weight_1 6 rfl rfl)
theorem dX0_weight_31 : decode cX0_weight 31 = .ok (.putfield 277, 3) := dk_181 1 21 (dk_at dksX0_weight_1 7 rfl rfl)
theorem dX0_weight_34 : decode cX0_weight 34 = .ok (.iconst 0, 1) := dk_3 (dk_at dksX0_weight_1 10 rfl rfl)
theorem dX0_weight_35 : decode cX0_weight 35 = .ok (.istore_n 3, 1) := dk_62 (dk_at dksX0_weight_1 11 rfl rfl)
theorem dX0_weight_36 : decode cX0_weight 36 = .ok (.iload_n 3, 1) := dk_29 (dk_at dksX0_weight_1 12 rfl rfl)
theorem dX0_weight_37 : decode cX0_weight 37 = .ok (.iload_n 2, 1) := dk_28 (dk_at dksX0_weight_1 13 rfl rfl)
theorem dX0_weight_38 : decode cX0_weight 38 = .ok (.if_icmp .gt 26, 3) := dk_163 0 26 (dk_at dksX0_weight_1 14 rfl rfl)
theorem dX0_weight_41 : decode cX0_weight 41 = .ok (.aload_n 0, 1) := dk_42 (dk_at dksX0_weight_1 17 rfl rfl)
theorem dX0_weight_42 : decode cX0_weight 42 = .ok (.aload_n 0, 1) := dk_42 (dk_at dksX0_weight_1 18 rfl rfl)
theorem dX0_weight_43 : decode cX0_weight 43 = .ok (.getfield 71, 3) := dk_180 0 71 (dk_at dksX0_weight_1 19 rfl rfl)
theorem dX0_weight_46 : decode cX0_weight 46 = .ok (.iload_n 3, 1) := dk_29 (dk_at dksX0_weight_1 22 rfl rfl)
theorem dX0_weight_47 : decode cX0_weight 47 = .ok (.aaload, 1) := dk_50 (dk_at dksX0_weight_1 23 rfl rfl)
theorem dX0_weight_48 : decode cX0_weight 48 = .ok (.aload_n 0, 1) := dk_42 (dk_at dksX0_weight_2 0 rfl rfl)
theorem dX0_weight_49 : decode cX0_weight 49 = .ok (.getfield 75, 3) := dk_180 0 75 (dk_at dksX0_weight_2 1 rfl rfl)
theorem dX0_weight_52 : decode cX0_weight 52 = .ok (.iload_n 3, 1) := dk_29 (dk_at dksX0_weight_2 4 rfl rfl)
theorem dX0_weight_53 : decode cX0_weight 53 = .ok (.iaload, 1) := dk_46 (dk_at dksX0_weight_2 5 rfl rfl)
theorem dX0_weight_54 : decode cX0_weight 54 = .ok (.iload_n 3, 1) := dk_29 (dk_at dksX0_weight_2 6 rfl rfl)
theorem dX0_weight_55 : decode cX0_weight 55 = .ok (.invokevirtual 310, 3) := dk_182 1 54 (dk_at dksX0_weight_2 7 rfl rfl)
theorem dX0_weight_58 : decode cX0_weight 58 = .ok (.iinc 3 1, 3) := dk_132 3 1 (dk_at dksX0_weight_2 10 rfl rfl)
theorem dX0_weight_61 : decode cX0_weight 61 = .ok (.goto (-25), 3) := dk_167 255 231 (dk_at dksX0_weight_2 13 rfl rfl)
theorem dX0_weight_64 : decode cX0_weight 64 = .ok (.aload_n 0, 1) := dk_42 (dk_at dksX0_weight_2 16 rfl rfl)
theorem dX0_weight_65 : decode cX0_weight 65 = .ok (.getfield 101, 3) := dk_180 0 101 (dk_at dksX0_weight_2 17 rfl rfl)
theorem dX0_weight_68 : decode cX0_weight 68 = .ok (.aload_n 0, 1) := dk_42 (dk_at dksX0_weight_2 20 rfl rfl)
theorem dX0_weight_69 : decode cX0_weight 69 = .ok (.getfield 277, 3) := dk_180 1 21 (dk_at dksX0_weight_2 21 rfl rfl)
theorem dX0_weight_72 : decode cX0_weight 72 = .ok (.iconst 1, 1) := dk_4 (dk_at dksX0_weight_3 0 rfl rfl)
theorem dX0_weight_73 : decode cX0_weight 73 = .ok (.isub, 1) := dk_100 (dk_at dksX0_weight_3 1 rfl rfl)
theorem dX0_weight_74 : decode cX0_weight 74 = .ok (.iaload, 1) := dk_46 (dk_at dksX0_weight_3 2 rfl rfl)
theorem dX0_weight_75 : decode cX0_weight 75 = .ok (.ireturn, 1) := dk_172 (dk_at dksX0_weight_3 3 rfl rfl)
abbrev cX0_take : ByteArray := prog_1_method_37_code
def yX0_take : MethodName := ⟨RX0, "take", "(LHeldTongue$Sense;II)V"⟩
def dkwX0_take_4 : List UInt8 := [79, 42, 21, 5, 4, 96, 181, 1, 21, 177]
abbrev dktX0_take_4 : List UInt8 := dkwX0_take_4 ++ []
def dkwX0_take_3 : List UInt8 := [180, 0, 101, 21, 5, 21, 6, 79, 42, 180, 0, 104, 21, 5, 29, 79, 42, 180, 0, 107, 21, 5, 21, 7]
abbrev dktX0_take_3 : List UInt8 := dkwX0_take_3 ++ dktX0_take_4
def dkwX0_take_2 : List UInt8 := [180, 0, 107, 21, 5, 182, 1, 33, 54, 7, 42, 180, 0, 98, 21, 5, 43, 180, 0, 196, 79, 42]
abbrev dktX0_take_2 : List UInt8 := dkwX0_take_2 ++ dktX0_take_3
def dkwX0_take_1 : List UInt8 := [192, 1, 24, 180, 1, 26, 167, 0, 12, 42, 43, 21, 4, 21, 5, 182, 1, 29, 54, 6, 42, 43, 28, 42]
abbrev dktX0_take_1 : List UInt8 := dkwX0_take_1 ++ dktX0_take_2
def dkwX0_take_0 : List UInt8 := [43, 28, 182, 0, 167, 54, 4, 42, 180, 1, 21, 21, 4, 100, 54, 5, 21, 4, 154, 0, 13, 43]
abbrev dktX0_take_0 : List UInt8 := dkwX0_take_0 ++ dktX0_take_1
theorem dksX0_take_0 : cX0_take.data.toList.drop 0 = dktX0_take_0 := by decide +kernel
theorem dksX0_take_1 : cX0_take.data.toList.drop 22 = dktX0_take_1 := dk_seg dksX0_take_0 22 rfl rfl
theorem dksX0_take_2 : cX0_take.data.toList.drop 46 = dktX0_take_2 := dk_seg dksX0_take_1 24 rfl rfl
theorem dksX0_take_3 : cX0_take.data.toList.drop 68 = dktX0_take_3 := dk_seg dksX0_take_2 22 rfl rfl
theorem dksX0_take_4 : cX0_take.data.toList.drop 92 = dktX0_take_4 := dk_seg dksX0_take_3 24 rfl rfl
theorem dX0_take_0 : decode cX0_take 0 = .ok (.aload_n 1, 1) := dk_43 (dk_at dksX0_take_0 0 rfl rfl)
theorem dX0_take_1 : decode cX0_take 1 = .ok (.iload_n 2, 1) := dk_28 (dk_at dksX0_take_0 1 rfl rfl)
theorem dX0_take_2 : decode cX0_take 2 = .ok (.invokevirtual 167, 3) := dk_182 0 167 (dk_at dksX0_take_0 2 rfl rfl)
theorem dX0_take_5 : decode cX0_take 5 = .ok (.istore 4, 2) := dk_54 4 (dk_at dksX0_take_0 5 rfl rfl)
theorem dX0_take_7 : decode cX0_take 7 = .ok (.aload_n 0, 1) := dk_42 (dk_at dksX0_take_0 7 rfl rfl)
theorem dX0_take_8 : decode cX0_take 8 = .ok (.getfield 277, 3) := dk_180 1 21 (dk_at dksX0_take_0 8 rfl rfl)
theorem dX0_take_11 : decode cX0_take 11 = .ok (.iload 4, 2) := dk_21 4 (dk_at dksX0_take_0 11 rfl rfl)
theorem dX0_take_13 : decode cX0_take 13 = .ok (.isub, 1) := dk_100 (dk_at dksX0_take_0 13 rfl rfl)
theorem dX0_take_14 : decode cX0_take 14 = .ok (.istore 5, 2) := dk_54 5 (dk_at dksX0_take_0 14 rfl rfl)
theorem dX0_take_16 : decode cX0_take 16 = .ok (.iload 4, 2) := dk_21 4 (dk_at dksX0_take_0 16 rfl rfl)
theorem dX0_take_18 : decode cX0_take 18 = .ok (.ifCond .ne 13, 3) := dk_154 0 13 (dk_at dksX0_take_0 18 rfl rfl)
theorem dX0_take_21 : decode cX0_take 21 = .ok (.aload_n 1, 1) := dk_43 (dk_at dksX0_take_0 21 rfl rfl)
theorem dX0_take_22 : decode cX0_take 22 = .ok (.checkcast 280, 3) := dk_192 1 24 (dk_at dksX0_take_1 0 rfl rfl)
theorem dX0_take_25 : decode cX0_take 25 = .ok (.getfield 282, 3) := dk_180 1 26 (dk_at dksX0_take_1 3 rfl rfl)
theorem dX0_take_28 : decode cX0_take 28 = .ok (.goto 12, 3) := dk_167 0 12 (dk_at dksX0_take_1 6 rfl rfl)
theorem dX0_take_31 : decode cX0_take 31 = .ok (.aload_n 0, 1) := dk_42 (dk_at dksX0_take_1 9 rfl rfl)
theorem dX0_take_32 : decode cX0_take 32 = .ok (.aload_n 1, 1) := dk_43 (dk_at dksX0_take_1 10 rfl rfl)
theorem dX0_take_33 : decode cX0_take 33 = .ok (.iload 4, 2) := dk_21 4 (dk_at dksX0_take_1 11 rfl rfl)
theorem dX0_take_35 : decode cX0_take 35 = .ok (.iload 5, 2) := dk_21 5 (dk_at dksX0_take_1 13 rfl rfl)
theorem dX0_take_37 : decode cX0_take 37 = .ok (.invokevirtual 285, 3) := dk_182 1 29 (dk_at dksX0_take_1 15 rfl rfl)
theorem dX0_take_40 : decode cX0_take 40 = .ok (.istore 6, 2) := dk_54 6 (dk_at dksX0_take_1 18 rfl rfl)
theorem dX0_take_42 : decode cX0_take 42 = .ok (.aload_n 0, 1) := dk_42 (dk_at dksX0_take_1 20 rfl rfl)
theorem dX0_take_43 : decode cX0_take 43 = .ok (.aload_n 1, 1) := dk_43 (dk_at dksX0_take_1 21 rfl rfl)
theorem dX0_take_44 : decode cX0_take 44 = .ok (.iload_n 2, 1) := dk_28 (dk_at dksX0_take_1 22 rfl rfl)
theorem dX0_take_45 : decode cX0_take 45 = .ok (.aload_n 0, 1) := dk_42 (dk_at dksX0_take_1 23 rfl rfl)
theorem dX0_take_46 : decode cX0_take 46 = .ok (.getfield 107, 3) := dk_180 0 107 (dk_at dksX0_take_2 0 rfl rfl)
theorem dX0_take_49 : decode cX0_take 49 = .ok (.iload 5, 2) := dk_21 5 (dk_at dksX0_take_2 3 rfl rfl)
theorem dX0_take_51 : decode cX0_take 51 = .ok (.invokevirtual 289, 3) := dk_182 1 33 (dk_at dksX0_take_2 5 rfl rfl)
theorem dX0_take_54 : decode cX0_take 54 = .ok (.istore 7, 2) := dk_54 7 (dk_at dksX0_take_2 8 rfl rfl)
theorem dX0_take_56 : decode cX0_take 56 = .ok (.aload_n 0, 1) := dk_42 (dk_at dksX0_take_2 10 rfl rfl)
theorem dX0_take_57 : decode cX0_take 57 = .ok (.getfield 98, 3) := dk_180 0 98 (dk_at dksX0_take_2 11 rfl rfl)
theorem dX0_take_60 : decode cX0_take 60 = .ok (.iload 5, 2) := dk_21 5 (dk_at dksX0_take_2 14 rfl rfl)
theorem dX0_take_62 : decode cX0_take 62 = .ok (.aload_n 1, 1) := dk_43 (dk_at dksX0_take_2 16 rfl rfl)
theorem dX0_take_63 : decode cX0_take 63 = .ok (.getfield 196, 3) := dk_180 0 196 (dk_at dksX0_take_2 17 rfl rfl)
theorem dX0_take_66 : decode cX0_take 66 = .ok (.iastore, 1) := dk_79 (dk_at dksX0_take_2 20 rfl rfl)
theorem dX0_take_67 : decode cX0_take 67 = .ok (.aload_n 0, 1) := dk_42 (dk_at dksX0_take_2 21 rfl rfl)
theorem dX0_take_68 : decode cX0_take 68 = .ok (.getfield 101, 3) := dk_180 0 101 (dk_at dksX0_take_3 0 rfl rfl)
theorem dX0_take_71 : decode cX0_take 71 = .ok (.iload 5, 2) := dk_21 5 (dk_at dksX0_take_3 3 rfl rfl)
theorem dX0_take_73 : decode cX0_take 73 = .ok (.iload 6, 2) := dk_21 6 (dk_at dksX0_take_3 5 rfl rfl)
theorem dX0_take_75 : decode cX0_take 75 = .ok (.iastore, 1) := dk_79 (dk_at dksX0_take_3 7 rfl rfl)
theorem dX0_take_76 : decode cX0_take 76 = .ok (.aload_n 0, 1) := dk_42 (dk_at dksX0_take_3 8 rfl rfl)
theorem dX0_take_77 : decode cX0_take 77 = .ok (.getfield 104, 3) := dk_180 0 104 (dk_at dksX0_take_3 9 rfl rfl)
theorem dX0_take_80 : decode cX0_take 80 = .ok (.iload 5, 2) := dk_21 5 (dk_at dksX0_take_3 12 rfl rfl)
theorem dX0_take_82 : decode cX0_take 82 = .ok (.iload_n 3, 1) := dk_29 (dk_at dksX0_take_3 14 rfl rfl)
theorem dX0_take_83 : decode cX0_take 83 = .ok (.iastore, 1) := dk_79 (dk_at dksX0_take_3 15 rfl rfl)
theorem dX0_take_84 : decode cX0_take 84 = .ok (.aload_n 0, 1) := dk_42 (dk_at dksX0_take_3 16 rfl rfl)
theorem dX0_take_85 : decode cX0_take 85 = .ok (.getfield 107, 3) := dk_180 0 107 (dk_at dksX0_take_3 17 rfl rfl)
theorem dX0_take_88 : decode cX0_take 88 = .ok (.iload 5, 2) := dk_21 5 (dk_at dksX0_take_3 20 rfl rfl)
theorem dX0_take_90 : decode cX0_take 90 = .ok (.iload 7, 2) := dk_21 7 (dk_at dksX0_take_3 22 rfl rfl)
theorem dX0_take_92 : decode cX0_take 92 = .ok (.iastore, 1) := dk_79 (dk_at dksX0_take_4 0 rfl rfl)
theorem dX0_take_93 : decode cX0_take 93 = .ok (.aload_n 0, 1) := dk_42 (dk_at dksX0_take_4 1 rfl rfl)
theorem dX0_take_94 : decode cX0_take 94 = .ok (.iload 5, 2) := dk_21 5 (dk_at dksX0_take_4 2 rfl rfl)
theorem dX0_take_96 : decode cX0_take 96 = .ok (.iconst 1, 1) := dk_4 (dk_at dksX0_take_4 4 rfl rfl)
theorem dX0_take_97 : decode cX0_take 97 = .ok (.iadd, 1) := dk_96 (dk_at dksX0_take_4 5 rfl rfl)
theorem dX0_take_98 : decode cX0_take 98 = .ok (.putfield 277, 3) := dk_181 1 21 (dk_at dksX0_take_4 6 rfl rfl)
theorem dX0_take_101 : decode cX0_take 101 = .ok (.return_, 1) := dk_177 (dk_at dksX0_take_4 9 rfl rfl)
abbrev cX0_weighed : ByteArray := prog_1_method_38_code
def yX0_weighed : MethodName := ⟨RX0, "weighed", "(LHeldTongue$Sense;II)I"⟩
def dkwX0_weighed_5 : List UInt8 := [185, 1, 46, 2, 0, 184, 0, 209, 184, 1, 52, 136, 172]
abbrev dktX0_weighed_5 : List UInt8 := dkwX0_weighed_5 ++ []
def dkwX0_weighed_4 : List UInt8 := [25, 4, 3, 46, 167, 0, 30, 9, 20, 1, 44, 42, 182, 0, 186, 180, 1, 40, 42, 180, 0, 23]
abbrev dktX0_weighed_4 : List UInt8 := dkwX0_weighed_4 ++ dktX0_weighed_5
def dkwX0_weighed_3 : List UInt8 := [21, 5, 46, 184, 0, 249, 79, 132, 5, 1, 167, 255, 212, 42, 182, 0, 186, 180, 1, 40, 199, 0, 10]
abbrev dktX0_weighed_3 : List UInt8 := dkwX0_weighed_3 ++ dktX0_weighed_4
def dkwX0_weighed_2 : List UInt8 := [3, 92, 46, 42, 180, 0, 101, 21, 5, 46, 96, 79, 25, 4, 4, 25, 4, 4, 46, 42, 180, 0, 101]
abbrev dktX0_weighed_2 : List UInt8 := dkwX0_weighed_2 ++ dktX0_weighed_3
def dkwX0_weighed_1 : List UInt8 := [28, 79, 25, 4, 6, 43, 180, 0, 196, 79, 29, 54, 5, 21, 5, 42, 180, 1, 21, 162, 0, 41, 25, 4]
abbrev dktX0_weighed_1 : List UInt8 := dkwX0_weighed_1 ++ dktX0_weighed_2
def dkwX0_weighed_0 : List UInt8 := [42, 180, 0, 23, 180, 1, 37, 58, 4, 25, 4, 3, 3, 79, 25, 4, 4, 17, 39, 15, 79, 25, 4, 5]
abbrev dktX0_weighed_0 : List UInt8 := dkwX0_weighed_0 ++ dktX0_weighed_1
theorem dksX0_weighed_0 : cX0_weighed.data.toList.drop 0 = dktX0_weighed_0 := by decide +kernel
theorem dksX0_weighed_1 : cX0_weighed.data.toList.drop 24 = dktX0_weighed_1 := dk_seg dksX0_weighed_0 24 rfl rfl
theorem dksX0_weighed_2 : cX0_weighed.data.toList.drop 48 = dktX0_weighed_2 := dk_seg dksX0_weighed_1 24 rfl rfl
theorem dksX0_weighed_3 : cX0_weighed.data.toList.drop 71 = dktX0_weighed_3 := dk_seg dksX0_weighed_2 23 rfl rfl
theorem dksX0_weighed_4 : cX0_weighed.data.toList.drop 94 = dktX0_weighed_4 := dk_seg dksX0_weighed_3 23 rfl rfl
theorem dksX0_weighed_5 : cX0_weighed.data.toList.drop 116 = dktX0_weighed_5 := dk_seg dksX0_weighed_4 22 rfl rfl
theorem dX0_weighed_0 : decode cX0_weighed 0 = .ok (.aload_n 0, 1) := dk_42 (dk_at dksX0_weighed_0 0 rfl rfl)
theorem dX0_weighed_1 : decode cX0_weighed 1 = .ok (.getfield 23, 3) := dk_180 0 23 (dk_at dksX0_weighed_0 1 rfl rfl)
theorem dX0_weighed_4 : decode cX0_weighed 4 = .ok (.getfield 293, 3) := dk_180 1 37 (dk_at dksX0_weighed_0 4 rfl rfl)
theorem dX0_weighed_7 : decode cX0_weighed 7 = .ok (.astore 4, 2) := dk_58 4 (dk_at dksX0_weighed_0 7 rfl rfl)
theorem dX0_weighed_9 : decode cX0_weighed 9 = .ok (.aload 4, 2) := dk_25 4 (dk_at dksX0_weighed_0 9 rfl rfl)
theorem dX0_weighed_11 : decode cX0_weighed 11 = .ok (.iconst 0, 1) := dk_3 (dk_at dksX0_weighed_0 11 rfl rfl)
theorem dX0_weighed_12 : decode cX0_weighed 12 = .ok (.iconst 0, 1) := dk_3 (dk_at dksX0_weighed_0 12 rfl rfl)
theorem dX0_weighed_13 : decode cX0_weighed 13 = .ok (.iastore, 1) := dk_79 (dk_at dksX0_weighed_0 13 rfl rfl)
theorem dX0_weighed_14 : decode cX0_weighed 14 = .ok (.aload 4, 2) := dk_25 4 (dk_at dksX0_weighed_0 14 rfl rfl)
theorem dX0_weighed_16 : decode cX0_weighed 16 = .ok (.iconst 1, 1) := dk_4 (dk_at dksX0_weighed_0 16 rfl rfl)
theorem dX0_weighed_17 : decode cX0_weighed 17 = .ok (.sipush 9999, 3) := dk_17 39 15 (dk_at dksX0_weighed_0 17 rfl rfl)
theorem dX0_weighed_20 : decode cX0_weighed 20 = .ok (.iastore, 1) := dk_79 (dk_at dksX0_weighed_0 20 rfl rfl)
theorem dX0_weighed_21 : decode cX0_weighed 21 = .ok (.aload 4, 2) := dk_25 4 (dk_at dksX0_weighed_0 21 rfl rfl)
theorem dX0_weighed_23 : decode cX0_weighed 23 = .ok (.iconst 2, 1) := dk_5 (dk_at dksX0_weighed_0 23 rfl rfl)
theorem dX0_weighed_24 : decode cX0_weighed 24 = .ok (.iload_n 2, 1) := dk_28 (dk_at dksX0_weighed_1 0 rfl rfl)
theorem dX0_weighed_25 : decode cX0_weighed 25 = .ok (.iastore, 1) := dk_79 (dk_at dksX0_weighed_1 1 rfl rfl)
theorem dX0_weighed_26 : decode cX0_weighed 26 = .ok (.aload 4, 2) := dk_25 4 (dk_at dksX0_weighed_1 2 rfl rfl)
theorem dX0_weighed_28 : decode cX0_weighed 28 = .ok (.iconst 3, 1) := dk_6 (dk_at dksX0_weighed_1 4 rfl rfl)
theorem dX0_weighed_29 : decode cX0_weighed 29 = .ok (.aload_n 1, 1) := dk_43 (dk_at dksX0_weighed_1 5 rfl rfl)
theorem dX0_weighed_30 : decode cX0_weighed 30 = .ok (.getfield 196, 3) := dk_180 0 196 (dk_at dksX0_weighed_1 6 rfl rfl)
theorem dX0_weighed_33 : decode cX0_weighed 33 = .ok (.iastore, 1) := dk_79 (dk_at dksX0_weighed_1 9 rfl rfl)
theorem dX0_weighed_34 : decode cX0_weighed 34 = .ok (.iload_n 3, 1) := dk_29 (dk_at dksX0_weighed_1 10 rfl rfl)
theorem dX0_weighed_35 : decode cX0_weighed 35 = .ok (.istore 5, 2) := dk_54 5 (dk_at dksX0_weighed_1 11 rfl rfl)
theorem dX0_weighed_37 : decode cX0_weighed 37 = .ok (.iload 5, 2) := dk_21 5 (dk_at dksX0_weighed_1 13 rfl rfl)
theorem dX0_weighed_39 : decode cX0_weighed 39 = .ok (.aload_n 0, 1) := dk_42 (dk_at dksX0_weighed_1 15 rfl rfl)
theorem dX0_weighed_40 : decode cX0_weighed 40 = .ok (.getfield 277, 3) := dk_180 1 21 (dk_at dksX0_weighed_1 16 rfl rfl)
theorem dX0_weighed_43 : decode cX0_weighed 43 = .ok (.if_icmp .ge 41, 3) := dk_162 0 41 (dk_at dksX0_weighed_1 19 rfl rfl)
theorem dX0_weighed_46 : decode cX0_weighed 46 = .ok (.aload 4, 2) := dk_25 4 (dk_at dksX0_weighed_1 22 rfl rfl)
theorem dX0_weighed_48 : decode cX0_weighed 48 = .ok (.iconst 0, 1) := dk_3 (dk_at dksX0_weighed_2 0 rfl rfl)
theorem dX0_weighed_49 : decode cX0_weighed 49 = .ok (.dup2, 1) := dk_92 (dk_at dksX0_weighed_2 1 rfl rfl)
theorem dX0_weighed_50 : decode cX0_weighed 50 = .ok (.iaload, 1) := dk_46 (dk_at dksX0_weighed_2 2 rfl rfl)
theorem dX0_weighed_51 : decode cX0_weighed 51 = .ok (.aload_n 0, 1) := dk_42 (dk_at dksX0_weighed_2 3 rfl rfl)
theorem dX0_weighed_52 : decode cX0_weighed 52 = .ok (.getfield 101, 3) := dk_180 0 101 (dk_at dksX0_weighed_2 4 rfl rfl)
theorem dX0_weighed_55 : decode cX0_weighed 55 = .ok (.iload 5, 2) := dk_21 5 (dk_at dksX0_weighed_2 7 rfl rfl)
theorem dX0_weighed_57 : decode cX0_weighed 57 = .ok (.iaload, 1) := dk_46 (dk_at dksX0_weighed_2 9 rfl rfl)
theorem dX0_weighed_58 : decode cX0_weighed 58 = .ok (.iadd, 1) := dk_96 (dk_at dksX0_weighed_2 10 rfl rfl)
theorem dX0_weighed_59 : decode cX0_weighed 59 = .ok (.iastore, 1) := dk_79 (dk_at dksX0_weighed_2 11 rfl rfl)
theorem dX0_weighed_60 : decode cX0_weighed 60 = .ok (.aload 4, 2) := dk_25 4 (dk_at dksX0_weighed_2 12 rfl rfl)
theorem dX0_weighed_62 : decode cX0_weighed 62 = .ok (.iconst 1, 1) := dk_4 (dk_at dksX0_weighed_2 14 rfl rfl)
theorem dX0_weighed_63 : decode cX0_weighed 63 = .ok (.aload 4, 2) := dk_25 4 (dk_at dksX0_weighed_2 15 rfl rfl)
theorem dX0_weighed_65 : decode cX0_weighed 65 = .ok (.iconst 1, 1) := dk_4 (dk_at dksX0_weighed_2 17 rfl rfl)
theorem dX0_weighed_66 : decode cX0_weighed 66 = .ok (.iaload, 1) := dk_46 (dk_at dksX0_weighed_2 18 rfl rfl)
theorem dX0_weighed_67 : decode cX0_weighed 67 = .ok (.aload_n 0, 1) := dk_42 (dk_at dksX0_weighed_2 19 rfl rfl)
theorem dX0_weighed_68 : decode cX0_weighed 68 = .ok (.getfield 101, 3) := dk_180 0 101 (dk_at dksX0_weighed_2 20 rfl rfl)
theorem dX0_weighed_71 : decode cX0_weighed 71 = .ok (.iload 5, 2) := dk_21 5 (dk_at dksX0_weighed_3 0 rfl rfl)
theorem dX0_weighed_73 : decode cX0_weighed 73 = .ok (.iaload, 1) := dk_46 (dk_at dksX0_weighed_3 2 rfl rfl)
theorem dX0_weighed_74 : decode cX0_weighed 74 = .ok (.invokestatic 249, 3) := dk_184 0 249 (dk_at dksX0_weighed_3 3 rfl rfl)
theorem dX0_weighed_77 : decode cX0_weighed 77 = .ok (.iastore, 1) := dk_79 (dk_at dksX0_weighed_3 6 rfl rfl)
theorem dX0_weighed_78 : decode cX0_weighed 78 = .ok (.iinc 5 1, 3) := dk_132 5 1 (dk_at dksX0_weighed_3 7 rfl rfl)
theorem dX0_weighed_81 : decode cX0_weighed 81 = .ok (.goto (-44), 3) := dk_167 255 212 (dk_at dksX0_weighed_3 10 rfl rfl)
theorem dX0_weighed_84 : decode cX0_weighed 84 = .ok (.aload_n 0, 1) := dk_42 (dk_at dksX0_weighed_3 13 rfl rfl)
theorem dX0_weighed_85 : decode cX0_weighed 85 = .ok (.invokevirtual 186, 3) := dk_182 0 186 (dk_at dksX0_weighed_3 14 rfl rfl)
theorem dX0_weighed_88 : decode cX0_weighed 88 = .ok (.getfield 296, 3) := dk_180 1 40 (dk_at dksX0_weighed_3 17 rfl rfl)
theorem dX0_weighed_91 : decode cX0_weighed 91 = .ok (.ifnonnull 10, 3) := dk_199 0 10 (dk_at dksX0_weighed_3 20 rfl rfl)
theorem dX0_weighed_94 : decode cX0_weighed 94 = .ok (.aload 4, 2) := dk_25 4 (dk_at dksX0_weighed_4 0 rfl rfl)
theorem dX0_weighed_96 : decode cX0_weighed 96 = .ok (.iconst 0, 1) := dk_3 (dk_at dksX0_weighed_4 2 rfl rfl)
theorem dX0_weighed_97 : decode cX0_weighed 97 = .ok (.iaload, 1) := dk_46 (dk_at dksX0_weighed_4 3 rfl rfl)
theorem dX0_weighed_98 : decode cX0_weighed 98 = .ok (.goto 30, 3) := dk_167 0 30 (dk_at dksX0_weighed_4 4 rfl rfl)
theorem dX0_weighed_101 : decode cX0_weighed 101 = .ok (.lconst 0, 1) := dk_9 (dk_at dksX0_weighed_4 7 rfl rfl)
theorem dX0_weighed_102 : decode cX0_weighed 102 = .ok (.ldc2_w 300, 3) := dk_20 1 44 (dk_at dksX0_weighed_4 8 rfl rfl)
theorem dX0_weighed_105 : decode cX0_weighed 105 = .ok (.aload_n 0, 1) := dk_42 (dk_at dksX0_weighed_4 11 rfl rfl)
theorem dX0_weighed_106 : decode cX0_weighed 106 = .ok (.invokevirtual 186, 3) := dk_182 0 186 (dk_at dksX0_weighed_4 12 rfl rfl)
theorem dX0_weighed_109 : decode cX0_weighed 109 = .ok (.getfield 296, 3) := dk_180 1 40 (dk_at dksX0_weighed_4 15 rfl rfl)
theorem dX0_weighed_112 : decode cX0_weighed 112 = .ok (.aload_n 0, 1) := dk_42 (dk_at dksX0_weighed_4 18 rfl rfl)
theorem dX0_weighed_113 : decode cX0_weighed 113 = .ok (.getfield 23, 3) := dk_180 0 23 (dk_at dksX0_weighed_4 19 rfl rfl)
theorem dX0_weighed_116 : decode cX0_weighed 116 = .ok (.invokeinterface 302 2, 5) := by decide +kernel
theorem dX0_weighed_121 : decode cX0_weighed 121 = .ok (.invokestatic 209, 3) := dk_184 0 209 (dk_at dksX0_weighed_5 5 rfl rfl)
theorem dX0_weighed_124 : decode cX0_weighed 124 = .ok (.invokestatic 308, 3) := dk_184 1 52 (dk_at dksX0_weighed_5 8 rfl rfl)
theorem dX0_weighed_127 : decode cX0_weighed 127 = .ok (.l2i, 1) := dk_136 (dk_at dksX0_weighed_5 11 rfl rfl)
theorem dX0_weighed_128 : decode cX0_weighed 128 = .ok (.ireturn, 1) := dk_172 (dk_at dksX0_weighed_5 12 rfl rfl)
abbrev cX0_meaning : ByteArray := prog_1_method_36_code
def yX0_meaning : MethodName := ⟨RX0, "meaning", "(LHeldTongue$Sense;I[II)I"⟩
def dkwX0_meaning_5 : List UInt8 := [21, 8, 79, 132, 7, 1, 167, 255, 165, 42, 43, 182, 0, 178, 43, 180, 1, 15, 21, 5, 182, 1, 18, 172]
abbrev dktX0_meaning_5 : List UInt8 := dkwX0_meaning_5 ++ []
def dkwX0_meaning_4 : List UInt8 := [21, 9, 42, 180, 0, 95, 21, 9, 4, 100, 46, 79, 132, 9, 255, 167, 255, 208, 42, 180, 0, 95, 21, 9]
abbrev dktX0_meaning_4 : List UInt8 := dkwX0_meaning_4 ++ dktX0_meaning_5
def dkwX0_meaning_3 : List UInt8 := [21, 6, 164, 0, 39, 42, 180, 0, 95, 21, 9, 4, 100, 46, 21, 8, 164, 0, 25, 42, 180, 0, 95]
abbrev dktX0_meaning_3 : List UInt8 := dkwX0_meaning_3 ++ dktX0_meaning_4
def dkwX0_meaning_2 : List UInt8 := [182, 1, 12, 96, 46, 54, 8, 21, 6, 21, 7, 96, 54, 9, 43, 182, 0, 178, 5, 160, 0, 46, 21, 9]
abbrev dktX0_meaning_2 : List UInt8 := dkwX0_meaning_2 ++ dktX0_meaning_3
def dkwX0_meaning_1 : List UInt8 := [42, 180, 1, 5, 46, 54, 6, 3, 54, 7, 21, 7, 21, 5, 162, 0, 90, 45, 21, 4, 43, 28, 21, 7]
abbrev dktX0_meaning_1 : List UInt8 := dkwX0_meaning_1 ++ dktX0_meaning_2
def dkwX0_meaning_0 : List UInt8 := [43, 182, 0, 178, 2, 160, 0, 8, 45, 21, 4, 46, 172, 43, 28, 182, 0, 167, 54, 5, 42, 180, 0, 92]
abbrev dktX0_meaning_0 : List UInt8 := dkwX0_meaning_0 ++ dktX0_meaning_1
theorem dksX0_meaning_0 : cX0_meaning.data.toList.drop 0 = dktX0_meaning_0 := by decide +kernel
theorem dksX0_meaning_1 : cX0_meaning.data.toList.drop 24 = dktX0_meaning_1 := dk_seg dksX0_meaning_0 24 rfl rfl
theorem dksX0_meaning_2 : cX0_meaning.data.toList.drop 48 = dktX0_meaning_2 := dk_seg dksX0_meaning_1 24 rfl rfl
theorem dksX0_meaning_3 : cX0_meaning.data.toList.drop 72 = dktX0_meaning_3 := dk_seg dksX0_meaning_2 24 rfl rfl
theorem dksX0_meaning_4 : cX0_meaning.data.toList.drop 95 = dktX0_meaning_4 := dk_seg dksX0_meaning_3 23 rfl rfl
theorem dksX0_meaning_5 : cX0_meaning.data.toList.drop 119 = dktX0_meaning_5 := dk_seg dksX0_meaning_4 24 rfl rfl
theorem dX0_meaning_0 : decode cX0_meaning 0 = .ok (.aload_n 1, 1) := dk_43 (dk_at dksX0_meaning_0 0 rfl rfl)
theorem dX0_meaning_1 : decode cX0_meaning 1 = .ok (.invokevirtual 178, 3) := dk_182 0 178 (dk_at dksX0_meaning_0 1 rfl rfl)
theorem dX0_meaning_4 : decode cX0_meaning 4 = .ok (.iconst (-1), 1) := dk_2 (dk_at dksX0_meaning_0 4 rfl rfl)
theorem dX0_meaning_5 : decode cX0_meaning 5 = .ok (.if_icmp .ne 8, 3) := dk_160 0 8 (dk_at dksX0_meaning_0 5 rfl rfl)
theorem dX0_meaning_8 : decode cX0_meaning 8 = .ok (.aload_n 3, 1) := dk_45 (dk_at dksX0_meaning_0 8 rfl rfl)
theorem dX0_meaning_9 : decode cX0_meaning 9 = .ok (.iload 4, 2) := dk_21 4 (dk_at dksX0_meaning_0 9 rfl rfl)
theorem dX0_meaning_11 : decode cX0_meaning 11 = .ok (.iaload, 1) := dk_46 (dk_at dksX0_meaning_0 11 rfl rfl)
theorem dX0_meaning_12 : decode cX0_meaning 12 = .ok (.ireturn, 1) := dk_172 (dk_at dksX0_meaning_0 12 rfl rfl)
theorem dX0_meaning_13 : decode cX0_meaning 13 = .ok (.aload_n 1, 1) := dk_43 (dk_at dksX0_meaning_0 13 rfl rfl)
theorem dX0_meaning_14 : decode cX0_meaning 14 = .ok (.iload_n 2, 1) := dk_28 (dk_at dksX0_meaning_0 14 rfl rfl)
theorem dX0_meaning_15 : decode cX0_meaning 15 = .ok (.invokevirtual 167, 3) := dk_182 0 167 (dk_at dksX0_meaning_0 15 rfl rfl)
theorem dX0_meaning_18 : decode cX0_meaning 18 = .ok (.istore 5, 2) := dk_54 5 (dk_at dksX0_meaning_0 18 rfl rfl)
theorem dX0_meaning_20 : decode cX0_meaning 20 = .ok (.aload_n 0, 1) := dk_42 (dk_at dksX0_meaning_0 20 rfl rfl)
theorem dX0_meaning_21 : decode cX0_meaning 21 = .ok (.getfield 92, 3) := dk_180 0 92 (dk_at dksX0_meaning_0 21 rfl rfl)
theorem dX0_meaning_24 : decode cX0_meaning 24 = .ok (.aload_n 0, 1) := dk_42 (dk_at dksX0_meaning_1 0 rfl rfl)
theorem dX0_meaning_25 : decode cX0_meaning 25 = .ok (.getfield 261, 3) := dk_180 1 5 (dk_at dksX0_meaning_1 1 rfl rfl)
theorem dX0_meaning_28 : decode cX0_meaning 28 = .ok (.iaload, 1) := dk_46 (dk_at dksX0_meaning_1 4 rfl rfl)
theorem dX0_meaning_29 : decode cX0_meaning 29 = .ok (.istore 6, 2) := dk_54 6 (dk_at dksX0_meaning_1 5 rfl rfl)
theorem dX0_meaning_31 : decode cX0_meaning 31 = .ok (.iconst 0, 1) := dk_3 (dk_at dksX0_meaning_1 7 rfl rfl)
theorem dX0_meaning_32 : decode cX0_meaning 32 = .ok (.istore 7, 2) := dk_54 7 (dk_at dksX0_meaning_1 8 rfl rfl)
theorem dX0_meaning_34 : decode cX0_meaning 34 = .ok (.iload 7, 2) := dk_21 7 (dk_at dksX0_meaning_1 10 rfl rfl)
theorem dX0_meaning_36 : decode cX0_meaning 36 = .ok (.iload 5, 2) := dk_21 5 (dk_at dksX0_meaning_1 12 rfl rfl)
theorem dX0_meaning_38 : decode cX0_meaning 38 = .ok (.if_icmp .ge 90, 3) := dk_162 0 90 (dk_at dksX0_meaning_1 14 rfl rfl)
theorem dX0_meaning_41 : decode cX0_meaning 41 = .ok (.aload_n 3, 1) := dk_45 (dk_at dksX0_meaning_1 17 rfl rfl)
theorem dX0_meaning_42 : decode cX0_meaning 42 = .ok (.iload 4, 2) := dk_21 4 (dk_at dksX0_meaning_1 18 rfl rfl)
theorem dX0_meaning_44 : decode cX0_meaning 44 = .ok (.aload_n 1, 1) := dk_43 (dk_at dksX0_meaning_1 20 rfl rfl)
theorem dX0_meaning_45 : decode cX0_meaning 45 = .ok (.iload_n 2, 1) := dk_28 (dk_at dksX0_meaning_1 21 rfl rfl)
theorem dX0_meaning_46 : decode cX0_meaning 46 = .ok (.iload 7, 2) := dk_21 7 (dk_at dksX0_meaning_1 22 rfl rfl)
theorem dX0_meaning_48 : decode cX0_meaning 48 = .ok (.invokevirtual 268, 3) := dk_182 1 12 (dk_at dksX0_meaning_2 0 rfl rfl)
theorem dX0_meaning_51 : decode cX0_meaning 51 = .ok (.iadd, 1) := dk_96 (dk_at dksX0_meaning_2 3 rfl rfl)
theorem dX0_meaning_52 : decode cX0_meaning 52 = .ok (.iaload, 1) := dk_46 (dk_at dksX0_meaning_2 4 rfl rfl)
theorem dX0_meaning_53 : decode cX0_meaning 53 = .ok (.istore 8, 2) := dk_54 8 (dk_at dksX0_meaning_2 5 rfl rfl)
theorem dX0_meaning_55 : decode cX0_meaning 55 = .ok (.iload 6, 2) := dk_21 6 (dk_at dksX0_meaning_2 7 rfl rfl)
theorem dX0_meaning_57 : decode cX0_meaning 57 = .ok (.iload 7, 2) := dk_21 7 (dk_at dksX0_meaning_2 9 rfl rfl)
theorem dX0_meaning_59 : decode cX0_meaning 59 = .ok (.iadd, 1) := dk_96 (dk_at dksX0_meaning_2 11 rfl rfl)
theorem dX0_meaning_60 : decode cX0_meaning 60 = .ok (.istore 9, 2) := dk_54 9 (dk_at dksX0_meaning_2 12 rfl rfl)
theorem dX0_meaning_62 : decode cX0_meaning 62 = .ok (.aload_n 1, 1) := dk_43 (dk_at dksX0_meaning_2 14 rfl rfl)
theorem dX0_meaning_63 : decode cX0_meaning 63 = .ok (.invokevirtual 178, 3) := dk_182 0 178 (dk_at dksX0_meaning_2 15 rfl rfl)
theorem dX0_meaning_66 : decode cX0_meaning 66 = .ok (.iconst 2, 1) := dk_5 (dk_at dksX0_meaning_2 18 rfl rfl)
theorem dX0_meaning_67 : decode cX0_meaning 67 = .ok (.if_icmp .ne 46, 3) := dk_160 0 46 (dk_at dksX0_meaning_2 19 rfl rfl)
theorem dX0_meaning_70 : decode cX0_meaning 70 = .ok (.iload 9, 2) := dk_21 9 (dk_at dksX0_meaning_2 22 rfl rfl)
theorem dX0_meaning_72 : decode cX0_meaning 72 = .ok (.iload 6, 2) := dk_21 6 (dk_at dksX0_meaning_3 0 rfl rfl)
theorem dX0_meaning_74 : decode cX0_meaning 74 = .ok (.if_icmp .le 39, 3) := dk_164 0 39 (dk_at dksX0_meaning_3 2 rfl rfl)
theorem dX0_meaning_77 : decode cX0_meaning 77 = .ok (.aload_n 0, 1) := dk_42 (dk_at dksX0_meaning_3 5 rfl rfl)
theorem dX0_meaning_78 : decode cX0_meaning 78 = .ok (.getfield 95, 3) := dk_180 0 95 (dk_at dksX0_meaning_3 6 rfl rfl)
theorem dX0_meaning_81 : decode cX0_meaning 81 = .ok (.iload 9, 2) := dk_21 9 (dk_at dksX0_meaning_3 9 rfl rfl)
theorem dX0_meaning_83 : decode cX0_meaning 83 = .ok (.iconst 1, 1) := dk_4 (dk_at dksX0_meaning_3 11 rfl rfl)
theorem dX0_meaning_84 : decode cX0_meaning 84 = .ok (.isub, 1) := dk_100 (dk_at dksX0_meaning_3 12 rfl rfl)
theorem dX0_meaning_85 : decode cX0_meaning 85 = .ok (.iaload, 1) := dk_46 (dk_at dksX0_meaning_3 13 rfl rfl)
theorem dX0_meaning_86 : decode cX0_meaning 86 = .ok (.iload 8, 2) := dk_21 8 (dk_at dksX0_meaning_3 14 rfl rfl)
theorem dX0_meaning_88 : decode cX0_meaning 88 = .ok (.if_icmp .le 25, 3) := dk_164 0 25 (dk_at dksX0_meaning_3 16 rfl rfl)
theorem dX0_meaning_91 : decode cX0_meaning 91 = .ok (.aload_n 0, 1) := dk_42 (dk_at dksX0_meaning_3 19 rfl rfl)
theorem dX0_meaning_92 : decode cX0_meaning 92 = .ok (.getfield 95, 3) := dk_180 0 95 (dk_at dksX0_meaning_3 20 rfl rfl)
theorem dX0_meaning_95 : decode cX0_meaning 95 = .ok (.iload 9, 2) := dk_21 9 (dk_at dksX0_meaning_4 0 rfl rfl)
theorem dX0_meaning_97 : decode cX0_meaning 97 = .ok (.aload_n 0, 1) := dk_42 (dk_at dksX0_meaning_4 2 rfl rfl)
theorem dX0_meaning_98 : decode cX0_meaning 98 = .ok (.getfield 95, 3) := dk_180 0 95 (dk_at dksX0_meaning_4 3 rfl rfl)
theorem dX0_meaning_101 : decode cX0_meaning 101 = .ok (.iload 9, 2) := dk_21 9 (dk_at dksX0_meaning_4 6 rfl rfl)
theorem dX0_meaning_103 : decode cX0_meaning 103 = .ok (.iconst 1, 1) := dk_4 (dk_at dksX0_meaning_4 8 rfl rfl)
theorem dX0_meaning_104 : decode cX0_meaning 104 = .ok (.isub, 1) := dk_100 (dk_at dksX0_meaning_4 9 rfl rfl)
theorem dX0_meaning_105 : decode cX0_meaning 105 = .ok (.iaload, 1) := dk_46 (dk_at dksX0_meaning_4 10 rfl rfl)
theorem dX0_meaning_106 : decode cX0_meaning 106 = .ok (.iastore, 1) := dk_79 (dk_at dksX0_meaning_4 11 rfl rfl)
theorem dX0_meaning_107 : decode cX0_meaning 107 = .ok (.iinc 9 (-1), 3) := dk_132 9 255 (dk_at dksX0_meaning_4 12 rfl rfl)
theorem dX0_meaning_110 : decode cX0_meaning 110 = .ok (.goto (-48), 3) := dk_167 255 208 (dk_at dksX0_meaning_4 15 rfl rfl)
theorem dX0_meaning_113 : decode cX0_meaning 113 = .ok (.aload_n 0, 1) := dk_42 (dk_at dksX0_meaning_4 18 rfl rfl)
theorem dX0_meaning_114 : decode cX0_meaning 114 = .ok (.getfield 95, 3) := dk_180 0 95 (dk_at dksX0_meaning_4 19 rfl rfl)
theorem dX0_meaning_117 : decode cX0_meaning 117 = .ok (.iload 9, 2) := dk_21 9 (dk_at dksX0_meaning_4 22 rfl rfl)
theorem dX0_meaning_119 : decode cX0_meaning 119 = .ok (.iload 8, 2) := dk_21 8 (dk_at dksX0_meaning_5 0 rfl rfl)
theorem dX0_meaning_121 : decode cX0_meaning 121 = .ok (.iastore, 1) := dk_79 (dk_at dksX0_meaning_5 2 rfl rfl)
theorem dX0_meaning_122 : decode cX0_meaning 122 = .ok (.iinc 7 1, 3) := dk_132 7 1 (dk_at dksX0_meaning_5 3 rfl rfl)
theorem dX0_meaning_125 : decode cX0_meaning 125 = .ok (.goto (-91), 3) := dk_167 255 165 (dk_at dksX0_meaning_5 6 rfl rfl)
theorem dX0_meaning_128 : decode cX0_meaning 128 = .ok (.aload_n 0, 1) := dk_42 (dk_at dksX0_meaning_5 9 rfl rfl)
theorem dX0_meaning_129 : decode cX0_meaning 129 = .ok (.aload_n 1, 1) := dk_43 (dk_at dksX0_meaning_5 10 rfl rfl)
theorem dX0_meaning_130 : decode cX0_meaning 130 = .ok (.invokevirtual 178, 3) := dk_182 0 178 (dk_at dksX0_meaning_5 11 rfl rfl)
theorem dX0_meaning_133 : decode cX0_meaning 133 = .ok (.aload_n 1, 1) := dk_43 (dk_at dksX0_meaning_5 14 rfl rfl)
theorem dX0_meaning_134 : decode cX0_meaning 134 = .ok (.getfield 271, 3) := dk_180 1 15 (dk_at dksX0_meaning_5 15 rfl rfl)
theorem dX0_meaning_137 : decode cX0_meaning 137 = .ok (.iload 5, 2) := dk_21 5 (dk_at dksX0_meaning_5 18 rfl rfl)
theorem dX0_meaning_139 : decode cX0_meaning 139 = .ok (.invokevirtual 274, 3) := dk_182 1 18 (dk_at dksX0_meaning_5 20 rfl rfl)
theorem dX0_meaning_142 : decode cX0_meaning 142 = .ok (.ireturn, 1) := dk_172 (dk_at dksX0_meaning_5 23 rfl rfl)
abbrev cX0_numbered : ByteArray := prog_1_method_35_code
def yX0_numbered : MethodName := ⟨RX0, "numbered", "(III)I"⟩
def dkwX0_numbered_4 : List UInt8 := [172]
abbrev dktX0_numbered_4 : List UInt8 := dkwX0_numbered_4 ++ []
def dkwX0_numbered_3 : List UInt8 := [4, 96, 181, 1, 5, 42, 180, 0, 92, 42, 180, 1, 5, 21, 4, 29, 96, 79, 42, 180, 1, 5, 4, 100]
abbrev dktX0_numbered_3 : List UInt8 := dkwX0_numbered_3 ++ dktX0_numbered_4
def dkwX0_numbered_2 : List UInt8 := [180, 0, 86, 42, 180, 1, 5, 27, 79, 42, 180, 0, 89, 42, 180, 1, 5, 28, 79, 42, 89, 180, 1, 5]
abbrev dktX0_numbered_2 : List UInt8 := dkwX0_numbered_2 ++ dktX0_numbered_3
def dkwX0_numbered_1 : List UInt8 := [21, 5, 27, 28, 21, 4, 29, 182, 1, 8, 153, 0, 6, 21, 5, 172, 132, 5, 1, 167, 255, 227, 42]
abbrev dktX0_numbered_1 : List UInt8 := dkwX0_numbered_1 ++ dktX0_numbered_2
def dkwX0_numbered_0 : List UInt8 := [42, 180, 0, 92, 42, 180, 1, 5, 46, 54, 4, 3, 54, 5, 21, 5, 42, 180, 1, 5, 162, 0, 26, 42]
abbrev dktX0_numbered_0 : List UInt8 := dkwX0_numbered_0 ++ dktX0_numbered_1
theorem dksX0_numbered_0 : cX0_numbered.data.toList.drop 0 = dktX0_numbered_0 := by decide +kernel
theorem dksX0_numbered_1 : cX0_numbered.data.toList.drop 24 = dktX0_numbered_1 := dk_seg dksX0_numbered_0 24 rfl rfl
theorem dksX0_numbered_2 : cX0_numbered.data.toList.drop 47 = dktX0_numbered_2 := dk_seg dksX0_numbered_1 23 rfl rfl
theorem dksX0_numbered_3 : cX0_numbered.data.toList.drop 71 = dktX0_numbered_3 := dk_seg dksX0_numbered_2 24 rfl rfl
theorem dksX0_numbered_4 : cX0_numbered.data.toList.drop 95 = dktX0_numbered_4 := dk_seg dksX0_numbered_3 24 rfl rfl
theorem dX0_numbered_0 : decode cX0_numbered 0 = .ok (.aload_n 0, 1) := dk_42 (dk_at dksX0_numbered_0 0 rfl rfl)
theorem dX0_numbered_1 : decode cX0_numbered 1 = .ok (.getfield 92, 3) := dk_180 0 92 (dk_at dksX0_numbered_0 1 rfl rfl)
theorem dX0_numbered_4 : decode cX0_numbered 4 = .ok (.aload_n 0, 1) := dk_42 (dk_at dksX0_numbered_0 4 rfl rfl)
theorem dX0_numbered_5 : decode cX0_numbered 5 = .ok (.getfield 261, 3) := dk_180 1 5 (dk_at dksX0_numbered_0 5 rfl rfl)
theorem dX0_numbered_8 : decode cX0_numbered 8 = .ok (.iaload, 1) := dk_46 (dk_at dksX0_numbered_0 8 rfl rfl)
theorem dX0_numbered_9 : decode cX0_numbered 9 = .ok (.istore 4, 2) := dk_54 4 (dk_at dksX0_numbered_0 9 rfl rfl)
theorem dX0_numbered_11 : decode cX0_numbered 11 = .ok (.iconst 0, 1) := dk_3 (dk_at dksX0_numbered_0 11 rfl rfl)
theorem dX0_numbered_12 : decode cX0_numbered 12 = .ok (.istore 5, 2) := dk_54 5 (dk_at dksX0_numbered_0 12 rfl rfl)
theorem dX0_numbered_14 : decode cX0_numbered 14 = .ok (.iload 5, 2) := dk_21 5 (dk_at dksX0_numbered_0 14 rfl rfl)
theorem dX0_numbered_16 : decode cX0_numbered 16 = .ok (.aload_n 0, 1) := dk_42 (dk_at dksX0_numbered_0 16 rfl rfl)
theorem dX0_numbered_17 : decode cX0_numbered 17 = .ok (.getfield 261, 3) := dk_180 1 5 (dk_at dksX0_numbered_0 17 rfl rfl)
theorem dX0_numbered_20 : decode cX0_numbered 20 = .ok (.if_icmp .ge 26, 3) := dk_162 0 26 (dk_at dksX0_numbered_0 20 rfl rfl)
theorem dX0_numbered_23 : decode cX0_numbered 23 = .ok (.aload_n 0, 1) := dk_42 (dk_at dksX0_numbered_0 23 rfl rfl)
theorem dX0_numbered_24 : decode cX0_numbered 24 = .ok (.iload 5, 2) := dk_21 5 (dk_at dksX0_numbered_1 0 rfl rfl)
theorem dX0_numbered_26 : decode cX0_numbered 26 = .ok (.iload_n 1, 1) := dk_27 (dk_at dksX0_numbered_1 2 rfl rfl)
theorem dX0_numbered_27 : decode cX0_numbered 27 = .ok (.iload_n 2, 1) := dk_28 (dk_at dksX0_numbered_1 3 rfl rfl)
theorem dX0_numbered_28 : decode cX0_numbered 28 = .ok (.iload 4, 2) := dk_21 4 (dk_at dksX0_numbered_1 4 rfl rfl)
theorem dX0_numbered_30 : decode cX0_numbered 30 = .ok (.iload_n 3, 1) := dk_29 (dk_at dksX0_numbered_1 6 rfl rfl)
theorem dX0_numbered_31 : decode cX0_numbered 31 = .ok (.invokevirtual 264, 3) := dk_182 1 8 (dk_at dksX0_numbered_1 7 rfl rfl)
theorem dX0_numbered_34 : decode cX0_numbered 34 = .ok (.ifCond .eq 6, 3) := dk_153 0 6 (dk_at dksX0_numbered_1 10 rfl rfl)
theorem dX0_numbered_37 : decode cX0_numbered 37 = .ok (.iload 5, 2) := dk_21 5 (dk_at dksX0_numbered_1 13 rfl rfl)
theorem dX0_numbered_39 : decode cX0_numbered 39 = .ok (.ireturn, 1) := dk_172 (dk_at dksX0_numbered_1 15 rfl rfl)
theorem dX0_numbered_40 : decode cX0_numbered 40 = .ok (.iinc 5 1, 3) := dk_132 5 1 (dk_at dksX0_numbered_1 16 rfl rfl)
theorem dX0_numbered_43 : decode cX0_numbered 43 = .ok (.goto (-29), 3) := dk_167 255 227 (dk_at dksX0_numbered_1 19 rfl rfl)
theorem dX0_numbered_46 : decode cX0_numbered 46 = .ok (.aload_n 0, 1) := dk_42 (dk_at dksX0_numbered_1 22 rfl rfl)
theorem dX0_numbered_47 : decode cX0_numbered 47 = .ok (.getfield 86, 3) := dk_180 0 86 (dk_at dksX0_numbered_2 0 rfl rfl)
theorem dX0_numbered_50 : decode cX0_numbered 50 = .ok (.aload_n 0, 1) := dk_42 (dk_at dksX0_numbered_2 3 rfl rfl)
theorem dX0_numbered_51 : decode cX0_numbered 51 = .ok (.getfield 261, 3) := dk_180 1 5 (dk_at dksX0_numbered_2 4 rfl rfl)
theorem dX0_numbered_54 : decode cX0_numbered 54 = .ok (.iload_n 1, 1) := dk_27 (dk_at dksX0_numbered_2 7 rfl rfl)
theorem dX0_numbered_55 : decode cX0_numbered 55 = .ok (.iastore, 1) := dk_79 (dk_at dksX0_numbered_2 8 rfl rfl)
theorem dX0_numbered_56 : decode cX0_numbered 56 = .ok (.aload_n 0, 1) := dk_42 (dk_at dksX0_numbered_2 9 rfl rfl)
theorem dX0_numbered_57 : decode cX0_numbered 57 = .ok (.getfield 89, 3) := dk_180 0 89 (dk_at dksX0_numbered_2 10 rfl rfl)
theorem dX0_numbered_60 : decode cX0_numbered 60 = .ok (.aload_n 0, 1) := dk_42 (dk_at dksX0_numbered_2 13 rfl rfl)
theorem dX0_numbered_61 : decode cX0_numbered 61 = .ok (.getfield 261, 3) := dk_180 1 5 (dk_at dksX0_numbered_2 14 rfl rfl)
theorem dX0_numbered_64 : decode cX0_numbered 64 = .ok (.iload_n 2, 1) := dk_28 (dk_at dksX0_numbered_2 17 rfl rfl)
theorem dX0_numbered_65 : decode cX0_numbered 65 = .ok (.iastore, 1) := dk_79 (dk_at dksX0_numbered_2 18 rfl rfl)
theorem dX0_numbered_66 : decode cX0_numbered 66 = .ok (.aload_n 0, 1) := dk_42 (dk_at dksX0_numbered_2 19 rfl rfl)
theorem dX0_numbered_67 : decode cX0_numbered 67 = .ok (.dup, 1) := dk_89 (dk_at dksX0_numbered_2 20 rfl rfl)
theorem dX0_numbered_68 : decode cX0_numbered 68 = .ok (.getfield 261, 3) := dk_180 1 5 (dk_at dksX0_numbered_2 21 rfl rfl)
theorem dX0_numbered_71 : decode cX0_numbered 71 = .ok (.iconst 1, 1) := dk_4 (dk_at dksX0_numbered_3 0 rfl rfl)
theorem dX0_numbered_72 : decode cX0_numbered 72 = .ok (.iadd, 1) := dk_96 (dk_at dksX0_numbered_3 1 rfl rfl)
theorem dX0_numbered_73 : decode cX0_numbered 73 = .ok (.putfield 261, 3) := dk_181 1 5 (dk_at dksX0_numbered_3 2 rfl rfl)
theorem dX0_numbered_76 : decode cX0_numbered 76 = .ok (.aload_n 0, 1) := dk_42 (dk_at dksX0_numbered_3 5 rfl rfl)
theorem dX0_numbered_77 : decode cX0_numbered 77 = .ok (.getfield 92, 3) := dk_180 0 92 (dk_at dksX0_numbered_3 6 rfl rfl)
theorem dX0_numbered_80 : decode cX0_numbered 80 = .ok (.aload_n 0, 1) := dk_42 (dk_at dksX0_numbered_3 9 rfl rfl)
theorem dX0_numbered_81 : decode cX0_numbered 81 = .ok (.getfield 261, 3) := dk_180 1 5 (dk_at dksX0_numbered_3 10 rfl rfl)
theorem dX0_numbered_84 : decode cX0_numbered 84 = .ok (.iload 4, 2) := dk_21 4 (dk_at dksX0_numbered_3 13 rfl rfl)
theorem dX0_numbered_86 : decode cX0_numbered 86 = .ok (.iload_n 3, 1) := dk_29 (dk_at dksX0_numbered_3 15 rfl rfl)
theorem dX0_numbered_87 : decode cX0_numbered 87 = .ok (.iadd, 1) := dk_96 (dk_at dksX0_numbered_3 16 rfl rfl)
theorem dX0_numbered_88 : decode cX0_numbered 88 = .ok (.iastore, 1) := dk_79 (dk_at dksX0_numbered_3 17 rfl rfl)
theorem dX0_numbered_89 : decode cX0_numbered 89 = .ok (.aload_n 0, 1) := dk_42 (dk_at dksX0_numbered_3 18 rfl rfl)
theorem dX0_numbered_90 : decode cX0_numbered 90 = .ok (.getfield 261, 3) := dk_180 1 5 (dk_at dksX0_numbered_3 19 rfl rfl)
theorem dX0_numbered_93 : decode cX0_numbered 93 = .ok (.iconst 1, 1) := dk_4 (dk_at dksX0_numbered_3 22 rfl rfl)
theorem dX0_numbered_94 : decode cX0_numbered 94 = .ok (.isub, 1) := dk_100 (dk_at dksX0_numbered_3 23 rfl rfl)
theorem dX0_numbered_95 : decode cX0_numbered 95 = .ok (.ireturn, 1) := dk_172 (dk_at dksX0_numbered_4 0 rfl rfl)
abbrev cX0_isLike : ByteArray := prog_1_method_34_code
def yX0_isLike : MethodName := ⟨RX0, "isLike", "(IIIII)Z"⟩
def dkwX0_isLike_3 : List UInt8 := [21, 4, 21, 6, 96, 46, 159, 0, 5, 3, 172, 132, 6, 1, 167, 255, 217, 4, 172]
abbrev dktX0_isLike_3 : List UInt8 := dkwX0_isLike_3 ++ []
def dkwX0_isLike_2 : List UInt8 := [21, 5, 162, 0, 38, 42, 180, 0, 95, 42, 180, 0, 92, 27, 46, 21, 6, 96, 46, 42, 180, 0, 95]
abbrev dktX0_isLike_2 : List UInt8 := dkwX0_isLike_2 ++ dktX0_isLike_3
def dkwX0_isLike_1 : List UInt8 := [27, 4, 96, 46, 42, 180, 0, 92, 27, 46, 100, 21, 5, 159, 0, 5, 3, 172, 3, 54, 6, 21, 6]
abbrev dktX0_isLike_1 : List UInt8 := dkwX0_isLike_1 ++ dktX0_isLike_2
def dkwX0_isLike_0 : List UInt8 := [42, 180, 0, 86, 27, 46, 28, 160, 0, 33, 42, 180, 0, 89, 27, 46, 29, 160, 0, 23, 42, 180, 0, 92]
abbrev dktX0_isLike_0 : List UInt8 := dkwX0_isLike_0 ++ dktX0_isLike_1
theorem dksX0_isLike_0 : cX0_isLike.data.toList.drop 0 = dktX0_isLike_0 := by decide +kernel
theorem dksX0_isLike_1 : cX0_isLike.data.toList.drop 24 = dktX0_isLike_1 := dk_seg dksX0_isLike_0 24 rfl rfl
theorem dksX0_isLike_2 : cX0_isLike.data.toList.drop 47 = dktX0_isLike_2 := dk_seg dksX0_isLike_1 23 rfl rfl
theorem dksX0_isLike_3 : cX0_isLike.data.toList.drop 70 = dktX0_isLike_3 := dk_seg dksX0_isLike_2 23 rfl rfl
theorem dX0_isLike_0 : decode cX0_isLike 0 = .ok (.aload_n 0, 1) := dk_42 (dk_at dksX0_isLike_0 0 rfl rfl)
theorem dX0_isLike_1 : decode cX0_isLike 1 = .ok (.getfield 86, 3) := dk_180 0 86 (dk_at dksX0_isLike_0 1 rfl rfl)
theorem dX0_isLike_4 : decode cX0_isLike 4 = .ok (.iload_n 1, 1) := dk_27 (dk_at dksX0_isLike_0 4 rfl rfl)
theorem dX0_isLike_5 : decode cX0_isLike 5 = .ok (.iaload, 1) := dk_46 (dk_at dksX0_isLike_0 5 rfl rfl)
theorem dX0_isLike_6 : decode cX0_isLike 6 = .ok (.iload_n 2, 1) := dk_28 (dk_at dksX0_isLike_0 6 rfl rfl)
theorem dX0_isLike_7 : decode cX0_isLike 7 = .ok (.if_icmp .ne 33, 3) := dk_160 0 33 (dk_at dksX0_isLike_0 7 rfl rfl)
theorem dX0_isLike_10 : decode cX0_isLike 10 = .ok (.aload_n 0, 1) := dk_42 (dk_at dksX0_isLike_0 10 rfl rfl)
theorem dX0_isLike_11 : decode cX0_isLike 11 = .ok (.getfield 89, 3) := dk_180 0 89 (dk_at dksX0_isLike_0 11 rfl rfl)
theorem dX0_isLike_14 : decode cX0_isLike 14 = .ok (.iload_n 1, 1) := dk_27 (dk_at dksX0_isLike_0 14 rfl rfl)
theorem dX0_isLike_15 : decode cX0_isLike 15 = .ok (.iaload, 1) := dk_46 (dk_at dksX0_isLike_0 15 rfl rfl)
theorem dX0_isLike_16 : decode cX0_isLike 16 = .ok (.iload_n 3, 1) := dk_29 (dk_at dksX0_isLike_0 16 rfl rfl)
theorem dX0_isLike_17 : decode cX0_isLike 17 = .ok (.if_icmp .ne 23, 3) := dk_160 0 23 (dk_at dksX0_isLike_0 17 rfl rfl)
theorem dX0_isLike_20 : decode cX0_isLike 20 = .ok (.aload_n 0, 1) := dk_42 (dk_at dksX0_isLike_0 20 rfl rfl)
theorem dX0_isLike_21 : decode cX0_isLike 21 = .ok (.getfield 92, 3) := dk_180 0 92 (dk_at dksX0_isLike_0 21 rfl rfl)
theorem dX0_isLike_24 : decode cX0_isLike 24 = .ok (.iload_n 1, 1) := dk_27 (dk_at dksX0_isLike_1 0 rfl rfl)
theorem dX0_isLike_25 : decode cX0_isLike 25 = .ok (.iconst 1, 1) := dk_4 (dk_at dksX0_isLike_1 1 rfl rfl)
theorem dX0_isLike_26 : decode cX0_isLike 26 = .ok (.iadd, 1) := dk_96 (dk_at dksX0_isLike_1 2 rfl rfl)
theorem dX0_isLike_27 : decode cX0_isLike 27 = .ok (.iaload, 1) := dk_46 (dk_at dksX0_isLike_1 3 rfl rfl)
theorem dX0_isLike_28 : decode cX0_isLike 28 = .ok (.aload_n 0, 1) := dk_42 (dk_at dksX0_isLike_1 4 rfl rfl)
theorem dX0_isLike_29 : decode cX0_isLike 29 = .ok (.getfield 92, 3) := dk_180 0 92 (dk_at dksX0_isLike_1 5 rfl rfl)
theorem dX0_isLike_32 : decode cX0_isLike 32 = .ok (.iload_n 1, 1) := dk_27 (dk_at dksX0_isLike_1 8 rfl rfl)
theorem dX0_isLike_33 : decode cX0_isLike 33 = .ok (.iaload, 1) := dk_46 (dk_at dksX0_isLike_1 9 rfl rfl)
theorem dX0_isLike_34 : decode cX0_isLike 34 = .ok (.isub, 1) := dk_100 (dk_at dksX0_isLike_1 10 rfl rfl)
theorem dX0_isLike_35 : decode cX0_isLike 35 = .ok (.iload 5, 2) := dk_21 5 (dk_at dksX0_isLike_1 11 rfl rfl)
theorem dX0_isLike_37 : decode cX0_isLike 37 = .ok (.if_icmp .eq 5, 3) := dk_159 0 5 (dk_at dksX0_isLike_1 13 rfl rfl)
theorem dX0_isLike_40 : decode cX0_isLike 40 = .ok (.iconst 0, 1) := dk_3 (dk_at dksX0_isLike_1 16 rfl rfl)
theorem dX0_isLike_41 : decode cX0_isLike 41 = .ok (.ireturn, 1) := dk_172 (dk_at dksX0_isLike_1 17 rfl rfl)
theorem dX0_isLike_42 : decode cX0_isLike 42 = .ok (.iconst 0, 1) := dk_3 (dk_at dksX0_isLike_1 18 rfl rfl)
theorem dX0_isLike_43 : decode cX0_isLike 43 = .ok (.istore 6, 2) := dk_54 6 (dk_at dksX0_isLike_1 19 rfl rfl)
theorem dX0_isLike_45 : decode cX0_isLike 45 = .ok (.iload 6, 2) := dk_21 6 (dk_at dksX0_isLike_1 21 rfl rfl)
theorem dX0_isLike_47 : decode cX0_isLike 47 = .ok (.iload 5, 2) := dk_21 5 (dk_at dksX0_isLike_2 0 rfl rfl)
theorem dX0_isLike_49 : decode cX0_isLike 49 = .ok (.if_icmp .ge 38, 3) := dk_162 0 38 (dk_at dksX0_isLike_2 2 rfl rfl)
theorem dX0_isLike_52 : decode cX0_isLike 52 = .ok (.aload_n 0, 1) := dk_42 (dk_at dksX0_isLike_2 5 rfl rfl)
theorem dX0_isLike_53 : decode cX0_isLike 53 = .ok (.getfield 95, 3) := dk_180 0 95 (dk_at dksX0_isLike_2 6 rfl rfl)
theorem dX0_isLike_56 : decode cX0_isLike 56 = .ok (.aload_n 0, 1) := dk_42 (dk_at dksX0_isLike_2 9 rfl rfl)
theorem dX0_isLike_57 : decode cX0_isLike 57 = .ok (.getfield 92, 3) := dk_180 0 92 (dk_at dksX0_isLike_2 10 rfl rfl)
theorem dX0_isLike_60 : decode cX0_isLike 60 = .ok (.iload_n 1, 1) := dk_27 (dk_at dksX0_isLike_2 13 rfl rfl)
theorem dX0_isLike_61 : decode cX0_isLike 61 = .ok (.iaload, 1) := dk_46 (dk_at dksX0_isLike_2 14 rfl rfl)
theorem dX0_isLike_62 : decode cX0_isLike 62 = .ok (.iload 6, 2) := dk_21 6 (dk_at dksX0_isLike_2 15 rfl rfl)
theorem dX0_isLike_64 : decode cX0_isLike 64 = .ok (.iadd, 1) := dk_96 (dk_at dksX0_isLike_2 17 rfl rfl)
theorem dX0_isLike_65 : decode cX0_isLike 65 = .ok (.iaload, 1) := dk_46 (dk_at dksX0_isLike_2 18 rfl rfl)
theorem dX0_isLike_66 : decode cX0_isLike 66 = .ok (.aload_n 0, 1) := dk_42 (dk_at dksX0_isLike_2 19 rfl rfl)
theorem dX0_isLike_67 : decode cX0_isLike 67 = .ok (.getfield 95, 3) := dk_180 0 95 (dk_at dksX0_isLike_2 20 rfl rfl)
theorem dX0_isLike_70 : decode cX0_isLike 70 = .ok (.iload 4, 2) := dk_21 4 (dk_at dksX0_isLike_3 0 rfl rfl)
theorem dX0_isLike_72 : decode cX0_isLike 72 = .ok (.iload 6, 2) := dk_21 6 (dk_at dksX0_isLike_3 2 rfl rfl)
theorem dX0_isLike_74 : decode cX0_isLike 74 = .ok (.iadd, 1) := dk_96 (dk_at dksX0_isLike_3 4 rfl rfl)
theorem dX0_isLike_75 : decode cX0_isLike 75 = .ok (.iaload, 1) := dk_46 (dk_at dksX0_isLike_3 5 rfl rfl)
theorem dX0_isLike_76 : decode cX0_isLike 76 = .ok (.if_icmp .eq 5, 3) := dk_159 0 5 (dk_at dksX0_isLike_3 6 rfl rfl)
theorem dX0_isLike_79 : decode cX0_isLike 79 = .ok (.iconst 0, 1) := dk_3 (dk_at dksX0_isLike_3 9 rfl rfl)
theorem dX0_isLike_80 : decode cX0_isLike 80 = .ok (.ireturn, 1) := dk_172 (dk_at dksX0_isLike_3 10 rfl rfl)
theorem dX0_isLike_81 : decode cX0_isLike 81 = .ok (.iinc 6 1, 3) := dk_132 6 1 (dk_at dksX0_isLike_3 11 rfl rfl)
theorem dX0_isLike_84 : decode cX0_isLike 84 = .ok (.goto (-39), 3) := dk_167 255 217 (dk_at dksX0_isLike_3 14 rfl rfl)
theorem dX0_isLike_87 : decode cX0_isLike 87 = .ok (.iconst 1, 1) := dk_4 (dk_at dksX0_isLike_3 17 rfl rfl)
theorem dX0_isLike_88 : decode cX0_isLike 88 = .ok (.ireturn, 1) := dk_172 (dk_at dksX0_isLike_3 18 rfl rfl)
abbrev cX0_same : ByteArray := prog_1_method_42_code
def yX0_same : MethodName := ⟨RX0, "same", "(II)Z"⟩
def dkwX0_same_1 : List UInt8 := [27, 182, 1, 61, 42, 28, 182, 1, 61, 160, 0, 7, 4, 167, 0, 4, 3, 172]
abbrev dktX0_same_1 : List UInt8 := dkwX0_same_1 ++ []
def dkwX0_same_0 : List UInt8 := [42, 27, 182, 0, 239, 153, 0, 11, 42, 28, 182, 0, 239, 154, 0, 5, 3, 172, 42, 3, 181, 1, 5, 42]
abbrev dktX0_same_0 : List UInt8 := dkwX0_same_0 ++ dktX0_same_1
theorem dksX0_same_0 : cX0_same.data.toList.drop 0 = dktX0_same_0 := by decide +kernel
theorem dksX0_same_1 : cX0_same.data.toList.drop 24 = dktX0_same_1 := dk_seg dksX0_same_0 24 rfl rfl
theorem dX0_same_0 : decode cX0_same 0 = .ok (.aload_n 0, 1) := dk_42 (dk_at dksX0_same_0 0 rfl rfl)
theorem dX0_same_1 : decode cX0_same 1 = .ok (.iload_n 1, 1) := dk_27 (dk_at dksX0_same_0 1 rfl rfl)
theorem dX0_same_2 : decode cX0_same 2 = .ok (.invokevirtual 239, 3) := dk_182 0 239 (dk_at dksX0_same_0 2 rfl rfl)
theorem dX0_same_5 : decode cX0_same 5 = .ok (.ifCond .eq 11, 3) := dk_153 0 11 (dk_at dksX0_same_0 5 rfl rfl)
theorem dX0_same_8 : decode cX0_same 8 = .ok (.aload_n 0, 1) := dk_42 (dk_at dksX0_same_0 8 rfl rfl)
theorem dX0_same_9 : decode cX0_same 9 = .ok (.iload_n 2, 1) := dk_28 (dk_at dksX0_same_0 9 rfl rfl)
theorem dX0_same_10 : decode cX0_same 10 = .ok (.invokevirtual 239, 3) := dk_182 0 239 (dk_at dksX0_same_0 10 rfl rfl)
theorem dX0_same_13 : decode cX0_same 13 = .ok (.ifCond .ne 5, 3) := dk_154 0 5 (dk_at dksX0_same_0 13 rfl rfl)
theorem dX0_same_16 : decode cX0_same 16 = .ok (.iconst 0, 1) := dk_3 (dk_at dksX0_same_0 16 rfl rfl)
theorem dX0_same_17 : decode cX0_same 17 = .ok (.ireturn, 1) := dk_172 (dk_at dksX0_same_0 17 rfl rfl)
theorem dX0_same_18 : decode cX0_same 18 = .ok (.aload_n 0, 1) := dk_42 (dk_at dksX0_same_0 18 rfl rfl)
theorem dX0_same_19 : decode cX0_same 19 = .ok (.iconst 0, 1) := dk_3 (dk_at dksX0_same_0 19 rfl rfl)
theorem dX0_same_20 : decode cX0_same 20 = .ok (.putfield 261, 3) := dk_181 1 5 (dk_at dksX0_same_0 20 rfl rfl)
theorem dX0_same_23 : decode cX0_same 23 = .ok (.aload_n 0, 1) := dk_42 (dk_at dksX0_same_0 23 rfl rfl)
theorem dX0_same_24 : decode cX0_same 24 = .ok (.iload_n 1, 1) := dk_27 (dk_at dksX0_same_1 0 rfl rfl)
theorem dX0_same_25 : decode cX0_same 25 = .ok (.invokevirtual 317, 3) := dk_182 1 61 (dk_at dksX0_same_1 1 rfl rfl)
theorem dX0_same_28 : decode cX0_same 28 = .ok (.aload_n 0, 1) := dk_42 (dk_at dksX0_same_1 4 rfl rfl)
theorem dX0_same_29 : decode cX0_same 29 = .ok (.iload_n 2, 1) := dk_28 (dk_at dksX0_same_1 5 rfl rfl)
theorem dX0_same_30 : decode cX0_same 30 = .ok (.invokevirtual 317, 3) := dk_182 1 61 (dk_at dksX0_same_1 6 rfl rfl)
theorem dX0_same_33 : decode cX0_same 33 = .ok (.if_icmp .ne 7, 3) := dk_160 0 7 (dk_at dksX0_same_1 9 rfl rfl)
theorem dX0_same_36 : decode cX0_same 36 = .ok (.iconst 1, 1) := dk_4 (dk_at dksX0_same_1 12 rfl rfl)
theorem dX0_same_37 : decode cX0_same 37 = .ok (.goto 4, 3) := dk_167 0 4 (dk_at dksX0_same_1 13 rfl rfl)
theorem dX0_same_40 : decode cX0_same 40 = .ok (.iconst 0, 1) := dk_3 (dk_at dksX0_same_1 16 rfl rfl)
theorem dX0_same_41 : decode cX0_same 41 = .ok (.ireturn, 1) := dk_172 (dk_at dksX0_same_1 17 rfl rfl)
abbrev cX0_meansOf : ByteArray := prog_1_method_40_code
def yX0_meansOf : MethodName := ⟨RX0, "meansOf", "(I)I"⟩
def dkwX0_meansOf_0 : List UInt8 := [42, 27, 182, 0, 239, 87, 42, 182, 1, 58, 172]
abbrev dktX0_meansOf_0 : List UInt8 := dkwX0_meansOf_0 ++ []
theorem dksX0_meansOf_0 : cX0_meansOf.data.toList.drop 0 = dktX0_meansOf_0 := by decide +kernel
theorem dX0_meansOf_0 : decode cX0_meansOf 0 = .ok (.aload_n 0, 1) := dk_42 (dk_at dksX0_meansOf_0 0 rfl rfl)
theorem dX0_meansOf_1 : decode cX0_meansOf 1 = .ok (.iload_n 1, 1) := dk_27 (dk_at dksX0_meansOf_0 1 rfl rfl)
theorem dX0_meansOf_2 : decode cX0_meansOf 2 = .ok (.invokevirtual 239, 3) := dk_182 0 239 (dk_at dksX0_meansOf_0 2 rfl rfl)
theorem dX0_meansOf_5 : decode cX0_meansOf 5 = .ok (.pop, 1) := dk_87 (dk_at dksX0_meansOf_0 5 rfl rfl)
theorem dX0_meansOf_6 : decode cX0_meansOf 6 = .ok (.aload_n 0, 1) := dk_42 (dk_at dksX0_meansOf_0 6 rfl rfl)
theorem dX0_meansOf_7 : decode cX0_meansOf 7 = .ok (.invokevirtual 314, 3) := dk_182 1 58 (dk_at dksX0_meansOf_0 7 rfl rfl)
theorem dX0_meansOf_10 : decode cX0_meansOf 10 = .ok (.ireturn, 1) := dk_172 (dk_at dksX0_meansOf_0 10 rfl rfl)
abbrev cX0_meansAll : ByteArray := prog_1_method_39_code
def yX0_meansAll : MethodName := ⟨RX0, "meansAll", "()I"⟩
def dkwX0_meansAll_1 : List UInt8 := [180, 0, 75, 27, 46, 27, 182, 1, 54, 132, 1, 1, 167, 255, 228, 42, 180, 0, 107, 3, 46, 172]
abbrev dktX0_meansAll_1 : List UInt8 := dkwX0_meansAll_1 ++ []
def dkwX0_meansAll_0 : List UInt8 := [42, 3, 181, 1, 21, 3, 60, 27, 42, 180, 0, 158, 162, 0, 26, 42, 42, 180, 0, 71, 27, 50, 42]
abbrev dktX0_meansAll_0 : List UInt8 := dkwX0_meansAll_0 ++ dktX0_meansAll_1
theorem dksX0_meansAll_0 : cX0_meansAll.data.toList.drop 0 = dktX0_meansAll_0 := by decide +kernel
theorem dksX0_meansAll_1 : cX0_meansAll.data.toList.drop 23 = dktX0_meansAll_1 := dk_seg dksX0_meansAll_0 23 rfl rfl
theorem dX0_meansAll_0 : decode cX0_meansAll 0 = .ok (.aload_n 0, 1) := dk_42 (dk_at dksX0_meansAll_0 0 rfl rfl)
theorem dX0_meansAll_1 : decode cX0_meansAll 1 = .ok (.iconst 0, 1) := dk_3 (dk_at dksX0_meansAll_0 1 rfl rfl)
theorem dX0_meansAll_2 : decode cX0_meansAll 2 = .ok (.putfield 277, 3) := dk_181 1 21 (dk_at dksX0_meansAll_0 2 rfl rfl)
theorem dX0_meansAll_5 : decode cX0_meansAll 5 = .ok (.iconst 0, 1) := dk_3 (dk_at dksX0_meansAll_0 5 rfl rfl)
theorem dX0_meansAll_6 : decode cX0_meansAll 6 = .ok (.istore_n 1, 1) := dk_60 (dk_at dksX0_meansAll_0 6 rfl rfl)
theorem dX0_meansAll_7 : decode cX0_meansAll 7 = .ok (.iload_n 1, 1) := dk_27 (dk_at dksX0_meansAll_0 7 rfl rfl)
theorem dX0_meansAll_8 : decode cX0_meansAll 8 = .ok (.aload_n 0, 1) := dk_42 (dk_at dksX0_meansAll_0 8 rfl rfl)
theorem dX0_meansAll_9 : decode cX0_meansAll 9 = .ok (.getfield 158, 3) := dk_180 0 158 (dk_at dksX0_meansAll_0 9 rfl rfl)
theorem dX0_meansAll_12 : decode cX0_meansAll 12 = .ok (.if_icmp .ge 26, 3) := dk_162 0 26 (dk_at dksX0_meansAll_0 12 rfl rfl)
theorem dX0_meansAll_15 : decode cX0_meansAll 15 = .ok (.aload_n 0, 1) := dk_42 (dk_at dksX0_meansAll_0 15 rfl rfl)
theorem dX0_meansAll_16 : decode cX0_meansAll 16 = .ok (.aload_n 0, 1) := dk_42 (dk_at dksX0_meansAll_0 16 rfl rfl)
theorem dX0_meansAll_17 : decode cX0_meansAll 17 = .ok (.getfield 71, 3) := dk_180 0 71 (dk_at dksX0_meansAll_0 17 rfl rfl)
theorem dX0_meansAll_20 : decode cX0_meansAll 20 = .ok (.iload_n 1, 1) := dk_27 (dk_at dksX0_meansAll_0 20 rfl rfl)
theorem dX0_meansAll_21 : decode cX0_meansAll 21 = .ok (.aaload, 1) := dk_50 (dk_at dksX0_meansAll_0 21 rfl rfl)
theorem dX0_meansAll_22 : decode cX0_meansAll 22 = .ok (.aload_n 0, 1) := dk_42 (dk_at dksX0_meansAll_0 22 rfl rfl)
theorem dX0_meansAll_23 : decode cX0_meansAll 23 = .ok (.getfield 75, 3) := dk_180 0 75 (dk_at dksX0_meansAll_1 0 rfl rfl)
theorem dX0_meansAll_26 : decode cX0_meansAll 26 = .ok (.iload_n 1, 1) := dk_27 (dk_at dksX0_meansAll_1 3 rfl rfl)
theorem dX0_meansAll_27 : decode cX0_meansAll 27 = .ok (.iaload, 1) := dk_46 (dk_at dksX0_meansAll_1 4 rfl rfl)
theorem dX0_meansAll_28 : decode cX0_meansAll 28 = .ok (.iload_n 1, 1) := dk_27 (dk_at dksX0_meansAll_1 5 rfl rfl)
theorem dX0_meansAll_29 : decode cX0_meansAll 29 = .ok (.invokevirtual 310, 3) := dk_182 1 54 (dk_at dksX0_meansAll_1 6 rfl rfl)
theorem dX0_meansAll_32 : decode cX0_meansAll 32 = .ok (.iinc 1 1, 3) := dk_132 1 1 (dk_at dksX0_meansAll_1 9 rfl rfl)
theorem dX0_meansAll_35 : decode cX0_meansAll 35 = .ok (.goto (-28), 3) := dk_167 255 228 (dk_at dksX0_meansAll_1 12 rfl rfl)
theorem dX0_meansAll_38 : decode cX0_meansAll 38 = .ok (.aload_n 0, 1) := dk_42 (dk_at dksX0_meansAll_1 15 rfl rfl)
theorem dX0_meansAll_39 : decode cX0_meansAll 39 = .ok (.getfield 107, 3) := dk_180 0 107 (dk_at dksX0_meansAll_1 16 rfl rfl)
theorem dX0_meansAll_42 : decode cX0_meansAll 42 = .ok (.iconst 0, 1) := dk_3 (dk_at dksX0_meansAll_1 19 rfl rfl)
theorem dX0_meansAll_43 : decode cX0_meansAll 43 = .ok (.iaload, 1) := dk_46 (dk_at dksX0_meansAll_1 20 rfl rfl)
theorem dX0_meansAll_44 : decode cX0_meansAll 44 = .ok (.ireturn, 1) := dk_172 (dk_at dksX0_meansAll_1 21 rfl rfl)
abbrev cX0_kin : ByteArray := prog_1_method_43_code
def yX0_kin : MethodName := ⟨RX0, "kin", "(I)I"⟩
def dkwX0_kin_3 : List UInt8 := [132, 4, 1, 167, 255, 224, 29, 172]
abbrev dktX0_kin_3 : List UInt8 := dkwX0_kin_3 ++ []
def dkwX0_kin_2 : List UInt8 := [148, 156, 0, 27, 29, 42, 21, 4, 182, 1, 61, 28, 160, 0, 7, 4, 167, 0, 4, 3, 96, 62]
abbrev dktX0_kin_2 : List UInt8 := dkwX0_kin_2 ++ dktX0_kin_3
def dkwX0_kin_1 : List UInt8 := [172, 42, 3, 181, 1, 5, 42, 27, 182, 1, 61, 61, 3, 62, 3, 54, 4, 21, 4, 133, 42, 182, 0, 228]
abbrev dktX0_kin_1 : List UInt8 := dkwX0_kin_1 ++ dktX0_kin_2
def dkwX0_kin_0 : List UInt8 := [42, 182, 0, 219, 42, 182, 0, 228, 20, 1, 64, 148, 157, 0, 11, 42, 27, 182, 0, 239, 154, 0, 5, 2]
abbrev dktX0_kin_0 : List UInt8 := dkwX0_kin_0 ++ dktX0_kin_1
theorem dksX0_kin_0 : cX0_kin.data.toList.drop 0 = dktX0_kin_0 := by decide +kernel
theorem dksX0_kin_1 : cX0_kin.data.toList.drop 24 = dktX0_kin_1 := dk_seg dksX0_kin_0 24 rfl rfl
theorem dksX0_kin_2 : cX0_kin.data.toList.drop 48 = dktX0_kin_2 := dk_seg dksX0_kin_1 24 rfl rfl
theorem dksX0_kin_3 : cX0_kin.data.toList.drop 70 = dktX0_kin_3 := dk_seg dksX0_kin_2 22 rfl rfl
theorem dX0_kin_0 : decode cX0_kin 0 = .ok (.aload_n 0, 1) := dk_42 (dk_at dksX0_kin_0 0 rfl rfl)
theorem dX0_kin_1 : decode cX0_kin 1 = .ok (.invokevirtual 219, 3) := dk_182 0 219 (dk_at dksX0_kin_0 1 rfl rfl)
theorem dX0_kin_4 : decode cX0_kin 4 = .ok (.aload_n 0, 1) := dk_42 (dk_at dksX0_kin_0 4 rfl rfl)
theorem dX0_kin_5 : decode cX0_kin 5 = .ok (.invokevirtual 228, 3) := dk_182 0 228 (dk_at dksX0_kin_0 5 rfl rfl)
theorem dX0_kin_8 : decode cX0_kin 8 = .ok (.ldc2_w 320, 3) := dk_20 1 64 (dk_at dksX0_kin_0 8 rfl rfl)
theorem dX0_kin_11 : decode cX0_kin 11 = .ok (.lcmp, 1) := dk_148 (dk_at dksX0_kin_0 11 rfl rfl)
theorem dX0_kin_12 : decode cX0_kin 12 = .ok (.ifCond .gt 11, 3) := dk_157 0 11 (dk_at dksX0_kin_0 12 rfl rfl)
theorem dX0_kin_15 : decode cX0_kin 15 = .ok (.aload_n 0, 1) := dk_42 (dk_at dksX0_kin_0 15 rfl rfl)
theorem dX0_kin_16 : decode cX0_kin 16 = .ok (.iload_n 1, 1) := dk_27 (dk_at dksX0_kin_0 16 rfl rfl)
theorem dX0_kin_17 : decode cX0_kin 17 = .ok (.invokevirtual 239, 3) := dk_182 0 239 (dk_at dksX0_kin_0 17 rfl rfl)
theorem dX0_kin_20 : decode cX0_kin 20 = .ok (.ifCond .ne 5, 3) := dk_154 0 5 (dk_at dksX0_kin_0 20 rfl rfl)
theorem dX0_kin_23 : decode cX0_kin 23 = .ok (.iconst (-1), 1) := dk_2 (dk_at dksX0_kin_0 23 rfl rfl)
theorem dX0_kin_24 : decode cX0_kin 24 = .ok (.ireturn, 1) := dk_172 (dk_at dksX0_kin_1 0 rfl rfl)
theorem dX0_kin_25 : decode cX0_kin 25 = .ok (.aload_n 0, 1) := dk_42 (dk_at dksX0_kin_1 1 rfl rfl)
theorem dX0_kin_26 : decode cX0_kin 26 = .ok (.iconst 0, 1) := dk_3 (dk_at dksX0_kin_1 2 rfl rfl)
theorem dX0_kin_27 : decode cX0_kin 27 = .ok (.putfield 261, 3) := dk_181 1 5 (dk_at dksX0_kin_1 3 rfl rfl)
theorem dX0_kin_30 : decode cX0_kin 30 = .ok (.aload_n 0, 1) := dk_42 (dk_at dksX0_kin_1 6 rfl rfl)
theorem dX0_kin_31 : decode cX0_kin 31 = .ok (.iload_n 1, 1) := dk_27 (dk_at dksX0_kin_1 7 rfl rfl)
theorem dX0_kin_32 : decode cX0_kin 32 = .ok (.invokevirtual 317, 3) := dk_182 1 61 (dk_at dksX0_kin_1 8 rfl rfl)
theorem dX0_kin_35 : decode cX0_kin 35 = .ok (.istore_n 2, 1) := dk_61 (dk_at dksX0_kin_1 11 rfl rfl)
theorem dX0_kin_36 : decode cX0_kin 36 = .ok (.iconst 0, 1) := dk_3 (dk_at dksX0_kin_1 12 rfl rfl)
theorem dX0_kin_37 : decode cX0_kin 37 = .ok (.istore_n 3, 1) := dk_62 (dk_at dksX0_kin_1 13 rfl rfl)
theorem dX0_kin_38 : decode cX0_kin 38 = .ok (.iconst 0, 1) := dk_3 (dk_at dksX0_kin_1 14 rfl rfl)
theorem dX0_kin_39 : decode cX0_kin 39 = .ok (.istore 4, 2) := dk_54 4 (dk_at dksX0_kin_1 15 rfl rfl)
theorem dX0_kin_41 : decode cX0_kin 41 = .ok (.iload 4, 2) := dk_21 4 (dk_at dksX0_kin_1 17 rfl rfl)
theorem dX0_kin_43 : decode cX0_kin 43 = .ok (.i2l, 1) := dk_133 (dk_at dksX0_kin_1 19 rfl rfl)
theorem dX0_kin_44 : decode cX0_kin 44 = .ok (.aload_n 0, 1) := dk_42 (dk_at dksX0_kin_1 20 rfl rfl)
theorem dX0_kin_45 : decode cX0_kin 45 = .ok (.invokevirtual 228, 3) := dk_182 0 228 (dk_at dksX0_kin_1 21 rfl rfl)
theorem dX0_kin_48 : decode cX0_kin 48 = .ok (.lcmp, 1) := dk_148 (dk_at dksX0_kin_2 0 rfl rfl)
theorem dX0_kin_49 : decode cX0_kin 49 = .ok (.ifCond .ge 27, 3) := dk_156 0 27 (dk_at dksX0_kin_2 1 rfl rfl)
theorem dX0_kin_52 : decode cX0_kin 52 = .ok (.iload_n 3, 1) := dk_29 (dk_at dksX0_kin_2 4 rfl rfl)
theorem dX0_kin_53 : decode cX0_kin 53 = .ok (.aload_n 0, 1) := dk_42 (dk_at dksX0_kin_2 5 rfl rfl)
theorem dX0_kin_54 : decode cX0_kin 54 = .ok (.iload 4, 2) := dk_21 4 (dk_at dksX0_kin_2 6 rfl rfl)
theorem dX0_kin_56 : decode cX0_kin 56 = .ok (.invokevirtual 317, 3) := dk_182 1 61 (dk_at dksX0_kin_2 8 rfl rfl)
theorem dX0_kin_59 : decode cX0_kin 59 = .ok (.iload_n 2, 1) := dk_28 (dk_at dksX0_kin_2 11 rfl rfl)
theorem dX0_kin_60 : decode cX0_kin 60 = .ok (.if_icmp .ne 7, 3) := dk_160 0 7 (dk_at dksX0_kin_2 12 rfl rfl)
theorem dX0_kin_63 : decode cX0_kin 63 = .ok (.iconst 1, 1) := dk_4 (dk_at dksX0_kin_2 15 rfl rfl)
theorem dX0_kin_64 : decode cX0_kin 64 = .ok (.goto 4, 3) := dk_167 0 4 (dk_at dksX0_kin_2 16 rfl rfl)
theorem dX0_kin_67 : decode cX0_kin 67 = .ok (.iconst 0, 1) := dk_3 (dk_at dksX0_kin_2 19 rfl rfl)
theorem dX0_kin_68 : decode cX0_kin 68 = .ok (.iadd, 1) := dk_96 (dk_at dksX0_kin_2 20 rfl rfl)
theorem dX0_kin_69 : decode cX0_kin 69 = .ok (.istore_n 3, 1) := dk_62 (dk_at dksX0_kin_2 21 rfl rfl)
theorem dX0_kin_70 : decode cX0_kin 70 = .ok (.iinc 4 1, 3) := dk_132 4 1 (dk_at dksX0_kin_3 0 rfl rfl)
theorem dX0_kin_73 : decode cX0_kin 73 = .ok (.goto (-32), 3) := dk_167 255 224 (dk_at dksX0_kin_3 3 rfl rfl)
theorem dX0_kin_76 : decode cX0_kin 76 = .ok (.iload_n 3, 1) := dk_29 (dk_at dksX0_kin_3 6 rfl rfl)
theorem dX0_kin_77 : decode cX0_kin 77 = .ok (.ireturn, 1) := dk_172 (dk_at dksX0_kin_3 7 rfl rfl)
abbrev cX0_meant : ByteArray := prog_1_method_44_code
def yX0_meant : MethodName := ⟨RX0, "meant", "()I"⟩
def dkwX0_meant_3 : List UInt8 := [84, 132, 3, 1, 167, 255, 216, 28, 172]
abbrev dktX0_meant_3 : List UInt8 := dkwX0_meant_3 ++ []
def dkwX0_meant_2 : List UInt8 := [182, 1, 61, 54, 4, 28, 43, 21, 4, 51, 153, 0, 7, 3, 167, 0, 4, 4, 96, 61, 43, 21, 4, 4]
abbrev dktX0_meant_2 : List UInt8 := dkwX0_meant_2 ++ dktX0_meant_3
def dkwX0_meant_1 : List UInt8 := [17, 31, 64, 188, 4, 76, 3, 61, 3, 62, 29, 133, 42, 182, 0, 228, 148, 156, 0, 36, 42, 29]
abbrev dktX0_meant_1 : List UInt8 := dkwX0_meant_1 ++ dktX0_meant_2
def dkwX0_meant_0 : List UInt8 := [42, 182, 0, 219, 42, 182, 0, 228, 20, 1, 64, 148, 158, 0, 5, 2, 172, 42, 3, 181, 1, 5]
abbrev dktX0_meant_0 : List UInt8 := dkwX0_meant_0 ++ dktX0_meant_1
theorem dksX0_meant_0 : cX0_meant.data.toList.drop 0 = dktX0_meant_0 := by decide +kernel
theorem dksX0_meant_1 : cX0_meant.data.toList.drop 22 = dktX0_meant_1 := dk_seg dksX0_meant_0 22 rfl rfl
theorem dksX0_meant_2 : cX0_meant.data.toList.drop 44 = dktX0_meant_2 := dk_seg dksX0_meant_1 22 rfl rfl
theorem dksX0_meant_3 : cX0_meant.data.toList.drop 68 = dktX0_meant_3 := dk_seg dksX0_meant_2 24 rfl rfl
theorem dX0_meant_0 : decode cX0_meant 0 = .ok (.aload_n 0, 1) := dk_42 (dk_at dksX0_meant_0 0 rfl rfl)
theorem dX0_meant_1 : decode cX0_meant 1 = .ok (.invokevirtual 219, 3) := dk_182 0 219 (dk_at dksX0_meant_0 1 rfl rfl)
theorem dX0_meant_4 : decode cX0_meant 4 = .ok (.aload_n 0, 1) := dk_42 (dk_at dksX0_meant_0 4 rfl rfl)
theorem dX0_meant_5 : decode cX0_meant 5 = .ok (.invokevirtual 228, 3) := dk_182 0 228 (dk_at dksX0_meant_0 5 rfl rfl)
theorem dX0_meant_8 : decode cX0_meant 8 = .ok (.ldc2_w 320, 3) := dk_20 1 64 (dk_at dksX0_meant_0 8 rfl rfl)
theorem dX0_meant_11 : decode cX0_meant 11 = .ok (.lcmp, 1) := dk_148 (dk_at dksX0_meant_0 11 rfl rfl)
theorem dX0_meant_12 : decode cX0_meant 12 = .ok (.ifCond .le 5, 3) := dk_158 0 5 (dk_at dksX0_meant_0 12 rfl rfl)
theorem dX0_meant_15 : decode cX0_meant 15 = .ok (.iconst (-1), 1) := dk_2 (dk_at dksX0_meant_0 15 rfl rfl)
theorem dX0_meant_16 : decode cX0_meant 16 = .ok (.ireturn, 1) := dk_172 (dk_at dksX0_meant_0 16 rfl rfl)
theorem dX0_meant_17 : decode cX0_meant 17 = .ok (.aload_n 0, 1) := dk_42 (dk_at dksX0_meant_0 17 rfl rfl)
theorem dX0_meant_18 : decode cX0_meant 18 = .ok (.iconst 0, 1) := dk_3 (dk_at dksX0_meant_0 18 rfl rfl)
theorem dX0_meant_19 : decode cX0_meant 19 = .ok (.putfield 261, 3) := dk_181 1 5 (dk_at dksX0_meant_0 19 rfl rfl)
theorem dX0_meant_22 : decode cX0_meant 22 = .ok (.sipush 8000, 3) := dk_17 31 64 (dk_at dksX0_meant_1 0 rfl rfl)
theorem dX0_meant_25 : decode cX0_meant 25 = .ok (.newarray .boolean, 2) := dk_188_4 (dk_at dksX0_meant_1 3 rfl rfl)
theorem dX0_meant_27 : decode cX0_meant 27 = .ok (.astore_n 1, 1) := dk_76 (dk_at dksX0_meant_1 5 rfl rfl)
theorem dX0_meant_28 : decode cX0_meant 28 = .ok (.iconst 0, 1) := dk_3 (dk_at dksX0_meant_1 6 rfl rfl)
theorem dX0_meant_29 : decode cX0_meant 29 = .ok (.istore_n 2, 1) := dk_61 (dk_at dksX0_meant_1 7 rfl rfl)
theorem dX0_meant_30 : decode cX0_meant 30 = .ok (.iconst 0, 1) := dk_3 (dk_at dksX0_meant_1 8 rfl rfl)
theorem dX0_meant_31 : decode cX0_meant 31 = .ok (.istore_n 3, 1) := dk_62 (dk_at dksX0_meant_1 9 rfl rfl)
theorem dX0_meant_32 : decode cX0_meant 32 = .ok (.iload_n 3, 1) := dk_29 (dk_at dksX0_meant_1 10 rfl rfl)
theorem dX0_meant_33 : decode cX0_meant 33 = .ok (.i2l, 1) := dk_133 (dk_at dksX0_meant_1 11 rfl rfl)
theorem dX0_meant_34 : decode cX0_meant 34 = .ok (.aload_n 0, 1) := dk_42 (dk_at dksX0_meant_1 12 rfl rfl)
theorem dX0_meant_35 : decode cX0_meant 35 = .ok (.invokevirtual 228, 3) := dk_182 0 228 (dk_at dksX0_meant_1 13 rfl rfl)
theorem dX0_meant_38 : decode cX0_meant 38 = .ok (.lcmp, 1) := dk_148 (dk_at dksX0_meant_1 16 rfl rfl)
theorem dX0_meant_39 : decode cX0_meant 39 = .ok (.ifCond .ge 36, 3) := dk_156 0 36 (dk_at dksX0_meant_1 17 rfl rfl)
theorem dX0_meant_42 : decode cX0_meant 42 = .ok (.aload_n 0, 1) := dk_42 (dk_at dksX0_meant_1 20 rfl rfl)
theorem dX0_meant_43 : decode cX0_meant 43 = .ok (.iload_n 3, 1) := dk_29 (dk_at dksX0_meant_1 21 rfl rfl)
theorem dX0_meant_44 : decode cX0_meant 44 = .ok (.invokevirtual 317, 3) := dk_182 1 61 (dk_at dksX0_meant_2 0 rfl rfl)
theorem dX0_meant_47 : decode cX0_meant 47 = .ok (.istore 4, 2) := dk_54 4 (dk_at dksX0_meant_2 3 rfl rfl)
theorem dX0_meant_49 : decode cX0_meant 49 = .ok (.iload_n 2, 1) := dk_28 (dk_at dksX0_meant_2 5 rfl rfl)
theorem dX0_meant_50 : decode cX0_meant 50 = .ok (.aload_n 1, 1) := dk_43 (dk_at dksX0_meant_2 6 rfl rfl)
theorem dX0_meant_51 : decode cX0_meant 51 = .ok (.iload 4, 2) := dk_21 4 (dk_at dksX0_meant_2 7 rfl rfl)
theorem dX0_meant_53 : decode cX0_meant 53 = .ok (.baload, 1) := dk_51 (dk_at dksX0_meant_2 9 rfl rfl)
theorem dX0_meant_54 : decode cX0_meant 54 = .ok (.ifCond .eq 7, 3) := dk_153 0 7 (dk_at dksX0_meant_2 10 rfl rfl)
theorem dX0_meant_57 : decode cX0_meant 57 = .ok (.iconst 0, 1) := dk_3 (dk_at dksX0_meant_2 13 rfl rfl)
theorem dX0_meant_58 : decode cX0_meant 58 = .ok (.goto 4, 3) := dk_167 0 4 (dk_at dksX0_meant_2 14 rfl rfl)
theorem dX0_meant_61 : decode cX0_meant 61 = .ok (.iconst 1, 1) := dk_4 (dk_at dksX0_meant_2 17 rfl rfl)
theorem dX0_meant_62 : decode cX0_meant 62 = .ok (.iadd, 1) := dk_96 (dk_at dksX0_meant_2 18 rfl rfl)
theorem dX0_meant_63 : decode cX0_meant 63 = .ok (.istore_n 2, 1) := dk_61 (dk_at dksX0_meant_2 19 rfl rfl)
theorem dX0_meant_64 : decode cX0_meant 64 = .ok (.aload_n 1, 1) := dk_43 (dk_at dksX0_meant_2 20 rfl rfl)
theorem dX0_meant_65 : decode cX0_meant 65 = .ok (.iload 4, 2) := dk_21 4 (dk_at dksX0_meant_2 21 rfl rfl)
theorem dX0_meant_67 : decode cX0_meant 67 = .ok (.iconst 1, 1) := dk_4 (dk_at dksX0_meant_2 23 rfl rfl)
theorem dX0_meant_68 : decode cX0_meant 68 = .ok (.bastore, 1) := dk_84 (dk_at dksX0_meant_3 0 rfl rfl)
theorem dX0_meant_69 : decode cX0_meant 69 = .ok (.iinc 3 1, 3) := dk_132 3 1 (dk_at dksX0_meant_3 1 rfl rfl)
theorem dX0_meant_72 : decode cX0_meant 72 = .ok (.goto (-40), 3) := dk_167 255 216 (dk_at dksX0_meant_3 4 rfl rfl)
theorem dX0_meant_75 : decode cX0_meant 75 = .ok (.iload_n 2, 1) := dk_28 (dk_at dksX0_meant_3 7 rfl rfl)
theorem dX0_meant_76 : decode cX0_meant 76 = .ok (.ireturn, 1) := dk_172 (dk_at dksX0_meant_3 8 rfl rfl)
abbrev cX0_hear : ByteArray := prog_1_method_50_code
def yX0_hear : MethodName := ⟨RX0, "hear", "(IIII)I"⟩
def dkwX0_hear_2 : List UInt8 := [180, 0, 110, 21, 4, 46, 172]
abbrev dktX0_hear_2 : List UInt8 := dkwX0_hear_2 ++ []
def dkwX0_hear_1 : List UInt8 := [184, 0, 130, 153, 0, 11, 42, 27, 182, 0, 239, 154, 0, 5, 2, 172, 42, 28, 29, 182, 1, 90, 42]
abbrev dktX0_hear_1 : List UInt8 := dkwX0_hear_1 ++ dktX0_hear_2
def dkwX0_hear_0 : List UInt8 := [28, 4, 16, 24, 184, 0, 130, 153, 0, 30, 29, 3, 6, 184, 0, 130, 153, 0, 21, 21, 4, 3, 7]
abbrev dktX0_hear_0 : List UInt8 := dkwX0_hear_0 ++ dktX0_hear_1
theorem dksX0_hear_0 : cX0_hear.data.toList.drop 0 = dktX0_hear_0 := by decide +kernel
theorem dksX0_hear_1 : cX0_hear.data.toList.drop 23 = dktX0_hear_1 := dk_seg dksX0_hear_0 23 rfl rfl
theorem dksX0_hear_2 : cX0_hear.data.toList.drop 46 = dktX0_hear_2 := dk_seg dksX0_hear_1 23 rfl rfl
theorem dX0_hear_0 : decode cX0_hear 0 = .ok (.iload_n 2, 1) := dk_28 (dk_at dksX0_hear_0 0 rfl rfl)
theorem dX0_hear_1 : decode cX0_hear 1 = .ok (.iconst 1, 1) := dk_4 (dk_at dksX0_hear_0 1 rfl rfl)
theorem dX0_hear_2 : decode cX0_hear 2 = .ok (.bipush 24, 2) := dk_16 24 (dk_at dksX0_hear_0 2 rfl rfl)
theorem dX0_hear_4 : decode cX0_hear 4 = .ok (.invokestatic 130, 3) := dk_184 0 130 (dk_at dksX0_hear_0 4 rfl rfl)
theorem dX0_hear_7 : decode cX0_hear 7 = .ok (.ifCond .eq 30, 3) := dk_153 0 30 (dk_at dksX0_hear_0 7 rfl rfl)
theorem dX0_hear_10 : decode cX0_hear 10 = .ok (.iload_n 3, 1) := dk_29 (dk_at dksX0_hear_0 10 rfl rfl)
theorem dX0_hear_11 : decode cX0_hear 11 = .ok (.iconst 0, 1) := dk_3 (dk_at dksX0_hear_0 11 rfl rfl)
theorem dX0_hear_12 : decode cX0_hear 12 = .ok (.iconst 3, 1) := dk_6 (dk_at dksX0_hear_0 12 rfl rfl)
theorem dX0_hear_13 : decode cX0_hear 13 = .ok (.invokestatic 130, 3) := dk_184 0 130 (dk_at dksX0_hear_0 13 rfl rfl)
theorem dX0_hear_16 : decode cX0_hear 16 = .ok (.ifCond .eq 21, 3) := dk_153 0 21 (dk_at dksX0_hear_0 16 rfl rfl)
theorem dX0_hear_19 : decode cX0_hear 19 = .ok (.iload 4, 2) := dk_21 4 (dk_at dksX0_hear_0 19 rfl rfl)
theorem dX0_hear_21 : decode cX0_hear 21 = .ok (.iconst 0, 1) := dk_3 (dk_at dksX0_hear_0 21 rfl rfl)
theorem dX0_hear_22 : decode cX0_hear 22 = .ok (.iconst 4, 1) := dk_7 (dk_at dksX0_hear_0 22 rfl rfl)
theorem dX0_hear_23 : decode cX0_hear 23 = .ok (.invokestatic 130, 3) := dk_184 0 130 (dk_at dksX0_hear_1 0 rfl rfl)
theorem dX0_hear_26 : decode cX0_hear 26 = .ok (.ifCond .eq 11, 3) := dk_153 0 11 (dk_at dksX0_hear_1 3 rfl rfl)
theorem dX0_hear_29 : decode cX0_hear 29 = .ok (.aload_n 0, 1) := dk_42 (dk_at dksX0_hear_1 6 rfl rfl)
theorem dX0_hear_30 : decode cX0_hear 30 = .ok (.iload_n 1, 1) := dk_27 (dk_at dksX0_hear_1 7 rfl rfl)
theorem dX0_hear_31 : decode cX0_hear 31 = .ok (.invokevirtual 239, 3) := dk_182 0 239 (dk_at dksX0_hear_1 8 rfl rfl)
theorem dX0_hear_34 : decode cX0_hear 34 = .ok (.ifCond .ne 5, 3) := dk_154 0 5 (dk_at dksX0_hear_1 11 rfl rfl)
theorem dX0_hear_37 : decode cX0_hear 37 = .ok (.iconst (-1), 1) := dk_2 (dk_at dksX0_hear_1 14 rfl rfl)
theorem dX0_hear_38 : decode cX0_hear 38 = .ok (.ireturn, 1) := dk_172 (dk_at dksX0_hear_1 15 rfl rfl)
theorem dX0_hear_39 : decode cX0_hear 39 = .ok (.aload_n 0, 1) := dk_42 (dk_at dksX0_hear_1 16 rfl rfl)
theorem dX0_hear_40 : decode cX0_hear 40 = .ok (.iload_n 2, 1) := dk_28 (dk_at dksX0_hear_1 17 rfl rfl)
theorem dX0_hear_41 : decode cX0_hear 41 = .ok (.iload_n 3, 1) := dk_29 (dk_at dksX0_hear_1 18 rfl rfl)
theorem dX0_hear_42 : decode cX0_hear 42 = .ok (.invokevirtual 346, 3) := dk_182 1 90 (dk_at dksX0_hear_1 19 rfl rfl)
theorem dX0_hear_45 : decode cX0_hear 45 = .ok (.aload_n 0, 1) := dk_42 (dk_at dksX0_hear_1 22 rfl rfl)
theorem dX0_hear_46 : decode cX0_hear 46 = .ok (.getfield 110, 3) := dk_180 0 110 (dk_at dksX0_hear_2 0 rfl rfl)
theorem dX0_hear_49 : decode cX0_hear 49 = .ok (.iload 4, 2) := dk_21 4 (dk_at dksX0_hear_2 3 rfl rfl)
theorem dX0_hear_51 : decode cX0_hear 51 = .ok (.iaload, 1) := dk_46 (dk_at dksX0_hear_2 5 rfl rfl)
theorem dX0_hear_52 : decode cX0_hear 52 = .ok (.ireturn, 1) := dk_172 (dk_at dksX0_hear_2 6 rfl rfl)
abbrev cX0_hears : ByteArray := prog_1_method_49_code
def yX0_hears : MethodName := ⟨RX0, "hears", "(II)V"⟩
def dkwX0_hears_9 : List UInt8 := [160, 0, 7, 4, 167, 0, 4, 3, 79, 42, 180, 0, 110, 6, 42, 180, 1, 21, 79, 177]
abbrev dktX0_hears_9 : List UInt8 := dkwX0_hears_9 ++ []
def dkwX0_hears_8 : List UInt8 := [42, 180, 1, 21, 4, 160, 0, 26, 42, 180, 0, 98, 3, 46, 154, 0, 17, 42, 180, 0, 107, 3, 46, 29]
abbrev dktX0_hears_8 : List UInt8 := dkwX0_hears_8 ++ dktX0_hears_9
def dkwX0_hears_7 : List UInt8 := [21, 5, 182, 1, 84, 182, 1, 87, 132, 5, 1, 167, 255, 133, 42, 180, 0, 110, 3, 21, 4, 154, 0, 34]
abbrev dktX0_hears_7 : List UInt8 := dkwX0_hears_7 ++ dktX0_hears_8
def dkwX0_hears_6 : List UInt8 := [21, 4, 153, 0, 7, 3, 167, 0, 4, 5, 21, 5, 182, 1, 80, 21, 4, 154, 0, 14, 42, 42, 28]
abbrev dktX0_hears_6 : List UInt8 := dkwX0_hears_6 ++ dktX0_hears_7
def dkwX0_hears_5 : List UInt8 := [180, 1, 21, 27, 163, 0, 6, 167, 0, 47, 28, 6, 160, 0, 7, 4, 167, 0, 4, 3, 54, 4, 42]
abbrev dktX0_hears_5 : List UInt8 := dkwX0_hears_5 ++ dktX0_hears_6
def dkwX0_hears_4 : List UInt8 := [42, 180, 0, 75, 21, 5, 46, 21, 5, 182, 1, 54, 167, 0, 10, 42, 4, 21, 5, 182, 1, 80, 42]
abbrev dktX0_hears_4 : List UInt8 := dkwX0_hears_4 ++ dktX0_hears_5
def dkwX0_hears_3 : List UInt8 := [21, 5, 50, 42, 180, 0, 75, 21, 5, 46, 182, 1, 76, 153, 0, 26, 42, 42, 180, 0, 71, 21, 5, 50]
abbrev dktX0_hears_3 : List UInt8 := dkwX0_hears_3 ++ dktX0_hears_4
def dkwX0_hears_2 : List UInt8 := [54, 4, 3, 54, 5, 21, 5, 42, 180, 0, 158, 162, 0, 120, 21, 4, 154, 0, 115, 42, 42, 180, 0, 71]
abbrev dktX0_hears_2 : List UInt8 := dkwX0_hears_2 ++ dktX0_hears_3
def dkwX0_hears_1 : List UInt8 := [21, 4, 3, 79, 132, 4, 1, 167, 255, 239, 42, 180, 0, 110, 7, 2, 79, 42, 3, 181, 1, 21, 3]
abbrev dktX0_hears_1 : List UInt8 := dkwX0_hears_1 ++ dktX0_hears_2
def dkwX0_hears_0 : List UInt8 := [42, 3, 181, 1, 5, 42, 182, 1, 58, 62, 3, 54, 4, 21, 4, 7, 162, 0, 17, 42, 180, 0, 110]
abbrev dktX0_hears_0 : List UInt8 := dkwX0_hears_0 ++ dktX0_hears_1
theorem dksX0_hears_0 : cX0_hears.data.toList.drop 0 = dktX0_hears_0 := by decide +kernel
theorem dksX0_hears_1 : cX0_hears.data.toList.drop 23 = dktX0_hears_1 := dk_seg dksX0_hears_0 23 rfl rfl
theorem dksX0_hears_2 : cX0_hears.data.toList.drop 46 = dktX0_hears_2 := dk_seg dksX0_hears_1 23 rfl rfl
theorem dksX0_hears_3 : cX0_hears.data.toList.drop 70 = dktX0_hears_3 := dk_seg dksX0_hears_2 24 rfl rfl
theorem dksX0_hears_4 : cX0_hears.data.toList.drop 94 = dktX0_hears_4 := dk_seg dksX0_hears_3 24 rfl rfl
theorem dksX0_hears_5 : cX0_hears.data.toList.drop 117 = dktX0_hears_5 := dk_seg dksX0_hears_4 23 rfl rfl
theorem dksX0_hears_6 : cX0_hears.data.toList.drop 140 = dktX0_hears_6 := dk_seg dksX0_hears_5 23 rfl rfl
theorem dksX0_hears_7 : cX0_hears.data.toList.drop 163 = dktX0_hears_7 := dk_seg dksX0_hears_6 23 rfl rfl
theorem dksX0_hears_8 : cX0_hears.data.toList.drop 187 = dktX0_hears_8 := dk_seg dksX0_hears_7 24 rfl rfl
theorem dksX0_hears_9 : cX0_hears.data.toList.drop 211 = dktX0_hears_9 := dk_seg dksX0_hears_8 24 rfl rfl
theorem dX0_hears_0 : decode cX0_hears 0 = .ok (.aload_n 0, 1) := dk_42 (dk_at dksX0_hears_0 0 rfl rfl)
theorem dX0_hears_1 : decode cX0_hears 1 = .ok (.iconst 0, 1) := dk_3 (dk_at dksX0_hears_0 1 rfl rfl)
theorem dX0_hears_2 : decode cX0_hears 2 = .ok (.putfield 261, 3) := dk_181 1 5 (dk_at dksX0_hears_0 2 rfl rfl)
theorem dX0_hears_5 : decode cX0_hears 5 = .ok (.aload_n 0, 1) := dk_42 (dk_at dksX0_hears_0 5 rfl rfl)
theorem dX0_hears_6 : decode cX0_hears 6 = .ok (.invokevirtual 314, 3) := dk_182 1 58 (dk_at dksX0_hears_0 6 rfl rfl)
theorem dX0_hears_9 : decode cX0_hears 9 = .ok (.istore_n 3, 1) := dk_62 (dk_at dksX0_hears_0 9 rfl rfl)
theorem dX0_hears_10 : decode cX0_hears 10 = .ok (.iconst 0, 1) := dk_3 (dk_at dksX0_hears_0 10 rfl rfl)
theorem dX0_hears_11 : decode cX0_hears 11 = .ok (.istore 4, 2) := dk_54 4 (dk_at dksX0_hears_0 11 rfl rfl)
theorem dX0_hears_13 : decode cX0_hears 13 = .ok (.iload 4, 2) := dk_21 4 (dk_at dksX0_hears_0 13 rfl rfl)
theorem dX0_hears_15 : decode cX0_hears 15 = .ok (.iconst 4, 1) := dk_7 (dk_at dksX0_hears_0 15 rfl rfl)
theorem dX0_hears_16 : decode cX0_hears 16 = .ok (.if_icmp .ge 17, 3) := dk_162 0 17 (dk_at dksX0_hears_0 16 rfl rfl)
theorem dX0_hears_19 : decode cX0_hears 19 = .ok (.aload_n 0, 1) := dk_42 (dk_at dksX0_hears_0 19 rfl rfl)
theorem dX0_hears_20 : decode cX0_hears 20 = .ok (.getfield 110, 3) := dk_180 0 110 (dk_at dksX0_hears_0 20 rfl rfl)
theorem dX0_hears_23 : decode cX0_hears 23 = .ok (.iload 4, 2) := dk_21 4 (dk_at dksX0_hears_1 0 rfl rfl)
theorem dX0_hears_25 : decode cX0_hears 25 = .ok (.iconst 0, 1) := dk_3 (dk_at dksX0_hears_1 2 rfl rfl)
theorem dX0_hears_26 : decode cX0_hears 26 = .ok (.iastore, 1) := dk_79 (dk_at dksX0_hears_1 3 rfl rfl)
theorem dX0_hears_27 : decode cX0_hears 27 = .ok (.iinc 4 1, 3) := dk_132 4 1 (dk_at dksX0_hears_1 4 rfl rfl)
theorem dX0_hears_30 : decode cX0_hears 30 = .ok (.goto (-17), 3) := dk_167 255 239 (dk_at dksX0_hears_1 7 rfl rfl)
theorem dX0_hears_33 : decode cX0_hears 33 = .ok (.aload_n 0, 1) := dk_42 (dk_at dksX0_hears_1 10 rfl rfl)
theorem dX0_hears_34 : decode cX0_hears 34 = .ok (.getfield 110, 3) := dk_180 0 110 (dk_at dksX0_hears_1 11 rfl rfl)
theorem dX0_hears_37 : decode cX0_hears 37 = .ok (.iconst 4, 1) := dk_7 (dk_at dksX0_hears_1 14 rfl rfl)
theorem dX0_hears_38 : decode cX0_hears 38 = .ok (.iconst (-1), 1) := dk_2 (dk_at dksX0_hears_1 15 rfl rfl)
theorem dX0_hears_39 : decode cX0_hears 39 = .ok (.iastore, 1) := dk_79 (dk_at dksX0_hears_1 16 rfl rfl)
theorem dX0_hears_40 : decode cX0_hears 40 = .ok (.aload_n 0, 1) := dk_42 (dk_at dksX0_hears_1 17 rfl rfl)
theorem dX0_hears_41 : decode cX0_hears 41 = .ok (.iconst 0, 1) := dk_3 (dk_at dksX0_hears_1 18 rfl rfl)
theorem dX0_hears_42 : decode cX0_hears 42 = .ok (.putfield 277, 3) := dk_181 1 21 (dk_at dksX0_hears_1 19 rfl rfl)
theorem dX0_hears_45 : decode cX0_hears 45 = .ok (.iconst 0, 1) := dk_3 (dk_at dksX0_hears_1 22 rfl rfl)
theorem dX0_hears_46 : decode cX0_hears 46 = .ok (.istore 4, 2) := dk_54 4 (dk_at dksX0_hears_2 0 rfl rfl)
theorem dX0_hears_48 : decode cX0_hears 48 = .ok (.iconst 0, 1) := dk_3 (dk_at dksX0_hears_2 2 rfl rfl)
theorem dX0_hears_49 : decode cX0_hears 49 = .ok (.istore 5, 2) := dk_54 5 (dk_at dksX0_hears_2 3 rfl rfl)
theorem dX0_hears_51 : decode cX0_hears 51 = .ok (.iload 5, 2) := dk_21 5 (dk_at dksX0_hears_2 5 rfl rfl)
theorem dX0_hears_53 : decode cX0_hears 53 = .ok (.aload_n 0, 1) := dk_42 (dk_at dksX0_hears_2 7 rfl rfl)
theorem dX0_hears_54 : decode cX0_hears 54 = .ok (.getfield 158, 3) := dk_180 0 158 (dk_at dksX0_hears_2 8 rfl rfl)
theorem dX0_hears_57 : decode cX0_hears 57 = .ok (.if_icmp .ge 120, 3) := dk_162 0 120 (dk_at dksX0_hears_2 11 rfl rfl)
theorem dX0_hears_60 : decode cX0_hears 60 = .ok (.iload 4, 2) := dk_21 4 (dk_at dksX0_hears_2 14 rfl rfl)
theorem dX0_hears_62 : decode cX0_hears 62 = .ok (.ifCond .ne 115, 3) := dk_154 0 115 (dk_at dksX0_hears_2 16 rfl rfl)
theorem dX0_hears_65 : decode cX0_hears 65 = .ok (.aload_n 0, 1) := dk_42 (dk_at dksX0_hears_2 19 rfl rfl)
theorem dX0_hears_66 : decode cX0_hears 66 = .ok (.aload_n 0, 1) := dk_42 (dk_at dksX0_hears_2 20 rfl rfl)
theorem dX0_hears_67 : decode cX0_hears 67 = .ok (.getfield 71, 3) := dk_180 0 71 (dk_at dksX0_hears_2 21 rfl rfl)
theorem dX0_hears_70 : decode cX0_hears 70 = .ok (.iload 5, 2) := dk_21 5 (dk_at dksX0_hears_3 0 rfl rfl)
theorem dX0_hears_72 : decode cX0_hears 72 = .ok (.aaload, 1) := dk_50 (dk_at dksX0_hears_3 2 rfl rfl)
theorem dX0_hears_73 : decode cX0_hears 73 = .ok (.aload_n 0, 1) := dk_42 (dk_at dksX0_hears_3 3 rfl rfl)
theorem dX0_hears_74 : decode cX0_hears 74 = .ok (.getfield 75, 3) := dk_180 0 75 (dk_at dksX0_hears_3 4 rfl rfl)
theorem dX0_hears_77 : decode cX0_hears 77 = .ok (.iload 5, 2) := dk_21 5 (dk_at dksX0_hears_3 7 rfl rfl)
theorem dX0_hears_79 : decode cX0_hears 79 = .ok (.iaload, 1) := dk_46 (dk_at dksX0_hears_3 9 rfl rfl)
theorem dX0_hears_80 : decode cX0_hears 80 = .ok (.invokevirtual 332, 3) := dk_182 1 76 (dk_at dksX0_hears_3 10 rfl rfl)
theorem dX0_hears_83 : decode cX0_hears 83 = .ok (.ifCond .eq 26, 3) := dk_153 0 26 (dk_at dksX0_hears_3 13 rfl rfl)
theorem dX0_hears_86 : decode cX0_hears 86 = .ok (.aload_n 0, 1) := dk_42 (dk_at dksX0_hears_3 16 rfl rfl)
theorem dX0_hears_87 : decode cX0_hears 87 = .ok (.aload_n 0, 1) := dk_42 (dk_at dksX0_hears_3 17 rfl rfl)
theorem dX0_hears_88 : decode cX0_hears 88 = .ok (.getfield 71, 3) := dk_180 0 71 (dk_at dksX0_hears_3 18 rfl rfl)
theorem dX0_hears_91 : decode cX0_hears 91 = .ok (.iload 5, 2) := dk_21 5 (dk_at dksX0_hears_3 21 rfl rfl)
theorem dX0_hears_93 : decode cX0_hears 93 = .ok (.aaload, 1) := dk_50 (dk_at dksX0_hears_3 23 rfl rfl)
theorem dX0_hears_94 : decode cX0_hears 94 = .ok (.aload_n 0, 1) := dk_42 (dk_at dksX0_hears_4 0 rfl rfl)
theorem dX0_hears_95 : decode cX0_hears 95 = .ok (.getfield 75, 3) := dk_180 0 75 (dk_at dksX0_hears_4 1 rfl rfl)
theorem dX0_hears_98 : decode cX0_hears 98 = .ok (.iload 5, 2) := dk_21 5 (dk_at dksX0_hears_4 4 rfl rfl)
theorem dX0_hears_100 : decode cX0_hears 100 = .ok (.iaload, 1) := dk_46 (dk_at dksX0_hears_4 6 rfl rfl)
theorem dX0_hears_101 : decode cX0_hears 101 = .ok (.iload 5, 2) := dk_21 5 (dk_at dksX0_hears_4 7 rfl rfl)
theorem dX0_hears_103 : decode cX0_hears 103 = .ok (.invokevirtual 310, 3) := dk_182 1 54 (dk_at dksX0_hears_4 9 rfl rfl)
theorem dX0_hears_106 : decode cX0_hears 106 = .ok (.goto 10, 3) := dk_167 0 10 (dk_at dksX0_hears_4 12 rfl rfl)
theorem dX0_hears_109 : decode cX0_hears 109 = .ok (.aload_n 0, 1) := dk_42 (dk_at dksX0_hears_4 15 rfl rfl)
theorem dX0_hears_110 : decode cX0_hears 110 = .ok (.iconst 1, 1) := dk_4 (dk_at dksX0_hears_4 16 rfl rfl)
theorem dX0_hears_111 : decode cX0_hears 111 = .ok (.iload 5, 2) := dk_21 5 (dk_at dksX0_hears_4 17 rfl rfl)
theorem dX0_hears_113 : decode cX0_hears 113 = .ok (.invokevirtual 336, 3) := dk_182 1 80 (dk_at dksX0_hears_4 19 rfl rfl)
theorem dX0_hears_116 : decode cX0_hears 116 = .ok (.aload_n 0, 1) := dk_42 (dk_at dksX0_hears_4 22 rfl rfl)
theorem dX0_hears_117 : decode cX0_hears 117 = .ok (.getfield 277, 3) := dk_180 1 21 (dk_at dksX0_hears_5 0 rfl rfl)
theorem dX0_hears_120 : decode cX0_hears 120 = .ok (.iload_n 1, 1) := dk_27 (dk_at dksX0_hears_5 3 rfl rfl)
theorem dX0_hears_121 : decode cX0_hears 121 = .ok (.if_icmp .gt 6, 3) := dk_163 0 6 (dk_at dksX0_hears_5 4 rfl rfl)
theorem dX0_hears_124 : decode cX0_hears 124 = .ok (.goto 47, 3) := dk_167 0 47 (dk_at dksX0_hears_5 7 rfl rfl)
theorem dX0_hears_127 : decode cX0_hears 127 = .ok (.iload_n 2, 1) := dk_28 (dk_at dksX0_hears_5 10 rfl rfl)
theorem dX0_hears_128 : decode cX0_hears 128 = .ok (.iconst 3, 1) := dk_6 (dk_at dksX0_hears_5 11 rfl rfl)
theorem dX0_hears_129 : decode cX0_hears 129 = .ok (.if_icmp .ne 7, 3) := dk_160 0 7 (dk_at dksX0_hears_5 12 rfl rfl)
theorem dX0_hears_132 : decode cX0_hears 132 = .ok (.iconst 1, 1) := dk_4 (dk_at dksX0_hears_5 15 rfl rfl)
theorem dX0_hears_133 : decode cX0_hears 133 = .ok (.goto 4, 3) := dk_167 0 4 (dk_at dksX0_hears_5 16 rfl rfl)
theorem dX0_hears_136 : decode cX0_hears 136 = .ok (.iconst 0, 1) := dk_3 (dk_at dksX0_hears_5 19 rfl rfl)
theorem dX0_hears_137 : decode cX0_hears 137 = .ok (.istore 4, 2) := dk_54 4 (dk_at dksX0_hears_5 20 rfl rfl)
theorem dX0_hears_139 : decode cX0_hears 139 = .ok (.aload_n 0, 1) := dk_42 (dk_at dksX0_hears_5 22 rfl rfl)
theorem dX0_hears_140 : decode cX0_hears 140 = .ok (.iload 4, 2) := dk_21 4 (dk_at dksX0_hears_6 0 rfl rfl)
theorem dX0_hears_142 : decode cX0_hears 142 = .ok (.ifCond .eq 7, 3) := dk_153 0 7 (dk_at dksX0_hears_6 2 rfl rfl)
theorem dX0_hears_145 : decode cX0_hears 145 = .ok (.iconst 0, 1) := dk_3 (dk_at dksX0_hears_6 5 rfl rfl)
theorem dX0_hears_146 : decode cX0_hears 146 = .ok (.goto 4, 3) := dk_167 0 4 (dk_at dksX0_hears_6 6 rfl rfl)
theorem dX0_hears_149 : decode cX0_hears 149 = .ok (.iconst 2, 1) := dk_5 (dk_at dksX0_hears_6 9 rfl rfl)
theorem dX0_hears_150 : decode cX0_hears 150 = .ok (.iload 5, 2) := dk_21 5 (dk_at dksX0_hears_6 10 rfl rfl)
theorem dX0_hears_152 : decode cX0_hears 152 = .ok (.invokevirtual 336, 3) := dk_182 1 80 (dk_at dksX0_hears_6 12 rfl rfl)
theorem dX0_hears_155 : decode cX0_hears 155 = .ok (.iload 4, 2) := dk_21 4 (dk_at dksX0_hears_6 15 rfl rfl)
theorem dX0_hears_157 : decode cX0_hears 157 = .ok (.ifCond .ne 14, 3) := dk_154 0 14 (dk_at dksX0_hears_6 17 rfl rfl)
theorem dX0_hears_160 : decode cX0_hears 160 = .ok (.aload_n 0, 1) := dk_42 (dk_at dksX0_hears_6 20 rfl rfl)
theorem dX0_hears_161 : decode cX0_hears 161 = .ok (.aload_n 0, 1) := dk_42 (dk_at dksX0_hears_6 21 rfl rfl)
theorem dX0_hears_162 : decode cX0_hears 162 = .ok (.iload_n 2, 1) := dk_28 (dk_at dksX0_hears_6 22 rfl rfl)
theorem dX0_hears_163 : decode cX0_hears 163 = .ok (.iload 5, 2) := dk_21 5 (dk_at dksX0_hears_7 0 rfl rfl)
theorem dX0_hears_165 : decode cX0_hears 165 = .ok (.invokevirtual 340, 3) := dk_182 1 84 (dk_at dksX0_hears_7 2 rfl rfl)
theorem dX0_hears_168 : decode cX0_hears 168 = .ok (.invokevirtual 343, 3) := dk_182 1 87 (dk_at dksX0_hears_7 5 rfl rfl)
theorem dX0_hears_171 : decode cX0_hears 171 = .ok (.iinc 5 1, 3) := dk_132 5 1 (dk_at dksX0_hears_7 8 rfl rfl)
theorem dX0_hears_174 : decode cX0_hears 174 = .ok (.goto (-123), 3) := dk_167 255 133 (dk_at dksX0_hears_7 11 rfl rfl)
theorem dX0_hears_177 : decode cX0_hears 177 = .ok (.aload_n 0, 1) := dk_42 (dk_at dksX0_hears_7 14 rfl rfl)
theorem dX0_hears_178 : decode cX0_hears 178 = .ok (.getfield 110, 3) := dk_180 0 110 (dk_at dksX0_hears_7 15 rfl rfl)
theorem dX0_hears_181 : decode cX0_hears 181 = .ok (.iconst 0, 1) := dk_3 (dk_at dksX0_hears_7 18 rfl rfl)
theorem dX0_hears_182 : decode cX0_hears 182 = .ok (.iload 4, 2) := dk_21 4 (dk_at dksX0_hears_7 19 rfl rfl)
theorem dX0_hears_184 : decode cX0_hears 184 = .ok (.ifCond .ne 34, 3) := dk_154 0 34 (dk_at dksX0_hears_7 21 rfl rfl)
theorem dX0_hears_187 : decode cX0_hears 187 = .ok (.aload_n 0, 1) := dk_42 (dk_at dksX0_hears_8 0 rfl rfl)
theorem dX0_hears_188 : decode cX0_hears 188 = .ok (.getfield 277, 3) := dk_180 1 21 (dk_at dksX0_hears_8 1 rfl rfl)
theorem dX0_hears_191 : decode cX0_hears 191 = .ok (.iconst 1, 1) := dk_4 (dk_at dksX0_hears_8 4 rfl rfl)
theorem dX0_hears_192 : decode cX0_hears 192 = .ok (.if_icmp .ne 26, 3) := dk_160 0 26 (dk_at dksX0_hears_8 5 rfl rfl)
theorem dX0_hears_195 : decode cX0_hears 195 = .ok (.aload_n 0, 1) := dk_42 (dk_at dksX0_hears_8 8 rfl rfl)
theorem dX0_hears_196 : decode cX0_hears 196 = .ok (.getfield 98, 3) := dk_180 0 98 (dk_at dksX0_hears_8 9 rfl rfl)
theorem dX0_hears_199 : decode cX0_hears 199 = .ok (.iconst 0, 1) := dk_3 (dk_at dksX0_hears_8 12 rfl rfl)
theorem dX0_hears_200 : decode cX0_hears 200 = .ok (.iaload, 1) := dk_46 (dk_at dksX0_hears_8 13 rfl rfl)
theorem dX0_hears_201 : decode cX0_hears 201 = .ok (.ifCond .ne 17, 3) := dk_154 0 17 (dk_at dksX0_hears_8 14 rfl rfl)
theorem dX0_hears_204 : decode cX0_hears 204 = .ok (.aload_n 0, 1) := dk_42 (dk_at dksX0_hears_8 17 rfl rfl)
theorem dX0_hears_205 : decode cX0_hears 205 = .ok (.getfield 107, 3) := dk_180 0 107 (dk_at dksX0_hears_8 18 rfl rfl)
theorem dX0_hears_208 : decode cX0_hears 208 = .ok (.iconst 0, 1) := dk_3 (dk_at dksX0_hears_8 21 rfl rfl)
theorem dX0_hears_209 : decode cX0_hears 209 = .ok (.iaload, 1) := dk_46 (dk_at dksX0_hears_8 22 rfl rfl)
theorem dX0_hears_210 : decode cX0_hears 210 = .ok (.iload_n 3, 1) := dk_29 (dk_at dksX0_hears_8 23 rfl rfl)
theorem dX0_hears_211 : decode cX0_hears 211 = .ok (.if_icmp .ne 7, 3) := dk_160 0 7 (dk_at dksX0_hears_9 0 rfl rfl)
theorem dX0_hears_214 : decode cX0_hears 214 = .ok (.iconst 1, 1) := dk_4 (dk_at dksX0_hears_9 3 rfl rfl)
theorem dX0_hears_215 : decode cX0_hears 215 = .ok (.goto 4, 3) := dk_167 0 4 (dk_at dksX0_hears_9 4 rfl rfl)
theorem dX0_hears_218 : decode cX0_hears 218 = .ok (.iconst 0, 1) := dk_3 (dk_at dksX0_hears_9 7 rfl rfl)
theorem dX0_hears_219 : decode cX0_hears 219 = .ok (.iastore, 1) := dk_79 (dk_at dksX0_hears_9 8 rfl rfl)
theorem dX0_hears_220 : decode cX0_hears 220 = .ok (.aload_n 0, 1) := dk_42 (dk_at dksX0_hears_9 9 rfl rfl)
theorem dX0_hears_221 : decode cX0_hears 221 = .ok (.getfield 110, 3) := dk_180 0 110 (dk_at dksX0_hears_9 10 rfl rfl)
theorem dX0_hears_224 : decode cX0_hears 224 = .ok (.iconst 3, 1) := dk_6 (dk_at dksX0_hears_9 13 rfl rfl)
theorem dX0_hears_225 : decode cX0_hears 225 = .ok (.aload_n 0, 1) := dk_42 (dk_at dksX0_hears_9 14 rfl rfl)
theorem dX0_hears_226 : decode cX0_hears 226 = .ok (.getfield 277, 3) := dk_180 1 21 (dk_at dksX0_hears_9 15 rfl rfl)
theorem dX0_hears_229 : decode cX0_hears 229 = .ok (.iastore, 1) := dk_79 (dk_at dksX0_hears_9 18 rfl rfl)
theorem dX0_hears_230 : decode cX0_hears 230 = .ok (.return_, 1) := dk_177 (dk_at dksX0_hears_9 19 rfl rfl)
abbrev cX0_canTake : ByteArray := prog_1_method_45_code
def yX0_canTake : MethodName := ⟨RX0, "canTake", "(LHeldTongue$Sense;I)Z"⟩
def dkwX0_canTake_2 : List UInt8 := [159, 0, 5, 3, 172, 132, 4, 1, 167, 255, 221, 4, 172]
abbrev dktX0_canTake_2 : List UInt8 := dkwX0_canTake_2 ++ []
def dkwX0_canTake_1 : List UInt8 := [162, 0, 35, 42, 180, 0, 98, 42, 180, 1, 21, 29, 100, 21, 4, 96, 46, 43, 28, 21, 4, 182, 0, 175]
abbrev dktX0_canTake_1 : List UInt8 := dkwX0_canTake_1 ++ dktX0_canTake_2
def dkwX0_canTake_0 : List UInt8 := [43, 28, 182, 0, 167, 62, 42, 180, 1, 21, 29, 162, 0, 5, 3, 172, 3, 54, 4, 21, 4, 29]
abbrev dktX0_canTake_0 : List UInt8 := dkwX0_canTake_0 ++ dktX0_canTake_1
theorem dksX0_canTake_0 : cX0_canTake.data.toList.drop 0 = dktX0_canTake_0 := by decide +kernel
theorem dksX0_canTake_1 : cX0_canTake.data.toList.drop 22 = dktX0_canTake_1 := dk_seg dksX0_canTake_0 22 rfl rfl
theorem dksX0_canTake_2 : cX0_canTake.data.toList.drop 46 = dktX0_canTake_2 := dk_seg dksX0_canTake_1 24 rfl rfl
theorem dX0_canTake_0 : decode cX0_canTake 0 = .ok (.aload_n 1, 1) := dk_43 (dk_at dksX0_canTake_0 0 rfl rfl)
theorem dX0_canTake_1 : decode cX0_canTake 1 = .ok (.iload_n 2, 1) := dk_28 (dk_at dksX0_canTake_0 1 rfl rfl)
theorem dX0_canTake_2 : decode cX0_canTake 2 = .ok (.invokevirtual 167, 3) := dk_182 0 167 (dk_at dksX0_canTake_0 2 rfl rfl)
theorem dX0_canTake_5 : decode cX0_canTake 5 = .ok (.istore_n 3, 1) := dk_62 (dk_at dksX0_canTake_0 5 rfl rfl)
theorem dX0_canTake_6 : decode cX0_canTake 6 = .ok (.aload_n 0, 1) := dk_42 (dk_at dksX0_canTake_0 6 rfl rfl)
theorem dX0_canTake_7 : decode cX0_canTake 7 = .ok (.getfield 277, 3) := dk_180 1 21 (dk_at dksX0_canTake_0 7 rfl rfl)
theorem dX0_canTake_10 : decode cX0_canTake 10 = .ok (.iload_n 3, 1) := dk_29 (dk_at dksX0_canTake_0 10 rfl rfl)
theorem dX0_canTake_11 : decode cX0_canTake 11 = .ok (.if_icmp .ge 5, 3) := dk_162 0 5 (dk_at dksX0_canTake_0 11 rfl rfl)
theorem dX0_canTake_14 : decode cX0_canTake 14 = .ok (.iconst 0, 1) := dk_3 (dk_at dksX0_canTake_0 14 rfl rfl)
theorem dX0_canTake_15 : decode cX0_canTake 15 = .ok (.ireturn, 1) := dk_172 (dk_at dksX0_canTake_0 15 rfl rfl)
theorem dX0_canTake_16 : decode cX0_canTake 16 = .ok (.iconst 0, 1) := dk_3 (dk_at dksX0_canTake_0 16 rfl rfl)
theorem dX0_canTake_17 : decode cX0_canTake 17 = .ok (.istore 4, 2) := dk_54 4 (dk_at dksX0_canTake_0 17 rfl rfl)
theorem dX0_canTake_19 : decode cX0_canTake 19 = .ok (.iload 4, 2) := dk_21 4 (dk_at dksX0_canTake_0 19 rfl rfl)
theorem dX0_canTake_21 : decode cX0_canTake 21 = .ok (.iload_n 3, 1) := dk_29 (dk_at dksX0_canTake_0 21 rfl rfl)
theorem dX0_canTake_22 : decode cX0_canTake 22 = .ok (.if_icmp .ge 35, 3) := dk_162 0 35 (dk_at dksX0_canTake_1 0 rfl rfl)
theorem dX0_canTake_25 : decode cX0_canTake 25 = .ok (.aload_n 0, 1) := dk_42 (dk_at dksX0_canTake_1 3 rfl rfl)
theorem dX0_canTake_26 : decode cX0_canTake 26 = .ok (.getfield 98, 3) := dk_180 0 98 (dk_at dksX0_canTake_1 4 rfl rfl)
theorem dX0_canTake_29 : decode cX0_canTake 29 = .ok (.aload_n 0, 1) := dk_42 (dk_at dksX0_canTake_1 7 rfl rfl)
theorem dX0_canTake_30 : decode cX0_canTake 30 = .ok (.getfield 277, 3) := dk_180 1 21 (dk_at dksX0_canTake_1 8 rfl rfl)
theorem dX0_canTake_33 : decode cX0_canTake 33 = .ok (.iload_n 3, 1) := dk_29 (dk_at dksX0_canTake_1 11 rfl rfl)
theorem dX0_canTake_34 : decode cX0_canTake 34 = .ok (.isub, 1) := dk_100 (dk_at dksX0_canTake_1 12 rfl rfl)
theorem dX0_canTake_35 : decode cX0_canTake 35 = .ok (.iload 4, 2) := dk_21 4 (dk_at dksX0_canTake_1 13 rfl rfl)
theorem dX0_canTake_37 : decode cX0_canTake 37 = .ok (.iadd, 1) := dk_96 (dk_at dksX0_canTake_1 15 rfl rfl)
theorem dX0_canTake_38 : decode cX0_canTake 38 = .ok (.iaload, 1) := dk_46 (dk_at dksX0_canTake_1 16 rfl rfl)
theorem dX0_canTake_39 : decode cX0_canTake 39 = .ok (.aload_n 1, 1) := dk_43 (dk_at dksX0_canTake_1 17 rfl rfl)
theorem dX0_canTake_40 : decode cX0_canTake 40 = .ok (.iload_n 2, 1) := dk_28 (dk_at dksX0_canTake_1 18 rfl rfl)
theorem dX0_canTake_41 : decode cX0_canTake 41 = .ok (.iload 4, 2) := dk_21 4 (dk_at dksX0_canTake_1 19 rfl rfl)
theorem dX0_canTake_43 : decode cX0_canTake 43 = .ok (.invokevirtual 175, 3) := dk_182 0 175 (dk_at dksX0_canTake_1 21 rfl rfl)
theorem dX0_canTake_46 : decode cX0_canTake 46 = .ok (.if_icmp .eq 5, 3) := dk_159 0 5 (dk_at dksX0_canTake_2 0 rfl rfl)
theorem dX0_canTake_49 : decode cX0_canTake 49 = .ok (.iconst 0, 1) := dk_3 (dk_at dksX0_canTake_2 3 rfl rfl)
theorem dX0_canTake_50 : decode cX0_canTake 50 = .ok (.ireturn, 1) := dk_172 (dk_at dksX0_canTake_2 4 rfl rfl)
theorem dX0_canTake_51 : decode cX0_canTake 51 = .ok (.iinc 4 1, 3) := dk_132 4 1 (dk_at dksX0_canTake_2 5 rfl rfl)
theorem dX0_canTake_54 : decode cX0_canTake 54 = .ok (.goto (-35), 3) := dk_167 255 221 (dk_at dksX0_canTake_2 8 rfl rfl)
theorem dX0_canTake_57 : decode cX0_canTake 57 = .ok (.iconst 1, 1) := dk_4 (dk_at dksX0_canTake_2 11 rfl rfl)
theorem dX0_canTake_58 : decode cX0_canTake 58 = .ok (.ireturn, 1) := dk_172 (dk_at dksX0_canTake_2 12 rfl rfl)
abbrev cX0_amiss : ByteArray := prog_1_method_48_code
def yX0_amiss : MethodName := ⟨RX0, "amiss", "(II)V"⟩
def dkwX0_amiss_1 : List UInt8 := [180, 0, 110, 7, 28, 79, 177]
abbrev dktX0_amiss_1 : List UInt8 := dkwX0_amiss_1 ++ []
def dkwX0_amiss_0 : List UInt8 := [27, 158, 0, 13, 42, 180, 0, 110, 27, 92, 46, 4, 96, 79, 42, 180, 0, 110, 7, 46, 156, 0, 10, 42]
abbrev dktX0_amiss_0 : List UInt8 := dkwX0_amiss_0 ++ dktX0_amiss_1
theorem dksX0_amiss_0 : cX0_amiss.data.toList.drop 0 = dktX0_amiss_0 := by decide +kernel
theorem dksX0_amiss_1 : cX0_amiss.data.toList.drop 24 = dktX0_amiss_1 := dk_seg dksX0_amiss_0 24 rfl rfl
theorem dX0_amiss_0 : decode cX0_amiss 0 = .ok (.iload_n 1, 1) := dk_27 (dk_at dksX0_amiss_0 0 rfl rfl)
theorem dX0_amiss_1 : decode cX0_amiss 1 = .ok (.ifCond .le 13, 3) := dk_158 0 13 (dk_at dksX0_amiss_0 1 rfl rfl)
theorem dX0_amiss_4 : decode cX0_amiss 4 = .ok (.aload_n 0, 1) := dk_42 (dk_at dksX0_amiss_0 4 rfl rfl)
theorem dX0_amiss_5 : decode cX0_amiss 5 = .ok (.getfield 110, 3) := dk_180 0 110 (dk_at dksX0_amiss_0 5 rfl rfl)
theorem dX0_amiss_8 : decode cX0_amiss 8 = .ok (.iload_n 1, 1) := dk_27 (dk_at dksX0_amiss_0 8 rfl rfl)
theorem dX0_amiss_9 : decode cX0_amiss 9 = .ok (.dup2, 1) := dk_92 (dk_at dksX0_amiss_0 9 rfl rfl)
theorem dX0_amiss_10 : decode cX0_amiss 10 = .ok (.iaload, 1) := dk_46 (dk_at dksX0_amiss_0 10 rfl rfl)
theorem dX0_amiss_11 : decode cX0_amiss 11 = .ok (.iconst 1, 1) := dk_4 (dk_at dksX0_amiss_0 11 rfl rfl)
theorem dX0_amiss_12 : decode cX0_amiss 12 = .ok (.iadd, 1) := dk_96 (dk_at dksX0_amiss_0 12 rfl rfl)
theorem dX0_amiss_13 : decode cX0_amiss 13 = .ok (.iastore, 1) := dk_79 (dk_at dksX0_amiss_0 13 rfl rfl)
theorem dX0_amiss_14 : decode cX0_amiss 14 = .ok (.aload_n 0, 1) := dk_42 (dk_at dksX0_amiss_0 14 rfl rfl)
theorem dX0_amiss_15 : decode cX0_amiss 15 = .ok (.getfield 110, 3) := dk_180 0 110 (dk_at dksX0_amiss_0 15 rfl rfl)
theorem dX0_amiss_18 : decode cX0_amiss 18 = .ok (.iconst 4, 1) := dk_7 (dk_at dksX0_amiss_0 18 rfl rfl)
theorem dX0_amiss_19 : decode cX0_amiss 19 = .ok (.iaload, 1) := dk_46 (dk_at dksX0_amiss_0 19 rfl rfl)
theorem dX0_amiss_20 : decode cX0_amiss 20 = .ok (.ifCond .ge 10, 3) := dk_156 0 10 (dk_at dksX0_amiss_0 20 rfl rfl)
theorem dX0_amiss_23 : decode cX0_amiss 23 = .ok (.aload_n 0, 1) := dk_42 (dk_at dksX0_amiss_0 23 rfl rfl)
theorem dX0_amiss_24 : decode cX0_amiss 24 = .ok (.getfield 110, 3) := dk_180 0 110 (dk_at dksX0_amiss_1 0 rfl rfl)
theorem dX0_amiss_27 : decode cX0_amiss 27 = .ok (.iconst 4, 1) := dk_7 (dk_at dksX0_amiss_1 3 rfl rfl)
theorem dX0_amiss_28 : decode cX0_amiss 28 = .ok (.iload_n 2, 1) := dk_28 (dk_at dksX0_amiss_1 4 rfl rfl)
theorem dX0_amiss_29 : decode cX0_amiss 29 = .ok (.iastore, 1) := dk_79 (dk_at dksX0_amiss_1 5 rfl rfl)
theorem dX0_amiss_30 : decode cX0_amiss 30 = .ok (.return_, 1) := dk_177 (dk_at dksX0_amiss_1 6 rfl rfl)
abbrev cX0_dropped : ByteArray := prog_1_method_46_code
def yX0_dropped : MethodName := ⟨RX0, "dropped", "(II)I"⟩
def dkwX0_dropped_7 : List UInt8 := [167, 255, 147, 3, 172]
abbrev dktX0_dropped_7 : List UInt8 := dkwX0_dropped_7 ++ []
def dkwX0_dropped_6 : List UInt8 := [42, 180, 0, 23, 185, 1, 70, 2, 0, 153, 0, 6, 21, 4, 172, 132, 7, 1, 167, 255, 222, 132, 4, 1]
abbrev dktX0_dropped_6 : List UInt8 := dkwX0_dropped_6 ++ dktX0_dropped_7
def dkwX0_dropped_5 : List UInt8 := [25, 5, 190, 54, 6, 3, 54, 7, 21, 7, 21, 6, 162, 0, 33, 25, 5, 21, 7, 50, 58, 8, 25, 8]
abbrev dktX0_dropped_5 : List UInt8 := dkwX0_dropped_5 ++ dktX0_dropped_6
def dkwX0_dropped_4 : List UInt8 := [180, 0, 104, 21, 4, 46, 100, 79, 45, 16, 6, 21, 4, 79, 42, 182, 0, 186, 180, 1, 66, 58, 5]
abbrev dktX0_dropped_4 : List UInt8 := dkwX0_dropped_4 ++ dktX0_dropped_5
def dkwX0_dropped_3 : List UInt8 := [45, 6, 42, 180, 0, 98, 21, 4, 46, 79, 45, 7, 42, 180, 0, 101, 21, 4, 46, 79, 45, 8, 28, 42]
abbrev dktX0_dropped_3 : List UInt8 := dkwX0_dropped_3 ++ dktX0_dropped_4
def dkwX0_dropped_2 : List UInt8 := [180, 0, 23, 180, 1, 37, 78, 3, 54, 4, 21, 4, 42, 180, 1, 21, 162, 0, 106, 27, 5, 160, 0, 101]
abbrev dktX0_dropped_2 : List UInt8 := dkwX0_dropped_2 ++ dktX0_dropped_3
def dkwX0_dropped_1 : List UInt8 := [21, 4, 46, 42, 180, 0, 101, 29, 46, 162, 0, 6, 21, 4, 62, 132, 4, 1, 167, 255, 225, 29, 172, 42]
abbrev dktX0_dropped_1 : List UInt8 := dkwX0_dropped_1 ++ dktX0_dropped_2
def dkwX0_dropped_0 : List UInt8 := [27, 4, 160, 0, 44, 3, 62, 4, 54, 4, 21, 4, 42, 180, 1, 21, 162, 0, 28, 42, 180, 0, 101]
abbrev dktX0_dropped_0 : List UInt8 := dkwX0_dropped_0 ++ dktX0_dropped_1
theorem dksX0_dropped_0 : cX0_dropped.data.toList.drop 0 = dktX0_dropped_0 := by decide +kernel
theorem dksX0_dropped_1 : cX0_dropped.data.toList.drop 23 = dktX0_dropped_1 := dk_seg dksX0_dropped_0 23 rfl rfl
theorem dksX0_dropped_2 : cX0_dropped.data.toList.drop 47 = dktX0_dropped_2 := dk_seg dksX0_dropped_1 24 rfl rfl
theorem dksX0_dropped_3 : cX0_dropped.data.toList.drop 71 = dktX0_dropped_3 := dk_seg dksX0_dropped_2 24 rfl rfl
theorem dksX0_dropped_4 : cX0_dropped.data.toList.drop 95 = dktX0_dropped_4 := dk_seg dksX0_dropped_3 24 rfl rfl
theorem dksX0_dropped_5 : cX0_dropped.data.toList.drop 118 = dktX0_dropped_5 := dk_seg dksX0_dropped_4 23 rfl rfl
theorem dksX0_dropped_6 : cX0_dropped.data.toList.drop 142 = dktX0_dropped_6 := dk_seg dksX0_dropped_5 24 rfl rfl
theorem dksX0_dropped_7 : cX0_dropped.data.toList.drop 166 = dktX0_dropped_7 := dk_seg dksX0_dropped_6 24 rfl rfl
theorem dX0_dropped_0 : decode cX0_dropped 0 = .ok (.iload_n 1, 1) := dk_27 (dk_at dksX0_dropped_0 0 rfl rfl)
theorem dX0_dropped_1 : decode cX0_dropped 1 = .ok (.iconst 1, 1) := dk_4 (dk_at dksX0_dropped_0 1 rfl rfl)
theorem dX0_dropped_2 : decode cX0_dropped 2 = .ok (.if_icmp .ne 44, 3) := dk_160 0 44 (dk_at dksX0_dropped_0 2 rfl rfl)
theorem dX0_dropped_5 : decode cX0_dropped 5 = .ok (.iconst 0, 1) := dk_3 (dk_at dksX0_dropped_0 5 rfl rfl)
theorem dX0_dropped_6 : decode cX0_dropped 6 = .ok (.istore_n 3, 1) := dk_62 (dk_at dksX0_dropped_0 6 rfl rfl)
theorem dX0_dropped_7 : decode cX0_dropped 7 = .ok (.iconst 1, 1) := dk_4 (dk_at dksX0_dropped_0 7 rfl rfl)
theorem dX0_dropped_8 : decode cX0_dropped 8 = .ok (.istore 4, 2) := dk_54 4 (dk_at dksX0_dropped_0 8 rfl rfl)
theorem dX0_dropped_10 : decode cX0_dropped 10 = .ok (.iload 4, 2) := dk_21 4 (dk_at dksX0_dropped_0 10 rfl rfl)
theorem dX0_dropped_12 : decode cX0_dropped 12 = .ok (.aload_n 0, 1) := dk_42 (dk_at dksX0_dropped_0 12 rfl rfl)
theorem dX0_dropped_13 : decode cX0_dropped 13 = .ok (.getfield 277, 3) := dk_180 1 21 (dk_at dksX0_dropped_0 13 rfl rfl)
theorem dX0_dropped_16 : decode cX0_dropped 16 = .ok (.if_icmp .ge 28, 3) := dk_162 0 28 (dk_at dksX0_dropped_0 16 rfl rfl)
theorem dX0_dropped_19 : decode cX0_dropped 19 = .ok (.aload_n 0, 1) := dk_42 (dk_at dksX0_dropped_0 19 rfl rfl)
theorem dX0_dropped_20 : decode cX0_dropped 20 = .ok (.getfield 101, 3) := dk_180 0 101 (dk_at dksX0_dropped_0 20 rfl rfl)
theorem dX0_dropped_23 : decode cX0_dropped 23 = .ok (.iload 4, 2) := dk_21 4 (dk_at dksX0_dropped_1 0 rfl rfl)
theorem dX0_dropped_25 : decode cX0_dropped 25 = .ok (.iaload, 1) := dk_46 (dk_at dksX0_dropped_1 2 rfl rfl)
theorem dX0_dropped_26 : decode cX0_dropped 26 = .ok (.aload_n 0, 1) := dk_42 (dk_at dksX0_dropped_1 3 rfl rfl)
theorem dX0_dropped_27 : decode cX0_dropped 27 = .ok (.getfield 101, 3) := dk_180 0 101 (dk_at dksX0_dropped_1 4 rfl rfl)
theorem dX0_dropped_30 : decode cX0_dropped 30 = .ok (.iload_n 3, 1) := dk_29 (dk_at dksX0_dropped_1 7 rfl rfl)
theorem dX0_dropped_31 : decode cX0_dropped 31 = .ok (.iaload, 1) := dk_46 (dk_at dksX0_dropped_1 8 rfl rfl)
theorem dX0_dropped_32 : decode cX0_dropped 32 = .ok (.if_icmp .ge 6, 3) := dk_162 0 6 (dk_at dksX0_dropped_1 9 rfl rfl)
theorem dX0_dropped_35 : decode cX0_dropped 35 = .ok (.iload 4, 2) := dk_21 4 (dk_at dksX0_dropped_1 12 rfl rfl)
theorem dX0_dropped_37 : decode cX0_dropped 37 = .ok (.istore_n 3, 1) := dk_62 (dk_at dksX0_dropped_1 14 rfl rfl)
theorem dX0_dropped_38 : decode cX0_dropped 38 = .ok (.iinc 4 1, 3) := dk_132 4 1 (dk_at dksX0_dropped_1 15 rfl rfl)
theorem dX0_dropped_41 : decode cX0_dropped 41 = .ok (.goto (-31), 3) := dk_167 255 225 (dk_at dksX0_dropped_1 18 rfl rfl)
theorem dX0_dropped_44 : decode cX0_dropped 44 = .ok (.iload_n 3, 1) := dk_29 (dk_at dksX0_dropped_1 21 rfl rfl)
theorem dX0_dropped_45 : decode cX0_dropped 45 = .ok (.ireturn, 1) := dk_172 (dk_at dksX0_dropped_1 22 rfl rfl)
theorem dX0_dropped_46 : decode cX0_dropped 46 = .ok (.aload_n 0, 1) := dk_42 (dk_at dksX0_dropped_1 23 rfl rfl)
theorem dX0_dropped_47 : decode cX0_dropped 47 = .ok (.getfield 23, 3) := dk_180 0 23 (dk_at dksX0_dropped_2 0 rfl rfl)
theorem dX0_dropped_50 : decode cX0_dropped 50 = .ok (.getfield 293, 3) := dk_180 1 37 (dk_at dksX0_dropped_2 3 rfl rfl)
theorem dX0_dropped_53 : decode cX0_dropped 53 = .ok (.astore_n 3, 1) := dk_78 (dk_at dksX0_dropped_2 6 rfl rfl)
theorem dX0_dropped_54 : decode cX0_dropped 54 = .ok (.iconst 0, 1) := dk_3 (dk_at dksX0_dropped_2 7 rfl rfl)
theorem dX0_dropped_55 : decode cX0_dropped 55 = .ok (.istore 4, 2) := dk_54 4 (dk_at dksX0_dropped_2 8 rfl rfl)
theorem dX0_dropped_57 : decode cX0_dropped 57 = .ok (.iload 4, 2) := dk_21 4 (dk_at dksX0_dropped_2 10 rfl rfl)
theorem dX0_dropped_59 : decode cX0_dropped 59 = .ok (.aload_n 0, 1) := dk_42 (dk_at dksX0_dropped_2 12 rfl rfl)
theorem dX0_dropped_60 : decode cX0_dropped 60 = .ok (.getfield 277, 3) := dk_180 1 21 (dk_at dksX0_dropped_2 13 rfl rfl)
theorem dX0_dropped_63 : decode cX0_dropped 63 = .ok (.if_icmp .ge 106, 3) := dk_162 0 106 (dk_at dksX0_dropped_2 16 rfl rfl)
theorem dX0_dropped_66 : decode cX0_dropped 66 = .ok (.iload_n 1, 1) := dk_27 (dk_at dksX0_dropped_2 19 rfl rfl)
theorem dX0_dropped_67 : decode cX0_dropped 67 = .ok (.iconst 2, 1) := dk_5 (dk_at dksX0_dropped_2 20 rfl rfl)
theorem dX0_dropped_68 : decode cX0_dropped 68 = .ok (.if_icmp .ne 101, 3) := dk_160 0 101 (dk_at dksX0_dropped_2 21 rfl rfl)
theorem dX0_dropped_71 : decode cX0_dropped 71 = .ok (.aload_n 3, 1) := dk_45 (dk_at dksX0_dropped_3 0 rfl rfl)
theorem dX0_dropped_72 : decode cX0_dropped 72 = .ok (.iconst 3, 1) := dk_6 (dk_at dksX0_dropped_3 1 rfl rfl)
theorem dX0_dropped_73 : decode cX0_dropped 73 = .ok (.aload_n 0, 1) := dk_42 (dk_at dksX0_dropped_3 2 rfl rfl)
theorem dX0_dropped_74 : decode cX0_dropped 74 = .ok (.getfield 98, 3) := dk_180 0 98 (dk_at dksX0_dropped_3 3 rfl rfl)
theorem dX0_dropped_77 : decode cX0_dropped 77 = .ok (.iload 4, 2) := dk_21 4 (dk_at dksX0_dropped_3 6 rfl rfl)
theorem dX0_dropped_79 : decode cX0_dropped 79 = .ok (.iaload, 1) := dk_46 (dk_at dksX0_dropped_3 8 rfl rfl)
theorem dX0_dropped_80 : decode cX0_dropped 80 = .ok (.iastore, 1) := dk_79 (dk_at dksX0_dropped_3 9 rfl rfl)
theorem dX0_dropped_81 : decode cX0_dropped 81 = .ok (.aload_n 3, 1) := dk_45 (dk_at dksX0_dropped_3 10 rfl rfl)
theorem dX0_dropped_82 : decode cX0_dropped 82 = .ok (.iconst 4, 1) := dk_7 (dk_at dksX0_dropped_3 11 rfl rfl)
theorem dX0_dropped_83 : decode cX0_dropped 83 = .ok (.aload_n 0, 1) := dk_42 (dk_at dksX0_dropped_3 12 rfl rfl)
theorem dX0_dropped_84 : decode cX0_dropped 84 = .ok (.getfield 101, 3) := dk_180 0 101 (dk_at dksX0_dropped_3 13 rfl rfl)
theorem dX0_dropped_87 : decode cX0_dropped 87 = .ok (.iload 4, 2) := dk_21 4 (dk_at dksX0_dropped_3 16 rfl rfl)
theorem dX0_dropped_89 : decode cX0_dropped 89 = .ok (.iaload, 1) := dk_46 (dk_at dksX0_dropped_3 18 rfl rfl)
theorem dX0_dropped_90 : decode cX0_dropped 90 = .ok (.iastore, 1) := dk_79 (dk_at dksX0_dropped_3 19 rfl rfl)
theorem dX0_dropped_91 : decode cX0_dropped 91 = .ok (.aload_n 3, 1) := dk_45 (dk_at dksX0_dropped_3 20 rfl rfl)
theorem dX0_dropped_92 : decode cX0_dropped 92 = .ok (.iconst 5, 1) := dk_8 (dk_at dksX0_dropped_3 21 rfl rfl)
theorem dX0_dropped_93 : decode cX0_dropped 93 = .ok (.iload_n 2, 1) := dk_28 (dk_at dksX0_dropped_3 22 rfl rfl)
theorem dX0_dropped_94 : decode cX0_dropped 94 = .ok (.aload_n 0, 1) := dk_42 (dk_at dksX0_dropped_3 23 rfl rfl)
theorem dX0_dropped_95 : decode cX0_dropped 95 = .ok (.getfield 104, 3) := dk_180 0 104 (dk_at dksX0_dropped_4 0 rfl rfl)
theorem dX0_dropped_98 : decode cX0_dropped 98 = .ok (.iload 4, 2) := dk_21 4 (dk_at dksX0_dropped_4 3 rfl rfl)
theorem dX0_dropped_100 : decode cX0_dropped 100 = .ok (.iaload, 1) := dk_46 (dk_at dksX0_dropped_4 5 rfl rfl)
theorem dX0_dropped_101 : decode cX0_dropped 101 = .ok (.isub, 1) := dk_100 (dk_at dksX0_dropped_4 6 rfl rfl)
theorem dX0_dropped_102 : decode cX0_dropped 102 = .ok (.iastore, 1) := dk_79 (dk_at dksX0_dropped_4 7 rfl rfl)
theorem dX0_dropped_103 : decode cX0_dropped 103 = .ok (.aload_n 3, 1) := dk_45 (dk_at dksX0_dropped_4 8 rfl rfl)
theorem dX0_dropped_104 : decode cX0_dropped 104 = .ok (.bipush 6, 2) := dk_16 6 (dk_at dksX0_dropped_4 9 rfl rfl)
theorem dX0_dropped_106 : decode cX0_dropped 106 = .ok (.iload 4, 2) := dk_21 4 (dk_at dksX0_dropped_4 11 rfl rfl)
theorem dX0_dropped_108 : decode cX0_dropped 108 = .ok (.iastore, 1) := dk_79 (dk_at dksX0_dropped_4 13 rfl rfl)
theorem dX0_dropped_109 : decode cX0_dropped 109 = .ok (.aload_n 0, 1) := dk_42 (dk_at dksX0_dropped_4 14 rfl rfl)
theorem dX0_dropped_110 : decode cX0_dropped 110 = .ok (.invokevirtual 186, 3) := dk_182 0 186 (dk_at dksX0_dropped_4 15 rfl rfl)
theorem dX0_dropped_113 : decode cX0_dropped 113 = .ok (.getfield 322, 3) := dk_180 1 66 (dk_at dksX0_dropped_4 18 rfl rfl)
theorem dX0_dropped_116 : decode cX0_dropped 116 = .ok (.astore 5, 2) := dk_58 5 (dk_at dksX0_dropped_4 21 rfl rfl)
theorem dX0_dropped_118 : decode cX0_dropped 118 = .ok (.aload 5, 2) := dk_25 5 (dk_at dksX0_dropped_5 0 rfl rfl)
theorem dX0_dropped_120 : decode cX0_dropped 120 = .ok (.arraylength, 1) := dk_190 (dk_at dksX0_dropped_5 2 rfl rfl)
theorem dX0_dropped_121 : decode cX0_dropped 121 = .ok (.istore 6, 2) := dk_54 6 (dk_at dksX0_dropped_5 3 rfl rfl)
theorem dX0_dropped_123 : decode cX0_dropped 123 = .ok (.iconst 0, 1) := dk_3 (dk_at dksX0_dropped_5 5 rfl rfl)
theorem dX0_dropped_124 : decode cX0_dropped 124 = .ok (.istore 7, 2) := dk_54 7 (dk_at dksX0_dropped_5 6 rfl rfl)
theorem dX0_dropped_126 : decode cX0_dropped 126 = .ok (.iload 7, 2) := dk_21 7 (dk_at dksX0_dropped_5 8 rfl rfl)
theorem dX0_dropped_128 : decode cX0_dropped 128 = .ok (.iload 6, 2) := dk_21 6 (dk_at dksX0_dropped_5 10 rfl rfl)
theorem dX0_dropped_130 : decode cX0_dropped 130 = .ok (.if_icmp .ge 33, 3) := dk_162 0 33 (dk_at dksX0_dropped_5 12 rfl rfl)
theorem dX0_dropped_133 : decode cX0_dropped 133 = .ok (.aload 5, 2) := dk_25 5 (dk_at dksX0_dropped_5 15 rfl rfl)
theorem dX0_dropped_135 : decode cX0_dropped 135 = .ok (.iload 7, 2) := dk_21 7 (dk_at dksX0_dropped_5 17 rfl rfl)
theorem dX0_dropped_137 : decode cX0_dropped 137 = .ok (.aaload, 1) := dk_50 (dk_at dksX0_dropped_5 19 rfl rfl)
theorem dX0_dropped_138 : decode cX0_dropped 138 = .ok (.astore 8, 2) := dk_58 8 (dk_at dksX0_dropped_5 20 rfl rfl)
theorem dX0_dropped_140 : decode cX0_dropped 140 = .ok (.aload 8, 2) := dk_25 8 (dk_at dksX0_dropped_5 22 rfl rfl)
theorem dX0_dropped_142 : decode cX0_dropped 142 = .ok (.aload_n 0, 1) := dk_42 (dk_at dksX0_dropped_6 0 rfl rfl)
theorem dX0_dropped_143 : decode cX0_dropped 143 = .ok (.getfield 23, 3) := dk_180 0 23 (dk_at dksX0_dropped_6 1 rfl rfl)
theorem dX0_dropped_146 : decode cX0_dropped 146 = .ok (.invokeinterface 326 2, 5) := by decide +kernel
theorem dX0_dropped_151 : decode cX0_dropped 151 = .ok (.ifCond .eq 6, 3) := dk_153 0 6 (dk_at dksX0_dropped_6 9 rfl rfl)
theorem dX0_dropped_154 : decode cX0_dropped 154 = .ok (.iload 4, 2) := dk_21 4 (dk_at dksX0_dropped_6 12 rfl rfl)
theorem dX0_dropped_156 : decode cX0_dropped 156 = .ok (.ireturn, 1) := dk_172 (dk_at dksX0_dropped_6 14 rfl rfl)
theorem dX0_dropped_157 : decode cX0_dropped 157 = .ok (.iinc 7 1, 3) := dk_132 7 1 (dk_at dksX0_dropped_6 15 rfl rfl)
theorem dX0_dropped_160 : decode cX0_dropped 160 = .ok (.goto (-34), 3) := dk_167 255 222 (dk_at dksX0_dropped_6 18 rfl rfl)
theorem dX0_dropped_163 : decode cX0_dropped 163 = .ok (.iinc 4 1, 3) := dk_132 4 1 (dk_at dksX0_dropped_6 21 rfl rfl)
theorem dX0_dropped_166 : decode cX0_dropped 166 = .ok (.goto (-109), 3) := dk_167 255 147 (dk_at dksX0_dropped_7 0 rfl rfl)
theorem dX0_dropped_169 : decode cX0_dropped 169 = .ok (.iconst 0, 1) := dk_3 (dk_at dksX0_dropped_7 3 rfl rfl)
theorem dX0_dropped_170 : decode cX0_dropped 170 = .ok (.ireturn, 1) := dk_172 (dk_at dksX0_dropped_7 4 rfl rfl)
abbrev cX0_drop : ByteArray := prog_1_method_47_code
def yX0_drop : MethodName := ⟨RX0, "drop", "(I)V"⟩
def dkwX0_drop_3 : List UInt8 := [4, 96, 46, 79, 132, 2, 1, 167, 255, 189, 177]
abbrev dktX0_drop_3 : List UInt8 := dkwX0_drop_3 ++ []
def dkwX0_drop_2 : List UInt8 := [42, 180, 0, 104, 28, 42, 180, 0, 104, 28, 4, 96, 46, 79, 42, 180, 0, 107, 28, 42, 180, 0, 107, 28]
abbrev dktX0_drop_2 : List UInt8 := dkwX0_drop_2 ++ dktX0_drop_3
def dkwX0_drop_1 : List UInt8 := [28, 42, 180, 0, 98, 28, 4, 96, 46, 79, 42, 180, 0, 101, 28, 42, 180, 0, 101, 28, 4, 96, 46, 79]
abbrev dktX0_drop_1 : List UInt8 := dkwX0_drop_1 ++ dktX0_drop_2
def dkwX0_drop_0 : List UInt8 := [42, 89, 180, 1, 21, 4, 100, 181, 1, 21, 27, 61, 28, 42, 180, 1, 21, 162, 0, 65, 42, 180, 0, 98]
abbrev dktX0_drop_0 : List UInt8 := dkwX0_drop_0 ++ dktX0_drop_1
theorem dksX0_drop_0 : cX0_drop.data.toList.drop 0 = dktX0_drop_0 := by decide +kernel
theorem dksX0_drop_1 : cX0_drop.data.toList.drop 24 = dktX0_drop_1 := dk_seg dksX0_drop_0 24 rfl rfl
theorem dksX0_drop_2 : cX0_drop.data.toList.drop 48 = dktX0_drop_2 := dk_seg dksX0_drop_1 24 rfl rfl
theorem dksX0_drop_3 : cX0_drop.data.toList.drop 72 = dktX0_drop_3 := dk_seg dksX0_drop_2 24 rfl rfl
theorem dX0_drop_0 : decode cX0_drop 0 = .ok (.aload_n 0, 1) := dk_42 (dk_at dksX0_drop_0 0 rfl rfl)
theorem dX0_drop_1 : decode cX0_drop 1 = .ok (.dup, 1) := dk_89 (dk_at dksX0_drop_0 1 rfl rfl)
theorem dX0_drop_2 : decode cX0_drop 2 = .ok (.getfield 277, 3) := dk_180 1 21 (dk_at dksX0_drop_0 2 rfl rfl)
theorem dX0_drop_5 : decode cX0_drop 5 = .ok (.iconst 1, 1) := dk_4 (dk_at dksX0_drop_0 5 rfl rfl)
theorem dX0_drop_6 : decode cX0_drop 6 = .ok (.isub, 1) := dk_100 (dk_at dksX0_drop_0 6 rfl rfl)
theorem dX0_drop_7 : decode cX0_drop 7 = .ok (.putfield 277, 3) := dk_181 1 21 (dk_at dksX0_drop_0 7 rfl rfl)
theorem dX0_drop_10 : decode cX0_drop 10 = .ok (.iload_n 1, 1) := dk_27 (dk_at dksX0_drop_0 10 rfl rfl)
theorem dX0_drop_11 : decode cX0_drop 11 = .ok (.istore_n 2, 1) := dk_61 (dk_at dksX0_drop_0 11 rfl rfl)
theorem dX0_drop_12 : decode cX0_drop 12 = .ok (.iload_n 2, 1) := dk_28 (dk_at dksX0_drop_0 12 rfl rfl)
theorem dX0_drop_13 : decode cX0_drop 13 = .ok (.aload_n 0, 1) := dk_42 (dk_at dksX0_drop_0 13 rfl rfl)
theorem dX0_drop_14 : decode cX0_drop 14 = .ok (.getfield 277, 3) := dk_180 1 21 (dk_at dksX0_drop_0 14 rfl rfl)
theorem dX0_drop_17 : decode cX0_drop 17 = .ok (.if_icmp .ge 65, 3) := dk_162 0 65 (dk_at dksX0_drop_0 17 rfl rfl)
theorem dX0_drop_20 : decode cX0_drop 20 = .ok (.aload_n 0, 1) := dk_42 (dk_at dksX0_drop_0 20 rfl rfl)
theorem dX0_drop_21 : decode cX0_drop 21 = .ok (.getfield 98, 3) := dk_180 0 98 (dk_at dksX0_drop_0 21 rfl rfl)
theorem dX0_drop_24 : decode cX0_drop 24 = .ok (.iload_n 2, 1) := dk_28 (dk_at dksX0_drop_1 0 rfl rfl)
theorem dX0_drop_25 : decode cX0_drop 25 = .ok (.aload_n 0, 1) := dk_42 (dk_at dksX0_drop_1 1 rfl rfl)
theorem dX0_drop_26 : decode cX0_drop 26 = .ok (.getfield 98, 3) := dk_180 0 98 (dk_at dksX0_drop_1 2 rfl rfl)
theorem dX0_drop_29 : decode cX0_drop 29 = .ok (.iload_n 2, 1) := dk_28 (dk_at dksX0_drop_1 5 rfl rfl)
theorem dX0_drop_30 : decode cX0_drop 30 = .ok (.iconst 1, 1) := dk_4 (dk_at dksX0_drop_1 6 rfl rfl)
theorem dX0_drop_31 : decode cX0_drop 31 = .ok (.iadd, 1) := dk_96 (dk_at dksX0_drop_1 7 rfl rfl)
theorem dX0_drop_32 : decode cX0_drop 32 = .ok (.iaload, 1) := dk_46 (dk_at dksX0_drop_1 8 rfl rfl)
theorem dX0_drop_33 : decode cX0_drop 33 = .ok (.iastore, 1) := dk_79 (dk_at dksX0_drop_1 9 rfl rfl)
theorem dX0_drop_34 : decode cX0_drop 34 = .ok (.aload_n 0, 1) := dk_42 (dk_at dksX0_drop_1 10 rfl rfl)
theorem dX0_drop_35 : decode cX0_drop 35 = .ok (.getfield 101, 3) := dk_180 0 101 (dk_at dksX0_drop_1 11 rfl rfl)
theorem dX0_drop_38 : decode cX0_drop 38 = .ok (.iload_n 2, 1) := dk_28 (dk_at dksX0_drop_1 14 rfl rfl)
theorem dX0_drop_39 : decode cX0_drop 39 = .ok (.aload_n 0, 1) := dk_42 (dk_at dksX0_drop_1 15 rfl rfl)
theorem dX0_drop_40 : decode cX0_drop 40 = .ok (.getfield 101, 3) := dk_180 0 101 (dk_at dksX0_drop_1 16 rfl rfl)
theorem dX0_drop_43 : decode cX0_drop 43 = .ok (.iload_n 2, 1) := dk_28 (dk_at dksX0_drop_1 19 rfl rfl)
theorem dX0_drop_44 : decode cX0_drop 44 = .ok (.iconst 1, 1) := dk_4 (dk_at dksX0_drop_1 20 rfl rfl)
theorem dX0_drop_45 : decode cX0_drop 45 = .ok (.iadd, 1) := dk_96 (dk_at dksX0_drop_1 21 rfl rfl)
theorem dX0_drop_46 : decode cX0_drop 46 = .ok (.iaload, 1) := dk_46 (dk_at dksX0_drop_1 22 rfl rfl)
theorem dX0_drop_47 : decode cX0_drop 47 = .ok (.iastore, 1) := dk_79 (dk_at dksX0_drop_1 23 rfl rfl)
theorem dX0_drop_48 : decode cX0_drop 48 = .ok (.aload_n 0, 1) := dk_42 (dk_at dksX0_drop_2 0 rfl rfl)
theorem dX0_drop_49 : decode cX0_drop 49 = .ok (.getfield 104, 3) := dk_180 0 104 (dk_at dksX0_drop_2 1 rfl rfl)
theorem dX0_drop_52 : decode cX0_drop 52 = .ok (.iload_n 2, 1) := dk_28 (dk_at dksX0_drop_2 4 rfl rfl)
theorem dX0_drop_53 : decode cX0_drop 53 = .ok (.aload_n 0, 1) := dk_42 (dk_at dksX0_drop_2 5 rfl rfl)
theorem dX0_drop_54 : decode cX0_drop 54 = .ok (.getfield 104, 3) := dk_180 0 104 (dk_at dksX0_drop_2 6 rfl rfl)
theorem dX0_drop_57 : decode cX0_drop 57 = .ok (.iload_n 2, 1) := dk_28 (dk_at dksX0_drop_2 9 rfl rfl)
theorem dX0_drop_58 : decode cX0_drop 58 = .ok (.iconst 1, 1) := dk_4 (dk_at dksX0_drop_2 10 rfl rfl)
theorem dX0_drop_59 : decode cX0_drop 59 = .ok (.iadd, 1) := dk_96 (dk_at dksX0_drop_2 11 rfl rfl)
theorem dX0_drop_60 : decode cX0_drop 60 = .ok (.iaload, 1) := dk_46 (dk_at dksX0_drop_2 12 rfl rfl)
theorem dX0_drop_61 : decode cX0_drop 61 = .ok (.iastore, 1) := dk_79 (dk_at dksX0_drop_2 13 rfl rfl)
theorem dX0_drop_62 : decode cX0_drop 62 = .ok (.aload_n 0, 1) := dk_42 (dk_at dksX0_drop_2 14 rfl rfl)
theorem dX0_drop_63 : decode cX0_drop 63 = .ok (.getfield 107, 3) := dk_180 0 107 (dk_at dksX0_drop_2 15 rfl rfl)
theorem dX0_drop_66 : decode cX0_drop 66 = .ok (.iload_n 2, 1) := dk_28 (dk_at dksX0_drop_2 18 rfl rfl)
theorem dX0_drop_67 : decode cX0_drop 67 = .ok (.aload_n 0, 1) := dk_42 (dk_at dksX0_drop_2 19 rfl rfl)
theorem dX0_drop_68 : decode cX0_drop 68 = .ok (.getfield 107, 3) := dk_180 0 107 (dk_at dksX0_drop_2 20 rfl rfl)
theorem dX0_drop_71 : decode cX0_drop 71 = .ok (.iload_n 2, 1) := dk_28 (dk_at dksX0_drop_2 23 rfl rfl)
theorem dX0_drop_72 : decode cX0_drop 72 = .ok (.iconst 1, 1) := dk_4 (dk_at dksX0_drop_3 0 rfl rfl)
theorem dX0_drop_73 : decode cX0_drop 73 = .ok (.iadd, 1) := dk_96 (dk_at dksX0_drop_3 1 rfl rfl)
theorem dX0_drop_74 : decode cX0_drop 74 = .ok (.iaload, 1) := dk_46 (dk_at dksX0_drop_3 2 rfl rfl)
theorem dX0_drop_75 : decode cX0_drop 75 = .ok (.iastore, 1) := dk_79 (dk_at dksX0_drop_3 3 rfl rfl)
theorem dX0_drop_76 : decode cX0_drop 76 = .ok (.iinc 2 1, 3) := dk_132 2 1 (dk_at dksX0_drop_3 4 rfl rfl)
theorem dX0_drop_79 : decode cX0_drop 79 = .ok (.goto (-67), 3) := dk_167 255 189 (dk_at dksX0_drop_3 7 rfl rfl)
theorem dX0_drop_82 : decode cX0_drop 82 = .ok (.return_, 1) := dk_177 (dk_at dksX0_drop_3 10 rfl rfl)
abbrev cX0_enough : ByteArray := prog_1_method_51_code
def yX0_enough : MethodName := ⟨RX0, "enough", "(II)I"⟩
def dkwX0_enough_2 : List UInt8 := [167, 255, 229, 2, 172]
abbrev dktX0_enough_2 : List UInt8 := dkwX0_enough_2 ++ []
def dkwX0_enough_1 : List UInt8 := [163, 0, 27, 42, 29, 28, 182, 1, 90, 42, 180, 0, 110, 3, 46, 4, 160, 0, 5, 29, 172, 132, 3, 1]
abbrev dktX0_enough_1 : List UInt8 := dkwX0_enough_1 ++ dktX0_enough_2
def dkwX0_enough_0 : List UInt8 := [28, 3, 6, 184, 0, 130, 153, 0, 11, 42, 27, 182, 0, 239, 154, 0, 5, 2, 172, 4, 62, 29, 16, 24]
abbrev dktX0_enough_0 : List UInt8 := dkwX0_enough_0 ++ dktX0_enough_1
theorem dksX0_enough_0 : cX0_enough.data.toList.drop 0 = dktX0_enough_0 := by decide +kernel
theorem dksX0_enough_1 : cX0_enough.data.toList.drop 24 = dktX0_enough_1 := dk_seg dksX0_enough_0 24 rfl rfl
theorem dksX0_enough_2 : cX0_enough.data.toList.drop 48 = dktX0_enough_2 := dk_seg dksX0_enough_1 24 rfl rfl
theorem dX0_enough_0 : decode cX0_enough 0 = .ok (.iload_n 2, 1) := dk_28 (dk_at dksX0_enough_0 0 rfl rfl)
theorem dX0_enough_1 : decode cX0_enough 1 = .ok (.iconst 0, 1) := dk_3 (dk_at dksX0_enough_0 1 rfl rfl)
theorem dX0_enough_2 : decode cX0_enough 2 = .ok (.iconst 3, 1) := dk_6 (dk_at dksX0_enough_0 2 rfl rfl)
theorem dX0_enough_3 : decode cX0_enough 3 = .ok (.invokestatic 130, 3) := dk_184 0 130 (dk_at dksX0_enough_0 3 rfl rfl)
theorem dX0_enough_6 : decode cX0_enough 6 = .ok (.ifCond .eq 11, 3) := dk_153 0 11 (dk_at dksX0_enough_0 6 rfl rfl)
theorem dX0_enough_9 : decode cX0_enough 9 = .ok (.aload_n 0, 1) := dk_42 (dk_at dksX0_enough_0 9 rfl rfl)
theorem dX0_enough_10 : decode cX0_enough 10 = .ok (.iload_n 1, 1) := dk_27 (dk_at dksX0_enough_0 10 rfl rfl)
theorem dX0_enough_11 : decode cX0_enough 11 = .ok (.invokevirtual 239, 3) := dk_182 0 239 (dk_at dksX0_enough_0 11 rfl rfl)
theorem dX0_enough_14 : decode cX0_enough 14 = .ok (.ifCond .ne 5, 3) := dk_154 0 5 (dk_at dksX0_enough_0 14 rfl rfl)
theorem dX0_enough_17 : decode cX0_enough 17 = .ok (.iconst (-1), 1) := dk_2 (dk_at dksX0_enough_0 17 rfl rfl)
theorem dX0_enough_18 : decode cX0_enough 18 = .ok (.ireturn, 1) := dk_172 (dk_at dksX0_enough_0 18 rfl rfl)
theorem dX0_enough_19 : decode cX0_enough 19 = .ok (.iconst 1, 1) := dk_4 (dk_at dksX0_enough_0 19 rfl rfl)
theorem dX0_enough_20 : decode cX0_enough 20 = .ok (.istore_n 3, 1) := dk_62 (dk_at dksX0_enough_0 20 rfl rfl)
theorem dX0_enough_21 : decode cX0_enough 21 = .ok (.iload_n 3, 1) := dk_29 (dk_at dksX0_enough_0 21 rfl rfl)
theorem dX0_enough_22 : decode cX0_enough 22 = .ok (.bipush 24, 2) := dk_16 24 (dk_at dksX0_enough_0 22 rfl rfl)
theorem dX0_enough_24 : decode cX0_enough 24 = .ok (.if_icmp .gt 27, 3) := dk_163 0 27 (dk_at dksX0_enough_1 0 rfl rfl)
theorem dX0_enough_27 : decode cX0_enough 27 = .ok (.aload_n 0, 1) := dk_42 (dk_at dksX0_enough_1 3 rfl rfl)
theorem dX0_enough_28 : decode cX0_enough 28 = .ok (.iload_n 3, 1) := dk_29 (dk_at dksX0_enough_1 4 rfl rfl)
theorem dX0_enough_29 : decode cX0_enough 29 = .ok (.iload_n 2, 1) := dk_28 (dk_at dksX0_enough_1 5 rfl rfl)
theorem dX0_enough_30 : decode cX0_enough 30 = .ok (.invokevirtual 346, 3) := dk_182 1 90 (dk_at dksX0_enough_1 6 rfl rfl)
theorem dX0_enough_33 : decode cX0_enough 33 = .ok (.aload_n 0, 1) := dk_42 (dk_at dksX0_enough_1 9 rfl rfl)
theorem dX0_enough_34 : decode cX0_enough 34 = .ok (.getfield 110, 3) := dk_180 0 110 (dk_at dksX0_enough_1 10 rfl rfl)
theorem dX0_enough_37 : decode cX0_enough 37 = .ok (.iconst 0, 1) := dk_3 (dk_at dksX0_enough_1 13 rfl rfl)
theorem dX0_enough_38 : decode cX0_enough 38 = .ok (.iaload, 1) := dk_46 (dk_at dksX0_enough_1 14 rfl rfl)
theorem dX0_enough_39 : decode cX0_enough 39 = .ok (.iconst 1, 1) := dk_4 (dk_at dksX0_enough_1 15 rfl rfl)
theorem dX0_enough_40 : decode cX0_enough 40 = .ok (.if_icmp .ne 5, 3) := dk_160 0 5 (dk_at dksX0_enough_1 16 rfl rfl)
theorem dX0_enough_43 : decode cX0_enough 43 = .ok (.iload_n 3, 1) := dk_29 (dk_at dksX0_enough_1 19 rfl rfl)
theorem dX0_enough_44 : decode cX0_enough 44 = .ok (.ireturn, 1) := dk_172 (dk_at dksX0_enough_1 20 rfl rfl)
theorem dX0_enough_45 : decode cX0_enough 45 = .ok (.iinc 3 1, 3) := dk_132 3 1 (dk_at dksX0_enough_1 21 rfl rfl)
theorem dX0_enough_48 : decode cX0_enough 48 = .ok (.goto (-27), 3) := dk_167 255 229 (dk_at dksX0_enough_2 0 rfl rfl)
theorem dX0_enough_51 : decode cX0_enough 51 = .ok (.iconst (-1), 1) := dk_2 (dk_at dksX0_enough_2 3 rfl rfl)
theorem dX0_enough_52 : decode cX0_enough 52 = .ok (.ireturn, 1) := dk_172 (dk_at dksX0_enough_2 4 rfl rfl)
abbrev cX0_wordy : ByteArray := prog_1_method_59_code
def yX0_wordy : MethodName := ⟨RX0, "wordy", "(II)I"⟩
def dkwX0_wordy_1 : List UInt8 := [180, 1, 115, 3, 28, 182, 1, 101, 62, 29, 16, 99, 164, 0, 7, 2, 167, 0, 4, 29, 172]
abbrev dktX0_wordy_1 : List UInt8 := dkwX0_wordy_1 ++ []
def dkwX0_wordy_0 : List UInt8 := [28, 4, 16, 24, 184, 0, 130, 153, 0, 11, 42, 27, 182, 1, 121, 154, 0, 5, 2, 172, 42, 42]
abbrev dktX0_wordy_0 : List UInt8 := dkwX0_wordy_0 ++ dktX0_wordy_1
theorem dksX0_wordy_0 : cX0_wordy.data.toList.drop 0 = dktX0_wordy_0 := by decide +kernel
theorem dksX0_wordy_1 : cX0_wordy.data.toList.drop 22 = dktX0_wordy_1 := dk_seg dksX0_wordy_0 22 rfl rfl
theorem dX0_wordy_0 : decode cX0_wordy 0 = .ok (.iload_n 2, 1) := dk_28 (dk_at dksX0_wordy_0 0 rfl rfl)
theorem dX0_wordy_1 : decode cX0_wordy 1 = .ok (.iconst 1, 1) := dk_4 (dk_at dksX0_wordy_0 1 rfl rfl)
theorem dX0_wordy_2 : decode cX0_wordy 2 = .ok (.bipush 24, 2) := dk_16 24 (dk_at dksX0_wordy_0 2 rfl rfl)
theorem dX0_wordy_4 : decode cX0_wordy 4 = .ok (.invokestatic 130, 3) := dk_184 0 130 (dk_at dksX0_wordy_0 4 rfl rfl)
theorem dX0_wordy_7 : decode cX0_wordy 7 = .ok (.ifCond .eq 11, 3) := dk_153 0 11 (dk_at dksX0_wordy_0 7 rfl rfl)
theorem dX0_wordy_10 : decode cX0_wordy 10 = .ok (.aload_n 0, 1) := dk_42 (dk_at dksX0_wordy_0 10 rfl rfl)
theorem dX0_wordy_11 : decode cX0_wordy 11 = .ok (.iload_n 1, 1) := dk_27 (dk_at dksX0_wordy_0 11 rfl rfl)
theorem dX0_wordy_12 : decode cX0_wordy 12 = .ok (.invokevirtual 377, 3) := dk_182 1 121 (dk_at dksX0_wordy_0 12 rfl rfl)
theorem dX0_wordy_15 : decode cX0_wordy 15 = .ok (.ifCond .ne 5, 3) := dk_154 0 5 (dk_at dksX0_wordy_0 15 rfl rfl)
theorem dX0_wordy_18 : decode cX0_wordy 18 = .ok (.iconst (-1), 1) := dk_2 (dk_at dksX0_wordy_0 18 rfl rfl)
theorem dX0_wordy_19 : decode cX0_wordy 19 = .ok (.ireturn, 1) := dk_172 (dk_at dksX0_wordy_0 19 rfl rfl)
theorem dX0_wordy_20 : decode cX0_wordy 20 = .ok (.aload_n 0, 1) := dk_42 (dk_at dksX0_wordy_0 20 rfl rfl)
theorem dX0_wordy_21 : decode cX0_wordy 21 = .ok (.aload_n 0, 1) := dk_42 (dk_at dksX0_wordy_0 21 rfl rfl)
theorem dX0_wordy_22 : decode cX0_wordy 22 = .ok (.getfield 371, 3) := dk_180 1 115 (dk_at dksX0_wordy_1 0 rfl rfl)
theorem dX0_wordy_25 : decode cX0_wordy 25 = .ok (.iconst 0, 1) := dk_3 (dk_at dksX0_wordy_1 3 rfl rfl)
theorem dX0_wordy_26 : decode cX0_wordy 26 = .ok (.iload_n 2, 1) := dk_28 (dk_at dksX0_wordy_1 4 rfl rfl)
theorem dX0_wordy_27 : decode cX0_wordy 27 = .ok (.invokevirtual 357, 3) := dk_182 1 101 (dk_at dksX0_wordy_1 5 rfl rfl)
theorem dX0_wordy_30 : decode cX0_wordy 30 = .ok (.istore_n 3, 1) := dk_62 (dk_at dksX0_wordy_1 8 rfl rfl)
theorem dX0_wordy_31 : decode cX0_wordy 31 = .ok (.iload_n 3, 1) := dk_29 (dk_at dksX0_wordy_1 9 rfl rfl)
theorem dX0_wordy_32 : decode cX0_wordy 32 = .ok (.bipush 99, 2) := dk_16 99 (dk_at dksX0_wordy_1 10 rfl rfl)
theorem dX0_wordy_34 : decode cX0_wordy 34 = .ok (.if_icmp .le 7, 3) := dk_164 0 7 (dk_at dksX0_wordy_1 12 rfl rfl)
theorem dX0_wordy_37 : decode cX0_wordy 37 = .ok (.iconst (-1), 1) := dk_2 (dk_at dksX0_wordy_1 15 rfl rfl)
theorem dX0_wordy_38 : decode cX0_wordy 38 = .ok (.goto 4, 3) := dk_167 0 4 (dk_at dksX0_wordy_1 16 rfl rfl)
theorem dX0_wordy_41 : decode cX0_wordy 41 = .ok (.iload_n 3, 1) := dk_29 (dk_at dksX0_wordy_1 19 rfl rfl)
theorem dX0_wordy_42 : decode cX0_wordy 42 = .ok (.ireturn, 1) := dk_172 (dk_at dksX0_wordy_1 20 rfl rfl)
abbrev cX0_looksAt : ByteArray := prog_1_method_58_code
def yX0_looksAt : MethodName := ⟨RX0, "looksAt", "(I)Z"⟩
def dkwX0_looksAt_1 : List UInt8 := [42, 180, 1, 115, 182, 1, 118, 4, 172]
abbrev dktX0_looksAt_1 : List UInt8 := dkwX0_looksAt_1 ++ []
def dkwX0_looksAt_0 : List UInt8 := [42, 27, 182, 0, 239, 154, 0, 5, 3, 172, 42, 3, 181, 1, 5, 42, 42, 182, 1, 58, 181, 1, 115, 42]
abbrev dktX0_looksAt_0 : List UInt8 := dkwX0_looksAt_0 ++ dktX0_looksAt_1
theorem dksX0_looksAt_0 : cX0_looksAt.data.toList.drop 0 = dktX0_looksAt_0 := by decide +kernel
theorem dksX0_looksAt_1 : cX0_looksAt.data.toList.drop 24 = dktX0_looksAt_1 := dk_seg dksX0_looksAt_0 24 rfl rfl
theorem dX0_looksAt_0 : decode cX0_looksAt 0 = .ok (.aload_n 0, 1) := dk_42 (dk_at dksX0_looksAt_0 0 rfl rfl)
theorem dX0_looksAt_1 : decode cX0_looksAt 1 = .ok (.iload_n 1, 1) := dk_27 (dk_at dksX0_looksAt_0 1 rfl rfl)
theorem dX0_looksAt_2 : decode cX0_looksAt 2 = .ok (.invokevirtual 239, 3) := dk_182 0 239 (dk_at dksX0_looksAt_0 2 rfl rfl)
theorem dX0_looksAt_5 : decode cX0_looksAt 5 = .ok (.ifCond .ne 5, 3) := dk_154 0 5 (dk_at dksX0_looksAt_0 5 rfl rfl)
theorem dX0_looksAt_8 : decode cX0_looksAt 8 = .ok (.iconst 0, 1) := dk_3 (dk_at dksX0_looksAt_0 8 rfl rfl)
theorem dX0_looksAt_9 : decode cX0_looksAt 9 = .ok (.ireturn, 1) := dk_172 (dk_at dksX0_looksAt_0 9 rfl rfl)
theorem dX0_looksAt_10 : decode cX0_looksAt 10 = .ok (.aload_n 0, 1) := dk_42 (dk_at dksX0_looksAt_0 10 rfl rfl)
theorem dX0_looksAt_11 : decode cX0_looksAt 11 = .ok (.iconst 0, 1) := dk_3 (dk_at dksX0_looksAt_0 11 rfl rfl)
theorem dX0_looksAt_12 : decode cX0_looksAt 12 = .ok (.putfield 261, 3) := dk_181 1 5 (dk_at dksX0_looksAt_0 12 rfl rfl)
theorem dX0_looksAt_15 : decode cX0_looksAt 15 = .ok (.aload_n 0, 1) := dk_42 (dk_at dksX0_looksAt_0 15 rfl rfl)
theorem dX0_looksAt_16 : decode cX0_looksAt 16 = .ok (.aload_n 0, 1) := dk_42 (dk_at dksX0_looksAt_0 16 rfl rfl)
theorem dX0_looksAt_17 : decode cX0_looksAt 17 = .ok (.invokevirtual 314, 3) := dk_182 1 58 (dk_at dksX0_looksAt_0 17 rfl rfl)
theorem dX0_looksAt_20 : decode cX0_looksAt 20 = .ok (.putfield 371, 3) := dk_181 1 115 (dk_at dksX0_looksAt_0 20 rfl rfl)
theorem dX0_looksAt_23 : decode cX0_looksAt 23 = .ok (.aload_n 0, 1) := dk_42 (dk_at dksX0_looksAt_0 23 rfl rfl)
theorem dX0_looksAt_24 : decode cX0_looksAt 24 = .ok (.aload_n 0, 1) := dk_42 (dk_at dksX0_looksAt_1 0 rfl rfl)
theorem dX0_looksAt_25 : decode cX0_looksAt 25 = .ok (.getfield 371, 3) := dk_180 1 115 (dk_at dksX0_looksAt_1 1 rfl rfl)
theorem dX0_looksAt_28 : decode cX0_looksAt 28 = .ok (.invokevirtual 374, 3) := dk_182 1 118 (dk_at dksX0_looksAt_1 4 rfl rfl)
theorem dX0_looksAt_31 : decode cX0_looksAt 31 = .ok (.iconst 1, 1) := dk_4 (dk_at dksX0_looksAt_1 7 rfl rfl)
theorem dX0_looksAt_32 : decode cX0_looksAt 32 = .ok (.ireturn, 1) := dk_172 (dk_at dksX0_looksAt_1 8 rfl rfl)
abbrev cX0_findFewest : ByteArray := prog_1_method_57_code
def yX0_findFewest : MethodName := ⟨RX0, "findFewest", "(I)V"⟩
def dkwX0_findFewest_10 : List UInt8 := [167, 255, 186, 132, 4, 1, 167, 255, 156, 132, 3, 1, 167, 255, 20, 132, 2, 1, 167, 255, 7, 177]
abbrev dktX0_findFewest_10 : List UInt8 := dkwX0_findFewest_10 ++ []
def dkwX0_findFewest_9 : List UInt8 := [42, 28, 25, 8, 4, 3, 182, 0, 175, 29, 182, 1, 101, 4, 96, 184, 0, 249, 79, 132, 7, 1]
abbrev dktX0_findFewest_9 : List UInt8 := dkwX0_findFewest_9 ++ dktX0_findFewest_10
def dkwX0_findFewest_8 : List UInt8 := [180, 0, 113, 28, 25, 8, 180, 0, 196, 29, 184, 1, 93, 42, 28, 25, 8, 180, 0, 196, 29, 182, 1, 101]
abbrev dktX0_findFewest_8 : List UInt8 := dkwX0_findFewest_8 ++ dktX0_findFewest_9
def dkwX0_findFewest_7 : List UInt8 := [21, 7, 21, 6, 162, 0, 69, 25, 5, 21, 7, 50, 58, 8, 25, 8, 182, 0, 178, 2, 160, 0, 47, 42]
abbrev dktX0_findFewest_7 : List UInt8 := dkwX0_findFewest_7 ++ dktX0_findFewest_8
def dkwX0_findFewest_6 : List UInt8 := [21, 4, 16, 8, 162, 0, 99, 42, 182, 0, 186, 180, 0, 189, 58, 5, 25, 5, 190, 54, 6, 3, 54, 7]
abbrev dktX0_findFewest_6 : List UInt8 := dkwX0_findFewest_6 ++ dktX0_findFewest_7
def dkwX0_findFewest_5 : List UInt8 := [42, 28, 25, 7, 21, 8, 29, 182, 1, 112, 184, 0, 249, 79, 132, 6, 1, 167, 255, 186, 3, 54, 4]
abbrev dktX0_findFewest_5 : List UInt8 := dkwX0_findFewest_5 ++ dktX0_findFewest_6
def dkwX0_findFewest_4 : List UInt8 := [180, 0, 113, 28, 25, 7, 180, 0, 196, 29, 184, 1, 93, 42, 28, 25, 7, 180, 0, 196, 29, 182, 1, 101]
abbrev dktX0_findFewest_4 : List UInt8 := dkwX0_findFewest_4 ++ dktX0_findFewest_5
def dkwX0_findFewest_3 : List UInt8 := [25, 4, 21, 6, 50, 58, 7, 42, 25, 7, 28, 182, 1, 108, 54, 8, 21, 8, 158, 0, 42, 42]
abbrev dktX0_findFewest_3 : List UInt8 := dkwX0_findFewest_3 ++ dktX0_findFewest_4
def dkwX0_findFewest_2 : List UInt8 := [42, 182, 0, 186, 180, 0, 189, 58, 4, 25, 4, 190, 54, 5, 3, 54, 6, 21, 6, 21, 5, 162, 0, 69]
abbrev dktX0_findFewest_2 : List UInt8 := dkwX0_findFewest_2 ++ dktX0_findFewest_3
def dkwX0_findFewest_1 : List UInt8 := [162, 0, 24, 42, 180, 0, 113, 28, 21, 4, 29, 184, 1, 93, 17, 3, 232, 79, 132, 4, 1, 167, 255, 231]
abbrev dktX0_findFewest_1 : List UInt8 := dkwX0_findFewest_1 ++ dktX0_findFewest_2
def dkwX0_findFewest_0 : List UInt8 := [3, 61, 28, 27, 163, 0, 250, 4, 62, 29, 16, 24, 163, 0, 236, 3, 54, 4, 21, 4, 16, 8]
abbrev dktX0_findFewest_0 : List UInt8 := dkwX0_findFewest_0 ++ dktX0_findFewest_1
theorem dksX0_findFewest_0 : cX0_findFewest.data.toList.drop 0 = dktX0_findFewest_0 := by decide +kernel
theorem dksX0_findFewest_1 : cX0_findFewest.data.toList.drop 22 = dktX0_findFewest_1 := dk_seg dksX0_findFewest_0 22 rfl rfl
theorem dksX0_findFewest_2 : cX0_findFewest.data.toList.drop 46 = dktX0_findFewest_2 := dk_seg dksX0_findFewest_1 24 rfl rfl
theorem dksX0_findFewest_3 : cX0_findFewest.data.toList.drop 70 = dktX0_findFewest_3 := dk_seg dksX0_findFewest_2 24 rfl rfl
theorem dksX0_findFewest_4 : cX0_findFewest.data.toList.drop 92 = dktX0_findFewest_4 := dk_seg dksX0_findFewest_3 22 rfl rfl
theorem dksX0_findFewest_5 : cX0_findFewest.data.toList.drop 116 = dktX0_findFewest_5 := dk_seg dksX0_findFewest_4 24 rfl rfl
theorem dksX0_findFewest_6 : cX0_findFewest.data.toList.drop 139 = dktX0_findFewest_6 := dk_seg dksX0_findFewest_5 23 rfl rfl
theorem dksX0_findFewest_7 : cX0_findFewest.data.toList.drop 163 = dktX0_findFewest_7 := dk_seg dksX0_findFewest_6 24 rfl rfl
theorem dksX0_findFewest_8 : cX0_findFewest.data.toList.drop 187 = dktX0_findFewest_8 := dk_seg dksX0_findFewest_7 24 rfl rfl
theorem dksX0_findFewest_9 : cX0_findFewest.data.toList.drop 211 = dktX0_findFewest_9 := dk_seg dksX0_findFewest_8 24 rfl rfl
theorem dksX0_findFewest_10 : cX0_findFewest.data.toList.drop 233 = dktX0_findFewest_10 := dk_seg dksX0_findFewest_9 22 rfl rfl
theorem dX0_findFewest_0 : decode cX0_findFewest 0 = .ok (.iconst 0, 1) := dk_3 (dk_at dksX0_findFewest_0 0 rfl rfl)
theorem dX0_findFewest_1 : decode cX0_findFewest 1 = .ok (.istore_n 2, 1) := dk_61 (dk_at dksX0_findFewest_0 1 rfl rfl)
theorem dX0_findFewest_2 : decode cX0_findFewest 2 = .ok (.iload_n 2, 1) := dk_28 (dk_at dksX0_findFewest_0 2 rfl rfl)
theorem dX0_findFewest_3 : decode cX0_findFewest 3 = .ok (.iload_n 1, 1) := dk_27 (dk_at dksX0_findFewest_0 3 rfl rfl)
theorem dX0_findFewest_4 : decode cX0_findFewest 4 = .ok (.if_icmp .gt 250, 3) := dk_163 0 250 (dk_at dksX0_findFewest_0 4 rfl rfl)
theorem dX0_findFewest_7 : decode cX0_findFewest 7 = .ok (.iconst 1, 1) := dk_4 (dk_at dksX0_findFewest_0 7 rfl rfl)
theorem dX0_findFewest_8 : decode cX0_findFewest 8 = .ok (.istore_n 3, 1) := dk_62 (dk_at dksX0_findFewest_0 8 rfl rfl)
theorem dX0_findFewest_9 : decode cX0_findFewest 9 = .ok (.iload_n 3, 1) := dk_29 (dk_at dksX0_findFewest_0 9 rfl rfl)
theorem dX0_findFewest_10 : decode cX0_findFewest 10 = .ok (.bipush 24, 2) := dk_16 24 (dk_at dksX0_findFewest_0 10 rfl rfl)
theorem dX0_findFewest_12 : decode cX0_findFewest 12 = .ok (.if_icmp .gt 236, 3) := dk_163 0 236 (dk_at dksX0_findFewest_0 12 rfl rfl)
theorem dX0_findFewest_15 : decode cX0_findFewest 15 = .ok (.iconst 0, 1) := dk_3 (dk_at dksX0_findFewest_0 15 rfl rfl)
theorem dX0_findFewest_16 : decode cX0_findFewest 16 = .ok (.istore 4, 2) := dk_54 4 (dk_at dksX0_findFewest_0 16 rfl rfl)
theorem dX0_findFewest_18 : decode cX0_findFewest 18 = .ok (.iload 4, 2) := dk_21 4 (dk_at dksX0_findFewest_0 18 rfl rfl)
theorem dX0_findFewest_20 : decode cX0_findFewest 20 = .ok (.bipush 8, 2) := dk_16 8 (dk_at dksX0_findFewest_0 20 rfl rfl)
theorem dX0_findFewest_22 : decode cX0_findFewest 22 = .ok (.if_icmp .ge 24, 3) := dk_162 0 24 (dk_at dksX0_findFewest_1 0 rfl rfl)
theorem dX0_findFewest_25 : decode cX0_findFewest 25 = .ok (.aload_n 0, 1) := dk_42 (dk_at dksX0_findFewest_1 3 rfl rfl)
theorem dX0_findFewest_26 : decode cX0_findFewest 26 = .ok (.getfield 113, 3) := dk_180 0 113 (dk_at dksX0_findFewest_1 4 rfl rfl)
theorem dX0_findFewest_29 : decode cX0_findFewest 29 = .ok (.iload_n 2, 1) := dk_28 (dk_at dksX0_findFewest_1 7 rfl rfl)
theorem dX0_findFewest_30 : decode cX0_findFewest 30 = .ok (.iload 4, 2) := dk_21 4 (dk_at dksX0_findFewest_1 8 rfl rfl)
theorem dX0_findFewest_32 : decode cX0_findFewest 32 = .ok (.iload_n 3, 1) := dk_29 (dk_at dksX0_findFewest_1 10 rfl rfl)
theorem dX0_findFewest_33 : decode cX0_findFewest 33 = .ok (.invokestatic 349, 3) := dk_184 1 93 (dk_at dksX0_findFewest_1 11 rfl rfl)
theorem dX0_findFewest_36 : decode cX0_findFewest 36 = .ok (.sipush 1000, 3) := dk_17 3 232 (dk_at dksX0_findFewest_1 14 rfl rfl)
theorem dX0_findFewest_39 : decode cX0_findFewest 39 = .ok (.iastore, 1) := dk_79 (dk_at dksX0_findFewest_1 17 rfl rfl)
theorem dX0_findFewest_40 : decode cX0_findFewest 40 = .ok (.iinc 4 1, 3) := dk_132 4 1 (dk_at dksX0_findFewest_1 18 rfl rfl)
theorem dX0_findFewest_43 : decode cX0_findFewest 43 = .ok (.goto (-25), 3) := dk_167 255 231 (dk_at dksX0_findFewest_1 21 rfl rfl)
theorem dX0_findFewest_46 : decode cX0_findFewest 46 = .ok (.aload_n 0, 1) := dk_42 (dk_at dksX0_findFewest_2 0 rfl rfl)
theorem dX0_findFewest_47 : decode cX0_findFewest 47 = .ok (.invokevirtual 186, 3) := dk_182 0 186 (dk_at dksX0_findFewest_2 1 rfl rfl)
theorem dX0_findFewest_50 : decode cX0_findFewest 50 = .ok (.getfield 189, 3) := dk_180 0 189 (dk_at dksX0_findFewest_2 4 rfl rfl)
theorem dX0_findFewest_53 : decode cX0_findFewest 53 = .ok (.astore 4, 2) := dk_58 4 (dk_at dksX0_findFewest_2 7 rfl rfl)
theorem dX0_findFewest_55 : decode cX0_findFewest 55 = .ok (.aload 4, 2) := dk_25 4 (dk_at dksX0_findFewest_2 9 rfl rfl)
theorem dX0_findFewest_57 : decode cX0_findFewest 57 = .ok (.arraylength, 1) := dk_190 (dk_at dksX0_findFewest_2 11 rfl rfl)
theorem dX0_findFewest_58 : decode cX0_findFewest 58 = .ok (.istore 5, 2) := dk_54 5 (dk_at dksX0_findFewest_2 12 rfl rfl)
theorem dX0_findFewest_60 : decode cX0_findFewest 60 = .ok (.iconst 0, 1) := dk_3 (dk_at dksX0_findFewest_2 14 rfl rfl)
theorem dX0_findFewest_61 : decode cX0_findFewest 61 = .ok (.istore 6, 2) := dk_54 6 (dk_at dksX0_findFewest_2 15 rfl rfl)
theorem dX0_findFewest_63 : decode cX0_findFewest 63 = .ok (.iload 6, 2) := dk_21 6 (dk_at dksX0_findFewest_2 17 rfl rfl)
theorem dX0_findFewest_65 : decode cX0_findFewest 65 = .ok (.iload 5, 2) := dk_21 5 (dk_at dksX0_findFewest_2 19 rfl rfl)
theorem dX0_findFewest_67 : decode cX0_findFewest 67 = .ok (.if_icmp .ge 69, 3) := dk_162 0 69 (dk_at dksX0_findFewest_2 21 rfl rfl)
theorem dX0_findFewest_70 : decode cX0_findFewest 70 = .ok (.aload 4, 2) := dk_25 4 (dk_at dksX0_findFewest_3 0 rfl rfl)
theorem dX0_findFewest_72 : decode cX0_findFewest 72 = .ok (.iload 6, 2) := dk_21 6 (dk_at dksX0_findFewest_3 2 rfl rfl)
theorem dX0_findFewest_74 : decode cX0_findFewest 74 = .ok (.aaload, 1) := dk_50 (dk_at dksX0_findFewest_3 4 rfl rfl)
theorem dX0_findFewest_75 : decode cX0_findFewest 75 = .ok (.astore 7, 2) := dk_58 7 (dk_at dksX0_findFewest_3 5 rfl rfl)
theorem dX0_findFewest_77 : decode cX0_findFewest 77 = .ok (.aload_n 0, 1) := dk_42 (dk_at dksX0_findFewest_3 7 rfl rfl)
theorem dX0_findFewest_78 : decode cX0_findFewest 78 = .ok (.aload 7, 2) := dk_25 7 (dk_at dksX0_findFewest_3 8 rfl rfl)
theorem dX0_findFewest_80 : decode cX0_findFewest 80 = .ok (.iload_n 2, 1) := dk_28 (dk_at dksX0_findFewest_3 10 rfl rfl)
theorem dX0_findFewest_81 : decode cX0_findFewest 81 = .ok (.invokevirtual 364, 3) := dk_182 1 108 (dk_at dksX0_findFewest_3 11 rfl rfl)
theorem dX0_findFewest_84 : decode cX0_findFewest 84 = .ok (.istore 8, 2) := dk_54 8 (dk_at dksX0_findFewest_3 14 rfl rfl)
theorem dX0_findFewest_86 : decode cX0_findFewest 86 = .ok (.iload 8, 2) := dk_21 8 (dk_at dksX0_findFewest_3 16 rfl rfl)
theorem dX0_findFewest_88 : decode cX0_findFewest 88 = .ok (.ifCond .le 42, 3) := dk_158 0 42 (dk_at dksX0_findFewest_3 18 rfl rfl)
theorem dX0_findFewest_91 : decode cX0_findFewest 91 = .ok (.aload_n 0, 1) := dk_42 (dk_at dksX0_findFewest_3 21 rfl rfl)
theorem dX0_findFewest_92 : decode cX0_findFewest 92 = .ok (.getfield 113, 3) := dk_180 0 113 (dk_at dksX0_findFewest_4 0 rfl rfl)
theorem dX0_findFewest_95 : decode cX0_findFewest 95 = .ok (.iload_n 2, 1) := dk_28 (dk_at dksX0_findFewest_4 3 rfl rfl)
theorem dX0_findFewest_96 : decode cX0_findFewest 96 = .ok (.aload 7, 2) := dk_25 7 (dk_at dksX0_findFewest_4 4 rfl rfl)
theorem dX0_findFewest_98 : decode cX0_findFewest 98 = .ok (.getfield 196, 3) := dk_180 0 196 (dk_at dksX0_findFewest_4 6 rfl rfl)
theorem dX0_findFewest_101 : decode cX0_findFewest 101 = .ok (.iload_n 3, 1) := dk_29 (dk_at dksX0_findFewest_4 9 rfl rfl)
theorem dX0_findFewest_102 : decode cX0_findFewest 102 = .ok (.invokestatic 349, 3) := dk_184 1 93 (dk_at dksX0_findFewest_4 10 rfl rfl)
theorem dX0_findFewest_105 : decode cX0_findFewest 105 = .ok (.aload_n 0, 1) := dk_42 (dk_at dksX0_findFewest_4 13 rfl rfl)
theorem dX0_findFewest_106 : decode cX0_findFewest 106 = .ok (.iload_n 2, 1) := dk_28 (dk_at dksX0_findFewest_4 14 rfl rfl)
theorem dX0_findFewest_107 : decode cX0_findFewest 107 = .ok (.aload 7, 2) := dk_25 7 (dk_at dksX0_findFewest_4 15 rfl rfl)
theorem dX0_findFewest_109 : decode cX0_findFewest 109 = .ok (.getfield 196, 3) := dk_180 0 196 (dk_at dksX0_findFewest_4 17 rfl rfl)
theorem dX0_findFewest_112 : decode cX0_findFewest 112 = .ok (.iload_n 3, 1) := dk_29 (dk_at dksX0_findFewest_4 20 rfl rfl)
theorem dX0_findFewest_113 : decode cX0_findFewest 113 = .ok (.invokevirtual 357, 3) := dk_182 1 101 (dk_at dksX0_findFewest_4 21 rfl rfl)
theorem dX0_findFewest_116 : decode cX0_findFewest 116 = .ok (.aload_n 0, 1) := dk_42 (dk_at dksX0_findFewest_5 0 rfl rfl)
theorem dX0_findFewest_117 : decode cX0_findFewest 117 = .ok (.iload_n 2, 1) := dk_28 (dk_at dksX0_findFewest_5 1 rfl rfl)
theorem dX0_findFewest_118 : decode cX0_findFewest 118 = .ok (.aload 7, 2) := dk_25 7 (dk_at dksX0_findFewest_5 2 rfl rfl)
theorem dX0_findFewest_120 : decode cX0_findFewest 120 = .ok (.iload 8, 2) := dk_21 8 (dk_at dksX0_findFewest_5 4 rfl rfl)
theorem dX0_findFewest_122 : decode cX0_findFewest 122 = .ok (.iload_n 3, 1) := dk_29 (dk_at dksX0_findFewest_5 6 rfl rfl)
theorem dX0_findFewest_123 : decode cX0_findFewest 123 = .ok (.invokevirtual 368, 3) := dk_182 1 112 (dk_at dksX0_findFewest_5 7 rfl rfl)
theorem dX0_findFewest_126 : decode cX0_findFewest 126 = .ok (.invokestatic 249, 3) := dk_184 0 249 (dk_at dksX0_findFewest_5 10 rfl rfl)
theorem dX0_findFewest_129 : decode cX0_findFewest 129 = .ok (.iastore, 1) := dk_79 (dk_at dksX0_findFewest_5 13 rfl rfl)
theorem dX0_findFewest_130 : decode cX0_findFewest 130 = .ok (.iinc 6 1, 3) := dk_132 6 1 (dk_at dksX0_findFewest_5 14 rfl rfl)
theorem dX0_findFewest_133 : decode cX0_findFewest 133 = .ok (.goto (-70), 3) := dk_167 255 186 (dk_at dksX0_findFewest_5 17 rfl rfl)
theorem dX0_findFewest_136 : decode cX0_findFewest 136 = .ok (.iconst 0, 1) := dk_3 (dk_at dksX0_findFewest_5 20 rfl rfl)
theorem dX0_findFewest_137 : decode cX0_findFewest 137 = .ok (.istore 4, 2) := dk_54 4 (dk_at dksX0_findFewest_5 21 rfl rfl)
theorem dX0_findFewest_139 : decode cX0_findFewest 139 = .ok (.iload 4, 2) := dk_21 4 (dk_at dksX0_findFewest_6 0 rfl rfl)
theorem dX0_findFewest_141 : decode cX0_findFewest 141 = .ok (.bipush 8, 2) := dk_16 8 (dk_at dksX0_findFewest_6 2 rfl rfl)
theorem dX0_findFewest_143 : decode cX0_findFewest 143 = .ok (.if_icmp .ge 99, 3) := dk_162 0 99 (dk_at dksX0_findFewest_6 4 rfl rfl)
theorem dX0_findFewest_146 : decode cX0_findFewest 146 = .ok (.aload_n 0, 1) := dk_42 (dk_at dksX0_findFewest_6 7 rfl rfl)
theorem dX0_findFewest_147 : decode cX0_findFewest 147 = .ok (.invokevirtual 186, 3) := dk_182 0 186 (dk_at dksX0_findFewest_6 8 rfl rfl)
theorem dX0_findFewest_150 : decode cX0_findFewest 150 = .ok (.getfield 189, 3) := dk_180 0 189 (dk_at dksX0_findFewest_6 11 rfl rfl)
theorem dX0_findFewest_153 : decode cX0_findFewest 153 = .ok (.astore 5, 2) := dk_58 5 (dk_at dksX0_findFewest_6 14 rfl rfl)
theorem dX0_findFewest_155 : decode cX0_findFewest 155 = .ok (.aload 5, 2) := dk_25 5 (dk_at dksX0_findFewest_6 16 rfl rfl)
theorem dX0_findFewest_157 : decode cX0_findFewest 157 = .ok (.arraylength, 1) := dk_190 (dk_at dksX0_findFewest_6 18 rfl rfl)
theorem dX0_findFewest_158 : decode cX0_findFewest 158 = .ok (.istore 6, 2) := dk_54 6 (dk_at dksX0_findFewest_6 19 rfl rfl)
theorem dX0_findFewest_160 : decode cX0_findFewest 160 = .ok (.iconst 0, 1) := dk_3 (dk_at dksX0_findFewest_6 21 rfl rfl)
theorem dX0_findFewest_161 : decode cX0_findFewest 161 = .ok (.istore 7, 2) := dk_54 7 (dk_at dksX0_findFewest_6 22 rfl rfl)
theorem dX0_findFewest_163 : decode cX0_findFewest 163 = .ok (.iload 7, 2) := dk_21 7 (dk_at dksX0_findFewest_7 0 rfl rfl)
theorem dX0_findFewest_165 : decode cX0_findFewest 165 = .ok (.iload 6, 2) := dk_21 6 (dk_at dksX0_findFewest_7 2 rfl rfl)
theorem dX0_findFewest_167 : decode cX0_findFewest 167 = .ok (.if_icmp .ge 69, 3) := dk_162 0 69 (dk_at dksX0_findFewest_7 4 rfl rfl)
theorem dX0_findFewest_170 : decode cX0_findFewest 170 = .ok (.aload 5, 2) := dk_25 5 (dk_at dksX0_findFewest_7 7 rfl rfl)
theorem dX0_findFewest_172 : decode cX0_findFewest 172 = .ok (.iload 7, 2) := dk_21 7 (dk_at dksX0_findFewest_7 9 rfl rfl)
theorem dX0_findFewest_174 : decode cX0_findFewest 174 = .ok (.aaload, 1) := dk_50 (dk_at dksX0_findFewest_7 11 rfl rfl)
theorem dX0_findFewest_175 : decode cX0_findFewest 175 = .ok (.astore 8, 2) := dk_58 8 (dk_at dksX0_findFewest_7 12 rfl rfl)
theorem dX0_findFewest_177 : decode cX0_findFewest 177 = .ok (.aload 8, 2) := dk_25 8 (dk_at dksX0_findFewest_7 14 rfl rfl)
theorem dX0_findFewest_179 : decode cX0_findFewest 179 = .ok (.invokevirtual 178, 3) := dk_182 0 178 (dk_at dksX0_findFewest_7 16 rfl rfl)
theorem dX0_findFewest_182 : decode cX0_findFewest 182 = .ok (.iconst (-1), 1) := dk_2 (dk_at dksX0_findFewest_7 19 rfl rfl)
theorem dX0_findFewest_183 : decode cX0_findFewest 183 = .ok (.if_icmp .ne 47, 3) := dk_160 0 47 (dk_at dksX0_findFewest_7 20 rfl rfl)
theorem dX0_findFewest_186 : decode cX0_findFewest 186 = .ok (.aload_n 0, 1) := dk_42 (dk_at dksX0_findFewest_7 23 rfl rfl)
theorem dX0_findFewest_187 : decode cX0_findFewest 187 = .ok (.getfield 113, 3) := dk_180 0 113 (dk_at dksX0_findFewest_8 0 rfl rfl)
theorem dX0_findFewest_190 : decode cX0_findFewest 190 = .ok (.iload_n 2, 1) := dk_28 (dk_at dksX0_findFewest_8 3 rfl rfl)
theorem dX0_findFewest_191 : decode cX0_findFewest 191 = .ok (.aload 8, 2) := dk_25 8 (dk_at dksX0_findFewest_8 4 rfl rfl)
theorem dX0_findFewest_193 : decode cX0_findFewest 193 = .ok (.getfield 196, 3) := dk_180 0 196 (dk_at dksX0_findFewest_8 6 rfl rfl)
theorem dX0_findFewest_196 : decode cX0_findFewest 196 = .ok (.iload_n 3, 1) := dk_29 (dk_at dksX0_findFewest_8 9 rfl rfl)
theorem dX0_findFewest_197 : decode cX0_findFewest 197 = .ok (.invokestatic 349, 3) := dk_184 1 93 (dk_at dksX0_findFewest_8 10 rfl rfl)
theorem dX0_findFewest_200 : decode cX0_findFewest 200 = .ok (.aload_n 0, 1) := dk_42 (dk_at dksX0_findFewest_8 13 rfl rfl)
theorem dX0_findFewest_201 : decode cX0_findFewest 201 = .ok (.iload_n 2, 1) := dk_28 (dk_at dksX0_findFewest_8 14 rfl rfl)
theorem dX0_findFewest_202 : decode cX0_findFewest 202 = .ok (.aload 8, 2) := dk_25 8 (dk_at dksX0_findFewest_8 15 rfl rfl)
theorem dX0_findFewest_204 : decode cX0_findFewest 204 = .ok (.getfield 196, 3) := dk_180 0 196 (dk_at dksX0_findFewest_8 17 rfl rfl)
theorem dX0_findFewest_207 : decode cX0_findFewest 207 = .ok (.iload_n 3, 1) := dk_29 (dk_at dksX0_findFewest_8 20 rfl rfl)
theorem dX0_findFewest_208 : decode cX0_findFewest 208 = .ok (.invokevirtual 357, 3) := dk_182 1 101 (dk_at dksX0_findFewest_8 21 rfl rfl)
theorem dX0_findFewest_211 : decode cX0_findFewest 211 = .ok (.aload_n 0, 1) := dk_42 (dk_at dksX0_findFewest_9 0 rfl rfl)
theorem dX0_findFewest_212 : decode cX0_findFewest 212 = .ok (.iload_n 2, 1) := dk_28 (dk_at dksX0_findFewest_9 1 rfl rfl)
theorem dX0_findFewest_213 : decode cX0_findFewest 213 = .ok (.aload 8, 2) := dk_25 8 (dk_at dksX0_findFewest_9 2 rfl rfl)
theorem dX0_findFewest_215 : decode cX0_findFewest 215 = .ok (.iconst 1, 1) := dk_4 (dk_at dksX0_findFewest_9 4 rfl rfl)
theorem dX0_findFewest_216 : decode cX0_findFewest 216 = .ok (.iconst 0, 1) := dk_3 (dk_at dksX0_findFewest_9 5 rfl rfl)
theorem dX0_findFewest_217 : decode cX0_findFewest 217 = .ok (.invokevirtual 175, 3) := dk_182 0 175 (dk_at dksX0_findFewest_9 6 rfl rfl)
theorem dX0_findFewest_220 : decode cX0_findFewest 220 = .ok (.iload_n 3, 1) := dk_29 (dk_at dksX0_findFewest_9 9 rfl rfl)
theorem dX0_findFewest_221 : decode cX0_findFewest 221 = .ok (.invokevirtual 357, 3) := dk_182 1 101 (dk_at dksX0_findFewest_9 10 rfl rfl)
theorem dX0_findFewest_224 : decode cX0_findFewest 224 = .ok (.iconst 1, 1) := dk_4 (dk_at dksX0_findFewest_9 13 rfl rfl)
theorem dX0_findFewest_225 : decode cX0_findFewest 225 = .ok (.iadd, 1) := dk_96 (dk_at dksX0_findFewest_9 14 rfl rfl)
theorem dX0_findFewest_226 : decode cX0_findFewest 226 = .ok (.invokestatic 249, 3) := dk_184 0 249 (dk_at dksX0_findFewest_9 15 rfl rfl)
theorem dX0_findFewest_229 : decode cX0_findFewest 229 = .ok (.iastore, 1) := dk_79 (dk_at dksX0_findFewest_9 18 rfl rfl)
theorem dX0_findFewest_230 : decode cX0_findFewest 230 = .ok (.iinc 7 1, 3) := dk_132 7 1 (dk_at dksX0_findFewest_9 19 rfl rfl)
theorem dX0_findFewest_233 : decode cX0_findFewest 233 = .ok (.goto (-70), 3) := dk_167 255 186 (dk_at dksX0_findFewest_10 0 rfl rfl)
theorem dX0_findFewest_236 : decode cX0_findFewest 236 = .ok (.iinc 4 1, 3) := dk_132 4 1 (dk_at dksX0_findFewest_10 3 rfl rfl)
theorem dX0_findFewest_239 : decode cX0_findFewest 239 = .ok (.goto (-100), 3) := dk_167 255 156 (dk_at dksX0_findFewest_10 6 rfl rfl)
theorem dX0_findFewest_242 : decode cX0_findFewest 242 = .ok (.iinc 3 1, 3) := dk_132 3 1 (dk_at dksX0_findFewest_10 9 rfl rfl)
theorem dX0_findFewest_245 : decode cX0_findFewest 245 = .ok (.goto (-236), 3) := dk_167 255 20 (dk_at dksX0_findFewest_10 12 rfl rfl)
theorem dX0_findFewest_248 : decode cX0_findFewest 248 = .ok (.iinc 2 1, 3) := dk_132 2 1 (dk_at dksX0_findFewest_10 15 rfl rfl)
theorem dX0_findFewest_251 : decode cX0_findFewest 251 = .ok (.goto (-249), 3) := dk_167 255 7 (dk_at dksX0_findFewest_10 18 rfl rfl)
theorem dX0_findFewest_254 : decode cX0_findFewest 254 = .ok (.return_, 1) := dk_177 (dk_at dksX0_findFewest_10 21 rfl rfl)
abbrev cX0_fewestAt : ByteArray := prog_1_method_52_code
def yX0_fewestAt : MethodName := ⟨RX0, "fewestAt", "(III)I"⟩
def dkwX0_fewestAt_0 : List UInt8 := [16, 25, 16, 8, 26, 104, 27, 96, 104, 28, 96, 172]
abbrev dktX0_fewestAt_0 : List UInt8 := dkwX0_fewestAt_0 ++ []
theorem dksX0_fewestAt_0 : cX0_fewestAt.data.toList.drop 0 = dktX0_fewestAt_0 := by decide +kernel
theorem dX0_fewestAt_0 : decode cX0_fewestAt 0 = .ok (.bipush 25, 2) := dk_16 25 (dk_at dksX0_fewestAt_0 0 rfl rfl)
theorem dX0_fewestAt_2 : decode cX0_fewestAt 2 = .ok (.bipush 8, 2) := dk_16 8 (dk_at dksX0_fewestAt_0 2 rfl rfl)
theorem dX0_fewestAt_4 : decode cX0_fewestAt 4 = .ok (.iload_n 0, 1) := dk_26 (dk_at dksX0_fewestAt_0 4 rfl rfl)
theorem dX0_fewestAt_5 : decode cX0_fewestAt 5 = .ok (.imul, 1) := dk_104 (dk_at dksX0_fewestAt_0 5 rfl rfl)
theorem dX0_fewestAt_6 : decode cX0_fewestAt 6 = .ok (.iload_n 1, 1) := dk_27 (dk_at dksX0_fewestAt_0 6 rfl rfl)
theorem dX0_fewestAt_7 : decode cX0_fewestAt 7 = .ok (.iadd, 1) := dk_96 (dk_at dksX0_fewestAt_0 7 rfl rfl)
theorem dX0_fewestAt_8 : decode cX0_fewestAt 8 = .ok (.imul, 1) := dk_104 (dk_at dksX0_fewestAt_0 8 rfl rfl)
theorem dX0_fewestAt_9 : decode cX0_fewestAt 9 = .ok (.iload_n 2, 1) := dk_28 (dk_at dksX0_fewestAt_0 9 rfl rfl)
theorem dX0_fewestAt_10 : decode cX0_fewestAt 10 = .ok (.iadd, 1) := dk_96 (dk_at dksX0_fewestAt_0 10 rfl rfl)
theorem dX0_fewestAt_11 : decode cX0_fewestAt 11 = .ok (.ireturn, 1) := dk_172 (dk_at dksX0_fewestAt_0 11 rfl rfl)
abbrev cX0_meantBy : ByteArray := prog_1_method_55_code
def yX0_meantBy : MethodName := ⟨RX0, "meantBy", "(LHeldTongue$Sense;I)I"⟩
def dkwX0_meantBy_3 : List UInt8 := [167, 0, 4, 4, 172]
abbrev dktX0_meantBy_3 : List UInt8 := dkwX0_meantBy_3 ++ []
def dkwX0_meantBy_2 : List UInt8 := [182, 0, 178, 5, 160, 0, 7, 29, 167, 0, 18, 43, 182, 0, 178, 6, 160, 0, 9, 29, 5, 108]
abbrev dktX0_meantBy_2 : List UInt8 := dkwX0_meantBy_2 ++ dktX0_meantBy_3
def dkwX0_meantBy_1 : List UInt8 := [159, 0, 5, 3, 172, 42, 180, 0, 92, 28, 4, 96, 46, 42, 180, 0, 92, 28, 46, 100, 62, 43]
abbrev dktX0_meantBy_1 : List UInt8 := dkwX0_meantBy_1 ++ dktX0_meantBy_2
def dkwX0_meantBy_0 : List UInt8 := [43, 182, 0, 178, 42, 180, 0, 86, 28, 46, 160, 0, 16, 43, 180, 1, 15, 42, 180, 0, 89, 28, 46]
abbrev dktX0_meantBy_0 : List UInt8 := dkwX0_meantBy_0 ++ dktX0_meantBy_1
theorem dksX0_meantBy_0 : cX0_meantBy.data.toList.drop 0 = dktX0_meantBy_0 := by decide +kernel
theorem dksX0_meantBy_1 : cX0_meantBy.data.toList.drop 23 = dktX0_meantBy_1 := dk_seg dksX0_meantBy_0 23 rfl rfl
theorem dksX0_meantBy_2 : cX0_meantBy.data.toList.drop 45 = dktX0_meantBy_2 := dk_seg dksX0_meantBy_1 22 rfl rfl
theorem dksX0_meantBy_3 : cX0_meantBy.data.toList.drop 67 = dktX0_meantBy_3 := dk_seg dksX0_meantBy_2 22 rfl rfl
theorem dX0_meantBy_0 : decode cX0_meantBy 0 = .ok (.aload_n 1, 1) := dk_43 (dk_at dksX0_meantBy_0 0 rfl rfl)
theorem dX0_meantBy_1 : decode cX0_meantBy 1 = .ok (.invokevirtual 178, 3) := dk_182 0 178 (dk_at dksX0_meantBy_0 1 rfl rfl)
theorem dX0_meantBy_4 : decode cX0_meantBy 4 = .ok (.aload_n 0, 1) := dk_42 (dk_at dksX0_meantBy_0 4 rfl rfl)
theorem dX0_meantBy_5 : decode cX0_meantBy 5 = .ok (.getfield 86, 3) := dk_180 0 86 (dk_at dksX0_meantBy_0 5 rfl rfl)
theorem dX0_meantBy_8 : decode cX0_meantBy 8 = .ok (.iload_n 2, 1) := dk_28 (dk_at dksX0_meantBy_0 8 rfl rfl)
theorem dX0_meantBy_9 : decode cX0_meantBy 9 = .ok (.iaload, 1) := dk_46 (dk_at dksX0_meantBy_0 9 rfl rfl)
theorem dX0_meantBy_10 : decode cX0_meantBy 10 = .ok (.if_icmp .ne 16, 3) := dk_160 0 16 (dk_at dksX0_meantBy_0 10 rfl rfl)
theorem dX0_meantBy_13 : decode cX0_meantBy 13 = .ok (.aload_n 1, 1) := dk_43 (dk_at dksX0_meantBy_0 13 rfl rfl)
theorem dX0_meantBy_14 : decode cX0_meantBy 14 = .ok (.getfield 271, 3) := dk_180 1 15 (dk_at dksX0_meantBy_0 14 rfl rfl)
theorem dX0_meantBy_17 : decode cX0_meantBy 17 = .ok (.aload_n 0, 1) := dk_42 (dk_at dksX0_meantBy_0 17 rfl rfl)
theorem dX0_meantBy_18 : decode cX0_meantBy 18 = .ok (.getfield 89, 3) := dk_180 0 89 (dk_at dksX0_meantBy_0 18 rfl rfl)
theorem dX0_meantBy_21 : decode cX0_meantBy 21 = .ok (.iload_n 2, 1) := dk_28 (dk_at dksX0_meantBy_0 21 rfl rfl)
theorem dX0_meantBy_22 : decode cX0_meantBy 22 = .ok (.iaload, 1) := dk_46 (dk_at dksX0_meantBy_0 22 rfl rfl)
theorem dX0_meantBy_23 : decode cX0_meantBy 23 = .ok (.if_icmp .eq 5, 3) := dk_159 0 5 (dk_at dksX0_meantBy_1 0 rfl rfl)
theorem dX0_meantBy_26 : decode cX0_meantBy 26 = .ok (.iconst 0, 1) := dk_3 (dk_at dksX0_meantBy_1 3 rfl rfl)
theorem dX0_meantBy_27 : decode cX0_meantBy 27 = .ok (.ireturn, 1) := dk_172 (dk_at dksX0_meantBy_1 4 rfl rfl)
theorem dX0_meantBy_28 : decode cX0_meantBy 28 = .ok (.aload_n 0, 1) := dk_42 (dk_at dksX0_meantBy_1 5 rfl rfl)
theorem dX0_meantBy_29 : decode cX0_meantBy 29 = .ok (.getfield 92, 3) := dk_180 0 92 (dk_at dksX0_meantBy_1 6 rfl rfl)
theorem dX0_meantBy_32 : decode cX0_meantBy 32 = .ok (.iload_n 2, 1) := dk_28 (dk_at dksX0_meantBy_1 9 rfl rfl)
theorem dX0_meantBy_33 : decode cX0_meantBy 33 = .ok (.iconst 1, 1) := dk_4 (dk_at dksX0_meantBy_1 10 rfl rfl)
theorem dX0_meantBy_34 : decode cX0_meantBy 34 = .ok (.iadd, 1) := dk_96 (dk_at dksX0_meantBy_1 11 rfl rfl)
theorem dX0_meantBy_35 : decode cX0_meantBy 35 = .ok (.iaload, 1) := dk_46 (dk_at dksX0_meantBy_1 12 rfl rfl)
theorem dX0_meantBy_36 : decode cX0_meantBy 36 = .ok (.aload_n 0, 1) := dk_42 (dk_at dksX0_meantBy_1 13 rfl rfl)
theorem dX0_meantBy_37 : decode cX0_meantBy 37 = .ok (.getfield 92, 3) := dk_180 0 92 (dk_at dksX0_meantBy_1 14 rfl rfl)
theorem dX0_meantBy_40 : decode cX0_meantBy 40 = .ok (.iload_n 2, 1) := dk_28 (dk_at dksX0_meantBy_1 17 rfl rfl)
theorem dX0_meantBy_41 : decode cX0_meantBy 41 = .ok (.iaload, 1) := dk_46 (dk_at dksX0_meantBy_1 18 rfl rfl)
theorem dX0_meantBy_42 : decode cX0_meantBy 42 = .ok (.isub, 1) := dk_100 (dk_at dksX0_meantBy_1 19 rfl rfl)
theorem dX0_meantBy_43 : decode cX0_meantBy 43 = .ok (.istore_n 3, 1) := dk_62 (dk_at dksX0_meantBy_1 20 rfl rfl)
theorem dX0_meantBy_44 : decode cX0_meantBy 44 = .ok (.aload_n 1, 1) := dk_43 (dk_at dksX0_meantBy_1 21 rfl rfl)
theorem dX0_meantBy_45 : decode cX0_meantBy 45 = .ok (.invokevirtual 178, 3) := dk_182 0 178 (dk_at dksX0_meantBy_2 0 rfl rfl)
theorem dX0_meantBy_48 : decode cX0_meantBy 48 = .ok (.iconst 2, 1) := dk_5 (dk_at dksX0_meantBy_2 3 rfl rfl)
theorem dX0_meantBy_49 : decode cX0_meantBy 49 = .ok (.if_icmp .ne 7, 3) := dk_160 0 7 (dk_at dksX0_meantBy_2 4 rfl rfl)
theorem dX0_meantBy_52 : decode cX0_meantBy 52 = .ok (.iload_n 3, 1) := dk_29 (dk_at dksX0_meantBy_2 7 rfl rfl)
theorem dX0_meantBy_53 : decode cX0_meantBy 53 = .ok (.goto 18, 3) := dk_167 0 18 (dk_at dksX0_meantBy_2 8 rfl rfl)
theorem dX0_meantBy_56 : decode cX0_meantBy 56 = .ok (.aload_n 1, 1) := dk_43 (dk_at dksX0_meantBy_2 11 rfl rfl)
theorem dX0_meantBy_57 : decode cX0_meantBy 57 = .ok (.invokevirtual 178, 3) := dk_182 0 178 (dk_at dksX0_meantBy_2 12 rfl rfl)
theorem dX0_meantBy_60 : decode cX0_meantBy 60 = .ok (.iconst 3, 1) := dk_6 (dk_at dksX0_meantBy_2 15 rfl rfl)
theorem dX0_meantBy_61 : decode cX0_meantBy 61 = .ok (.if_icmp .ne 9, 3) := dk_160 0 9 (dk_at dksX0_meantBy_2 16 rfl rfl)
theorem dX0_meantBy_64 : decode cX0_meantBy 64 = .ok (.iload_n 3, 1) := dk_29 (dk_at dksX0_meantBy_2 19 rfl rfl)
theorem dX0_meantBy_65 : decode cX0_meantBy 65 = .ok (.iconst 2, 1) := dk_5 (dk_at dksX0_meantBy_2 20 rfl rfl)
theorem dX0_meantBy_66 : decode cX0_meantBy 66 = .ok (.idiv, 1) := dk_108 (dk_at dksX0_meantBy_2 21 rfl rfl)
theorem dX0_meantBy_67 : decode cX0_meantBy 67 = .ok (.goto 4, 3) := dk_167 0 4 (dk_at dksX0_meantBy_3 0 rfl rfl)
theorem dX0_meantBy_70 : decode cX0_meantBy 70 = .ok (.iconst 1, 1) := dk_4 (dk_at dksX0_meantBy_3 3 rfl rfl)
theorem dX0_meantBy_71 : decode cX0_meantBy 71 = .ok (.ireturn, 1) := dk_172 (dk_at dksX0_meantBy_3 4 rfl rfl)
abbrev cX0_fewestOf : ByteArray := prog_1_method_53_code
def yX0_fewestOf : MethodName := ⟨RX0, "fewestOf", "(III)I"⟩
def dkwX0_fewestOf_0 : List UInt8 := [29, 4, 162, 0, 9, 17, 3, 232, 167, 0, 14, 42, 180, 0, 113, 27, 28, 29, 184, 1, 93, 46, 172]
abbrev dktX0_fewestOf_0 : List UInt8 := dkwX0_fewestOf_0 ++ []
theorem dksX0_fewestOf_0 : cX0_fewestOf.data.toList.drop 0 = dktX0_fewestOf_0 := by decide +kernel
theorem dX0_fewestOf_0 : decode cX0_fewestOf 0 = .ok (.iload_n 3, 1) := dk_29 (dk_at dksX0_fewestOf_0 0 rfl rfl)
theorem dX0_fewestOf_1 : decode cX0_fewestOf 1 = .ok (.iconst 1, 1) := dk_4 (dk_at dksX0_fewestOf_0 1 rfl rfl)
theorem dX0_fewestOf_2 : decode cX0_fewestOf 2 = .ok (.if_icmp .ge 9, 3) := dk_162 0 9 (dk_at dksX0_fewestOf_0 2 rfl rfl)
theorem dX0_fewestOf_5 : decode cX0_fewestOf 5 = .ok (.sipush 1000, 3) := dk_17 3 232 (dk_at dksX0_fewestOf_0 5 rfl rfl)
theorem dX0_fewestOf_8 : decode cX0_fewestOf 8 = .ok (.goto 14, 3) := dk_167 0 14 (dk_at dksX0_fewestOf_0 8 rfl rfl)
theorem dX0_fewestOf_11 : decode cX0_fewestOf 11 = .ok (.aload_n 0, 1) := dk_42 (dk_at dksX0_fewestOf_0 11 rfl rfl)
theorem dX0_fewestOf_12 : decode cX0_fewestOf 12 = .ok (.getfield 113, 3) := dk_180 0 113 (dk_at dksX0_fewestOf_0 12 rfl rfl)
theorem dX0_fewestOf_15 : decode cX0_fewestOf 15 = .ok (.iload_n 1, 1) := dk_27 (dk_at dksX0_fewestOf_0 15 rfl rfl)
theorem dX0_fewestOf_16 : decode cX0_fewestOf 16 = .ok (.iload_n 2, 1) := dk_28 (dk_at dksX0_fewestOf_0 16 rfl rfl)
theorem dX0_fewestOf_17 : decode cX0_fewestOf 17 = .ok (.iload_n 3, 1) := dk_29 (dk_at dksX0_fewestOf_0 17 rfl rfl)
theorem dX0_fewestOf_18 : decode cX0_fewestOf 18 = .ok (.invokestatic 349, 3) := dk_184 1 93 (dk_at dksX0_fewestOf_0 18 rfl rfl)
theorem dX0_fewestOf_21 : decode cX0_fewestOf 21 = .ok (.iaload, 1) := dk_46 (dk_at dksX0_fewestOf_0 21 rfl rfl)
theorem dX0_fewestOf_22 : decode cX0_fewestOf 22 = .ok (.ireturn, 1) := dk_172 (dk_at dksX0_fewestOf_0 22 rfl rfl)
abbrev cX0_directly : ByteArray := prog_1_method_56_code
def yX0_directly : MethodName := ⟨RX0, "directly", "(ILHeldTongue$Sense;II)I"⟩
def dkwX0_directly_9 : List UInt8 := [17, 3, 232, 21, 5, 184, 0, 249, 172]
abbrev dktX0_directly_9 : List UInt8 := dkwX0_directly_9 ++ []
def dkwX0_directly_8 : List UInt8 := [21, 6, 182, 0, 175, 21, 4, 21, 6, 100, 182, 1, 101, 96, 54, 5, 132, 6, 1, 167, 255, 213]
abbrev dktX0_directly_8 : List UInt8 := dkwX0_directly_8 ++ dktX0_directly_9
def dkwX0_directly_7 : List UInt8 := [21, 6, 44, 29, 182, 0, 167, 162, 0, 39, 21, 5, 42, 42, 27, 44, 29, 21, 6, 182, 1, 104, 44, 29]
abbrev dktX0_directly_7 : List UInt8 := dkwX0_directly_7 ++ dktX0_directly_8
def dkwX0_directly_6 : List UInt8 := [17, 3, 232, 21, 5, 42, 180, 0, 116, 4, 29, 120, 4, 100, 46, 96, 184, 0, 249, 172, 3, 54, 6]
abbrev dktX0_directly_6 : List UInt8 := dkwX0_directly_6 ++ dktX0_directly_7
def dkwX0_directly_5 : List UInt8 := [21, 7, 100, 182, 1, 101, 96, 184, 0, 249, 79, 132, 8, 1, 167, 255, 174, 132, 6, 1, 167, 255, 138]
abbrev dktX0_directly_5 : List UInt8 := dkwX0_directly_5 ++ dktX0_directly_6
def dkwX0_directly_4 : List UInt8 := [42, 180, 0, 95, 42, 180, 0, 92, 27, 46, 21, 8, 96, 46, 44, 29, 21, 8, 182, 0, 175, 21, 4]
abbrev dktX0_directly_4 : List UInt8 := dkwX0_directly_4 ++ dktX0_directly_5
def dkwX0_directly_3 : List UInt8 := [21, 6, 42, 180, 0, 116, 21, 6, 46, 42, 180, 0, 116, 21, 6, 4, 21, 8, 120, 2, 130, 126, 46, 42]
abbrev dktX0_directly_3 : List UInt8 := dkwX0_directly_3 ++ dktX0_directly_4
def dkwX0_directly_2 : List UInt8 := [3, 54, 8, 21, 8, 29, 162, 0, 82, 21, 6, 21, 8, 122, 4, 126, 4, 160, 0, 65, 42, 180, 0, 116]
abbrev dktX0_directly_2 : List UInt8 := dkwX0_directly_2 ++ dktX0_directly_3
def dkwX0_directly_1 : List UInt8 := [29, 120, 162, 0, 116, 21, 6, 184, 1, 96, 4, 100, 54, 7, 42, 180, 0, 116, 21, 6, 17, 3, 232, 79]
abbrev dktX0_directly_1 : List UInt8 := dkwX0_directly_1 ++ dktX0_directly_2
def dkwX0_directly_0 : List UInt8 := [4, 54, 5, 44, 182, 0, 178, 5, 160, 0, 154, 42, 180, 0, 116, 3, 3, 79, 4, 54, 6, 21, 6, 4]
abbrev dktX0_directly_0 : List UInt8 := dkwX0_directly_0 ++ dktX0_directly_1
theorem dksX0_directly_0 : cX0_directly.data.toList.drop 0 = dktX0_directly_0 := by decide +kernel
theorem dksX0_directly_1 : cX0_directly.data.toList.drop 24 = dktX0_directly_1 := dk_seg dksX0_directly_0 24 rfl rfl
theorem dksX0_directly_2 : cX0_directly.data.toList.drop 48 = dktX0_directly_2 := dk_seg dksX0_directly_1 24 rfl rfl
theorem dksX0_directly_3 : cX0_directly.data.toList.drop 72 = dktX0_directly_3 := dk_seg dksX0_directly_2 24 rfl rfl
theorem dksX0_directly_4 : cX0_directly.data.toList.drop 96 = dktX0_directly_4 := dk_seg dksX0_directly_3 24 rfl rfl
theorem dksX0_directly_5 : cX0_directly.data.toList.drop 119 = dktX0_directly_5 := dk_seg dksX0_directly_4 23 rfl rfl
theorem dksX0_directly_6 : cX0_directly.data.toList.drop 142 = dktX0_directly_6 := dk_seg dksX0_directly_5 23 rfl rfl
theorem dksX0_directly_7 : cX0_directly.data.toList.drop 165 = dktX0_directly_7 := dk_seg dksX0_directly_6 23 rfl rfl
theorem dksX0_directly_8 : cX0_directly.data.toList.drop 189 = dktX0_directly_8 := dk_seg dksX0_directly_7 24 rfl rfl
theorem dksX0_directly_9 : cX0_directly.data.toList.drop 211 = dktX0_directly_9 := dk_seg dksX0_directly_8 22 rfl rfl
theorem dX0_directly_0 : decode cX0_directly 0 = .ok (.iconst 1, 1) := dk_4 (dk_at dksX0_directly_0 0 rfl rfl)
theorem dX0_directly_1 : decode cX0_directly 1 = .ok (.istore 5, 2) := dk_54 5 (dk_at dksX0_directly_0 1 rfl rfl)
theorem dX0_directly_3 : decode cX0_directly 3 = .ok (.aload_n 2, 1) := dk_44 (dk_at dksX0_directly_0 3 rfl rfl)
theorem dX0_directly_4 : decode cX0_directly 4 = .ok (.invokevirtual 178, 3) := dk_182 0 178 (dk_at dksX0_directly_0 4 rfl rfl)
theorem dX0_directly_7 : decode cX0_directly 7 = .ok (.iconst 2, 1) := dk_5 (dk_at dksX0_directly_0 7 rfl rfl)
theorem dX0_directly_8 : decode cX0_directly 8 = .ok (.if_icmp .ne 154, 3) := dk_160 0 154 (dk_at dksX0_directly_0 8 rfl rfl)
theorem dX0_directly_11 : decode cX0_directly 11 = .ok (.aload_n 0, 1) := dk_42 (dk_at dksX0_directly_0 11 rfl rfl)
theorem dX0_directly_12 : decode cX0_directly 12 = .ok (.getfield 116, 3) := dk_180 0 116 (dk_at dksX0_directly_0 12 rfl rfl)
theorem dX0_directly_15 : decode cX0_directly 15 = .ok (.iconst 0, 1) := dk_3 (dk_at dksX0_directly_0 15 rfl rfl)
theorem dX0_directly_16 : decode cX0_directly 16 = .ok (.iconst 0, 1) := dk_3 (dk_at dksX0_directly_0 16 rfl rfl)
theorem dX0_directly_17 : decode cX0_directly 17 = .ok (.iastore, 1) := dk_79 (dk_at dksX0_directly_0 17 rfl rfl)
theorem dX0_directly_18 : decode cX0_directly 18 = .ok (.iconst 1, 1) := dk_4 (dk_at dksX0_directly_0 18 rfl rfl)
theorem dX0_directly_19 : decode cX0_directly 19 = .ok (.istore 6, 2) := dk_54 6 (dk_at dksX0_directly_0 19 rfl rfl)
theorem dX0_directly_21 : decode cX0_directly 21 = .ok (.iload 6, 2) := dk_21 6 (dk_at dksX0_directly_0 21 rfl rfl)
theorem dX0_directly_23 : decode cX0_directly 23 = .ok (.iconst 1, 1) := dk_4 (dk_at dksX0_directly_0 23 rfl rfl)
theorem dX0_directly_24 : decode cX0_directly 24 = .ok (.iload_n 3, 1) := dk_29 (dk_at dksX0_directly_1 0 rfl rfl)
theorem dX0_directly_25 : decode cX0_directly 25 = .ok (.ishl, 1) := dk_120 (dk_at dksX0_directly_1 1 rfl rfl)
theorem dX0_directly_26 : decode cX0_directly 26 = .ok (.if_icmp .ge 116, 3) := dk_162 0 116 (dk_at dksX0_directly_1 2 rfl rfl)
theorem dX0_directly_29 : decode cX0_directly 29 = .ok (.iload 6, 2) := dk_21 6 (dk_at dksX0_directly_1 5 rfl rfl)
theorem dX0_directly_31 : decode cX0_directly 31 = .ok (.invokestatic 352, 3) := dk_184 1 96 (dk_at dksX0_directly_1 7 rfl rfl)
theorem dX0_directly_34 : decode cX0_directly 34 = .ok (.iconst 1, 1) := dk_4 (dk_at dksX0_directly_1 10 rfl rfl)
theorem dX0_directly_35 : decode cX0_directly 35 = .ok (.isub, 1) := dk_100 (dk_at dksX0_directly_1 11 rfl rfl)
theorem dX0_directly_36 : decode cX0_directly 36 = .ok (.istore 7, 2) := dk_54 7 (dk_at dksX0_directly_1 12 rfl rfl)
theorem dX0_directly_38 : decode cX0_directly 38 = .ok (.aload_n 0, 1) := dk_42 (dk_at dksX0_directly_1 14 rfl rfl)
theorem dX0_directly_39 : decode cX0_directly 39 = .ok (.getfield 116, 3) := dk_180 0 116 (dk_at dksX0_directly_1 15 rfl rfl)
theorem dX0_directly_42 : decode cX0_directly 42 = .ok (.iload 6, 2) := dk_21 6 (dk_at dksX0_directly_1 18 rfl rfl)
theorem dX0_directly_44 : decode cX0_directly 44 = .ok (.sipush 1000, 3) := dk_17 3 232 (dk_at dksX0_directly_1 20 rfl rfl)
theorem dX0_directly_47 : decode cX0_directly 47 = .ok (.iastore, 1) := dk_79 (dk_at dksX0_directly_1 23 rfl rfl)
theorem dX0_directly_48 : decode cX0_directly 48 = .ok (.iconst 0, 1) := dk_3 (dk_at dksX0_directly_2 0 rfl rfl)
theorem dX0_directly_49 : decode cX0_directly 49 = .ok (.istore 8, 2) := dk_54 8 (dk_at dksX0_directly_2 1 rfl rfl)
theorem dX0_directly_51 : decode cX0_directly 51 = .ok (.iload 8, 2) := dk_21 8 (dk_at dksX0_directly_2 3 rfl rfl)
theorem dX0_directly_53 : decode cX0_directly 53 = .ok (.iload_n 3, 1) := dk_29 (dk_at dksX0_directly_2 5 rfl rfl)
theorem dX0_directly_54 : decode cX0_directly 54 = .ok (.if_icmp .ge 82, 3) := dk_162 0 82 (dk_at dksX0_directly_2 6 rfl rfl)
theorem dX0_directly_57 : decode cX0_directly 57 = .ok (.iload 6, 2) := dk_21 6 (dk_at dksX0_directly_2 9 rfl rfl)
theorem dX0_directly_59 : decode cX0_directly 59 = .ok (.iload 8, 2) := dk_21 8 (dk_at dksX0_directly_2 11 rfl rfl)
theorem dX0_directly_61 : decode cX0_directly 61 = .ok (.ishr, 1) := dk_122 (dk_at dksX0_directly_2 13 rfl rfl)
theorem dX0_directly_62 : decode cX0_directly 62 = .ok (.iconst 1, 1) := dk_4 (dk_at dksX0_directly_2 14 rfl rfl)
theorem dX0_directly_63 : decode cX0_directly 63 = .ok (.iand, 1) := dk_126 (dk_at dksX0_directly_2 15 rfl rfl)
theorem dX0_directly_64 : decode cX0_directly 64 = .ok (.iconst 1, 1) := dk_4 (dk_at dksX0_directly_2 16 rfl rfl)
theorem dX0_directly_65 : decode cX0_directly 65 = .ok (.if_icmp .ne 65, 3) := dk_160 0 65 (dk_at dksX0_directly_2 17 rfl rfl)
theorem dX0_directly_68 : decode cX0_directly 68 = .ok (.aload_n 0, 1) := dk_42 (dk_at dksX0_directly_2 20 rfl rfl)
theorem dX0_directly_69 : decode cX0_directly 69 = .ok (.getfield 116, 3) := dk_180 0 116 (dk_at dksX0_directly_2 21 rfl rfl)
theorem dX0_directly_72 : decode cX0_directly 72 = .ok (.iload 6, 2) := dk_21 6 (dk_at dksX0_directly_3 0 rfl rfl)
theorem dX0_directly_74 : decode cX0_directly 74 = .ok (.aload_n 0, 1) := dk_42 (dk_at dksX0_directly_3 2 rfl rfl)
theorem dX0_directly_75 : decode cX0_directly 75 = .ok (.getfield 116, 3) := dk_180 0 116 (dk_at dksX0_directly_3 3 rfl rfl)
theorem dX0_directly_78 : decode cX0_directly 78 = .ok (.iload 6, 2) := dk_21 6 (dk_at dksX0_directly_3 6 rfl rfl)
theorem dX0_directly_80 : decode cX0_directly 80 = .ok (.iaload, 1) := dk_46 (dk_at dksX0_directly_3 8 rfl rfl)
theorem dX0_directly_81 : decode cX0_directly 81 = .ok (.aload_n 0, 1) := dk_42 (dk_at dksX0_directly_3 9 rfl rfl)
theorem dX0_directly_82 : decode cX0_directly 82 = .ok (.getfield 116, 3) := dk_180 0 116 (dk_at dksX0_directly_3 10 rfl rfl)
theorem dX0_directly_85 : decode cX0_directly 85 = .ok (.iload 6, 2) := dk_21 6 (dk_at dksX0_directly_3 13 rfl rfl)
theorem dX0_directly_87 : decode cX0_directly 87 = .ok (.iconst 1, 1) := dk_4 (dk_at dksX0_directly_3 15 rfl rfl)
theorem dX0_directly_88 : decode cX0_directly 88 = .ok (.iload 8, 2) := dk_21 8 (dk_at dksX0_directly_3 16 rfl rfl)
theorem dX0_directly_90 : decode cX0_directly 90 = .ok (.ishl, 1) := dk_120 (dk_at dksX0_directly_3 18 rfl rfl)
theorem dX0_directly_91 : decode cX0_directly 91 = .ok (.iconst (-1), 1) := dk_2 (dk_at dksX0_directly_3 19 rfl rfl)
theorem dX0_directly_92 : decode cX0_directly 92 = .ok (.ixor, 1) := dk_130 (dk_at dksX0_directly_3 20 rfl rfl)
theorem dX0_directly_93 : decode cX0_directly 93 = .ok (.iand, 1) := dk_126 (dk_at dksX0_directly_3 21 rfl rfl)
theorem dX0_directly_94 : decode cX0_directly 94 = .ok (.iaload, 1) := dk_46 (dk_at dksX0_directly_3 22 rfl rfl)
theorem dX0_directly_95 : decode cX0_directly 95 = .ok (.aload_n 0, 1) := dk_42 (dk_at dksX0_directly_3 23 rfl rfl)
theorem dX0_directly_96 : decode cX0_directly 96 = .ok (.aload_n 0, 1) := dk_42 (dk_at dksX0_directly_4 0 rfl rfl)
theorem dX0_directly_97 : decode cX0_directly 97 = .ok (.getfield 95, 3) := dk_180 0 95 (dk_at dksX0_directly_4 1 rfl rfl)
theorem dX0_directly_100 : decode cX0_directly 100 = .ok (.aload_n 0, 1) := dk_42 (dk_at dksX0_directly_4 4 rfl rfl)
theorem dX0_directly_101 : decode cX0_directly 101 = .ok (.getfield 92, 3) := dk_180 0 92 (dk_at dksX0_directly_4 5 rfl rfl)
theorem dX0_directly_104 : decode cX0_directly 104 = .ok (.iload_n 1, 1) := dk_27 (dk_at dksX0_directly_4 8 rfl rfl)
theorem dX0_directly_105 : decode cX0_directly 105 = .ok (.iaload, 1) := dk_46 (dk_at dksX0_directly_4 9 rfl rfl)
theorem dX0_directly_106 : decode cX0_directly 106 = .ok (.iload 8, 2) := dk_21 8 (dk_at dksX0_directly_4 10 rfl rfl)
theorem dX0_directly_108 : decode cX0_directly 108 = .ok (.iadd, 1) := dk_96 (dk_at dksX0_directly_4 12 rfl rfl)
theorem dX0_directly_109 : decode cX0_directly 109 = .ok (.iaload, 1) := dk_46 (dk_at dksX0_directly_4 13 rfl rfl)
theorem dX0_directly_110 : decode cX0_directly 110 = .ok (.aload_n 2, 1) := dk_44 (dk_at dksX0_directly_4 14 rfl rfl)
theorem dX0_directly_111 : decode cX0_directly 111 = .ok (.iload_n 3, 1) := dk_29 (dk_at dksX0_directly_4 15 rfl rfl)
theorem dX0_directly_112 : decode cX0_directly 112 = .ok (.iload 8, 2) := dk_21 8 (dk_at dksX0_directly_4 16 rfl rfl)
theorem dX0_directly_114 : decode cX0_directly 114 = .ok (.invokevirtual 175, 3) := dk_182 0 175 (dk_at dksX0_directly_4 18 rfl rfl)
theorem dX0_directly_117 : decode cX0_directly 117 = .ok (.iload 4, 2) := dk_21 4 (dk_at dksX0_directly_4 21 rfl rfl)
theorem dX0_directly_119 : decode cX0_directly 119 = .ok (.iload 7, 2) := dk_21 7 (dk_at dksX0_directly_5 0 rfl rfl)
theorem dX0_directly_121 : decode cX0_directly 121 = .ok (.isub, 1) := dk_100 (dk_at dksX0_directly_5 2 rfl rfl)
theorem dX0_directly_122 : decode cX0_directly 122 = .ok (.invokevirtual 357, 3) := dk_182 1 101 (dk_at dksX0_directly_5 3 rfl rfl)
theorem dX0_directly_125 : decode cX0_directly 125 = .ok (.iadd, 1) := dk_96 (dk_at dksX0_directly_5 6 rfl rfl)
theorem dX0_directly_126 : decode cX0_directly 126 = .ok (.invokestatic 249, 3) := dk_184 0 249 (dk_at dksX0_directly_5 7 rfl rfl)
theorem dX0_directly_129 : decode cX0_directly 129 = .ok (.iastore, 1) := dk_79 (dk_at dksX0_directly_5 10 rfl rfl)
theorem dX0_directly_130 : decode cX0_directly 130 = .ok (.iinc 8 1, 3) := dk_132 8 1 (dk_at dksX0_directly_5 11 rfl rfl)
theorem dX0_directly_133 : decode cX0_directly 133 = .ok (.goto (-82), 3) := dk_167 255 174 (dk_at dksX0_directly_5 14 rfl rfl)
theorem dX0_directly_136 : decode cX0_directly 136 = .ok (.iinc 6 1, 3) := dk_132 6 1 (dk_at dksX0_directly_5 17 rfl rfl)
theorem dX0_directly_139 : decode cX0_directly 139 = .ok (.goto (-118), 3) := dk_167 255 138 (dk_at dksX0_directly_5 20 rfl rfl)
theorem dX0_directly_142 : decode cX0_directly 142 = .ok (.sipush 1000, 3) := dk_17 3 232 (dk_at dksX0_directly_6 0 rfl rfl)
theorem dX0_directly_145 : decode cX0_directly 145 = .ok (.iload 5, 2) := dk_21 5 (dk_at dksX0_directly_6 3 rfl rfl)
theorem dX0_directly_147 : decode cX0_directly 147 = .ok (.aload_n 0, 1) := dk_42 (dk_at dksX0_directly_6 5 rfl rfl)
theorem dX0_directly_148 : decode cX0_directly 148 = .ok (.getfield 116, 3) := dk_180 0 116 (dk_at dksX0_directly_6 6 rfl rfl)
theorem dX0_directly_151 : decode cX0_directly 151 = .ok (.iconst 1, 1) := dk_4 (dk_at dksX0_directly_6 9 rfl rfl)
theorem dX0_directly_152 : decode cX0_directly 152 = .ok (.iload_n 3, 1) := dk_29 (dk_at dksX0_directly_6 10 rfl rfl)
theorem dX0_directly_153 : decode cX0_directly 153 = .ok (.ishl, 1) := dk_120 (dk_at dksX0_directly_6 11 rfl rfl)
theorem dX0_directly_154 : decode cX0_directly 154 = .ok (.iconst 1, 1) := dk_4 (dk_at dksX0_directly_6 12 rfl rfl)
theorem dX0_directly_155 : decode cX0_directly 155 = .ok (.isub, 1) := dk_100 (dk_at dksX0_directly_6 13 rfl rfl)
theorem dX0_directly_156 : decode cX0_directly 156 = .ok (.iaload, 1) := dk_46 (dk_at dksX0_directly_6 14 rfl rfl)
theorem dX0_directly_157 : decode cX0_directly 157 = .ok (.iadd, 1) := dk_96 (dk_at dksX0_directly_6 15 rfl rfl)
theorem dX0_directly_158 : decode cX0_directly 158 = .ok (.invokestatic 249, 3) := dk_184 0 249 (dk_at dksX0_directly_6 16 rfl rfl)
theorem dX0_directly_161 : decode cX0_directly 161 = .ok (.ireturn, 1) := dk_172 (dk_at dksX0_directly_6 19 rfl rfl)
theorem dX0_directly_162 : decode cX0_directly 162 = .ok (.iconst 0, 1) := dk_3 (dk_at dksX0_directly_6 20 rfl rfl)
theorem dX0_directly_163 : decode cX0_directly 163 = .ok (.istore 6, 2) := dk_54 6 (dk_at dksX0_directly_6 21 rfl rfl)
theorem dX0_directly_165 : decode cX0_directly 165 = .ok (.iload 6, 2) := dk_21 6 (dk_at dksX0_directly_7 0 rfl rfl)
theorem dX0_directly_167 : decode cX0_directly 167 = .ok (.aload_n 2, 1) := dk_44 (dk_at dksX0_directly_7 2 rfl rfl)
theorem dX0_directly_168 : decode cX0_directly 168 = .ok (.iload_n 3, 1) := dk_29 (dk_at dksX0_directly_7 3 rfl rfl)
theorem dX0_directly_169 : decode cX0_directly 169 = .ok (.invokevirtual 167, 3) := dk_182 0 167 (dk_at dksX0_directly_7 4 rfl rfl)
theorem dX0_directly_172 : decode cX0_directly 172 = .ok (.if_icmp .ge 39, 3) := dk_162 0 39 (dk_at dksX0_directly_7 7 rfl rfl)
theorem dX0_directly_175 : decode cX0_directly 175 = .ok (.iload 5, 2) := dk_21 5 (dk_at dksX0_directly_7 10 rfl rfl)
theorem dX0_directly_177 : decode cX0_directly 177 = .ok (.aload_n 0, 1) := dk_42 (dk_at dksX0_directly_7 12 rfl rfl)
theorem dX0_directly_178 : decode cX0_directly 178 = .ok (.aload_n 0, 1) := dk_42 (dk_at dksX0_directly_7 13 rfl rfl)
theorem dX0_directly_179 : decode cX0_directly 179 = .ok (.iload_n 1, 1) := dk_27 (dk_at dksX0_directly_7 14 rfl rfl)
theorem dX0_directly_180 : decode cX0_directly 180 = .ok (.aload_n 2, 1) := dk_44 (dk_at dksX0_directly_7 15 rfl rfl)
theorem dX0_directly_181 : decode cX0_directly 181 = .ok (.iload_n 3, 1) := dk_29 (dk_at dksX0_directly_7 16 rfl rfl)
theorem dX0_directly_182 : decode cX0_directly 182 = .ok (.iload 6, 2) := dk_21 6 (dk_at dksX0_directly_7 17 rfl rfl)
theorem dX0_directly_184 : decode cX0_directly 184 = .ok (.invokevirtual 360, 3) := dk_182 1 104 (dk_at dksX0_directly_7 19 rfl rfl)
theorem dX0_directly_187 : decode cX0_directly 187 = .ok (.aload_n 2, 1) := dk_44 (dk_at dksX0_directly_7 22 rfl rfl)
theorem dX0_directly_188 : decode cX0_directly 188 = .ok (.iload_n 3, 1) := dk_29 (dk_at dksX0_directly_7 23 rfl rfl)
theorem dX0_directly_189 : decode cX0_directly 189 = .ok (.iload 6, 2) := dk_21 6 (dk_at dksX0_directly_8 0 rfl rfl)
theorem dX0_directly_191 : decode cX0_directly 191 = .ok (.invokevirtual 175, 3) := dk_182 0 175 (dk_at dksX0_directly_8 2 rfl rfl)
theorem dX0_directly_194 : decode cX0_directly 194 = .ok (.iload 4, 2) := dk_21 4 (dk_at dksX0_directly_8 5 rfl rfl)
theorem dX0_directly_196 : decode cX0_directly 196 = .ok (.iload 6, 2) := dk_21 6 (dk_at dksX0_directly_8 7 rfl rfl)
theorem dX0_directly_198 : decode cX0_directly 198 = .ok (.isub, 1) := dk_100 (dk_at dksX0_directly_8 9 rfl rfl)
theorem dX0_directly_199 : decode cX0_directly 199 = .ok (.invokevirtual 357, 3) := dk_182 1 101 (dk_at dksX0_directly_8 10 rfl rfl)
theorem dX0_directly_202 : decode cX0_directly 202 = .ok (.iadd, 1) := dk_96 (dk_at dksX0_directly_8 13 rfl rfl)
theorem dX0_directly_203 : decode cX0_directly 203 = .ok (.istore 5, 2) := dk_54 5 (dk_at dksX0_directly_8 14 rfl rfl)
theorem dX0_directly_205 : decode cX0_directly 205 = .ok (.iinc 6 1, 3) := dk_132 6 1 (dk_at dksX0_directly_8 16 rfl rfl)
theorem dX0_directly_208 : decode cX0_directly 208 = .ok (.goto (-43), 3) := dk_167 255 213 (dk_at dksX0_directly_8 19 rfl rfl)
theorem dX0_directly_211 : decode cX0_directly 211 = .ok (.sipush 1000, 3) := dk_17 3 232 (dk_at dksX0_directly_9 0 rfl rfl)
theorem dX0_directly_214 : decode cX0_directly 214 = .ok (.iload 5, 2) := dk_21 5 (dk_at dksX0_directly_9 3 rfl rfl)
theorem dX0_directly_216 : decode cX0_directly 216 = .ok (.invokestatic 249, 3) := dk_184 0 249 (dk_at dksX0_directly_9 5 rfl rfl)
theorem dX0_directly_219 : decode cX0_directly 219 = .ok (.ireturn, 1) := dk_172 (dk_at dksX0_directly_9 8 rfl rfl)
abbrev cX0_thing : ByteArray := prog_1_method_54_code
def yX0_thing : MethodName := ⟨RX0, "thing", "(ILHeldTongue$Sense;II)I"⟩
def dkwX0_thing_2 : List UInt8 := [2, 172]
abbrev dktX0_thing_2 : List UInt8 := dkwX0_thing_2 ++ []
def dkwX0_thing_1 : List UInt8 := [160, 0, 18, 42, 180, 0, 95, 42, 180, 0, 92, 27, 46, 21, 5, 96, 46, 172, 132, 5, 1, 167, 255, 216]
abbrev dktX0_thing_1 : List UInt8 := dkwX0_thing_1 ++ dktX0_thing_2
def dkwX0_thing_0 : List UInt8 := [3, 54, 5, 21, 5, 44, 29, 182, 0, 167, 162, 0, 36, 44, 29, 21, 5, 182, 1, 12, 21, 4]
abbrev dktX0_thing_0 : List UInt8 := dkwX0_thing_0 ++ dktX0_thing_1
theorem dksX0_thing_0 : cX0_thing.data.toList.drop 0 = dktX0_thing_0 := by decide +kernel
theorem dksX0_thing_1 : cX0_thing.data.toList.drop 22 = dktX0_thing_1 := dk_seg dksX0_thing_0 22 rfl rfl
theorem dksX0_thing_2 : cX0_thing.data.toList.drop 46 = dktX0_thing_2 := dk_seg dksX0_thing_1 24 rfl rfl
theorem dX0_thing_0 : decode cX0_thing 0 = .ok (.iconst 0, 1) := dk_3 (dk_at dksX0_thing_0 0 rfl rfl)
theorem dX0_thing_1 : decode cX0_thing 1 = .ok (.istore 5, 2) := dk_54 5 (dk_at dksX0_thing_0 1 rfl rfl)
theorem dX0_thing_3 : decode cX0_thing 3 = .ok (.iload 5, 2) := dk_21 5 (dk_at dksX0_thing_0 3 rfl rfl)
theorem dX0_thing_5 : decode cX0_thing 5 = .ok (.aload_n 2, 1) := dk_44 (dk_at dksX0_thing_0 5 rfl rfl)
theorem dX0_thing_6 : decode cX0_thing 6 = .ok (.iload_n 3, 1) := dk_29 (dk_at dksX0_thing_0 6 rfl rfl)
theorem dX0_thing_7 : decode cX0_thing 7 = .ok (.invokevirtual 167, 3) := dk_182 0 167 (dk_at dksX0_thing_0 7 rfl rfl)
theorem dX0_thing_10 : decode cX0_thing 10 = .ok (.if_icmp .ge 36, 3) := dk_162 0 36 (dk_at dksX0_thing_0 10 rfl rfl)
theorem dX0_thing_13 : decode cX0_thing 13 = .ok (.aload_n 2, 1) := dk_44 (dk_at dksX0_thing_0 13 rfl rfl)
theorem dX0_thing_14 : decode cX0_thing 14 = .ok (.iload_n 3, 1) := dk_29 (dk_at dksX0_thing_0 14 rfl rfl)
theorem dX0_thing_15 : decode cX0_thing 15 = .ok (.iload 5, 2) := dk_21 5 (dk_at dksX0_thing_0 15 rfl rfl)
theorem dX0_thing_17 : decode cX0_thing 17 = .ok (.invokevirtual 268, 3) := dk_182 1 12 (dk_at dksX0_thing_0 17 rfl rfl)
theorem dX0_thing_20 : decode cX0_thing 20 = .ok (.iload 4, 2) := dk_21 4 (dk_at dksX0_thing_0 20 rfl rfl)
theorem dX0_thing_22 : decode cX0_thing 22 = .ok (.if_icmp .ne 18, 3) := dk_160 0 18 (dk_at dksX0_thing_1 0 rfl rfl)
theorem dX0_thing_25 : decode cX0_thing 25 = .ok (.aload_n 0, 1) := dk_42 (dk_at dksX0_thing_1 3 rfl rfl)
theorem dX0_thing_26 : decode cX0_thing 26 = .ok (.getfield 95, 3) := dk_180 0 95 (dk_at dksX0_thing_1 4 rfl rfl)
theorem dX0_thing_29 : decode cX0_thing 29 = .ok (.aload_n 0, 1) := dk_42 (dk_at dksX0_thing_1 7 rfl rfl)
theorem dX0_thing_30 : decode cX0_thing 30 = .ok (.getfield 92, 3) := dk_180 0 92 (dk_at dksX0_thing_1 8 rfl rfl)
theorem dX0_thing_33 : decode cX0_thing 33 = .ok (.iload_n 1, 1) := dk_27 (dk_at dksX0_thing_1 11 rfl rfl)
theorem dX0_thing_34 : decode cX0_thing 34 = .ok (.iaload, 1) := dk_46 (dk_at dksX0_thing_1 12 rfl rfl)
theorem dX0_thing_35 : decode cX0_thing 35 = .ok (.iload 5, 2) := dk_21 5 (dk_at dksX0_thing_1 13 rfl rfl)
theorem dX0_thing_37 : decode cX0_thing 37 = .ok (.iadd, 1) := dk_96 (dk_at dksX0_thing_1 15 rfl rfl)
theorem dX0_thing_38 : decode cX0_thing 38 = .ok (.iaload, 1) := dk_46 (dk_at dksX0_thing_1 16 rfl rfl)
theorem dX0_thing_39 : decode cX0_thing 39 = .ok (.ireturn, 1) := dk_172 (dk_at dksX0_thing_1 17 rfl rfl)
theorem dX0_thing_40 : decode cX0_thing 40 = .ok (.iinc 5 1, 3) := dk_132 5 1 (dk_at dksX0_thing_1 18 rfl rfl)
theorem dX0_thing_43 : decode cX0_thing 43 = .ok (.goto (-40), 3) := dk_167 255 216 (dk_at dksX0_thing_1 21 rfl rfl)
theorem dX0_thing_46 : decode cX0_thing 46 = .ok (.iconst (-1), 1) := dk_2 (dk_at dksX0_thing_2 0 rfl rfl)
theorem dX0_thing_47 : decode cX0_thing 47 = .ok (.ireturn, 1) := dk_172 (dk_at dksX0_thing_2 1 rfl rfl)
abbrev cX0_light : ByteArray := prog_1_method_60_code
def yX0_light : MethodName := ⟨RX0, "light", "(I)I"⟩
def dkwX0_light_1 : List UInt8 := [28, 182, 1, 101, 16, 99, 163, 0, 5, 28, 172, 132, 2, 1, 167, 255, 230, 2, 172]
abbrev dktX0_light_1 : List UInt8 := dkwX0_light_1 ++ []
def dkwX0_light_0 : List UInt8 := [42, 27, 182, 1, 121, 154, 0, 5, 2, 172, 4, 61, 28, 16, 24, 163, 0, 26, 42, 42, 180, 1, 115, 3]
abbrev dktX0_light_0 : List UInt8 := dkwX0_light_0 ++ dktX0_light_1
theorem dksX0_light_0 : cX0_light.data.toList.drop 0 = dktX0_light_0 := by decide +kernel
theorem dksX0_light_1 : cX0_light.data.toList.drop 24 = dktX0_light_1 := dk_seg dksX0_light_0 24 rfl rfl
theorem dX0_light_0 : decode cX0_light 0 = .ok (.aload_n 0, 1) := dk_42 (dk_at dksX0_light_0 0 rfl rfl)
theorem dX0_light_1 : decode cX0_light 1 = .ok (.iload_n 1, 1) := dk_27 (dk_at dksX0_light_0 1 rfl rfl)
theorem dX0_light_2 : decode cX0_light 2 = .ok (.invokevirtual 377, 3) := dk_182 1 121 (dk_at dksX0_light_0 2 rfl rfl)
theorem dX0_light_5 : decode cX0_light 5 = .ok (.ifCond .ne 5, 3) := dk_154 0 5 (dk_at dksX0_light_0 5 rfl rfl)
theorem dX0_light_8 : decode cX0_light 8 = .ok (.iconst (-1), 1) := dk_2 (dk_at dksX0_light_0 8 rfl rfl)
theorem dX0_light_9 : decode cX0_light 9 = .ok (.ireturn, 1) := dk_172 (dk_at dksX0_light_0 9 rfl rfl)
theorem dX0_light_10 : decode cX0_light 10 = .ok (.iconst 1, 1) := dk_4 (dk_at dksX0_light_0 10 rfl rfl)
theorem dX0_light_11 : decode cX0_light 11 = .ok (.istore_n 2, 1) := dk_61 (dk_at dksX0_light_0 11 rfl rfl)
theorem dX0_light_12 : decode cX0_light 12 = .ok (.iload_n 2, 1) := dk_28 (dk_at dksX0_light_0 12 rfl rfl)
theorem dX0_light_13 : decode cX0_light 13 = .ok (.bipush 24, 2) := dk_16 24 (dk_at dksX0_light_0 13 rfl rfl)
theorem dX0_light_15 : decode cX0_light 15 = .ok (.if_icmp .gt 26, 3) := dk_163 0 26 (dk_at dksX0_light_0 15 rfl rfl)
theorem dX0_light_18 : decode cX0_light 18 = .ok (.aload_n 0, 1) := dk_42 (dk_at dksX0_light_0 18 rfl rfl)
theorem dX0_light_19 : decode cX0_light 19 = .ok (.aload_n 0, 1) := dk_42 (dk_at dksX0_light_0 19 rfl rfl)
theorem dX0_light_20 : decode cX0_light 20 = .ok (.getfield 371, 3) := dk_180 1 115 (dk_at dksX0_light_0 20 rfl rfl)
theorem dX0_light_23 : decode cX0_light 23 = .ok (.iconst 0, 1) := dk_3 (dk_at dksX0_light_0 23 rfl rfl)
theorem dX0_light_24 : decode cX0_light 24 = .ok (.iload_n 2, 1) := dk_28 (dk_at dksX0_light_1 0 rfl rfl)
theorem dX0_light_25 : decode cX0_light 25 = .ok (.invokevirtual 357, 3) := dk_182 1 101 (dk_at dksX0_light_1 1 rfl rfl)
theorem dX0_light_28 : decode cX0_light 28 = .ok (.bipush 99, 2) := dk_16 99 (dk_at dksX0_light_1 4 rfl rfl)
theorem dX0_light_30 : decode cX0_light 30 = .ok (.if_icmp .gt 5, 3) := dk_163 0 5 (dk_at dksX0_light_1 6 rfl rfl)
theorem dX0_light_33 : decode cX0_light 33 = .ok (.iload_n 2, 1) := dk_28 (dk_at dksX0_light_1 9 rfl rfl)
theorem dX0_light_34 : decode cX0_light 34 = .ok (.ireturn, 1) := dk_172 (dk_at dksX0_light_1 10 rfl rfl)
theorem dX0_light_35 : decode cX0_light 35 = .ok (.iinc 2 1, 3) := dk_132 2 1 (dk_at dksX0_light_1 11 rfl rfl)
theorem dX0_light_38 : decode cX0_light 38 = .ok (.goto (-26), 3) := dk_167 255 230 (dk_at dksX0_light_1 14 rfl rfl)
theorem dX0_light_41 : decode cX0_light 41 = .ok (.iconst (-1), 1) := dk_2 (dk_at dksX0_light_1 17 rfl rfl)
theorem dX0_light_42 : decode cX0_light 42 = .ok (.ireturn, 1) := dk_172 (dk_at dksX0_light_1 18 rfl rfl)
abbrev cX0_saying : ByteArray := prog_1_method_67_code
def yX0_saying : MethodName := ⟨RX0, "saying", "(III)I"⟩
def dkwX0_saying_3 : List UInt8 := [172]
abbrev dktX0_saying_3 : List UInt8 := dkwX0_saying_3 ++ []
def dkwX0_saying_2 : List UInt8 := [167, 255, 235, 42, 42, 42, 180, 1, 115, 3, 28, 182, 1, 128, 21, 4, 4, 100, 29, 100, 46, 182, 1, 156]
abbrev dktX0_saying_2 : List UInt8 := dkwX0_saying_2 ++ dktX0_saying_3
def dkwX0_saying_1 : List UInt8 := [54, 5, 21, 5, 42, 180, 0, 120, 190, 162, 0, 17, 42, 180, 0, 120, 21, 5, 1, 83, 132, 5, 1]
abbrev dktX0_saying_1 : List UInt8 := dkwX0_saying_1 ++ dktX0_saying_2
def dkwX0_saying_0 : List UInt8 := [42, 27, 28, 182, 1, 153, 54, 4, 29, 3, 21, 4, 4, 100, 184, 0, 130, 154, 0, 5, 2, 172, 3]
abbrev dktX0_saying_0 : List UInt8 := dkwX0_saying_0 ++ dktX0_saying_1
theorem dksX0_saying_0 : cX0_saying.data.toList.drop 0 = dktX0_saying_0 := by decide +kernel
theorem dksX0_saying_1 : cX0_saying.data.toList.drop 23 = dktX0_saying_1 := dk_seg dksX0_saying_0 23 rfl rfl
theorem dksX0_saying_2 : cX0_saying.data.toList.drop 46 = dktX0_saying_2 := dk_seg dksX0_saying_1 23 rfl rfl
theorem dksX0_saying_3 : cX0_saying.data.toList.drop 70 = dktX0_saying_3 := dk_seg dksX0_saying_2 24 rfl rfl
theorem dX0_saying_0 : decode cX0_saying 0 = .ok (.aload_n 0, 1) := dk_42 (dk_at dksX0_saying_0 0 rfl rfl)
theorem dX0_saying_1 : decode cX0_saying 1 = .ok (.iload_n 1, 1) := dk_27 (dk_at dksX0_saying_0 1 rfl rfl)
theorem dX0_saying_2 : decode cX0_saying 2 = .ok (.iload_n 2, 1) := dk_28 (dk_at dksX0_saying_0 2 rfl rfl)
theorem dX0_saying_3 : decode cX0_saying 3 = .ok (.invokevirtual 409, 3) := dk_182 1 153 (dk_at dksX0_saying_0 3 rfl rfl)
theorem dX0_saying_6 : decode cX0_saying 6 = .ok (.istore 4, 2) := dk_54 4 (dk_at dksX0_saying_0 6 rfl rfl)
theorem dX0_saying_8 : decode cX0_saying 8 = .ok (.iload_n 3, 1) := dk_29 (dk_at dksX0_saying_0 8 rfl rfl)
theorem dX0_saying_9 : decode cX0_saying 9 = .ok (.iconst 0, 1) := dk_3 (dk_at dksX0_saying_0 9 rfl rfl)
theorem dX0_saying_10 : decode cX0_saying 10 = .ok (.iload 4, 2) := dk_21 4 (dk_at dksX0_saying_0 10 rfl rfl)
theorem dX0_saying_12 : decode cX0_saying 12 = .ok (.iconst 1, 1) := dk_4 (dk_at dksX0_saying_0 12 rfl rfl)
theorem dX0_saying_13 : decode cX0_saying 13 = .ok (.isub, 1) := dk_100 (dk_at dksX0_saying_0 13 rfl rfl)
theorem dX0_saying_14 : decode cX0_saying 14 = .ok (.invokestatic 130, 3) := dk_184 0 130 (dk_at dksX0_saying_0 14 rfl rfl)
theorem dX0_saying_17 : decode cX0_saying 17 = .ok (.ifCond .ne 5, 3) := dk_154 0 5 (dk_at dksX0_saying_0 17 rfl rfl)
theorem dX0_saying_20 : decode cX0_saying 20 = .ok (.iconst (-1), 1) := dk_2 (dk_at dksX0_saying_0 20 rfl rfl)
theorem dX0_saying_21 : decode cX0_saying 21 = .ok (.ireturn, 1) := dk_172 (dk_at dksX0_saying_0 21 rfl rfl)
theorem dX0_saying_22 : decode cX0_saying 22 = .ok (.iconst 0, 1) := dk_3 (dk_at dksX0_saying_0 22 rfl rfl)
theorem dX0_saying_23 : decode cX0_saying 23 = .ok (.istore 5, 2) := dk_54 5 (dk_at dksX0_saying_1 0 rfl rfl)
theorem dX0_saying_25 : decode cX0_saying 25 = .ok (.iload 5, 2) := dk_21 5 (dk_at dksX0_saying_1 2 rfl rfl)
theorem dX0_saying_27 : decode cX0_saying 27 = .ok (.aload_n 0, 1) := dk_42 (dk_at dksX0_saying_1 4 rfl rfl)
theorem dX0_saying_28 : decode cX0_saying 28 = .ok (.getfield 120, 3) := dk_180 0 120 (dk_at dksX0_saying_1 5 rfl rfl)
theorem dX0_saying_31 : decode cX0_saying 31 = .ok (.arraylength, 1) := dk_190 (dk_at dksX0_saying_1 8 rfl rfl)
theorem dX0_saying_32 : decode cX0_saying 32 = .ok (.if_icmp .ge 17, 3) := dk_162 0 17 (dk_at dksX0_saying_1 9 rfl rfl)
theorem dX0_saying_35 : decode cX0_saying 35 = .ok (.aload_n 0, 1) := dk_42 (dk_at dksX0_saying_1 12 rfl rfl)
theorem dX0_saying_36 : decode cX0_saying 36 = .ok (.getfield 120, 3) := dk_180 0 120 (dk_at dksX0_saying_1 13 rfl rfl)
theorem dX0_saying_39 : decode cX0_saying 39 = .ok (.iload 5, 2) := dk_21 5 (dk_at dksX0_saying_1 16 rfl rfl)
theorem dX0_saying_41 : decode cX0_saying 41 = .ok (.aconst_null, 1) := dk_1 (dk_at dksX0_saying_1 18 rfl rfl)
theorem dX0_saying_42 : decode cX0_saying 42 = .ok (.aastore, 1) := dk_83 (dk_at dksX0_saying_1 19 rfl rfl)
theorem dX0_saying_43 : decode cX0_saying 43 = .ok (.iinc 5 1, 3) := dk_132 5 1 (dk_at dksX0_saying_1 20 rfl rfl)
theorem dX0_saying_46 : decode cX0_saying 46 = .ok (.goto (-21), 3) := dk_167 255 235 (dk_at dksX0_saying_2 0 rfl rfl)
theorem dX0_saying_49 : decode cX0_saying 49 = .ok (.aload_n 0, 1) := dk_42 (dk_at dksX0_saying_2 3 rfl rfl)
theorem dX0_saying_50 : decode cX0_saying 50 = .ok (.aload_n 0, 1) := dk_42 (dk_at dksX0_saying_2 4 rfl rfl)
theorem dX0_saying_51 : decode cX0_saying 51 = .ok (.aload_n 0, 1) := dk_42 (dk_at dksX0_saying_2 5 rfl rfl)
theorem dX0_saying_52 : decode cX0_saying 52 = .ok (.getfield 371, 3) := dk_180 1 115 (dk_at dksX0_saying_2 6 rfl rfl)
theorem dX0_saying_55 : decode cX0_saying 55 = .ok (.iconst 0, 1) := dk_3 (dk_at dksX0_saying_2 9 rfl rfl)
theorem dX0_saying_56 : decode cX0_saying 56 = .ok (.iload_n 2, 1) := dk_28 (dk_at dksX0_saying_2 10 rfl rfl)
theorem dX0_saying_57 : decode cX0_saying 57 = .ok (.invokevirtual 384, 3) := dk_182 1 128 (dk_at dksX0_saying_2 11 rfl rfl)
theorem dX0_saying_60 : decode cX0_saying 60 = .ok (.iload 4, 2) := dk_21 4 (dk_at dksX0_saying_2 14 rfl rfl)
theorem dX0_saying_62 : decode cX0_saying 62 = .ok (.iconst 1, 1) := dk_4 (dk_at dksX0_saying_2 16 rfl rfl)
theorem dX0_saying_63 : decode cX0_saying 63 = .ok (.isub, 1) := dk_100 (dk_at dksX0_saying_2 17 rfl rfl)
theorem dX0_saying_64 : decode cX0_saying 64 = .ok (.iload_n 3, 1) := dk_29 (dk_at dksX0_saying_2 18 rfl rfl)
theorem dX0_saying_65 : decode cX0_saying 65 = .ok (.isub, 1) := dk_100 (dk_at dksX0_saying_2 19 rfl rfl)
theorem dX0_saying_66 : decode cX0_saying 66 = .ok (.iaload, 1) := dk_46 (dk_at dksX0_saying_2 20 rfl rfl)
theorem dX0_saying_67 : decode cX0_saying 67 = .ok (.invokevirtual 412, 3) := dk_182 1 156 (dk_at dksX0_saying_2 21 rfl rfl)
theorem dX0_saying_70 : decode cX0_saying 70 = .ok (.ireturn, 1) := dk_172 (dk_at dksX0_saying_3 0 rfl rfl)
abbrev cX0_said : ByteArray := prog_1_method_61_code
def yX0_said : MethodName := ⟨RX0, "said", "(III)[I"⟩
def dkwX0_said_1 : List UInt8 := [42, 27, 28, 29, 42, 180, 0, 113, 21, 4, 46, 182, 1, 124, 83, 42, 180, 0, 120, 21, 4, 50, 176]
abbrev dktX0_said_1 : List UInt8 := dkwX0_said_1 ++ []
def dkwX0_said_0 : List UInt8 := [27, 28, 29, 184, 1, 93, 54, 4, 42, 180, 0, 120, 21, 4, 50, 199, 0, 24, 42, 180, 0, 120, 21, 4]
abbrev dktX0_said_0 : List UInt8 := dkwX0_said_0 ++ dktX0_said_1
theorem dksX0_said_0 : cX0_said.data.toList.drop 0 = dktX0_said_0 := by decide +kernel
theorem dksX0_said_1 : cX0_said.data.toList.drop 24 = dktX0_said_1 := dk_seg dksX0_said_0 24 rfl rfl
theorem dX0_said_0 : decode cX0_said 0 = .ok (.iload_n 1, 1) := dk_27 (dk_at dksX0_said_0 0 rfl rfl)
theorem dX0_said_1 : decode cX0_said 1 = .ok (.iload_n 2, 1) := dk_28 (dk_at dksX0_said_0 1 rfl rfl)
theorem dX0_said_2 : decode cX0_said 2 = .ok (.iload_n 3, 1) := dk_29 (dk_at dksX0_said_0 2 rfl rfl)
theorem dX0_said_3 : decode cX0_said 3 = .ok (.invokestatic 349, 3) := dk_184 1 93 (dk_at dksX0_said_0 3 rfl rfl)
theorem dX0_said_6 : decode cX0_said 6 = .ok (.istore 4, 2) := dk_54 4 (dk_at dksX0_said_0 6 rfl rfl)
theorem dX0_said_8 : decode cX0_said 8 = .ok (.aload_n 0, 1) := dk_42 (dk_at dksX0_said_0 8 rfl rfl)
theorem dX0_said_9 : decode cX0_said 9 = .ok (.getfield 120, 3) := dk_180 0 120 (dk_at dksX0_said_0 9 rfl rfl)
theorem dX0_said_12 : decode cX0_said 12 = .ok (.iload 4, 2) := dk_21 4 (dk_at dksX0_said_0 12 rfl rfl)
theorem dX0_said_14 : decode cX0_said 14 = .ok (.aaload, 1) := dk_50 (dk_at dksX0_said_0 14 rfl rfl)
theorem dX0_said_15 : decode cX0_said 15 = .ok (.ifnonnull 24, 3) := dk_199 0 24 (dk_at dksX0_said_0 15 rfl rfl)
theorem dX0_said_18 : decode cX0_said 18 = .ok (.aload_n 0, 1) := dk_42 (dk_at dksX0_said_0 18 rfl rfl)
theorem dX0_said_19 : decode cX0_said 19 = .ok (.getfield 120, 3) := dk_180 0 120 (dk_at dksX0_said_0 19 rfl rfl)
theorem dX0_said_22 : decode cX0_said 22 = .ok (.iload 4, 2) := dk_21 4 (dk_at dksX0_said_0 22 rfl rfl)
theorem dX0_said_24 : decode cX0_said 24 = .ok (.aload_n 0, 1) := dk_42 (dk_at dksX0_said_1 0 rfl rfl)
theorem dX0_said_25 : decode cX0_said 25 = .ok (.iload_n 1, 1) := dk_27 (dk_at dksX0_said_1 1 rfl rfl)
theorem dX0_said_26 : decode cX0_said 26 = .ok (.iload_n 2, 1) := dk_28 (dk_at dksX0_said_1 2 rfl rfl)
theorem dX0_said_27 : decode cX0_said 27 = .ok (.iload_n 3, 1) := dk_29 (dk_at dksX0_said_1 3 rfl rfl)
theorem dX0_said_28 : decode cX0_said 28 = .ok (.aload_n 0, 1) := dk_42 (dk_at dksX0_said_1 4 rfl rfl)
theorem dX0_said_29 : decode cX0_said 29 = .ok (.getfield 113, 3) := dk_180 0 113 (dk_at dksX0_said_1 5 rfl rfl)
theorem dX0_said_32 : decode cX0_said 32 = .ok (.iload 4, 2) := dk_21 4 (dk_at dksX0_said_1 8 rfl rfl)
theorem dX0_said_34 : decode cX0_said 34 = .ok (.iaload, 1) := dk_46 (dk_at dksX0_said_1 10 rfl rfl)
theorem dX0_said_35 : decode cX0_said 35 = .ok (.invokevirtual 380, 3) := dk_182 1 124 (dk_at dksX0_said_1 11 rfl rfl)
theorem dX0_said_38 : decode cX0_said 38 = .ok (.aastore, 1) := dk_83 (dk_at dksX0_said_1 14 rfl rfl)
theorem dX0_said_39 : decode cX0_said 39 = .ok (.aload_n 0, 1) := dk_42 (dk_at dksX0_said_1 15 rfl rfl)
theorem dX0_said_40 : decode cX0_said 40 = .ok (.getfield 120, 3) := dk_180 0 120 (dk_at dksX0_said_1 16 rfl rfl)
theorem dX0_said_43 : decode cX0_said 43 = .ok (.iload 4, 2) := dk_21 4 (dk_at dksX0_said_1 19 rfl rfl)
theorem dX0_said_45 : decode cX0_said 45 = .ok (.aaload, 1) := dk_50 (dk_at dksX0_said_1 21 rfl rfl)
theorem dX0_said_46 : decode cX0_said 46 = .ok (.areturn, 1) := dk_176 (dk_at dksX0_said_1 22 rfl rfl)
abbrev cX0_begunBy : ByteArray := prog_1_method_62_code
def yX0_begunBy : MethodName := ⟨RX0, "begunBy", "(IIII)[I"⟩
def dkwX0_begunBy_11 : List UInt8 := [167, 255, 211, 25, 5, 176, 132, 8, 1, 167, 255, 16, 25, 5, 176]
abbrev dktX0_begunBy_11 : List UInt8 := dkwX0_begunBy_11 ++ []
def dkwX0_begunBy_10 : List UInt8 := [25, 9, 21, 10, 21, 13, 182, 0, 175, 29, 21, 13, 100, 182, 1, 128, 184, 1, 132, 54, 12, 132, 13, 255]
abbrev dktX0_begunBy_10 : List UInt8 := dkwX0_begunBy_10 ++ dktX0_begunBy_11
def dkwX0_begunBy_9 : List UInt8 := [100, 54, 13, 21, 13, 155, 0, 46, 25, 5, 21, 12, 42, 42, 27, 25, 9, 21, 10, 21, 13, 182, 1, 104]
abbrev dktX0_begunBy_9 : List UInt8 := dkwX0_begunBy_9 ++ dktX0_begunBy_10
def dkwX0_begunBy_8 : List UInt8 := [25, 9, 21, 10, 29, 182, 1, 136, 184, 1, 132, 54, 12, 167, 0, 62, 25, 9, 21, 10, 182, 0, 167, 4]
abbrev dktX0_begunBy_8 : List UInt8 := dkwX0_begunBy_8 ++ dktX0_begunBy_9
def dkwX0_begunBy_7 : List UInt8 := [184, 1, 132, 54, 12, 167, 0, 93, 25, 9, 182, 0, 178, 5, 160, 0, 25, 25, 5, 21, 12, 42, 27]
abbrev dktX0_begunBy_7 : List UInt8 := dkwX0_begunBy_7 ++ dktX0_begunBy_8
def dkwX0_begunBy_6 : List UInt8 := [21, 11, 153, 0, 28, 25, 5, 21, 12, 42, 27, 25, 9, 4, 3, 182, 0, 175, 29, 182, 1, 128]
abbrev dktX0_begunBy_6 : List UInt8 := dkwX0_begunBy_6 ++ dktX0_begunBy_7
def dkwX0_begunBy_5 : List UInt8 := [182, 1, 112, 21, 4, 159, 0, 6, 167, 0, 138, 25, 5, 3, 25, 9, 180, 0, 243, 79, 4, 54, 12]
abbrev dktX0_begunBy_5 : List UInt8 := dkwX0_begunBy_5 ++ dktX0_begunBy_6
def dkwX0_begunBy_4 : List UInt8 := [4, 96, 21, 4, 159, 0, 29, 167, 0, 161, 21, 10, 153, 0, 156, 42, 27, 25, 9, 21, 10, 29]
abbrev dktX0_begunBy_4 : List UInt8 := dkwX0_begunBy_4 ++ dktX0_begunBy_5
def dkwX0_begunBy_3 : List UInt8 := [167, 0, 4, 3, 54, 11, 21, 11, 153, 0, 26, 42, 27, 25, 9, 4, 3, 182, 0, 175, 29, 182, 1, 101]
abbrev dktX0_begunBy_3 : List UInt8 := dkwX0_begunBy_3 ++ dktX0_begunBy_4
def dkwX0_begunBy_2 : List UInt8 := [167, 0, 214, 42, 25, 9, 27, 182, 1, 108, 54, 10, 25, 9, 182, 0, 178, 2, 160, 0, 7, 4]
abbrev dktX0_begunBy_2 : List UInt8 := dkwX0_begunBy_2 ++ dktX0_begunBy_3
def dkwX0_begunBy_1 : List UInt8 := [21, 8, 21, 7, 162, 0, 239, 25, 6, 21, 8, 50, 58, 9, 25, 9, 180, 0, 196, 28, 159, 0, 6]
abbrev dktX0_begunBy_1 : List UInt8 := dkwX0_begunBy_1 ++ dktX0_begunBy_2
def dkwX0_begunBy_0 : List UInt8 := [21, 4, 188, 10, 58, 5, 42, 182, 0, 186, 180, 0, 189, 58, 6, 25, 6, 190, 54, 7, 3, 54, 8]
abbrev dktX0_begunBy_0 : List UInt8 := dkwX0_begunBy_0 ++ dktX0_begunBy_1
theorem dksX0_begunBy_0 : cX0_begunBy.data.toList.drop 0 = dktX0_begunBy_0 := by decide +kernel
theorem dksX0_begunBy_1 : cX0_begunBy.data.toList.drop 23 = dktX0_begunBy_1 := dk_seg dksX0_begunBy_0 23 rfl rfl
theorem dksX0_begunBy_2 : cX0_begunBy.data.toList.drop 46 = dktX0_begunBy_2 := dk_seg dksX0_begunBy_1 23 rfl rfl
theorem dksX0_begunBy_3 : cX0_begunBy.data.toList.drop 68 = dktX0_begunBy_3 := dk_seg dksX0_begunBy_2 22 rfl rfl
theorem dksX0_begunBy_4 : cX0_begunBy.data.toList.drop 92 = dktX0_begunBy_4 := dk_seg dksX0_begunBy_3 24 rfl rfl
theorem dksX0_begunBy_5 : cX0_begunBy.data.toList.drop 114 = dktX0_begunBy_5 := dk_seg dksX0_begunBy_4 22 rfl rfl
theorem dksX0_begunBy_6 : cX0_begunBy.data.toList.drop 137 = dktX0_begunBy_6 := dk_seg dksX0_begunBy_5 23 rfl rfl
theorem dksX0_begunBy_7 : cX0_begunBy.data.toList.drop 159 = dktX0_begunBy_7 := dk_seg dksX0_begunBy_6 22 rfl rfl
theorem dksX0_begunBy_8 : cX0_begunBy.data.toList.drop 182 = dktX0_begunBy_8 := dk_seg dksX0_begunBy_7 23 rfl rfl
theorem dksX0_begunBy_9 : cX0_begunBy.data.toList.drop 206 = dktX0_begunBy_9 := dk_seg dksX0_begunBy_8 24 rfl rfl
theorem dksX0_begunBy_10 : cX0_begunBy.data.toList.drop 230 = dktX0_begunBy_10 := dk_seg dksX0_begunBy_9 24 rfl rfl
theorem dksX0_begunBy_11 : cX0_begunBy.data.toList.drop 254 = dktX0_begunBy_11 := dk_seg dksX0_begunBy_10 24 rfl rfl
theorem dX0_begunBy_0 : decode cX0_begunBy 0 = .ok (.iload 4, 2) := dk_21 4 (dk_at dksX0_begunBy_0 0 rfl rfl)
theorem dX0_begunBy_2 : decode cX0_begunBy 2 = .ok (.newarray .int, 2) := dk_188_10 (dk_at dksX0_begunBy_0 2 rfl rfl)
theorem dX0_begunBy_4 : decode cX0_begunBy 4 = .ok (.astore 5, 2) := dk_58 5 (dk_at dksX0_begunBy_0 4 rfl rfl)
theorem dX0_begunBy_6 : decode cX0_begunBy 6 = .ok (.aload_n 0, 1) := dk_42 (dk_at dksX0_begunBy_0 6 rfl rfl)
theorem dX0_begunBy_7 : decode cX0_begunBy 7 = .ok (.invokevirtual 186, 3) := dk_182 0 186 (dk_at dksX0_begunBy_0 7 rfl rfl)
theorem dX0_begunBy_10 : decode cX0_begunBy 10 = .ok (.getfield 189, 3) := dk_180 0 189 (dk_at dksX0_begunBy_0 10 rfl rfl)
theorem dX0_begunBy_13 : decode cX0_begunBy 13 = .ok (.astore 6, 2) := dk_58 6 (dk_at dksX0_begunBy_0 13 rfl rfl)
theorem dX0_begunBy_15 : decode cX0_begunBy 15 = .ok (.aload 6, 2) := dk_25 6 (dk_at dksX0_begunBy_0 15 rfl rfl)
theorem dX0_begunBy_17 : decode cX0_begunBy 17 = .ok (.arraylength, 1) := dk_190 (dk_at dksX0_begunBy_0 17 rfl rfl)
theorem dX0_begunBy_18 : decode cX0_begunBy 18 = .ok (.istore 7, 2) := dk_54 7 (dk_at dksX0_begunBy_0 18 rfl rfl)
theorem dX0_begunBy_20 : decode cX0_begunBy 20 = .ok (.iconst 0, 1) := dk_3 (dk_at dksX0_begunBy_0 20 rfl rfl)
theorem dX0_begunBy_21 : decode cX0_begunBy 21 = .ok (.istore 8, 2) := dk_54 8 (dk_at dksX0_begunBy_0 21 rfl rfl)
theorem dX0_begunBy_23 : decode cX0_begunBy 23 = .ok (.iload 8, 2) := dk_21 8 (dk_at dksX0_begunBy_1 0 rfl rfl)
theorem dX0_begunBy_25 : decode cX0_begunBy 25 = .ok (.iload 7, 2) := dk_21 7 (dk_at dksX0_begunBy_1 2 rfl rfl)
theorem dX0_begunBy_27 : decode cX0_begunBy 27 = .ok (.if_icmp .ge 239, 3) := dk_162 0 239 (dk_at dksX0_begunBy_1 4 rfl rfl)
theorem dX0_begunBy_30 : decode cX0_begunBy 30 = .ok (.aload 6, 2) := dk_25 6 (dk_at dksX0_begunBy_1 7 rfl rfl)
theorem dX0_begunBy_32 : decode cX0_begunBy 32 = .ok (.iload 8, 2) := dk_21 8 (dk_at dksX0_begunBy_1 9 rfl rfl)
theorem dX0_begunBy_34 : decode cX0_begunBy 34 = .ok (.aaload, 1) := dk_50 (dk_at dksX0_begunBy_1 11 rfl rfl)
theorem dX0_begunBy_35 : decode cX0_begunBy 35 = .ok (.astore 9, 2) := dk_58 9 (dk_at dksX0_begunBy_1 12 rfl rfl)
theorem dX0_begunBy_37 : decode cX0_begunBy 37 = .ok (.aload 9, 2) := dk_25 9 (dk_at dksX0_begunBy_1 14 rfl rfl)
theorem dX0_begunBy_39 : decode cX0_begunBy 39 = .ok (.getfield 196, 3) := dk_180 0 196 (dk_at dksX0_begunBy_1 16 rfl rfl)
theorem dX0_begunBy_42 : decode cX0_begunBy 42 = .ok (.iload_n 2, 1) := dk_28 (dk_at dksX0_begunBy_1 19 rfl rfl)
theorem dX0_begunBy_43 : decode cX0_begunBy 43 = .ok (.if_icmp .eq 6, 3) := dk_159 0 6 (dk_at dksX0_begunBy_1 20 rfl rfl)
theorem dX0_begunBy_46 : decode cX0_begunBy 46 = .ok (.goto 214, 3) := dk_167 0 214 (dk_at dksX0_begunBy_2 0 rfl rfl)
theorem dX0_begunBy_49 : decode cX0_begunBy 49 = .ok (.aload_n 0, 1) := dk_42 (dk_at dksX0_begunBy_2 3 rfl rfl)
theorem dX0_begunBy_50 : decode cX0_begunBy 50 = .ok (.aload 9, 2) := dk_25 9 (dk_at dksX0_begunBy_2 4 rfl rfl)
theorem dX0_begunBy_52 : decode cX0_begunBy 52 = .ok (.iload_n 1, 1) := dk_27 (dk_at dksX0_begunBy_2 6 rfl rfl)
theorem dX0_begunBy_53 : decode cX0_begunBy 53 = .ok (.invokevirtual 364, 3) := dk_182 1 108 (dk_at dksX0_begunBy_2 7 rfl rfl)
theorem dX0_begunBy_56 : decode cX0_begunBy 56 = .ok (.istore 10, 2) := dk_54 10 (dk_at dksX0_begunBy_2 10 rfl rfl)
theorem dX0_begunBy_58 : decode cX0_begunBy 58 = .ok (.aload 9, 2) := dk_25 9 (dk_at dksX0_begunBy_2 12 rfl rfl)
theorem dX0_begunBy_60 : decode cX0_begunBy 60 = .ok (.invokevirtual 178, 3) := dk_182 0 178 (dk_at dksX0_begunBy_2 14 rfl rfl)
theorem dX0_begunBy_63 : decode cX0_begunBy 63 = .ok (.iconst (-1), 1) := dk_2 (dk_at dksX0_begunBy_2 17 rfl rfl)
theorem dX0_begunBy_64 : decode cX0_begunBy 64 = .ok (.if_icmp .ne 7, 3) := dk_160 0 7 (dk_at dksX0_begunBy_2 18 rfl rfl)
theorem dX0_begunBy_67 : decode cX0_begunBy 67 = .ok (.iconst 1, 1) := dk_4 (dk_at dksX0_begunBy_2 21 rfl rfl)
theorem dX0_begunBy_68 : decode cX0_begunBy 68 = .ok (.goto 4, 3) := dk_167 0 4 (dk_at dksX0_begunBy_3 0 rfl rfl)
theorem dX0_begunBy_71 : decode cX0_begunBy 71 = .ok (.iconst 0, 1) := dk_3 (dk_at dksX0_begunBy_3 3 rfl rfl)
theorem dX0_begunBy_72 : decode cX0_begunBy 72 = .ok (.istore 11, 2) := dk_54 11 (dk_at dksX0_begunBy_3 4 rfl rfl)
theorem dX0_begunBy_74 : decode cX0_begunBy 74 = .ok (.iload 11, 2) := dk_21 11 (dk_at dksX0_begunBy_3 6 rfl rfl)
theorem dX0_begunBy_76 : decode cX0_begunBy 76 = .ok (.ifCond .eq 26, 3) := dk_153 0 26 (dk_at dksX0_begunBy_3 8 rfl rfl)
theorem dX0_begunBy_79 : decode cX0_begunBy 79 = .ok (.aload_n 0, 1) := dk_42 (dk_at dksX0_begunBy_3 11 rfl rfl)
theorem dX0_begunBy_80 : decode cX0_begunBy 80 = .ok (.iload_n 1, 1) := dk_27 (dk_at dksX0_begunBy_3 12 rfl rfl)
theorem dX0_begunBy_81 : decode cX0_begunBy 81 = .ok (.aload 9, 2) := dk_25 9 (dk_at dksX0_begunBy_3 13 rfl rfl)
theorem dX0_begunBy_83 : decode cX0_begunBy 83 = .ok (.iconst 1, 1) := dk_4 (dk_at dksX0_begunBy_3 15 rfl rfl)
theorem dX0_begunBy_84 : decode cX0_begunBy 84 = .ok (.iconst 0, 1) := dk_3 (dk_at dksX0_begunBy_3 16 rfl rfl)
theorem dX0_begunBy_85 : decode cX0_begunBy 85 = .ok (.invokevirtual 175, 3) := dk_182 0 175 (dk_at dksX0_begunBy_3 17 rfl rfl)
theorem dX0_begunBy_88 : decode cX0_begunBy 88 = .ok (.iload_n 3, 1) := dk_29 (dk_at dksX0_begunBy_3 20 rfl rfl)
theorem dX0_begunBy_89 : decode cX0_begunBy 89 = .ok (.invokevirtual 357, 3) := dk_182 1 101 (dk_at dksX0_begunBy_3 21 rfl rfl)
theorem dX0_begunBy_92 : decode cX0_begunBy 92 = .ok (.iconst 1, 1) := dk_4 (dk_at dksX0_begunBy_4 0 rfl rfl)
theorem dX0_begunBy_93 : decode cX0_begunBy 93 = .ok (.iadd, 1) := dk_96 (dk_at dksX0_begunBy_4 1 rfl rfl)
theorem dX0_begunBy_94 : decode cX0_begunBy 94 = .ok (.iload 4, 2) := dk_21 4 (dk_at dksX0_begunBy_4 2 rfl rfl)
theorem dX0_begunBy_96 : decode cX0_begunBy 96 = .ok (.if_icmp .eq 29, 3) := dk_159 0 29 (dk_at dksX0_begunBy_4 4 rfl rfl)
theorem dX0_begunBy_99 : decode cX0_begunBy 99 = .ok (.goto 161, 3) := dk_167 0 161 (dk_at dksX0_begunBy_4 7 rfl rfl)
theorem dX0_begunBy_102 : decode cX0_begunBy 102 = .ok (.iload 10, 2) := dk_21 10 (dk_at dksX0_begunBy_4 10 rfl rfl)
theorem dX0_begunBy_104 : decode cX0_begunBy 104 = .ok (.ifCond .eq 156, 3) := dk_153 0 156 (dk_at dksX0_begunBy_4 12 rfl rfl)
theorem dX0_begunBy_107 : decode cX0_begunBy 107 = .ok (.aload_n 0, 1) := dk_42 (dk_at dksX0_begunBy_4 15 rfl rfl)
theorem dX0_begunBy_108 : decode cX0_begunBy 108 = .ok (.iload_n 1, 1) := dk_27 (dk_at dksX0_begunBy_4 16 rfl rfl)
theorem dX0_begunBy_109 : decode cX0_begunBy 109 = .ok (.aload 9, 2) := dk_25 9 (dk_at dksX0_begunBy_4 17 rfl rfl)
theorem dX0_begunBy_111 : decode cX0_begunBy 111 = .ok (.iload 10, 2) := dk_21 10 (dk_at dksX0_begunBy_4 19 rfl rfl)
theorem dX0_begunBy_113 : decode cX0_begunBy 113 = .ok (.iload_n 3, 1) := dk_29 (dk_at dksX0_begunBy_4 21 rfl rfl)
theorem dX0_begunBy_114 : decode cX0_begunBy 114 = .ok (.invokevirtual 368, 3) := dk_182 1 112 (dk_at dksX0_begunBy_5 0 rfl rfl)
theorem dX0_begunBy_117 : decode cX0_begunBy 117 = .ok (.iload 4, 2) := dk_21 4 (dk_at dksX0_begunBy_5 3 rfl rfl)
theorem dX0_begunBy_119 : decode cX0_begunBy 119 = .ok (.if_icmp .eq 6, 3) := dk_159 0 6 (dk_at dksX0_begunBy_5 5 rfl rfl)
theorem dX0_begunBy_122 : decode cX0_begunBy 122 = .ok (.goto 138, 3) := dk_167 0 138 (dk_at dksX0_begunBy_5 8 rfl rfl)
theorem dX0_begunBy_125 : decode cX0_begunBy 125 = .ok (.aload 5, 2) := dk_25 5 (dk_at dksX0_begunBy_5 11 rfl rfl)
theorem dX0_begunBy_127 : decode cX0_begunBy 127 = .ok (.iconst 0, 1) := dk_3 (dk_at dksX0_begunBy_5 13 rfl rfl)
theorem dX0_begunBy_128 : decode cX0_begunBy 128 = .ok (.aload 9, 2) := dk_25 9 (dk_at dksX0_begunBy_5 14 rfl rfl)
theorem dX0_begunBy_130 : decode cX0_begunBy 130 = .ok (.getfield 243, 3) := dk_180 0 243 (dk_at dksX0_begunBy_5 16 rfl rfl)
theorem dX0_begunBy_133 : decode cX0_begunBy 133 = .ok (.iastore, 1) := dk_79 (dk_at dksX0_begunBy_5 19 rfl rfl)
theorem dX0_begunBy_134 : decode cX0_begunBy 134 = .ok (.iconst 1, 1) := dk_4 (dk_at dksX0_begunBy_5 20 rfl rfl)
theorem dX0_begunBy_135 : decode cX0_begunBy 135 = .ok (.istore 12, 2) := dk_54 12 (dk_at dksX0_begunBy_5 21 rfl rfl)
theorem dX0_begunBy_137 : decode cX0_begunBy 137 = .ok (.iload 11, 2) := dk_21 11 (dk_at dksX0_begunBy_6 0 rfl rfl)
theorem dX0_begunBy_139 : decode cX0_begunBy 139 = .ok (.ifCond .eq 28, 3) := dk_153 0 28 (dk_at dksX0_begunBy_6 2 rfl rfl)
theorem dX0_begunBy_142 : decode cX0_begunBy 142 = .ok (.aload 5, 2) := dk_25 5 (dk_at dksX0_begunBy_6 5 rfl rfl)
theorem dX0_begunBy_144 : decode cX0_begunBy 144 = .ok (.iload 12, 2) := dk_21 12 (dk_at dksX0_begunBy_6 7 rfl rfl)
theorem dX0_begunBy_146 : decode cX0_begunBy 146 = .ok (.aload_n 0, 1) := dk_42 (dk_at dksX0_begunBy_6 9 rfl rfl)
theorem dX0_begunBy_147 : decode cX0_begunBy 147 = .ok (.iload_n 1, 1) := dk_27 (dk_at dksX0_begunBy_6 10 rfl rfl)
theorem dX0_begunBy_148 : decode cX0_begunBy 148 = .ok (.aload 9, 2) := dk_25 9 (dk_at dksX0_begunBy_6 11 rfl rfl)
theorem dX0_begunBy_150 : decode cX0_begunBy 150 = .ok (.iconst 1, 1) := dk_4 (dk_at dksX0_begunBy_6 13 rfl rfl)
theorem dX0_begunBy_151 : decode cX0_begunBy 151 = .ok (.iconst 0, 1) := dk_3 (dk_at dksX0_begunBy_6 14 rfl rfl)
theorem dX0_begunBy_152 : decode cX0_begunBy 152 = .ok (.invokevirtual 175, 3) := dk_182 0 175 (dk_at dksX0_begunBy_6 15 rfl rfl)
theorem dX0_begunBy_155 : decode cX0_begunBy 155 = .ok (.iload_n 3, 1) := dk_29 (dk_at dksX0_begunBy_6 18 rfl rfl)
theorem dX0_begunBy_156 : decode cX0_begunBy 156 = .ok (.invokevirtual 384, 3) := dk_182 1 128 (dk_at dksX0_begunBy_6 19 rfl rfl)
theorem dX0_begunBy_159 : decode cX0_begunBy 159 = .ok (.invokestatic 388, 3) := dk_184 1 132 (dk_at dksX0_begunBy_7 0 rfl rfl)
theorem dX0_begunBy_162 : decode cX0_begunBy 162 = .ok (.istore 12, 2) := dk_54 12 (dk_at dksX0_begunBy_7 3 rfl rfl)
theorem dX0_begunBy_164 : decode cX0_begunBy 164 = .ok (.goto 93, 3) := dk_167 0 93 (dk_at dksX0_begunBy_7 5 rfl rfl)
theorem dX0_begunBy_167 : decode cX0_begunBy 167 = .ok (.aload 9, 2) := dk_25 9 (dk_at dksX0_begunBy_7 8 rfl rfl)
theorem dX0_begunBy_169 : decode cX0_begunBy 169 = .ok (.invokevirtual 178, 3) := dk_182 0 178 (dk_at dksX0_begunBy_7 10 rfl rfl)
theorem dX0_begunBy_172 : decode cX0_begunBy 172 = .ok (.iconst 2, 1) := dk_5 (dk_at dksX0_begunBy_7 13 rfl rfl)
theorem dX0_begunBy_173 : decode cX0_begunBy 173 = .ok (.if_icmp .ne 25, 3) := dk_160 0 25 (dk_at dksX0_begunBy_7 14 rfl rfl)
theorem dX0_begunBy_176 : decode cX0_begunBy 176 = .ok (.aload 5, 2) := dk_25 5 (dk_at dksX0_begunBy_7 17 rfl rfl)
theorem dX0_begunBy_178 : decode cX0_begunBy 178 = .ok (.iload 12, 2) := dk_21 12 (dk_at dksX0_begunBy_7 19 rfl rfl)
theorem dX0_begunBy_180 : decode cX0_begunBy 180 = .ok (.aload_n 0, 1) := dk_42 (dk_at dksX0_begunBy_7 21 rfl rfl)
theorem dX0_begunBy_181 : decode cX0_begunBy 181 = .ok (.iload_n 1, 1) := dk_27 (dk_at dksX0_begunBy_7 22 rfl rfl)
theorem dX0_begunBy_182 : decode cX0_begunBy 182 = .ok (.aload 9, 2) := dk_25 9 (dk_at dksX0_begunBy_8 0 rfl rfl)
theorem dX0_begunBy_184 : decode cX0_begunBy 184 = .ok (.iload 10, 2) := dk_21 10 (dk_at dksX0_begunBy_8 2 rfl rfl)
theorem dX0_begunBy_186 : decode cX0_begunBy 186 = .ok (.iload_n 3, 1) := dk_29 (dk_at dksX0_begunBy_8 4 rfl rfl)
theorem dX0_begunBy_187 : decode cX0_begunBy 187 = .ok (.invokevirtual 392, 3) := dk_182 1 136 (dk_at dksX0_begunBy_8 5 rfl rfl)
theorem dX0_begunBy_190 : decode cX0_begunBy 190 = .ok (.invokestatic 388, 3) := dk_184 1 132 (dk_at dksX0_begunBy_8 8 rfl rfl)
theorem dX0_begunBy_193 : decode cX0_begunBy 193 = .ok (.istore 12, 2) := dk_54 12 (dk_at dksX0_begunBy_8 11 rfl rfl)
theorem dX0_begunBy_195 : decode cX0_begunBy 195 = .ok (.goto 62, 3) := dk_167 0 62 (dk_at dksX0_begunBy_8 13 rfl rfl)
theorem dX0_begunBy_198 : decode cX0_begunBy 198 = .ok (.aload 9, 2) := dk_25 9 (dk_at dksX0_begunBy_8 16 rfl rfl)
theorem dX0_begunBy_200 : decode cX0_begunBy 200 = .ok (.iload 10, 2) := dk_21 10 (dk_at dksX0_begunBy_8 18 rfl rfl)
theorem dX0_begunBy_202 : decode cX0_begunBy 202 = .ok (.invokevirtual 167, 3) := dk_182 0 167 (dk_at dksX0_begunBy_8 20 rfl rfl)
theorem dX0_begunBy_205 : decode cX0_begunBy 205 = .ok (.iconst 1, 1) := dk_4 (dk_at dksX0_begunBy_8 23 rfl rfl)
theorem dX0_begunBy_206 : decode cX0_begunBy 206 = .ok (.isub, 1) := dk_100 (dk_at dksX0_begunBy_9 0 rfl rfl)
theorem dX0_begunBy_207 : decode cX0_begunBy 207 = .ok (.istore 13, 2) := dk_54 13 (dk_at dksX0_begunBy_9 1 rfl rfl)
theorem dX0_begunBy_209 : decode cX0_begunBy 209 = .ok (.iload 13, 2) := dk_21 13 (dk_at dksX0_begunBy_9 3 rfl rfl)
theorem dX0_begunBy_211 : decode cX0_begunBy 211 = .ok (.ifCond .lt 46, 3) := dk_155 0 46 (dk_at dksX0_begunBy_9 5 rfl rfl)
theorem dX0_begunBy_214 : decode cX0_begunBy 214 = .ok (.aload 5, 2) := dk_25 5 (dk_at dksX0_begunBy_9 8 rfl rfl)
theorem dX0_begunBy_216 : decode cX0_begunBy 216 = .ok (.iload 12, 2) := dk_21 12 (dk_at dksX0_begunBy_9 10 rfl rfl)
theorem dX0_begunBy_218 : decode cX0_begunBy 218 = .ok (.aload_n 0, 1) := dk_42 (dk_at dksX0_begunBy_9 12 rfl rfl)
theorem dX0_begunBy_219 : decode cX0_begunBy 219 = .ok (.aload_n 0, 1) := dk_42 (dk_at dksX0_begunBy_9 13 rfl rfl)
theorem dX0_begunBy_220 : decode cX0_begunBy 220 = .ok (.iload_n 1, 1) := dk_27 (dk_at dksX0_begunBy_9 14 rfl rfl)
theorem dX0_begunBy_221 : decode cX0_begunBy 221 = .ok (.aload 9, 2) := dk_25 9 (dk_at dksX0_begunBy_9 15 rfl rfl)
theorem dX0_begunBy_223 : decode cX0_begunBy 223 = .ok (.iload 10, 2) := dk_21 10 (dk_at dksX0_begunBy_9 17 rfl rfl)
theorem dX0_begunBy_225 : decode cX0_begunBy 225 = .ok (.iload 13, 2) := dk_21 13 (dk_at dksX0_begunBy_9 19 rfl rfl)
theorem dX0_begunBy_227 : decode cX0_begunBy 227 = .ok (.invokevirtual 360, 3) := dk_182 1 104 (dk_at dksX0_begunBy_9 21 rfl rfl)
theorem dX0_begunBy_230 : decode cX0_begunBy 230 = .ok (.aload 9, 2) := dk_25 9 (dk_at dksX0_begunBy_10 0 rfl rfl)
theorem dX0_begunBy_232 : decode cX0_begunBy 232 = .ok (.iload 10, 2) := dk_21 10 (dk_at dksX0_begunBy_10 2 rfl rfl)
theorem dX0_begunBy_234 : decode cX0_begunBy 234 = .ok (.iload 13, 2) := dk_21 13 (dk_at dksX0_begunBy_10 4 rfl rfl)
theorem dX0_begunBy_236 : decode cX0_begunBy 236 = .ok (.invokevirtual 175, 3) := dk_182 0 175 (dk_at dksX0_begunBy_10 6 rfl rfl)
theorem dX0_begunBy_239 : decode cX0_begunBy 239 = .ok (.iload_n 3, 1) := dk_29 (dk_at dksX0_begunBy_10 9 rfl rfl)
theorem dX0_begunBy_240 : decode cX0_begunBy 240 = .ok (.iload 13, 2) := dk_21 13 (dk_at dksX0_begunBy_10 10 rfl rfl)
theorem dX0_begunBy_242 : decode cX0_begunBy 242 = .ok (.isub, 1) := dk_100 (dk_at dksX0_begunBy_10 12 rfl rfl)
theorem dX0_begunBy_243 : decode cX0_begunBy 243 = .ok (.invokevirtual 384, 3) := dk_182 1 128 (dk_at dksX0_begunBy_10 13 rfl rfl)
theorem dX0_begunBy_246 : decode cX0_begunBy 246 = .ok (.invokestatic 388, 3) := dk_184 1 132 (dk_at dksX0_begunBy_10 16 rfl rfl)
theorem dX0_begunBy_249 : decode cX0_begunBy 249 = .ok (.istore 12, 2) := dk_54 12 (dk_at dksX0_begunBy_10 19 rfl rfl)
theorem dX0_begunBy_251 : decode cX0_begunBy 251 = .ok (.iinc 13 (-1), 3) := dk_132 13 255 (dk_at dksX0_begunBy_10 21 rfl rfl)
theorem dX0_begunBy_254 : decode cX0_begunBy 254 = .ok (.goto (-45), 3) := dk_167 255 211 (dk_at dksX0_begunBy_11 0 rfl rfl)
theorem dX0_begunBy_257 : decode cX0_begunBy 257 = .ok (.aload 5, 2) := dk_25 5 (dk_at dksX0_begunBy_11 3 rfl rfl)
theorem dX0_begunBy_259 : decode cX0_begunBy 259 = .ok (.areturn, 1) := dk_176 (dk_at dksX0_begunBy_11 5 rfl rfl)
theorem dX0_begunBy_260 : decode cX0_begunBy 260 = .ok (.iinc 8 1, 3) := dk_132 8 1 (dk_at dksX0_begunBy_11 6 rfl rfl)
theorem dX0_begunBy_263 : decode cX0_begunBy 263 = .ok (.goto (-240), 3) := dk_167 255 16 (dk_at dksX0_begunBy_11 9 rfl rfl)
theorem dX0_begunBy_266 : decode cX0_begunBy 266 = .ok (.aload 5, 2) := dk_25 5 (dk_at dksX0_begunBy_11 12 rfl rfl)
theorem dX0_begunBy_268 : decode cX0_begunBy 268 = .ok (.areturn, 1) := dk_176 (dk_at dksX0_begunBy_11 14 rfl rfl)
abbrev cX0_laid : ByteArray := prog_1_method_63_code
def yX0_laid : MethodName := ⟨RX0, "laid", "([II[I)I"⟩
def dkwX0_laid_0 : List UInt8 := [44, 3, 42, 27, 44, 190, 184, 1, 140, 27, 44, 190, 96, 172]
abbrev dktX0_laid_0 : List UInt8 := dkwX0_laid_0 ++ []
theorem dksX0_laid_0 : cX0_laid.data.toList.drop 0 = dktX0_laid_0 := by decide +kernel
theorem dX0_laid_0 : decode cX0_laid 0 = .ok (.aload_n 2, 1) := dk_44 (dk_at dksX0_laid_0 0 rfl rfl)
theorem dX0_laid_1 : decode cX0_laid 1 = .ok (.iconst 0, 1) := dk_3 (dk_at dksX0_laid_0 1 rfl rfl)
theorem dX0_laid_2 : decode cX0_laid 2 = .ok (.aload_n 0, 1) := dk_42 (dk_at dksX0_laid_0 2 rfl rfl)
theorem dX0_laid_3 : decode cX0_laid 3 = .ok (.iload_n 1, 1) := dk_27 (dk_at dksX0_laid_0 3 rfl rfl)
theorem dX0_laid_4 : decode cX0_laid 4 = .ok (.aload_n 2, 1) := dk_44 (dk_at dksX0_laid_0 4 rfl rfl)
theorem dX0_laid_5 : decode cX0_laid 5 = .ok (.arraylength, 1) := dk_190 (dk_at dksX0_laid_0 5 rfl rfl)
theorem dX0_laid_6 : decode cX0_laid 6 = .ok (.invokestatic 396, 3) := dk_184 1 140 (dk_at dksX0_laid_0 6 rfl rfl)
theorem dX0_laid_9 : decode cX0_laid 9 = .ok (.iload_n 1, 1) := dk_27 (dk_at dksX0_laid_0 9 rfl rfl)
theorem dX0_laid_10 : decode cX0_laid 10 = .ok (.aload_n 2, 1) := dk_44 (dk_at dksX0_laid_0 10 rfl rfl)
theorem dX0_laid_11 : decode cX0_laid 11 = .ok (.arraylength, 1) := dk_190 (dk_at dksX0_laid_0 11 rfl rfl)
theorem dX0_laid_12 : decode cX0_laid 12 = .ok (.iadd, 1) := dk_96 (dk_at dksX0_laid_0 12 rfl rfl)
theorem dX0_laid_13 : decode cX0_laid 13 = .ok (.ireturn, 1) := dk_172 (dk_at dksX0_laid_0 13 rfl rfl)
abbrev cX0_saidSet : ByteArray := prog_1_method_64_code
def yX0_saidSet : MethodName := ⟨RX0, "saidSet", "(ILHeldTongue$Sense;II)[I"⟩
def dkwX0_saidSet_9 : List UInt8 := [54, 12, 132, 8, 1, 167, 255, 80, 132, 6, 1, 167, 255, 54, 25, 5, 4, 29, 120, 4, 100, 50, 176]
abbrev dktX0_saidSet_9 : List UInt8 := dkwX0_saidSet_9 ++ []
def dkwX0_saidSet_8 : List UInt8 := [188, 10, 83, 25, 5, 21, 6, 50, 25, 5, 21, 6, 50, 3, 25, 11, 184, 1, 132, 25, 9, 184, 1, 132]
abbrev dktX0_saidSet_8 : List UInt8 := dkwX0_saidSet_8 ++ dktX0_saidSet_9
def dkwX0_saidSet_7 : List UInt8 := [25, 9, 25, 5, 21, 6, 50, 184, 1, 149, 153, 0, 40, 25, 5, 21, 6, 25, 11, 190, 25, 9, 190, 96]
abbrev dktX0_saidSet_7 : List UInt8 := dkwX0_saidSet_7 ++ dktX0_saidSet_8
def dkwX0_saidSet_6 : List UInt8 := [182, 0, 175, 21, 4, 21, 7, 100, 182, 1, 128, 58, 11, 25, 5, 21, 6, 50, 198, 0, 18, 25, 11]
abbrev dktX0_saidSet_6 : List UInt8 := dkwX0_saidSet_6 ++ dktX0_saidSet_7
def dkwX0_saidSet_5 : List UInt8 := [21, 7, 100, 182, 1, 101, 17, 3, 232, 161, 0, 6, 167, 0, 83, 42, 21, 10, 44, 29, 21, 8]
abbrev dktX0_saidSet_5 : List UInt8 := dkwX0_saidSet_5 ++ dktX0_saidSet_6
def dkwX0_saidSet_4 : List UInt8 := [180, 0, 92, 27, 46, 21, 8, 96, 46, 54, 10, 42, 21, 10, 44, 29, 21, 8, 182, 0, 175, 21, 4]
abbrev dktX0_saidSet_4 : List UInt8 := dkwX0_saidSet_4 ++ dktX0_saidSet_5
def dkwX0_saidSet_3 : List UInt8 := [198, 0, 141, 42, 27, 21, 6, 21, 8, 182, 1, 146, 153, 0, 6, 167, 0, 126, 42, 180, 0, 95, 42]
abbrev dktX0_saidSet_3 : List UInt8 := dkwX0_saidSet_3 ++ dktX0_saidSet_4
def dkwX0_saidSet_2 : List UInt8 := [21, 6, 4, 21, 8, 120, 2, 130, 126, 50, 58, 9, 21, 6, 21, 8, 122, 4, 126, 153, 0, 146, 25, 9]
abbrev dktX0_saidSet_2 : List UInt8 := dkwX0_saidSet_2 ++ dktX0_saidSet_3
def dkwX0_saidSet_1 : List UInt8 := [162, 0, 200, 21, 6, 184, 1, 96, 4, 100, 54, 7, 3, 54, 8, 21, 8, 29, 162, 0, 176, 25, 5]
abbrev dktX0_saidSet_1 : List UInt8 := dkwX0_saidSet_1 ++ dktX0_saidSet_2
def dkwX0_saidSet_0 : List UInt8 := [4, 29, 120, 189, 0, 119, 58, 5, 25, 5, 3, 3, 188, 10, 83, 4, 54, 6, 21, 6, 4, 29, 120]
abbrev dktX0_saidSet_0 : List UInt8 := dkwX0_saidSet_0 ++ dktX0_saidSet_1
theorem dksX0_saidSet_0 : cX0_saidSet.data.toList.drop 0 = dktX0_saidSet_0 := by decide +kernel
theorem dksX0_saidSet_1 : cX0_saidSet.data.toList.drop 23 = dktX0_saidSet_1 := dk_seg dksX0_saidSet_0 23 rfl rfl
theorem dksX0_saidSet_2 : cX0_saidSet.data.toList.drop 46 = dktX0_saidSet_2 := dk_seg dksX0_saidSet_1 23 rfl rfl
theorem dksX0_saidSet_3 : cX0_saidSet.data.toList.drop 70 = dktX0_saidSet_3 := dk_seg dksX0_saidSet_2 24 rfl rfl
theorem dksX0_saidSet_4 : cX0_saidSet.data.toList.drop 93 = dktX0_saidSet_4 := dk_seg dksX0_saidSet_3 23 rfl rfl
theorem dksX0_saidSet_5 : cX0_saidSet.data.toList.drop 116 = dktX0_saidSet_5 := dk_seg dksX0_saidSet_4 23 rfl rfl
theorem dksX0_saidSet_6 : cX0_saidSet.data.toList.drop 138 = dktX0_saidSet_6 := dk_seg dksX0_saidSet_5 22 rfl rfl
theorem dksX0_saidSet_7 : cX0_saidSet.data.toList.drop 161 = dktX0_saidSet_7 := dk_seg dksX0_saidSet_6 23 rfl rfl
theorem dksX0_saidSet_8 : cX0_saidSet.data.toList.drop 185 = dktX0_saidSet_8 := dk_seg dksX0_saidSet_7 24 rfl rfl
theorem dksX0_saidSet_9 : cX0_saidSet.data.toList.drop 209 = dktX0_saidSet_9 := dk_seg dksX0_saidSet_8 24 rfl rfl
theorem dX0_saidSet_0 : decode cX0_saidSet 0 = .ok (.iconst 1, 1) := dk_4 (dk_at dksX0_saidSet_0 0 rfl rfl)
theorem dX0_saidSet_1 : decode cX0_saidSet 1 = .ok (.iload_n 3, 1) := dk_29 (dk_at dksX0_saidSet_0 1 rfl rfl)
theorem dX0_saidSet_2 : decode cX0_saidSet 2 = .ok (.ishl, 1) := dk_120 (dk_at dksX0_saidSet_0 2 rfl rfl)
theorem dX0_saidSet_3 : decode cX0_saidSet 3 = .ok (.anewarray 119, 3) := dk_189 0 119 (dk_at dksX0_saidSet_0 3 rfl rfl)
theorem dX0_saidSet_6 : decode cX0_saidSet 6 = .ok (.astore 5, 2) := dk_58 5 (dk_at dksX0_saidSet_0 6 rfl rfl)
theorem dX0_saidSet_8 : decode cX0_saidSet 8 = .ok (.aload 5, 2) := dk_25 5 (dk_at dksX0_saidSet_0 8 rfl rfl)
theorem dX0_saidSet_10 : decode cX0_saidSet 10 = .ok (.iconst 0, 1) := dk_3 (dk_at dksX0_saidSet_0 10 rfl rfl)
theorem dX0_saidSet_11 : decode cX0_saidSet 11 = .ok (.iconst 0, 1) := dk_3 (dk_at dksX0_saidSet_0 11 rfl rfl)
theorem dX0_saidSet_12 : decode cX0_saidSet 12 = .ok (.newarray .int, 2) := dk_188_10 (dk_at dksX0_saidSet_0 12 rfl rfl)
theorem dX0_saidSet_14 : decode cX0_saidSet 14 = .ok (.aastore, 1) := dk_83 (dk_at dksX0_saidSet_0 14 rfl rfl)
theorem dX0_saidSet_15 : decode cX0_saidSet 15 = .ok (.iconst 1, 1) := dk_4 (dk_at dksX0_saidSet_0 15 rfl rfl)
theorem dX0_saidSet_16 : decode cX0_saidSet 16 = .ok (.istore 6, 2) := dk_54 6 (dk_at dksX0_saidSet_0 16 rfl rfl)
theorem dX0_saidSet_18 : decode cX0_saidSet 18 = .ok (.iload 6, 2) := dk_21 6 (dk_at dksX0_saidSet_0 18 rfl rfl)
theorem dX0_saidSet_20 : decode cX0_saidSet 20 = .ok (.iconst 1, 1) := dk_4 (dk_at dksX0_saidSet_0 20 rfl rfl)
theorem dX0_saidSet_21 : decode cX0_saidSet 21 = .ok (.iload_n 3, 1) := dk_29 (dk_at dksX0_saidSet_0 21 rfl rfl)
theorem dX0_saidSet_22 : decode cX0_saidSet 22 = .ok (.ishl, 1) := dk_120 (dk_at dksX0_saidSet_0 22 rfl rfl)
theorem dX0_saidSet_23 : decode cX0_saidSet 23 = .ok (.if_icmp .ge 200, 3) := dk_162 0 200 (dk_at dksX0_saidSet_1 0 rfl rfl)
theorem dX0_saidSet_26 : decode cX0_saidSet 26 = .ok (.iload 6, 2) := dk_21 6 (dk_at dksX0_saidSet_1 3 rfl rfl)
theorem dX0_saidSet_28 : decode cX0_saidSet 28 = .ok (.invokestatic 352, 3) := dk_184 1 96 (dk_at dksX0_saidSet_1 5 rfl rfl)
theorem dX0_saidSet_31 : decode cX0_saidSet 31 = .ok (.iconst 1, 1) := dk_4 (dk_at dksX0_saidSet_1 8 rfl rfl)
theorem dX0_saidSet_32 : decode cX0_saidSet 32 = .ok (.isub, 1) := dk_100 (dk_at dksX0_saidSet_1 9 rfl rfl)
theorem dX0_saidSet_33 : decode cX0_saidSet 33 = .ok (.istore 7, 2) := dk_54 7 (dk_at dksX0_saidSet_1 10 rfl rfl)
theorem dX0_saidSet_35 : decode cX0_saidSet 35 = .ok (.iconst 0, 1) := dk_3 (dk_at dksX0_saidSet_1 12 rfl rfl)
theorem dX0_saidSet_36 : decode cX0_saidSet 36 = .ok (.istore 8, 2) := dk_54 8 (dk_at dksX0_saidSet_1 13 rfl rfl)
theorem dX0_saidSet_38 : decode cX0_saidSet 38 = .ok (.iload 8, 2) := dk_21 8 (dk_at dksX0_saidSet_1 15 rfl rfl)
theorem dX0_saidSet_40 : decode cX0_saidSet 40 = .ok (.iload_n 3, 1) := dk_29 (dk_at dksX0_saidSet_1 17 rfl rfl)
theorem dX0_saidSet_41 : decode cX0_saidSet 41 = .ok (.if_icmp .ge 176, 3) := dk_162 0 176 (dk_at dksX0_saidSet_1 18 rfl rfl)
theorem dX0_saidSet_44 : decode cX0_saidSet 44 = .ok (.aload 5, 2) := dk_25 5 (dk_at dksX0_saidSet_1 21 rfl rfl)
theorem dX0_saidSet_46 : decode cX0_saidSet 46 = .ok (.iload 6, 2) := dk_21 6 (dk_at dksX0_saidSet_2 0 rfl rfl)
theorem dX0_saidSet_48 : decode cX0_saidSet 48 = .ok (.iconst 1, 1) := dk_4 (dk_at dksX0_saidSet_2 2 rfl rfl)
theorem dX0_saidSet_49 : decode cX0_saidSet 49 = .ok (.iload 8, 2) := dk_21 8 (dk_at dksX0_saidSet_2 3 rfl rfl)
theorem dX0_saidSet_51 : decode cX0_saidSet 51 = .ok (.ishl, 1) := dk_120 (dk_at dksX0_saidSet_2 5 rfl rfl)
theorem dX0_saidSet_52 : decode cX0_saidSet 52 = .ok (.iconst (-1), 1) := dk_2 (dk_at dksX0_saidSet_2 6 rfl rfl)
theorem dX0_saidSet_53 : decode cX0_saidSet 53 = .ok (.ixor, 1) := dk_130 (dk_at dksX0_saidSet_2 7 rfl rfl)
theorem dX0_saidSet_54 : decode cX0_saidSet 54 = .ok (.iand, 1) := dk_126 (dk_at dksX0_saidSet_2 8 rfl rfl)
theorem dX0_saidSet_55 : decode cX0_saidSet 55 = .ok (.aaload, 1) := dk_50 (dk_at dksX0_saidSet_2 9 rfl rfl)
theorem dX0_saidSet_56 : decode cX0_saidSet 56 = .ok (.astore 9, 2) := dk_58 9 (dk_at dksX0_saidSet_2 10 rfl rfl)
theorem dX0_saidSet_58 : decode cX0_saidSet 58 = .ok (.iload 6, 2) := dk_21 6 (dk_at dksX0_saidSet_2 12 rfl rfl)
theorem dX0_saidSet_60 : decode cX0_saidSet 60 = .ok (.iload 8, 2) := dk_21 8 (dk_at dksX0_saidSet_2 14 rfl rfl)
theorem dX0_saidSet_62 : decode cX0_saidSet 62 = .ok (.ishr, 1) := dk_122 (dk_at dksX0_saidSet_2 16 rfl rfl)
theorem dX0_saidSet_63 : decode cX0_saidSet 63 = .ok (.iconst 1, 1) := dk_4 (dk_at dksX0_saidSet_2 17 rfl rfl)
theorem dX0_saidSet_64 : decode cX0_saidSet 64 = .ok (.iand, 1) := dk_126 (dk_at dksX0_saidSet_2 18 rfl rfl)
theorem dX0_saidSet_65 : decode cX0_saidSet 65 = .ok (.ifCond .eq 146, 3) := dk_153 0 146 (dk_at dksX0_saidSet_2 19 rfl rfl)
theorem dX0_saidSet_68 : decode cX0_saidSet 68 = .ok (.aload 9, 2) := dk_25 9 (dk_at dksX0_saidSet_2 22 rfl rfl)
theorem dX0_saidSet_70 : decode cX0_saidSet 70 = .ok (.ifnull 141, 3) := dk_198 0 141 (dk_at dksX0_saidSet_3 0 rfl rfl)
theorem dX0_saidSet_73 : decode cX0_saidSet 73 = .ok (.aload_n 0, 1) := dk_42 (dk_at dksX0_saidSet_3 3 rfl rfl)
theorem dX0_saidSet_74 : decode cX0_saidSet 74 = .ok (.iload_n 1, 1) := dk_27 (dk_at dksX0_saidSet_3 4 rfl rfl)
theorem dX0_saidSet_75 : decode cX0_saidSet 75 = .ok (.iload 6, 2) := dk_21 6 (dk_at dksX0_saidSet_3 5 rfl rfl)
theorem dX0_saidSet_77 : decode cX0_saidSet 77 = .ok (.iload 8, 2) := dk_21 8 (dk_at dksX0_saidSet_3 7 rfl rfl)
theorem dX0_saidSet_79 : decode cX0_saidSet 79 = .ok (.invokevirtual 402, 3) := dk_182 1 146 (dk_at dksX0_saidSet_3 9 rfl rfl)
theorem dX0_saidSet_82 : decode cX0_saidSet 82 = .ok (.ifCond .eq 6, 3) := dk_153 0 6 (dk_at dksX0_saidSet_3 12 rfl rfl)
theorem dX0_saidSet_85 : decode cX0_saidSet 85 = .ok (.goto 126, 3) := dk_167 0 126 (dk_at dksX0_saidSet_3 15 rfl rfl)
theorem dX0_saidSet_88 : decode cX0_saidSet 88 = .ok (.aload_n 0, 1) := dk_42 (dk_at dksX0_saidSet_3 18 rfl rfl)
theorem dX0_saidSet_89 : decode cX0_saidSet 89 = .ok (.getfield 95, 3) := dk_180 0 95 (dk_at dksX0_saidSet_3 19 rfl rfl)
theorem dX0_saidSet_92 : decode cX0_saidSet 92 = .ok (.aload_n 0, 1) := dk_42 (dk_at dksX0_saidSet_3 22 rfl rfl)
theorem dX0_saidSet_93 : decode cX0_saidSet 93 = .ok (.getfield 92, 3) := dk_180 0 92 (dk_at dksX0_saidSet_4 0 rfl rfl)
theorem dX0_saidSet_96 : decode cX0_saidSet 96 = .ok (.iload_n 1, 1) := dk_27 (dk_at dksX0_saidSet_4 3 rfl rfl)
theorem dX0_saidSet_97 : decode cX0_saidSet 97 = .ok (.iaload, 1) := dk_46 (dk_at dksX0_saidSet_4 4 rfl rfl)
theorem dX0_saidSet_98 : decode cX0_saidSet 98 = .ok (.iload 8, 2) := dk_21 8 (dk_at dksX0_saidSet_4 5 rfl rfl)
theorem dX0_saidSet_100 : decode cX0_saidSet 100 = .ok (.iadd, 1) := dk_96 (dk_at dksX0_saidSet_4 7 rfl rfl)
theorem dX0_saidSet_101 : decode cX0_saidSet 101 = .ok (.iaload, 1) := dk_46 (dk_at dksX0_saidSet_4 8 rfl rfl)
theorem dX0_saidSet_102 : decode cX0_saidSet 102 = .ok (.istore 10, 2) := dk_54 10 (dk_at dksX0_saidSet_4 9 rfl rfl)
theorem dX0_saidSet_104 : decode cX0_saidSet 104 = .ok (.aload_n 0, 1) := dk_42 (dk_at dksX0_saidSet_4 11 rfl rfl)
theorem dX0_saidSet_105 : decode cX0_saidSet 105 = .ok (.iload 10, 2) := dk_21 10 (dk_at dksX0_saidSet_4 12 rfl rfl)
theorem dX0_saidSet_107 : decode cX0_saidSet 107 = .ok (.aload_n 2, 1) := dk_44 (dk_at dksX0_saidSet_4 14 rfl rfl)
theorem dX0_saidSet_108 : decode cX0_saidSet 108 = .ok (.iload_n 3, 1) := dk_29 (dk_at dksX0_saidSet_4 15 rfl rfl)
theorem dX0_saidSet_109 : decode cX0_saidSet 109 = .ok (.iload 8, 2) := dk_21 8 (dk_at dksX0_saidSet_4 16 rfl rfl)
theorem dX0_saidSet_111 : decode cX0_saidSet 111 = .ok (.invokevirtual 175, 3) := dk_182 0 175 (dk_at dksX0_saidSet_4 18 rfl rfl)
theorem dX0_saidSet_114 : decode cX0_saidSet 114 = .ok (.iload 4, 2) := dk_21 4 (dk_at dksX0_saidSet_4 21 rfl rfl)
theorem dX0_saidSet_116 : decode cX0_saidSet 116 = .ok (.iload 7, 2) := dk_21 7 (dk_at dksX0_saidSet_5 0 rfl rfl)
theorem dX0_saidSet_118 : decode cX0_saidSet 118 = .ok (.isub, 1) := dk_100 (dk_at dksX0_saidSet_5 2 rfl rfl)
theorem dX0_saidSet_119 : decode cX0_saidSet 119 = .ok (.invokevirtual 357, 3) := dk_182 1 101 (dk_at dksX0_saidSet_5 3 rfl rfl)
theorem dX0_saidSet_122 : decode cX0_saidSet 122 = .ok (.sipush 1000, 3) := dk_17 3 232 (dk_at dksX0_saidSet_5 6 rfl rfl)
theorem dX0_saidSet_125 : decode cX0_saidSet 125 = .ok (.if_icmp .lt 6, 3) := dk_161 0 6 (dk_at dksX0_saidSet_5 9 rfl rfl)
theorem dX0_saidSet_128 : decode cX0_saidSet 128 = .ok (.goto 83, 3) := dk_167 0 83 (dk_at dksX0_saidSet_5 12 rfl rfl)
theorem dX0_saidSet_131 : decode cX0_saidSet 131 = .ok (.aload_n 0, 1) := dk_42 (dk_at dksX0_saidSet_5 15 rfl rfl)
theorem dX0_saidSet_132 : decode cX0_saidSet 132 = .ok (.iload 10, 2) := dk_21 10 (dk_at dksX0_saidSet_5 16 rfl rfl)
theorem dX0_saidSet_134 : decode cX0_saidSet 134 = .ok (.aload_n 2, 1) := dk_44 (dk_at dksX0_saidSet_5 18 rfl rfl)
theorem dX0_saidSet_135 : decode cX0_saidSet 135 = .ok (.iload_n 3, 1) := dk_29 (dk_at dksX0_saidSet_5 19 rfl rfl)
theorem dX0_saidSet_136 : decode cX0_saidSet 136 = .ok (.iload 8, 2) := dk_21 8 (dk_at dksX0_saidSet_5 20 rfl rfl)
theorem dX0_saidSet_138 : decode cX0_saidSet 138 = .ok (.invokevirtual 175, 3) := dk_182 0 175 (dk_at dksX0_saidSet_6 0 rfl rfl)
theorem dX0_saidSet_141 : decode cX0_saidSet 141 = .ok (.iload 4, 2) := dk_21 4 (dk_at dksX0_saidSet_6 3 rfl rfl)
theorem dX0_saidSet_143 : decode cX0_saidSet 143 = .ok (.iload 7, 2) := dk_21 7 (dk_at dksX0_saidSet_6 5 rfl rfl)
theorem dX0_saidSet_145 : decode cX0_saidSet 145 = .ok (.isub, 1) := dk_100 (dk_at dksX0_saidSet_6 7 rfl rfl)
theorem dX0_saidSet_146 : decode cX0_saidSet 146 = .ok (.invokevirtual 384, 3) := dk_182 1 128 (dk_at dksX0_saidSet_6 8 rfl rfl)
theorem dX0_saidSet_149 : decode cX0_saidSet 149 = .ok (.astore 11, 2) := dk_58 11 (dk_at dksX0_saidSet_6 11 rfl rfl)
theorem dX0_saidSet_151 : decode cX0_saidSet 151 = .ok (.aload 5, 2) := dk_25 5 (dk_at dksX0_saidSet_6 13 rfl rfl)
theorem dX0_saidSet_153 : decode cX0_saidSet 153 = .ok (.iload 6, 2) := dk_21 6 (dk_at dksX0_saidSet_6 15 rfl rfl)
theorem dX0_saidSet_155 : decode cX0_saidSet 155 = .ok (.aaload, 1) := dk_50 (dk_at dksX0_saidSet_6 17 rfl rfl)
theorem dX0_saidSet_156 : decode cX0_saidSet 156 = .ok (.ifnull 18, 3) := dk_198 0 18 (dk_at dksX0_saidSet_6 18 rfl rfl)
theorem dX0_saidSet_159 : decode cX0_saidSet 159 = .ok (.aload 11, 2) := dk_25 11 (dk_at dksX0_saidSet_6 21 rfl rfl)
theorem dX0_saidSet_161 : decode cX0_saidSet 161 = .ok (.aload 9, 2) := dk_25 9 (dk_at dksX0_saidSet_7 0 rfl rfl)
theorem dX0_saidSet_163 : decode cX0_saidSet 163 = .ok (.aload 5, 2) := dk_25 5 (dk_at dksX0_saidSet_7 2 rfl rfl)
theorem dX0_saidSet_165 : decode cX0_saidSet 165 = .ok (.iload 6, 2) := dk_21 6 (dk_at dksX0_saidSet_7 4 rfl rfl)
theorem dX0_saidSet_167 : decode cX0_saidSet 167 = .ok (.aaload, 1) := dk_50 (dk_at dksX0_saidSet_7 6 rfl rfl)
theorem dX0_saidSet_168 : decode cX0_saidSet 168 = .ok (.invokestatic 405, 3) := dk_184 1 149 (dk_at dksX0_saidSet_7 7 rfl rfl)
theorem dX0_saidSet_171 : decode cX0_saidSet 171 = .ok (.ifCond .eq 40, 3) := dk_153 0 40 (dk_at dksX0_saidSet_7 10 rfl rfl)
theorem dX0_saidSet_174 : decode cX0_saidSet 174 = .ok (.aload 5, 2) := dk_25 5 (dk_at dksX0_saidSet_7 13 rfl rfl)
theorem dX0_saidSet_176 : decode cX0_saidSet 176 = .ok (.iload 6, 2) := dk_21 6 (dk_at dksX0_saidSet_7 15 rfl rfl)
theorem dX0_saidSet_178 : decode cX0_saidSet 178 = .ok (.aload 11, 2) := dk_25 11 (dk_at dksX0_saidSet_7 17 rfl rfl)
theorem dX0_saidSet_180 : decode cX0_saidSet 180 = .ok (.arraylength, 1) := dk_190 (dk_at dksX0_saidSet_7 19 rfl rfl)
theorem dX0_saidSet_181 : decode cX0_saidSet 181 = .ok (.aload 9, 2) := dk_25 9 (dk_at dksX0_saidSet_7 20 rfl rfl)
theorem dX0_saidSet_183 : decode cX0_saidSet 183 = .ok (.arraylength, 1) := dk_190 (dk_at dksX0_saidSet_7 22 rfl rfl)
theorem dX0_saidSet_184 : decode cX0_saidSet 184 = .ok (.iadd, 1) := dk_96 (dk_at dksX0_saidSet_7 23 rfl rfl)
theorem dX0_saidSet_185 : decode cX0_saidSet 185 = .ok (.newarray .int, 2) := dk_188_10 (dk_at dksX0_saidSet_8 0 rfl rfl)
theorem dX0_saidSet_187 : decode cX0_saidSet 187 = .ok (.aastore, 1) := dk_83 (dk_at dksX0_saidSet_8 2 rfl rfl)
theorem dX0_saidSet_188 : decode cX0_saidSet 188 = .ok (.aload 5, 2) := dk_25 5 (dk_at dksX0_saidSet_8 3 rfl rfl)
theorem dX0_saidSet_190 : decode cX0_saidSet 190 = .ok (.iload 6, 2) := dk_21 6 (dk_at dksX0_saidSet_8 5 rfl rfl)
theorem dX0_saidSet_192 : decode cX0_saidSet 192 = .ok (.aaload, 1) := dk_50 (dk_at dksX0_saidSet_8 7 rfl rfl)
theorem dX0_saidSet_193 : decode cX0_saidSet 193 = .ok (.aload 5, 2) := dk_25 5 (dk_at dksX0_saidSet_8 8 rfl rfl)
theorem dX0_saidSet_195 : decode cX0_saidSet 195 = .ok (.iload 6, 2) := dk_21 6 (dk_at dksX0_saidSet_8 10 rfl rfl)
theorem dX0_saidSet_197 : decode cX0_saidSet 197 = .ok (.aaload, 1) := dk_50 (dk_at dksX0_saidSet_8 12 rfl rfl)
theorem dX0_saidSet_198 : decode cX0_saidSet 198 = .ok (.iconst 0, 1) := dk_3 (dk_at dksX0_saidSet_8 13 rfl rfl)
theorem dX0_saidSet_199 : decode cX0_saidSet 199 = .ok (.aload 11, 2) := dk_25 11 (dk_at dksX0_saidSet_8 14 rfl rfl)
theorem dX0_saidSet_201 : decode cX0_saidSet 201 = .ok (.invokestatic 388, 3) := dk_184 1 132 (dk_at dksX0_saidSet_8 16 rfl rfl)
theorem dX0_saidSet_204 : decode cX0_saidSet 204 = .ok (.aload 9, 2) := dk_25 9 (dk_at dksX0_saidSet_8 19 rfl rfl)
theorem dX0_saidSet_206 : decode cX0_saidSet 206 = .ok (.invokestatic 388, 3) := dk_184 1 132 (dk_at dksX0_saidSet_8 21 rfl rfl)
theorem dX0_saidSet_209 : decode cX0_saidSet 209 = .ok (.istore 12, 2) := dk_54 12 (dk_at dksX0_saidSet_9 0 rfl rfl)
theorem dX0_saidSet_211 : decode cX0_saidSet 211 = .ok (.iinc 8 1, 3) := dk_132 8 1 (dk_at dksX0_saidSet_9 2 rfl rfl)
theorem dX0_saidSet_214 : decode cX0_saidSet 214 = .ok (.goto (-176), 3) := dk_167 255 80 (dk_at dksX0_saidSet_9 5 rfl rfl)
theorem dX0_saidSet_217 : decode cX0_saidSet 217 = .ok (.iinc 6 1, 3) := dk_132 6 1 (dk_at dksX0_saidSet_9 8 rfl rfl)
theorem dX0_saidSet_220 : decode cX0_saidSet 220 = .ok (.goto (-202), 3) := dk_167 255 54 (dk_at dksX0_saidSet_9 11 rfl rfl)
theorem dX0_saidSet_223 : decode cX0_saidSet 223 = .ok (.aload 5, 2) := dk_25 5 (dk_at dksX0_saidSet_9 14 rfl rfl)
theorem dX0_saidSet_225 : decode cX0_saidSet 225 = .ok (.iconst 1, 1) := dk_4 (dk_at dksX0_saidSet_9 16 rfl rfl)
theorem dX0_saidSet_226 : decode cX0_saidSet 226 = .ok (.iload_n 3, 1) := dk_29 (dk_at dksX0_saidSet_9 17 rfl rfl)
theorem dX0_saidSet_227 : decode cX0_saidSet 227 = .ok (.ishl, 1) := dk_120 (dk_at dksX0_saidSet_9 18 rfl rfl)
theorem dX0_saidSet_228 : decode cX0_saidSet 228 = .ok (.iconst 1, 1) := dk_4 (dk_at dksX0_saidSet_9 19 rfl rfl)
theorem dX0_saidSet_229 : decode cX0_saidSet 229 = .ok (.isub, 1) := dk_100 (dk_at dksX0_saidSet_9 20 rfl rfl)
theorem dX0_saidSet_230 : decode cX0_saidSet 230 = .ok (.aaload, 1) := dk_50 (dk_at dksX0_saidSet_9 21 rfl rfl)
theorem dX0_saidSet_231 : decode cX0_saidSet 231 = .ok (.areturn, 1) := dk_176 (dk_at dksX0_saidSet_9 22 rfl rfl)
abbrev cX0_isTwin : ByteArray := prog_1_method_65_code
def yX0_isTwin : MethodName := ⟨RX0, "isTwin", "(III)Z"⟩
def dkwX0_isTwin_2 : List UInt8 := [160, 0, 5, 4, 172, 132, 4, 1, 167, 255, 205, 3, 172]
abbrev dktX0_isTwin_2 : List UInt8 := dkwX0_isTwin_2 ++ []
def dkwX0_isTwin_1 : List UInt8 := [180, 0, 92, 27, 46, 21, 4, 96, 46, 42, 180, 0, 95, 42, 180, 0, 92, 27, 46, 29, 96, 46]
abbrev dktX0_isTwin_1 : List UInt8 := dkwX0_isTwin_1 ++ dktX0_isTwin_2
def dkwX0_isTwin_0 : List UInt8 := [3, 54, 4, 21, 4, 29, 162, 0, 51, 28, 21, 4, 122, 4, 126, 4, 160, 0, 35, 42, 180, 0, 95, 42]
abbrev dktX0_isTwin_0 : List UInt8 := dkwX0_isTwin_0 ++ dktX0_isTwin_1
theorem dksX0_isTwin_0 : cX0_isTwin.data.toList.drop 0 = dktX0_isTwin_0 := by decide +kernel
theorem dksX0_isTwin_1 : cX0_isTwin.data.toList.drop 24 = dktX0_isTwin_1 := dk_seg dksX0_isTwin_0 24 rfl rfl
theorem dksX0_isTwin_2 : cX0_isTwin.data.toList.drop 46 = dktX0_isTwin_2 := dk_seg dksX0_isTwin_1 22 rfl rfl
theorem dX0_isTwin_0 : decode cX0_isTwin 0 = .ok (.iconst 0, 1) := dk_3 (dk_at dksX0_isTwin_0 0 rfl rfl)
theorem dX0_isTwin_1 : decode cX0_isTwin 1 = .ok (.istore 4, 2) := dk_54 4 (dk_at dksX0_isTwin_0 1 rfl rfl)
theorem dX0_isTwin_3 : decode cX0_isTwin 3 = .ok (.iload 4, 2) := dk_21 4 (dk_at dksX0_isTwin_0 3 rfl rfl)
theorem dX0_isTwin_5 : decode cX0_isTwin 5 = .ok (.iload_n 3, 1) := dk_29 (dk_at dksX0_isTwin_0 5 rfl rfl)
theorem dX0_isTwin_6 : decode cX0_isTwin 6 = .ok (.if_icmp .ge 51, 3) := dk_162 0 51 (dk_at dksX0_isTwin_0 6 rfl rfl)
theorem dX0_isTwin_9 : decode cX0_isTwin 9 = .ok (.iload_n 2, 1) := dk_28 (dk_at dksX0_isTwin_0 9 rfl rfl)
theorem dX0_isTwin_10 : decode cX0_isTwin 10 = .ok (.iload 4, 2) := dk_21 4 (dk_at dksX0_isTwin_0 10 rfl rfl)
theorem dX0_isTwin_12 : decode cX0_isTwin 12 = .ok (.ishr, 1) := dk_122 (dk_at dksX0_isTwin_0 12 rfl rfl)
theorem dX0_isTwin_13 : decode cX0_isTwin 13 = .ok (.iconst 1, 1) := dk_4 (dk_at dksX0_isTwin_0 13 rfl rfl)
theorem dX0_isTwin_14 : decode cX0_isTwin 14 = .ok (.iand, 1) := dk_126 (dk_at dksX0_isTwin_0 14 rfl rfl)
theorem dX0_isTwin_15 : decode cX0_isTwin 15 = .ok (.iconst 1, 1) := dk_4 (dk_at dksX0_isTwin_0 15 rfl rfl)
theorem dX0_isTwin_16 : decode cX0_isTwin 16 = .ok (.if_icmp .ne 35, 3) := dk_160 0 35 (dk_at dksX0_isTwin_0 16 rfl rfl)
theorem dX0_isTwin_19 : decode cX0_isTwin 19 = .ok (.aload_n 0, 1) := dk_42 (dk_at dksX0_isTwin_0 19 rfl rfl)
theorem dX0_isTwin_20 : decode cX0_isTwin 20 = .ok (.getfield 95, 3) := dk_180 0 95 (dk_at dksX0_isTwin_0 20 rfl rfl)
theorem dX0_isTwin_23 : decode cX0_isTwin 23 = .ok (.aload_n 0, 1) := dk_42 (dk_at dksX0_isTwin_0 23 rfl rfl)
theorem dX0_isTwin_24 : decode cX0_isTwin 24 = .ok (.getfield 92, 3) := dk_180 0 92 (dk_at dksX0_isTwin_1 0 rfl rfl)
theorem dX0_isTwin_27 : decode cX0_isTwin 27 = .ok (.iload_n 1, 1) := dk_27 (dk_at dksX0_isTwin_1 3 rfl rfl)
theorem dX0_isTwin_28 : decode cX0_isTwin 28 = .ok (.iaload, 1) := dk_46 (dk_at dksX0_isTwin_1 4 rfl rfl)
theorem dX0_isTwin_29 : decode cX0_isTwin 29 = .ok (.iload 4, 2) := dk_21 4 (dk_at dksX0_isTwin_1 5 rfl rfl)
theorem dX0_isTwin_31 : decode cX0_isTwin 31 = .ok (.iadd, 1) := dk_96 (dk_at dksX0_isTwin_1 7 rfl rfl)
theorem dX0_isTwin_32 : decode cX0_isTwin 32 = .ok (.iaload, 1) := dk_46 (dk_at dksX0_isTwin_1 8 rfl rfl)
theorem dX0_isTwin_33 : decode cX0_isTwin 33 = .ok (.aload_n 0, 1) := dk_42 (dk_at dksX0_isTwin_1 9 rfl rfl)
theorem dX0_isTwin_34 : decode cX0_isTwin 34 = .ok (.getfield 95, 3) := dk_180 0 95 (dk_at dksX0_isTwin_1 10 rfl rfl)
theorem dX0_isTwin_37 : decode cX0_isTwin 37 = .ok (.aload_n 0, 1) := dk_42 (dk_at dksX0_isTwin_1 13 rfl rfl)
theorem dX0_isTwin_38 : decode cX0_isTwin 38 = .ok (.getfield 92, 3) := dk_180 0 92 (dk_at dksX0_isTwin_1 14 rfl rfl)
theorem dX0_isTwin_41 : decode cX0_isTwin 41 = .ok (.iload_n 1, 1) := dk_27 (dk_at dksX0_isTwin_1 17 rfl rfl)
theorem dX0_isTwin_42 : decode cX0_isTwin 42 = .ok (.iaload, 1) := dk_46 (dk_at dksX0_isTwin_1 18 rfl rfl)
theorem dX0_isTwin_43 : decode cX0_isTwin 43 = .ok (.iload_n 3, 1) := dk_29 (dk_at dksX0_isTwin_1 19 rfl rfl)
theorem dX0_isTwin_44 : decode cX0_isTwin 44 = .ok (.iadd, 1) := dk_96 (dk_at dksX0_isTwin_1 20 rfl rfl)
theorem dX0_isTwin_45 : decode cX0_isTwin 45 = .ok (.iaload, 1) := dk_46 (dk_at dksX0_isTwin_1 21 rfl rfl)
theorem dX0_isTwin_46 : decode cX0_isTwin 46 = .ok (.if_icmp .ne 5, 3) := dk_160 0 5 (dk_at dksX0_isTwin_2 0 rfl rfl)
theorem dX0_isTwin_49 : decode cX0_isTwin 49 = .ok (.iconst 1, 1) := dk_4 (dk_at dksX0_isTwin_2 3 rfl rfl)
theorem dX0_isTwin_50 : decode cX0_isTwin 50 = .ok (.ireturn, 1) := dk_172 (dk_at dksX0_isTwin_2 4 rfl rfl)
theorem dX0_isTwin_51 : decode cX0_isTwin 51 = .ok (.iinc 4 1, 3) := dk_132 4 1 (dk_at dksX0_isTwin_2 5 rfl rfl)
theorem dX0_isTwin_54 : decode cX0_isTwin 54 = .ok (.goto (-51), 3) := dk_167 255 205 (dk_at dksX0_isTwin_2 8 rfl rfl)
theorem dX0_isTwin_57 : decode cX0_isTwin 57 = .ok (.iconst 0, 1) := dk_3 (dk_at dksX0_isTwin_2 11 rfl rfl)
theorem dX0_isTwin_58 : decode cX0_isTwin 58 = .ok (.ireturn, 1) := dk_172 (dk_at dksX0_isTwin_2 12 rfl rfl)
abbrev cX0_isAhead : ByteArray := prog_1_method_66_code
def yX0_isAhead : MethodName := ⟨RX0, "isAhead", "([I[I[I)Z"⟩
def dkwX0_isAhead_3 : List UInt8 := [162, 0, 7, 4, 167, 0, 4, 3, 172, 132, 4, 1, 167, 255, 200, 3, 172]
abbrev dktX0_isAhead_3 : List UInt8 := dkwX0_isAhead_3 ++ []
def dkwX0_isAhead_2 : List UInt8 := [21, 4, 42, 190, 100, 46, 54, 5, 21, 5, 44, 21, 4, 46, 159, 0, 18, 21, 5, 44, 21, 4, 46]
abbrev dktX0_isAhead_2 : List UInt8 := dkwX0_isAhead_2 ++ dktX0_isAhead_3
def dkwX0_isAhead_1 : List UInt8 := [3, 54, 4, 21, 4, 29, 162, 0, 56, 21, 4, 42, 190, 162, 0, 10, 42, 21, 4, 46, 167, 0, 10, 43]
abbrev dktX0_isAhead_1 : List UInt8 := dkwX0_isAhead_1 ++ dktX0_isAhead_2
def dkwX0_isAhead_0 : List UInt8 := [42, 190, 43, 190, 96, 62, 29, 44, 190, 159, 0, 15, 29, 44, 190, 162, 0, 7, 4, 167, 0, 4, 3, 172]
abbrev dktX0_isAhead_0 : List UInt8 := dkwX0_isAhead_0 ++ dktX0_isAhead_1
theorem dksX0_isAhead_0 : cX0_isAhead.data.toList.drop 0 = dktX0_isAhead_0 := by decide +kernel
theorem dksX0_isAhead_1 : cX0_isAhead.data.toList.drop 24 = dktX0_isAhead_1 := dk_seg dksX0_isAhead_0 24 rfl rfl
theorem dksX0_isAhead_2 : cX0_isAhead.data.toList.drop 48 = dktX0_isAhead_2 := dk_seg dksX0_isAhead_1 24 rfl rfl
theorem dksX0_isAhead_3 : cX0_isAhead.data.toList.drop 71 = dktX0_isAhead_3 := dk_seg dksX0_isAhead_2 23 rfl rfl
theorem dX0_isAhead_0 : decode cX0_isAhead 0 = .ok (.aload_n 0, 1) := dk_42 (dk_at dksX0_isAhead_0 0 rfl rfl)
theorem dX0_isAhead_1 : decode cX0_isAhead 1 = .ok (.arraylength, 1) := dk_190 (dk_at dksX0_isAhead_0 1 rfl rfl)
theorem dX0_isAhead_2 : decode cX0_isAhead 2 = .ok (.aload_n 1, 1) := dk_43 (dk_at dksX0_isAhead_0 2 rfl rfl)
theorem dX0_isAhead_3 : decode cX0_isAhead 3 = .ok (.arraylength, 1) := dk_190 (dk_at dksX0_isAhead_0 3 rfl rfl)
theorem dX0_isAhead_4 : decode cX0_isAhead 4 = .ok (.iadd, 1) := dk_96 (dk_at dksX0_isAhead_0 4 rfl rfl)
theorem dX0_isAhead_5 : decode cX0_isAhead 5 = .ok (.istore_n 3, 1) := dk_62 (dk_at dksX0_isAhead_0 5 rfl rfl)
theorem dX0_isAhead_6 : decode cX0_isAhead 6 = .ok (.iload_n 3, 1) := dk_29 (dk_at dksX0_isAhead_0 6 rfl rfl)
theorem dX0_isAhead_7 : decode cX0_isAhead 7 = .ok (.aload_n 2, 1) := dk_44 (dk_at dksX0_isAhead_0 7 rfl rfl)
theorem dX0_isAhead_8 : decode cX0_isAhead 8 = .ok (.arraylength, 1) := dk_190 (dk_at dksX0_isAhead_0 8 rfl rfl)
theorem dX0_isAhead_9 : decode cX0_isAhead 9 = .ok (.if_icmp .eq 15, 3) := dk_159 0 15 (dk_at dksX0_isAhead_0 9 rfl rfl)
theorem dX0_isAhead_12 : decode cX0_isAhead 12 = .ok (.iload_n 3, 1) := dk_29 (dk_at dksX0_isAhead_0 12 rfl rfl)
theorem dX0_isAhead_13 : decode cX0_isAhead 13 = .ok (.aload_n 2, 1) := dk_44 (dk_at dksX0_isAhead_0 13 rfl rfl)
theorem dX0_isAhead_14 : decode cX0_isAhead 14 = .ok (.arraylength, 1) := dk_190 (dk_at dksX0_isAhead_0 14 rfl rfl)
theorem dX0_isAhead_15 : decode cX0_isAhead 15 = .ok (.if_icmp .ge 7, 3) := dk_162 0 7 (dk_at dksX0_isAhead_0 15 rfl rfl)
theorem dX0_isAhead_18 : decode cX0_isAhead 18 = .ok (.iconst 1, 1) := dk_4 (dk_at dksX0_isAhead_0 18 rfl rfl)
theorem dX0_isAhead_19 : decode cX0_isAhead 19 = .ok (.goto 4, 3) := dk_167 0 4 (dk_at dksX0_isAhead_0 19 rfl rfl)
theorem dX0_isAhead_22 : decode cX0_isAhead 22 = .ok (.iconst 0, 1) := dk_3 (dk_at dksX0_isAhead_0 22 rfl rfl)
theorem dX0_isAhead_23 : decode cX0_isAhead 23 = .ok (.ireturn, 1) := dk_172 (dk_at dksX0_isAhead_0 23 rfl rfl)
theorem dX0_isAhead_24 : decode cX0_isAhead 24 = .ok (.iconst 0, 1) := dk_3 (dk_at dksX0_isAhead_1 0 rfl rfl)
theorem dX0_isAhead_25 : decode cX0_isAhead 25 = .ok (.istore 4, 2) := dk_54 4 (dk_at dksX0_isAhead_1 1 rfl rfl)
theorem dX0_isAhead_27 : decode cX0_isAhead 27 = .ok (.iload 4, 2) := dk_21 4 (dk_at dksX0_isAhead_1 3 rfl rfl)
theorem dX0_isAhead_29 : decode cX0_isAhead 29 = .ok (.iload_n 3, 1) := dk_29 (dk_at dksX0_isAhead_1 5 rfl rfl)
theorem dX0_isAhead_30 : decode cX0_isAhead 30 = .ok (.if_icmp .ge 56, 3) := dk_162 0 56 (dk_at dksX0_isAhead_1 6 rfl rfl)
theorem dX0_isAhead_33 : decode cX0_isAhead 33 = .ok (.iload 4, 2) := dk_21 4 (dk_at dksX0_isAhead_1 9 rfl rfl)
theorem dX0_isAhead_35 : decode cX0_isAhead 35 = .ok (.aload_n 0, 1) := dk_42 (dk_at dksX0_isAhead_1 11 rfl rfl)
theorem dX0_isAhead_36 : decode cX0_isAhead 36 = .ok (.arraylength, 1) := dk_190 (dk_at dksX0_isAhead_1 12 rfl rfl)
theorem dX0_isAhead_37 : decode cX0_isAhead 37 = .ok (.if_icmp .ge 10, 3) := dk_162 0 10 (dk_at dksX0_isAhead_1 13 rfl rfl)
theorem dX0_isAhead_40 : decode cX0_isAhead 40 = .ok (.aload_n 0, 1) := dk_42 (dk_at dksX0_isAhead_1 16 rfl rfl)
theorem dX0_isAhead_41 : decode cX0_isAhead 41 = .ok (.iload 4, 2) := dk_21 4 (dk_at dksX0_isAhead_1 17 rfl rfl)
theorem dX0_isAhead_43 : decode cX0_isAhead 43 = .ok (.iaload, 1) := dk_46 (dk_at dksX0_isAhead_1 19 rfl rfl)
theorem dX0_isAhead_44 : decode cX0_isAhead 44 = .ok (.goto 10, 3) := dk_167 0 10 (dk_at dksX0_isAhead_1 20 rfl rfl)
theorem dX0_isAhead_47 : decode cX0_isAhead 47 = .ok (.aload_n 1, 1) := dk_43 (dk_at dksX0_isAhead_1 23 rfl rfl)
theorem dX0_isAhead_48 : decode cX0_isAhead 48 = .ok (.iload 4, 2) := dk_21 4 (dk_at dksX0_isAhead_2 0 rfl rfl)
theorem dX0_isAhead_50 : decode cX0_isAhead 50 = .ok (.aload_n 0, 1) := dk_42 (dk_at dksX0_isAhead_2 2 rfl rfl)
theorem dX0_isAhead_51 : decode cX0_isAhead 51 = .ok (.arraylength, 1) := dk_190 (dk_at dksX0_isAhead_2 3 rfl rfl)
theorem dX0_isAhead_52 : decode cX0_isAhead 52 = .ok (.isub, 1) := dk_100 (dk_at dksX0_isAhead_2 4 rfl rfl)
theorem dX0_isAhead_53 : decode cX0_isAhead 53 = .ok (.iaload, 1) := dk_46 (dk_at dksX0_isAhead_2 5 rfl rfl)
theorem dX0_isAhead_54 : decode cX0_isAhead 54 = .ok (.istore 5, 2) := dk_54 5 (dk_at dksX0_isAhead_2 6 rfl rfl)
theorem dX0_isAhead_56 : decode cX0_isAhead 56 = .ok (.iload 5, 2) := dk_21 5 (dk_at dksX0_isAhead_2 8 rfl rfl)
theorem dX0_isAhead_58 : decode cX0_isAhead 58 = .ok (.aload_n 2, 1) := dk_44 (dk_at dksX0_isAhead_2 10 rfl rfl)
theorem dX0_isAhead_59 : decode cX0_isAhead 59 = .ok (.iload 4, 2) := dk_21 4 (dk_at dksX0_isAhead_2 11 rfl rfl)
theorem dX0_isAhead_61 : decode cX0_isAhead 61 = .ok (.iaload, 1) := dk_46 (dk_at dksX0_isAhead_2 13 rfl rfl)
theorem dX0_isAhead_62 : decode cX0_isAhead 62 = .ok (.if_icmp .eq 18, 3) := dk_159 0 18 (dk_at dksX0_isAhead_2 14 rfl rfl)
theorem dX0_isAhead_65 : decode cX0_isAhead 65 = .ok (.iload 5, 2) := dk_21 5 (dk_at dksX0_isAhead_2 17 rfl rfl)
theorem dX0_isAhead_67 : decode cX0_isAhead 67 = .ok (.aload_n 2, 1) := dk_44 (dk_at dksX0_isAhead_2 19 rfl rfl)
theorem dX0_isAhead_68 : decode cX0_isAhead 68 = .ok (.iload 4, 2) := dk_21 4 (dk_at dksX0_isAhead_2 20 rfl rfl)
theorem dX0_isAhead_70 : decode cX0_isAhead 70 = .ok (.iaload, 1) := dk_46 (dk_at dksX0_isAhead_2 22 rfl rfl)
theorem dX0_isAhead_71 : decode cX0_isAhead 71 = .ok (.if_icmp .ge 7, 3) := dk_162 0 7 (dk_at dksX0_isAhead_3 0 rfl rfl)
theorem dX0_isAhead_74 : decode cX0_isAhead 74 = .ok (.iconst 1, 1) := dk_4 (dk_at dksX0_isAhead_3 3 rfl rfl)
theorem dX0_isAhead_75 : decode cX0_isAhead 75 = .ok (.goto 4, 3) := dk_167 0 4 (dk_at dksX0_isAhead_3 4 rfl rfl)
theorem dX0_isAhead_78 : decode cX0_isAhead 78 = .ok (.iconst 0, 1) := dk_3 (dk_at dksX0_isAhead_3 7 rfl rfl)
theorem dX0_isAhead_79 : decode cX0_isAhead 79 = .ok (.ireturn, 1) := dk_172 (dk_at dksX0_isAhead_3 8 rfl rfl)
theorem dX0_isAhead_80 : decode cX0_isAhead 80 = .ok (.iinc 4 1, 3) := dk_132 4 1 (dk_at dksX0_isAhead_3 9 rfl rfl)
theorem dX0_isAhead_83 : decode cX0_isAhead 83 = .ok (.goto (-56), 3) := dk_167 255 200 (dk_at dksX0_isAhead_3 12 rfl rfl)
theorem dX0_isAhead_86 : decode cX0_isAhead 86 = .ok (.iconst 0, 1) := dk_3 (dk_at dksX0_isAhead_3 15 rfl rfl)
theorem dX0_isAhead_87 : decode cX0_isAhead 87 = .ok (.ireturn, 1) := dk_172 (dk_at dksX0_isAhead_3 16 rfl rfl)
abbrev cX0_wordOf : ByteArray := prog_1_method_70_code
def yX0_wordOf : MethodName := ⟨RX0, "wordOf", "(I)I"⟩
def dkwX0_wordOf_2 : List UInt8 := [172]
abbrev dktX0_wordOf_2 : List UInt8 := dkwX0_wordOf_2 ++ []
def dkwX0_wordOf_1 : List UInt8 := [58, 5, 25, 5, 180, 0, 243, 27, 160, 0, 9, 25, 5, 180, 0, 190, 172, 132, 4, 1, 167, 255, 226, 2]
abbrev dktX0_wordOf_1 : List UInt8 := dkwX0_wordOf_1 ++ dktX0_wordOf_2
def dkwX0_wordOf_0 : List UInt8 := [42, 182, 0, 186, 180, 0, 189, 77, 44, 190, 62, 3, 54, 4, 21, 4, 29, 162, 0, 30, 44, 21, 4, 50]
abbrev dktX0_wordOf_0 : List UInt8 := dkwX0_wordOf_0 ++ dktX0_wordOf_1
theorem dksX0_wordOf_0 : cX0_wordOf.data.toList.drop 0 = dktX0_wordOf_0 := by decide +kernel
theorem dksX0_wordOf_1 : cX0_wordOf.data.toList.drop 24 = dktX0_wordOf_1 := dk_seg dksX0_wordOf_0 24 rfl rfl
theorem dksX0_wordOf_2 : cX0_wordOf.data.toList.drop 48 = dktX0_wordOf_2 := dk_seg dksX0_wordOf_1 24 rfl rfl
theorem dX0_wordOf_0 : decode cX0_wordOf 0 = .ok (.aload_n 0, 1) := dk_42 (dk_at dksX0_wordOf_0 0 rfl rfl)
theorem dX0_wordOf_1 : decode cX0_wordOf 1 = .ok (.invokevirtual 186, 3) := dk_182 0 186 (dk_at dksX0_wordOf_0 1 rfl rfl)
theorem dX0_wordOf_4 : decode cX0_wordOf 4 = .ok (.getfield 189, 3) := dk_180 0 189 (dk_at dksX0_wordOf_0 4 rfl rfl)
theorem dX0_wordOf_7 : decode cX0_wordOf 7 = .ok (.astore_n 2, 1) := dk_77 (dk_at dksX0_wordOf_0 7 rfl rfl)
theorem dX0_wordOf_8 : decode cX0_wordOf 8 = .ok (.aload_n 2, 1) := dk_44 (dk_at dksX0_wordOf_0 8 rfl rfl)
theorem dX0_wordOf_9 : decode cX0_wordOf 9 = .ok (.arraylength, 1) := dk_190 (dk_at dksX0_wordOf_0 9 rfl rfl)
theorem dX0_wordOf_10 : decode cX0_wordOf 10 = .ok (.istore_n 3, 1) := dk_62 (dk_at dksX0_wordOf_0 10 rfl rfl)
theorem dX0_wordOf_11 : decode cX0_wordOf 11 = .ok (.iconst 0, 1) := dk_3 (dk_at dksX0_wordOf_0 11 rfl rfl)
theorem dX0_wordOf_12 : decode cX0_wordOf 12 = .ok (.istore 4, 2) := dk_54 4 (dk_at dksX0_wordOf_0 12 rfl rfl)
theorem dX0_wordOf_14 : decode cX0_wordOf 14 = .ok (.iload 4, 2) := dk_21 4 (dk_at dksX0_wordOf_0 14 rfl rfl)
theorem dX0_wordOf_16 : decode cX0_wordOf 16 = .ok (.iload_n 3, 1) := dk_29 (dk_at dksX0_wordOf_0 16 rfl rfl)
theorem dX0_wordOf_17 : decode cX0_wordOf 17 = .ok (.if_icmp .ge 30, 3) := dk_162 0 30 (dk_at dksX0_wordOf_0 17 rfl rfl)
theorem dX0_wordOf_20 : decode cX0_wordOf 20 = .ok (.aload_n 2, 1) := dk_44 (dk_at dksX0_wordOf_0 20 rfl rfl)
theorem dX0_wordOf_21 : decode cX0_wordOf 21 = .ok (.iload 4, 2) := dk_21 4 (dk_at dksX0_wordOf_0 21 rfl rfl)
theorem dX0_wordOf_23 : decode cX0_wordOf 23 = .ok (.aaload, 1) := dk_50 (dk_at dksX0_wordOf_0 23 rfl rfl)
theorem dX0_wordOf_24 : decode cX0_wordOf 24 = .ok (.astore 5, 2) := dk_58 5 (dk_at dksX0_wordOf_1 0 rfl rfl)
theorem dX0_wordOf_26 : decode cX0_wordOf 26 = .ok (.aload 5, 2) := dk_25 5 (dk_at dksX0_wordOf_1 2 rfl rfl)
theorem dX0_wordOf_28 : decode cX0_wordOf 28 = .ok (.getfield 243, 3) := dk_180 0 243 (dk_at dksX0_wordOf_1 4 rfl rfl)
theorem dX0_wordOf_31 : decode cX0_wordOf 31 = .ok (.iload_n 1, 1) := dk_27 (dk_at dksX0_wordOf_1 7 rfl rfl)
theorem dX0_wordOf_32 : decode cX0_wordOf 32 = .ok (.if_icmp .ne 9, 3) := dk_160 0 9 (dk_at dksX0_wordOf_1 8 rfl rfl)
theorem dX0_wordOf_35 : decode cX0_wordOf 35 = .ok (.aload 5, 2) := dk_25 5 (dk_at dksX0_wordOf_1 11 rfl rfl)
theorem dX0_wordOf_37 : decode cX0_wordOf 37 = .ok (.getfield 190, 3) := dk_180 0 190 (dk_at dksX0_wordOf_1 13 rfl rfl)
theorem dX0_wordOf_40 : decode cX0_wordOf 40 = .ok (.ireturn, 1) := dk_172 (dk_at dksX0_wordOf_1 16 rfl rfl)
theorem dX0_wordOf_41 : decode cX0_wordOf 41 = .ok (.iinc 4 1, 3) := dk_132 4 1 (dk_at dksX0_wordOf_1 17 rfl rfl)
theorem dX0_wordOf_44 : decode cX0_wordOf 44 = .ok (.goto (-30), 3) := dk_167 255 226 (dk_at dksX0_wordOf_1 20 rfl rfl)
theorem dX0_wordOf_47 : decode cX0_wordOf 47 = .ok (.iconst (-1), 1) := dk_2 (dk_at dksX0_wordOf_1 23 rfl rfl)
theorem dX0_wordOf_48 : decode cX0_wordOf 48 = .ok (.ireturn, 1) := dk_172 (dk_at dksX0_wordOf_2 0 rfl rfl)
abbrev cX0_image : ByteArray := prog_1_method_68_code
def yX0_image : MethodName := ⟨RX0, "image", "()I"⟩
def dkwX0_image_1 : List UInt8 := [42, 180, 0, 34, 3, 42, 180, 0, 38, 3, 16, 24, 184, 1, 140, 42, 180, 0, 158, 172]
abbrev dktX0_image_1 : List UInt8 := dkwX0_image_1 ++ []
def dkwX0_image_0 : List UInt8 := [42, 42, 180, 0, 134, 181, 1, 159, 42, 42, 180, 0, 27, 181, 0, 31, 42, 42, 180, 0, 158, 181, 1, 162]
abbrev dktX0_image_0 : List UInt8 := dkwX0_image_0 ++ dktX0_image_1
theorem dksX0_image_0 : cX0_image.data.toList.drop 0 = dktX0_image_0 := by decide +kernel
theorem dksX0_image_1 : cX0_image.data.toList.drop 24 = dktX0_image_1 := dk_seg dksX0_image_0 24 rfl rfl
theorem dX0_image_0 : decode cX0_image 0 = .ok (.aload_n 0, 1) := dk_42 (dk_at dksX0_image_0 0 rfl rfl)
theorem dX0_image_1 : decode cX0_image 1 = .ok (.aload_n 0, 1) := dk_42 (dk_at dksX0_image_0 1 rfl rfl)
theorem dX0_image_2 : decode cX0_image 2 = .ok (.getfield 134, 3) := dk_180 0 134 (dk_at dksX0_image_0 2 rfl rfl)
theorem dX0_image_5 : decode cX0_image 5 = .ok (.putfield 415, 3) := dk_181 1 159 (dk_at dksX0_image_0 5 rfl rfl)
theorem dX0_image_8 : decode cX0_image 8 = .ok (.aload_n 0, 1) := dk_42 (dk_at dksX0_image_0 8 rfl rfl)
theorem dX0_image_9 : decode cX0_image 9 = .ok (.aload_n 0, 1) := dk_42 (dk_at dksX0_image_0 9 rfl rfl)
theorem dX0_image_10 : decode cX0_image 10 = .ok (.getfield 27, 3) := dk_180 0 27 (dk_at dksX0_image_0 10 rfl rfl)
theorem dX0_image_13 : decode cX0_image 13 = .ok (.putfield 31, 3) := dk_181 0 31 (dk_at dksX0_image_0 13 rfl rfl)
theorem dX0_image_16 : decode cX0_image 16 = .ok (.aload_n 0, 1) := dk_42 (dk_at dksX0_image_0 16 rfl rfl)
theorem dX0_image_17 : decode cX0_image 17 = .ok (.aload_n 0, 1) := dk_42 (dk_at dksX0_image_0 17 rfl rfl)
theorem dX0_image_18 : decode cX0_image 18 = .ok (.getfield 158, 3) := dk_180 0 158 (dk_at dksX0_image_0 18 rfl rfl)
theorem dX0_image_21 : decode cX0_image 21 = .ok (.putfield 418, 3) := dk_181 1 162 (dk_at dksX0_image_0 21 rfl rfl)
theorem dX0_image_24 : decode cX0_image 24 = .ok (.aload_n 0, 1) := dk_42 (dk_at dksX0_image_1 0 rfl rfl)
theorem dX0_image_25 : decode cX0_image 25 = .ok (.getfield 34, 3) := dk_180 0 34 (dk_at dksX0_image_1 1 rfl rfl)
theorem dX0_image_28 : decode cX0_image 28 = .ok (.iconst 0, 1) := dk_3 (dk_at dksX0_image_1 4 rfl rfl)
theorem dX0_image_29 : decode cX0_image 29 = .ok (.aload_n 0, 1) := dk_42 (dk_at dksX0_image_1 5 rfl rfl)
theorem dX0_image_30 : decode cX0_image 30 = .ok (.getfield 38, 3) := dk_180 0 38 (dk_at dksX0_image_1 6 rfl rfl)
theorem dX0_image_33 : decode cX0_image 33 = .ok (.iconst 0, 1) := dk_3 (dk_at dksX0_image_1 9 rfl rfl)
theorem dX0_image_34 : decode cX0_image 34 = .ok (.bipush 24, 2) := dk_16 24 (dk_at dksX0_image_1 10 rfl rfl)
theorem dX0_image_36 : decode cX0_image 36 = .ok (.invokestatic 396, 3) := dk_184 1 140 (dk_at dksX0_image_1 12 rfl rfl)
theorem dX0_image_39 : decode cX0_image 39 = .ok (.aload_n 0, 1) := dk_42 (dk_at dksX0_image_1 15 rfl rfl)
theorem dX0_image_40 : decode cX0_image 40 = .ok (.getfield 158, 3) := dk_180 0 158 (dk_at dksX0_image_1 16 rfl rfl)
theorem dX0_image_43 : decode cX0_image 43 = .ok (.ireturn, 1) := dk_172 (dk_at dksX0_image_1 19 rfl rfl)
abbrev cX0_back : ByteArray := prog_1_method_69_code
def yX0_back : MethodName := ⟨RX0, "back", "()I"⟩
def dkwX0_back_2 : List UInt8 := [172]
abbrev dktX0_back_2 : List UInt8 := dkwX0_back_2 ++ []
def dkwX0_back_1 : List UInt8 := [42, 180, 0, 38, 3, 42, 180, 0, 34, 3, 16, 24, 184, 1, 140, 42, 3, 181, 0, 154, 42, 180, 0, 158]
abbrev dktX0_back_1 : List UInt8 := dkwX0_back_1 ++ dktX0_back_2
def dkwX0_back_0 : List UInt8 := [42, 42, 180, 1, 159, 181, 0, 134, 42, 42, 180, 0, 31, 181, 0, 27, 42, 42, 180, 1, 162, 181, 0, 158]
abbrev dktX0_back_0 : List UInt8 := dkwX0_back_0 ++ dktX0_back_1
theorem dksX0_back_0 : cX0_back.data.toList.drop 0 = dktX0_back_0 := by decide +kernel
theorem dksX0_back_1 : cX0_back.data.toList.drop 24 = dktX0_back_1 := dk_seg dksX0_back_0 24 rfl rfl
theorem dksX0_back_2 : cX0_back.data.toList.drop 48 = dktX0_back_2 := dk_seg dksX0_back_1 24 rfl rfl
theorem dX0_back_0 : decode cX0_back 0 = .ok (.aload_n 0, 1) := dk_42 (dk_at dksX0_back_0 0 rfl rfl)
theorem dX0_back_1 : decode cX0_back 1 = .ok (.aload_n 0, 1) := dk_42 (dk_at dksX0_back_0 1 rfl rfl)
theorem dX0_back_2 : decode cX0_back 2 = .ok (.getfield 415, 3) := dk_180 1 159 (dk_at dksX0_back_0 2 rfl rfl)
theorem dX0_back_5 : decode cX0_back 5 = .ok (.putfield 134, 3) := dk_181 0 134 (dk_at dksX0_back_0 5 rfl rfl)
theorem dX0_back_8 : decode cX0_back 8 = .ok (.aload_n 0, 1) := dk_42 (dk_at dksX0_back_0 8 rfl rfl)
theorem dX0_back_9 : decode cX0_back 9 = .ok (.aload_n 0, 1) := dk_42 (dk_at dksX0_back_0 9 rfl rfl)
theorem dX0_back_10 : decode cX0_back 10 = .ok (.getfield 31, 3) := dk_180 0 31 (dk_at dksX0_back_0 10 rfl rfl)
theorem dX0_back_13 : decode cX0_back 13 = .ok (.putfield 27, 3) := dk_181 0 27 (dk_at dksX0_back_0 13 rfl rfl)
theorem dX0_back_16 : decode cX0_back 16 = .ok (.aload_n 0, 1) := dk_42 (dk_at dksX0_back_0 16 rfl rfl)
theorem dX0_back_17 : decode cX0_back 17 = .ok (.aload_n 0, 1) := dk_42 (dk_at dksX0_back_0 17 rfl rfl)
theorem dX0_back_18 : decode cX0_back 18 = .ok (.getfield 418, 3) := dk_180 1 162 (dk_at dksX0_back_0 18 rfl rfl)
theorem dX0_back_21 : decode cX0_back 21 = .ok (.putfield 158, 3) := dk_181 0 158 (dk_at dksX0_back_0 21 rfl rfl)
theorem dX0_back_24 : decode cX0_back 24 = .ok (.aload_n 0, 1) := dk_42 (dk_at dksX0_back_1 0 rfl rfl)
theorem dX0_back_25 : decode cX0_back 25 = .ok (.getfield 38, 3) := dk_180 0 38 (dk_at dksX0_back_1 1 rfl rfl)
theorem dX0_back_28 : decode cX0_back 28 = .ok (.iconst 0, 1) := dk_3 (dk_at dksX0_back_1 4 rfl rfl)
theorem dX0_back_29 : decode cX0_back 29 = .ok (.aload_n 0, 1) := dk_42 (dk_at dksX0_back_1 5 rfl rfl)
theorem dX0_back_30 : decode cX0_back 30 = .ok (.getfield 34, 3) := dk_180 0 34 (dk_at dksX0_back_1 6 rfl rfl)
theorem dX0_back_33 : decode cX0_back 33 = .ok (.iconst 0, 1) := dk_3 (dk_at dksX0_back_1 9 rfl rfl)
theorem dX0_back_34 : decode cX0_back 34 = .ok (.bipush 24, 2) := dk_16 24 (dk_at dksX0_back_1 10 rfl rfl)
theorem dX0_back_36 : decode cX0_back 36 = .ok (.invokestatic 396, 3) := dk_184 1 140 (dk_at dksX0_back_1 12 rfl rfl)
theorem dX0_back_39 : decode cX0_back 39 = .ok (.aload_n 0, 1) := dk_42 (dk_at dksX0_back_1 15 rfl rfl)
theorem dX0_back_40 : decode cX0_back 40 = .ok (.iconst 0, 1) := dk_3 (dk_at dksX0_back_1 16 rfl rfl)
theorem dX0_back_41 : decode cX0_back 41 = .ok (.putfield 154, 3) := dk_181 0 154 (dk_at dksX0_back_1 17 rfl rfl)
theorem dX0_back_44 : decode cX0_back 44 = .ok (.aload_n 0, 1) := dk_42 (dk_at dksX0_back_1 20 rfl rfl)
theorem dX0_back_45 : decode cX0_back 45 = .ok (.getfield 158, 3) := dk_180 0 158 (dk_at dksX0_back_1 21 rfl rfl)
theorem dX0_back_48 : decode cX0_back 48 = .ok (.ireturn, 1) := dk_172 (dk_at dksX0_back_2 0 rfl rfl)
abbrev cX0_about : ByteArray := prog_1_method_71_code
def yX0_about : MethodName := ⟨RX0, "about", "(I)I"⟩
def dkwX0_about_4 : List UInt8 := [180, 1, 165, 172, 16, 254, 172]
abbrev dktX0_about_4 : List UInt8 := dkwX0_about_4 ++ []
def dkwX0_about_3 : List UInt8 := [42, 180, 0, 134, 172, 42, 180, 0, 27, 172, 42, 180, 0, 158, 172, 42, 180, 0, 123, 172, 42, 182, 0, 186]
abbrev dktX0_about_3 : List UInt8 := dkwX0_about_3 ++ dktX0_about_4
def dkwX0_about_2 : List UInt8 := [170, 0, 0, 0, 0, 0, 63, 0, 0, 0, 0, 0, 0, 0, 4, 0, 0, 0, 35, 0, 0, 0, 40, 0, 0, 0, 45, 0, 0, 0, 50, 0, 0, 0, 55]
abbrev dktX0_about_2 : List UInt8 := dkwX0_about_2 ++ dktX0_about_3
def dkwX0_about_1 : List UInt8 := [182, 1, 156, 172, 27]
abbrev dktX0_about_1 : List UInt8 := dkwX0_about_1 ++ dktX0_about_2
def dkwX0_about_0 : List UInt8 := [27, 16, 10, 16, 9, 42, 182, 0, 186, 180, 1, 165, 96, 184, 0, 130, 153, 0, 12, 42, 27, 16, 10, 100]
abbrev dktX0_about_0 : List UInt8 := dkwX0_about_0 ++ dktX0_about_1
theorem dksX0_about_0 : cX0_about.data.toList.drop 0 = dktX0_about_0 := by decide +kernel
theorem dksX0_about_1 : cX0_about.data.toList.drop 24 = dktX0_about_1 := dk_seg dksX0_about_0 24 rfl rfl
theorem dksX0_about_2 : cX0_about.data.toList.drop 29 = dktX0_about_2 := dk_seg dksX0_about_1 5 rfl rfl
theorem dksX0_about_3 : cX0_about.data.toList.drop 64 = dktX0_about_3 := dk_seg dksX0_about_2 35 rfl rfl
theorem dksX0_about_4 : cX0_about.data.toList.drop 88 = dktX0_about_4 := dk_seg dksX0_about_3 24 rfl rfl
theorem dX0_about_0 : decode cX0_about 0 = .ok (.iload_n 1, 1) := dk_27 (dk_at dksX0_about_0 0 rfl rfl)
theorem dX0_about_1 : decode cX0_about 1 = .ok (.bipush 10, 2) := dk_16 10 (dk_at dksX0_about_0 1 rfl rfl)
theorem dX0_about_3 : decode cX0_about 3 = .ok (.bipush 9, 2) := dk_16 9 (dk_at dksX0_about_0 3 rfl rfl)
theorem dX0_about_5 : decode cX0_about 5 = .ok (.aload_n 0, 1) := dk_42 (dk_at dksX0_about_0 5 rfl rfl)
theorem dX0_about_6 : decode cX0_about 6 = .ok (.invokevirtual 186, 3) := dk_182 0 186 (dk_at dksX0_about_0 6 rfl rfl)
theorem dX0_about_9 : decode cX0_about 9 = .ok (.getfield 421, 3) := dk_180 1 165 (dk_at dksX0_about_0 9 rfl rfl)
theorem dX0_about_12 : decode cX0_about 12 = .ok (.iadd, 1) := dk_96 (dk_at dksX0_about_0 12 rfl rfl)
theorem dX0_about_13 : decode cX0_about 13 = .ok (.invokestatic 130, 3) := dk_184 0 130 (dk_at dksX0_about_0 13 rfl rfl)
theorem dX0_about_16 : decode cX0_about 16 = .ok (.ifCond .eq 12, 3) := dk_153 0 12 (dk_at dksX0_about_0 16 rfl rfl)
theorem dX0_about_19 : decode cX0_about 19 = .ok (.aload_n 0, 1) := dk_42 (dk_at dksX0_about_0 19 rfl rfl)
theorem dX0_about_20 : decode cX0_about 20 = .ok (.iload_n 1, 1) := dk_27 (dk_at dksX0_about_0 20 rfl rfl)
theorem dX0_about_21 : decode cX0_about 21 = .ok (.bipush 10, 2) := dk_16 10 (dk_at dksX0_about_0 21 rfl rfl)
theorem dX0_about_23 : decode cX0_about 23 = .ok (.isub, 1) := dk_100 (dk_at dksX0_about_0 23 rfl rfl)
theorem dX0_about_24 : decode cX0_about 24 = .ok (.invokevirtual 412, 3) := dk_182 1 156 (dk_at dksX0_about_1 0 rfl rfl)
theorem dX0_about_27 : decode cX0_about 27 = .ok (.ireturn, 1) := dk_172 (dk_at dksX0_about_1 3 rfl rfl)
theorem dX0_about_28 : decode cX0_about 28 = .ok (.iload_n 1, 1) := dk_27 (dk_at dksX0_about_1 4 rfl rfl)
theorem dX0_about_29 : decode cX0_about 29 = .ok (.tableswitch 63 0 4 #[35, 40, 45, 50, 55], 35) := by decide +kernel
theorem dX0_about_64 : decode cX0_about 64 = .ok (.aload_n 0, 1) := dk_42 (dk_at dksX0_about_3 0 rfl rfl)
theorem dX0_about_65 : decode cX0_about 65 = .ok (.getfield 134, 3) := dk_180 0 134 (dk_at dksX0_about_3 1 rfl rfl)
theorem dX0_about_68 : decode cX0_about 68 = .ok (.ireturn, 1) := dk_172 (dk_at dksX0_about_3 4 rfl rfl)
theorem dX0_about_69 : decode cX0_about 69 = .ok (.aload_n 0, 1) := dk_42 (dk_at dksX0_about_3 5 rfl rfl)
theorem dX0_about_70 : decode cX0_about 70 = .ok (.getfield 27, 3) := dk_180 0 27 (dk_at dksX0_about_3 6 rfl rfl)
theorem dX0_about_73 : decode cX0_about 73 = .ok (.ireturn, 1) := dk_172 (dk_at dksX0_about_3 9 rfl rfl)
theorem dX0_about_74 : decode cX0_about 74 = .ok (.aload_n 0, 1) := dk_42 (dk_at dksX0_about_3 10 rfl rfl)
theorem dX0_about_75 : decode cX0_about 75 = .ok (.getfield 158, 3) := dk_180 0 158 (dk_at dksX0_about_3 11 rfl rfl)
theorem dX0_about_78 : decode cX0_about 78 = .ok (.ireturn, 1) := dk_172 (dk_at dksX0_about_3 14 rfl rfl)
theorem dX0_about_79 : decode cX0_about 79 = .ok (.aload_n 0, 1) := dk_42 (dk_at dksX0_about_3 15 rfl rfl)
theorem dX0_about_80 : decode cX0_about 80 = .ok (.getfield 123, 3) := dk_180 0 123 (dk_at dksX0_about_3 16 rfl rfl)
theorem dX0_about_83 : decode cX0_about 83 = .ok (.ireturn, 1) := dk_172 (dk_at dksX0_about_3 19 rfl rfl)
theorem dX0_about_84 : decode cX0_about 84 = .ok (.aload_n 0, 1) := dk_42 (dk_at dksX0_about_3 20 rfl rfl)
theorem dX0_about_85 : decode cX0_about 85 = .ok (.invokevirtual 186, 3) := dk_182 0 186 (dk_at dksX0_about_3 21 rfl rfl)
theorem dX0_about_88 : decode cX0_about 88 = .ok (.getfield 421, 3) := dk_180 1 165 (dk_at dksX0_about_4 0 rfl rfl)
theorem dX0_about_91 : decode cX0_about 91 = .ok (.ireturn, 1) := dk_172 (dk_at dksX0_about_4 3 rfl rfl)
theorem dX0_about_92 : decode cX0_about 92 = .ok (.bipush (-2), 2) := dk_16 254 (dk_at dksX0_about_4 4 rfl rfl)
theorem dX0_about_94 : decode cX0_about 94 = .ok (.ireturn, 1) := dk_172 (dk_at dksX0_about_4 6 rfl rfl)
theorem q125 : (Jvm.Cond.initialized "HeldTongue") ∈ lw_all := lw_g (lw_at lw_m1 1 rfl) rfl
theorem q156 : (Jvm.Cond.instantiable "HeldTongue" (41 : Nat)) ∈ lw_all := lw_g (lw_at lw_m1 32 rfl) rfl
theorem q158 : (Jvm.Cond.instanceMethod ({ cls := "HeldTongue", name := "<init>", desc := "()V" } : Jvm.MethodName)) ∈ lw_all := lw_g (lw_at lw_m1 34 rfl) rfl
theorem q159 : (Jvm.Cond.code ({ cls := "HeldTongue", name := "<init>", desc := "()V" } : Jvm.MethodName) prog_1_method_2_code (1 : Nat) (Option.none : Option Jvm.ClassFile.FieldType)) ∈ lw_all := lw_g (lw_at lw_m1 35 rfl) rfl
theorem q160 : (Jvm.Cond.methodLink "HeldTongue" (1 : Nat) ({ cls := "java/lang/Object", name := "<init>", desc := "()V" } : Jvm.MethodName)) ∈ lw_all := lw_g (lw_at lw_m1 36 rfl) rfl
theorem q163 : (Jvm.Cond.classLink "HeldTongue" (9 : Nat) "HeldTongue$Lexicon") ∈ lw_all := lw_g (lw_at lw_m1 39 rfl) rfl
theorem q166 : (Jvm.Cond.methodLinkNest "HeldTongue" (15 : Nat) ({ cls := "HeldTongue$Lexicon", name := "<init>", desc := "()V" } : Jvm.MethodName) "HeldTongue") ∈ lw_tbl := lw_at lw_m1 42 rfl
theorem q175 : (Jvm.Cond.fieldLinkNest "HeldTongue" (189 : Nat) "HeldTongue$Lexicon" "senses" "[LHeldTongue$Sense;" "HeldTongue") ∈ lw_tbl := lw_at lw_m1 51 rfl
theorem q177 : (Jvm.Cond.fieldLinkNest "HeldTongue" (322 : Nat) "HeldTongue$Lexicon" "drops" "[LHeldTongue$Ask;" "HeldTongue") ∈ lw_tbl := lw_at lw_m1 53 rfl
theorem q179 : (Jvm.Cond.fieldLinkNest "HeldTongue" (296 : Nat) "HeldTongue$Lexicon" "weigh" "LHeldTongue$Sum;" "HeldTongue") ∈ lw_tbl := lw_at lw_m1 55 rfl
theorem q181 : (Jvm.Cond.fieldLinkNest "HeldTongue" (421 : Nat) "HeldTongue$Lexicon" "clauses" "I" "HeldTongue") ∈ lw_tbl := lw_at lw_m1 57 rfl
theorem q191 : (Jvm.Cond.classLink "HeldTongue" (20 : Nat) "HeldTongue$Moment") ∈ lw_all := lw_g (lw_at lw_m1 67 rfl) rfl
theorem q193 : (Jvm.Cond.methodLinkNest "HeldTongue" (22 : Nat) ({ cls := "HeldTongue$Moment", name := "<init>", desc := "()V" } : Jvm.MethodName) "HeldTongue") ∈ lw_tbl := lw_at lw_m1 69 rfl
theorem q201 : (Jvm.Cond.fieldLinkNest "HeldTongue" (293 : Nat) "HeldTongue$Moment" "values" "[I" "HeldTongue") ∈ lw_tbl := lw_at lw_m1 77 rfl
theorem q206 : (Jvm.Cond.constant "HeldTongue" (54 : Nat) (84000 : Int32)) ∈ lw_all := lw_g (lw_at lw_m1 82 rfl) rfl
theorem q207 : (Jvm.Cond.classLink "HeldTongue" (64 : Nat) "[[J") ∈ lw_all := lw_g (lw_at lw_m1 83 rfl) rfl
theorem q209 : (Jvm.Cond.classLink "HeldTongue" (69 : Nat) "HeldTongue$Sense") ∈ lw_all := lw_g (lw_at lw_m1 85 rfl) rfl
theorem q210 : (Jvm.Cond.classLink "HeldTongue" (81 : Nat) "[[I") ∈ lw_all := lw_g (lw_at lw_m1 86 rfl) rfl
theorem q212 : (Jvm.Cond.classLink "HeldTongue" (119 : Nat) "[I") ∈ lw_all := lw_g (lw_at lw_m1 88 rfl) rfl
theorem q213 : (Jvm.Cond.fieldLink "HeldTongue" (11 : Nat) "HeldTongue" "lexicons" "[LHeldTongue$Lexicon;") ∈ lw_all := lw_g (lw_at lw_m1 89 rfl) rfl
theorem q214 : (Jvm.Cond.fieldLink "HeldTongue" (16 : Nat) "HeldTongue" "mute" "LHeldTongue$Lexicon;") ∈ lw_all := lw_g (lw_at lw_m1 90 rfl) rfl
theorem q215 : (Jvm.Cond.fieldLink "HeldTongue" (23 : Nat) "HeldTongue" "moment" "LHeldTongue$Moment;") ∈ lw_all := lw_g (lw_at lw_m1 91 rfl) rfl
theorem q216 : (Jvm.Cond.fieldLink "HeldTongue" (134 : Nat) "HeldTongue" "texts" "I") ∈ lw_all := lw_g (lw_at lw_m1 92 rfl) rfl
theorem q217 : (Jvm.Cond.fieldLink "HeldTongue" (27 : Nat) "HeldTongue" "text" "I") ∈ lw_all := lw_g (lw_at lw_m1 93 rfl) rfl
theorem q218 : (Jvm.Cond.fieldLink "HeldTongue" (158 : Nat) "HeldTongue" "n" "I") ∈ lw_all := lw_g (lw_at lw_m1 94 rfl) rfl
theorem q219 : (Jvm.Cond.fieldLink "HeldTongue" (415 : Nat) "HeldTongue" "imageTexts" "I") ∈ lw_all := lw_g (lw_at lw_m1 95 rfl) rfl
theorem q220 : (Jvm.Cond.fieldLink "HeldTongue" (31 : Nat) "HeldTongue" "imageText" "I") ∈ lw_all := lw_g (lw_at lw_m1 96 rfl) rfl
theorem q221 : (Jvm.Cond.fieldLink "HeldTongue" (418 : Nat) "HeldTongue" "imageN" "I") ∈ lw_all := lw_g (lw_at lw_m1 97 rfl) rfl
theorem q222 : (Jvm.Cond.fieldLink "HeldTongue" (34 : Nat) "HeldTongue" "row" "[I") ∈ lw_all := lw_g (lw_at lw_m1 98 rfl) rfl
theorem q223 : (Jvm.Cond.fieldLink "HeldTongue" (38 : Nat) "HeldTongue" "imageRow" "[I") ∈ lw_all := lw_g (lw_at lw_m1 99 rfl) rfl
theorem q224 : (Jvm.Cond.fieldLink "HeldTongue" (154 : Nat) "HeldTongue" "isFresh" "Z") ∈ lw_all := lw_g (lw_at lw_m1 100 rfl) rfl
theorem q225 : (Jvm.Cond.fieldLink "HeldTongue" (41 : Nat) "HeldTongue" "tape" "[B") ∈ lw_all := lw_g (lw_at lw_m1 101 rfl) rfl
theorem q226 : (Jvm.Cond.fieldLink "HeldTongue" (123 : Nat) "HeldTongue" "taped" "I") ∈ lw_all := lw_g (lw_at lw_m1 102 rfl) rfl
theorem q227 : (Jvm.Cond.fieldLink "HeldTongue" (45 : Nat) "HeldTongue" "fault" "I") ∈ lw_all := lw_g (lw_at lw_m1 103 rfl) rfl
theorem q228 : (Jvm.Cond.fieldLink "HeldTongue" (48 : Nat) "HeldTongue" "faultPlace" "I") ∈ lw_all := lw_g (lw_at lw_m1 104 rfl) rfl
theorem q229 : (Jvm.Cond.fieldLink "HeldTongue" (51 : Nat) "HeldTongue" "counts" "[I") ∈ lw_all := lw_g (lw_at lw_m1 105 rfl) rfl
theorem q230 : (Jvm.Cond.fieldLink "HeldTongue" (55 : Nat) "HeldTongue" "rows" "[I") ∈ lw_all := lw_g (lw_at lw_m1 106 rfl) rfl
theorem q231 : (Jvm.Cond.fieldLink "HeldTongue" (58 : Nat) "HeldTongue" "one" "[I") ∈ lw_all := lw_g (lw_at lw_m1 107 rfl) rfl
theorem q232 : (Jvm.Cond.fieldLink "HeldTongue" (61 : Nat) "HeldTongue" "asked" "[I") ∈ lw_all := lw_g (lw_at lw_m1 108 rfl) rfl
theorem q233 : (Jvm.Cond.fieldLink "HeldTongue" (66 : Nat) "HeldTongue" "ways" "[[J") ∈ lw_all := lw_g (lw_at lw_m1 109 rfl) rfl
theorem q234 : (Jvm.Cond.fieldLink "HeldTongue" (222 : Nat) "HeldTongue" "askedMany" "I") ∈ lw_all := lw_g (lw_at lw_m1 110 rfl) rfl
theorem q235 : (Jvm.Cond.fieldLink "HeldTongue" (71 : Nat) "HeldTongue" "senses" "[LHeldTongue$Sense;") ∈ lw_all := lw_g (lw_at lw_m1 111 rfl) rfl
theorem q236 : (Jvm.Cond.fieldLink "HeldTongue" (75 : Nat) "HeldTongue" "ms" "[I") ∈ lw_all := lw_g (lw_at lw_m1 112 rfl) rfl
theorem q237 : (Jvm.Cond.fieldLink "HeldTongue" (78 : Nat) "HeldTongue" "eases" "[I") ∈ lw_all := lw_g (lw_at lw_m1 113 rfl) rfl
theorem q238 : (Jvm.Cond.fieldLink "HeldTongue" (83 : Nat) "HeldTongue" "held" "[[I") ∈ lw_all := lw_g (lw_at lw_m1 114 rfl) rfl
theorem q239 : (Jvm.Cond.fieldLink "HeldTongue" (86 : Nat) "HeldTongue" "sorts" "[I") ∈ lw_all := lw_g (lw_at lw_m1 115 rfl) rfl
theorem q240 : (Jvm.Cond.fieldLink "HeldTongue" (89 : Nat) "HeldTongue" "marks" "[I") ∈ lw_all := lw_g (lw_at lw_m1 116 rfl) rfl
theorem q241 : (Jvm.Cond.fieldLink "HeldTongue" (92 : Nat) "HeldTongue" "partsFrom" "[I") ∈ lw_all := lw_g (lw_at lw_m1 117 rfl) rfl
theorem q242 : (Jvm.Cond.fieldLink "HeldTongue" (95 : Nat) "HeldTongue" "parts" "[I") ∈ lw_all := lw_g (lw_at lw_m1 118 rfl) rfl
theorem q243 : (Jvm.Cond.fieldLink "HeldTongue" (261 : Nat) "HeldTongue" "meantMany" "I") ∈ lw_all := lw_g (lw_at lw_m1 119 rfl) rfl
theorem q244 : (Jvm.Cond.fieldLink "HeldTongue" (98 : Nat) "HeldTongue" "kinds" "[I") ∈ lw_all := lw_g (lw_at lw_m1 120 rfl) rfl
theorem q245 : (Jvm.Cond.fieldLink "HeldTongue" (101 : Nat) "HeldTongue" "weights" "[I") ∈ lw_all := lw_g (lw_at lw_m1 121 rfl) rfl
theorem q246 : (Jvm.Cond.fieldLink "HeldTongue" (104 : Nat) "HeldTongue" "madeBy" "[I") ∈ lw_all := lw_g (lw_at lw_m1 122 rfl) rfl
theorem q247 : (Jvm.Cond.fieldLink "HeldTongue" (107 : Nat) "HeldTongue" "meanings" "[I") ∈ lw_all := lw_g (lw_at lw_m1 123 rfl) rfl
theorem q248 : (Jvm.Cond.fieldLink "HeldTongue" (277 : Nat) "HeldTongue" "things" "I") ∈ lw_all := lw_g (lw_at lw_m1 124 rfl) rfl
theorem q249 : (Jvm.Cond.fieldLink "HeldTongue" (110 : Nat) "HeldTongue" "heard" "[I") ∈ lw_all := lw_g (lw_at lw_m1 125 rfl) rfl
theorem q250 : (Jvm.Cond.fieldLink "HeldTongue" (113 : Nat) "HeldTongue" "fewest" "[I") ∈ lw_all := lw_g (lw_at lw_m1 126 rfl) rfl
theorem q251 : (Jvm.Cond.fieldLink "HeldTongue" (116 : Nat) "HeldTongue" "some" "[I") ∈ lw_all := lw_g (lw_at lw_m1 127 rfl) rfl
theorem q252 : (Jvm.Cond.fieldLink "HeldTongue" (371 : Nat) "HeldTongue" "due" "I") ∈ lw_all := lw_g (lw_at lw_m1 128 rfl) rfl
theorem q253 : (Jvm.Cond.fieldLink "HeldTongue" (120 : Nat) "HeldTongue" "sayings" "[[I") ∈ lw_all := lw_g (lw_at lw_m1 129 rfl) rfl
theorem q254 : (Jvm.Cond.laysFinal "HeldTongue" "HeldTongue" "lexicons" "[LHeldTongue$Lexicon;") ∈ lw_all := lw_g (lw_at lw_m1 130 rfl) rfl
theorem q255 : (Jvm.Cond.soleField "HeldTongue" "lexicons") ∈ lw_all := lw_g (lw_at lw_m1 131 rfl) rfl
theorem q256 : (Jvm.Cond.laysFinal "HeldTongue" "HeldTongue" "mute" "LHeldTongue$Lexicon;") ∈ lw_all := lw_g (lw_at lw_m1 132 rfl) rfl
theorem q257 : (Jvm.Cond.soleField "HeldTongue" "mute") ∈ lw_all := lw_g (lw_at lw_m1 133 rfl) rfl
theorem q258 : (Jvm.Cond.laysFinal "HeldTongue" "HeldTongue" "moment" "LHeldTongue$Moment;") ∈ lw_all := lw_g (lw_at lw_m1 134 rfl) rfl
theorem q259 : (Jvm.Cond.soleField "HeldTongue" "moment") ∈ lw_all := lw_g (lw_at lw_m1 135 rfl) rfl
theorem q260 : (Jvm.Cond.lays "HeldTongue" "HeldTongue" "texts" "I") ∈ lw_all := lw_g (lw_at lw_m1 136 rfl) rfl
theorem q261 : (Jvm.Cond.soleField "HeldTongue" "texts") ∈ lw_all := lw_g (lw_at lw_m1 137 rfl) rfl
theorem q262 : (Jvm.Cond.lays "HeldTongue" "HeldTongue" "text" "I") ∈ lw_all := lw_g (lw_at lw_m1 138 rfl) rfl
theorem q263 : (Jvm.Cond.soleField "HeldTongue" "text") ∈ lw_all := lw_g (lw_at lw_m1 139 rfl) rfl
theorem q264 : (Jvm.Cond.lays "HeldTongue" "HeldTongue" "n" "I") ∈ lw_all := lw_g (lw_at lw_m1 140 rfl) rfl
theorem q265 : (Jvm.Cond.soleField "HeldTongue" "n") ∈ lw_all := lw_g (lw_at lw_m1 141 rfl) rfl
theorem q266 : (Jvm.Cond.lays "HeldTongue" "HeldTongue" "imageTexts" "I") ∈ lw_all := lw_g (lw_at lw_m1 142 rfl) rfl
theorem q267 : (Jvm.Cond.soleField "HeldTongue" "imageTexts") ∈ lw_all := lw_g (lw_at lw_m1 143 rfl) rfl
theorem q268 : (Jvm.Cond.lays "HeldTongue" "HeldTongue" "imageText" "I") ∈ lw_all := lw_g (lw_at lw_m1 144 rfl) rfl
theorem q269 : (Jvm.Cond.soleField "HeldTongue" "imageText") ∈ lw_all := lw_g (lw_at lw_m1 145 rfl) rfl
theorem q270 : (Jvm.Cond.lays "HeldTongue" "HeldTongue" "imageN" "I") ∈ lw_all := lw_g (lw_at lw_m1 146 rfl) rfl
theorem q271 : (Jvm.Cond.soleField "HeldTongue" "imageN") ∈ lw_all := lw_g (lw_at lw_m1 147 rfl) rfl
theorem q272 : (Jvm.Cond.laysFinal "HeldTongue" "HeldTongue" "row" "[I") ∈ lw_all := lw_g (lw_at lw_m1 148 rfl) rfl
theorem q273 : (Jvm.Cond.soleField "HeldTongue" "row") ∈ lw_all := lw_g (lw_at lw_m1 149 rfl) rfl
theorem q274 : (Jvm.Cond.laysFinal "HeldTongue" "HeldTongue" "imageRow" "[I") ∈ lw_all := lw_g (lw_at lw_m1 150 rfl) rfl
theorem q275 : (Jvm.Cond.soleField "HeldTongue" "imageRow") ∈ lw_all := lw_g (lw_at lw_m1 151 rfl) rfl
theorem q276 : (Jvm.Cond.lays "HeldTongue" "HeldTongue" "isFresh" "Z") ∈ lw_all := lw_g (lw_at lw_m1 152 rfl) rfl
theorem q277 : (Jvm.Cond.soleField "HeldTongue" "isFresh") ∈ lw_all := lw_g (lw_at lw_m1 153 rfl) rfl
theorem q278 : (Jvm.Cond.laysFinal "HeldTongue" "HeldTongue" "tape" "[B") ∈ lw_all := lw_g (lw_at lw_m1 154 rfl) rfl
theorem q279 : (Jvm.Cond.soleField "HeldTongue" "tape") ∈ lw_all := lw_g (lw_at lw_m1 155 rfl) rfl
theorem q280 : (Jvm.Cond.lays "HeldTongue" "HeldTongue" "taped" "I") ∈ lw_all := lw_g (lw_at lw_m1 156 rfl) rfl
theorem q281 : (Jvm.Cond.soleField "HeldTongue" "taped") ∈ lw_all := lw_g (lw_at lw_m1 157 rfl) rfl
theorem q282 : (Jvm.Cond.lays "HeldTongue" "HeldTongue" "fault" "I") ∈ lw_all := lw_g (lw_at lw_m1 158 rfl) rfl
theorem q283 : (Jvm.Cond.soleField "HeldTongue" "fault") ∈ lw_all := lw_g (lw_at lw_m1 159 rfl) rfl
theorem q284 : (Jvm.Cond.lays "HeldTongue" "HeldTongue" "faultPlace" "I") ∈ lw_all := lw_g (lw_at lw_m1 160 rfl) rfl
theorem q285 : (Jvm.Cond.soleField "HeldTongue" "faultPlace") ∈ lw_all := lw_g (lw_at lw_m1 161 rfl) rfl
theorem q286 : (Jvm.Cond.laysFinal "HeldTongue" "HeldTongue" "counts" "[I") ∈ lw_all := lw_g (lw_at lw_m1 162 rfl) rfl
theorem q287 : (Jvm.Cond.soleField "HeldTongue" "counts") ∈ lw_all := lw_g (lw_at lw_m1 163 rfl) rfl
theorem q288 : (Jvm.Cond.laysFinal "HeldTongue" "HeldTongue" "rows" "[I") ∈ lw_all := lw_g (lw_at lw_m1 164 rfl) rfl
theorem q289 : (Jvm.Cond.soleField "HeldTongue" "rows") ∈ lw_all := lw_g (lw_at lw_m1 165 rfl) rfl
theorem q290 : (Jvm.Cond.laysFinal "HeldTongue" "HeldTongue" "one" "[I") ∈ lw_all := lw_g (lw_at lw_m1 166 rfl) rfl
theorem q291 : (Jvm.Cond.soleField "HeldTongue" "one") ∈ lw_all := lw_g (lw_at lw_m1 167 rfl) rfl
theorem q292 : (Jvm.Cond.laysFinal "HeldTongue" "HeldTongue" "asked" "[I") ∈ lw_all := lw_g (lw_at lw_m1 168 rfl) rfl
theorem q293 : (Jvm.Cond.soleField "HeldTongue" "asked") ∈ lw_all := lw_g (lw_at lw_m1 169 rfl) rfl
theorem q294 : (Jvm.Cond.laysFinal "HeldTongue" "HeldTongue" "ways" "[[J") ∈ lw_all := lw_g (lw_at lw_m1 170 rfl) rfl
theorem q295 : (Jvm.Cond.soleField "HeldTongue" "ways") ∈ lw_all := lw_g (lw_at lw_m1 171 rfl) rfl
theorem q296 : (Jvm.Cond.lays "HeldTongue" "HeldTongue" "askedMany" "I") ∈ lw_all := lw_g (lw_at lw_m1 172 rfl) rfl
theorem q297 : (Jvm.Cond.soleField "HeldTongue" "askedMany") ∈ lw_all := lw_g (lw_at lw_m1 173 rfl) rfl
theorem q298 : (Jvm.Cond.laysFinal "HeldTongue" "HeldTongue" "senses" "[LHeldTongue$Sense;") ∈ lw_all := lw_g (lw_at lw_m1 174 rfl) rfl
theorem q299 : (Jvm.Cond.soleField "HeldTongue" "senses") ∈ lw_all := lw_g (lw_at lw_m1 175 rfl) rfl
theorem q300 : (Jvm.Cond.laysFinal "HeldTongue" "HeldTongue" "ms" "[I") ∈ lw_all := lw_g (lw_at lw_m1 176 rfl) rfl
theorem q301 : (Jvm.Cond.soleField "HeldTongue" "ms") ∈ lw_all := lw_g (lw_at lw_m1 177 rfl) rfl
theorem q302 : (Jvm.Cond.laysFinal "HeldTongue" "HeldTongue" "eases" "[I") ∈ lw_all := lw_g (lw_at lw_m1 178 rfl) rfl
theorem q303 : (Jvm.Cond.soleField "HeldTongue" "eases") ∈ lw_all := lw_g (lw_at lw_m1 179 rfl) rfl
theorem q304 : (Jvm.Cond.laysFinal "HeldTongue" "HeldTongue" "held" "[[I") ∈ lw_all := lw_g (lw_at lw_m1 180 rfl) rfl
theorem q305 : (Jvm.Cond.soleField "HeldTongue" "held") ∈ lw_all := lw_g (lw_at lw_m1 181 rfl) rfl
theorem q306 : (Jvm.Cond.laysFinal "HeldTongue" "HeldTongue" "sorts" "[I") ∈ lw_all := lw_g (lw_at lw_m1 182 rfl) rfl
theorem q307 : (Jvm.Cond.soleField "HeldTongue" "sorts") ∈ lw_all := lw_g (lw_at lw_m1 183 rfl) rfl
theorem q308 : (Jvm.Cond.laysFinal "HeldTongue" "HeldTongue" "marks" "[I") ∈ lw_all := lw_g (lw_at lw_m1 184 rfl) rfl
theorem q309 : (Jvm.Cond.soleField "HeldTongue" "marks") ∈ lw_all := lw_g (lw_at lw_m1 185 rfl) rfl
theorem q310 : (Jvm.Cond.laysFinal "HeldTongue" "HeldTongue" "partsFrom" "[I") ∈ lw_all := lw_g (lw_at lw_m1 186 rfl) rfl
theorem q311 : (Jvm.Cond.soleField "HeldTongue" "partsFrom") ∈ lw_all := lw_g (lw_at lw_m1 187 rfl) rfl
theorem q312 : (Jvm.Cond.laysFinal "HeldTongue" "HeldTongue" "parts" "[I") ∈ lw_all := lw_g (lw_at lw_m1 188 rfl) rfl
theorem q313 : (Jvm.Cond.soleField "HeldTongue" "parts") ∈ lw_all := lw_g (lw_at lw_m1 189 rfl) rfl
theorem q314 : (Jvm.Cond.lays "HeldTongue" "HeldTongue" "meantMany" "I") ∈ lw_all := lw_g (lw_at lw_m1 190 rfl) rfl
theorem q315 : (Jvm.Cond.soleField "HeldTongue" "meantMany") ∈ lw_all := lw_g (lw_at lw_m1 191 rfl) rfl
theorem q316 : (Jvm.Cond.laysFinal "HeldTongue" "HeldTongue" "kinds" "[I") ∈ lw_all := lw_g (lw_at lw_m1 192 rfl) rfl
theorem q317 : (Jvm.Cond.soleField "HeldTongue" "kinds") ∈ lw_all := lw_g (lw_at lw_m1 193 rfl) rfl
theorem q318 : (Jvm.Cond.laysFinal "HeldTongue" "HeldTongue" "weights" "[I") ∈ lw_all := lw_g (lw_at lw_m1 194 rfl) rfl
theorem q319 : (Jvm.Cond.soleField "HeldTongue" "weights") ∈ lw_all := lw_g (lw_at lw_m1 195 rfl) rfl
theorem q320 : (Jvm.Cond.laysFinal "HeldTongue" "HeldTongue" "madeBy" "[I") ∈ lw_all := lw_g (lw_at lw_m1 196 rfl) rfl
theorem q321 : (Jvm.Cond.soleField "HeldTongue" "madeBy") ∈ lw_all := lw_g (lw_at lw_m1 197 rfl) rfl
theorem q322 : (Jvm.Cond.laysFinal "HeldTongue" "HeldTongue" "meanings" "[I") ∈ lw_all := lw_g (lw_at lw_m1 198 rfl) rfl
theorem q323 : (Jvm.Cond.soleField "HeldTongue" "meanings") ∈ lw_all := lw_g (lw_at lw_m1 199 rfl) rfl
theorem q324 : (Jvm.Cond.lays "HeldTongue" "HeldTongue" "things" "I") ∈ lw_all := lw_g (lw_at lw_m1 200 rfl) rfl
theorem q325 : (Jvm.Cond.soleField "HeldTongue" "things") ∈ lw_all := lw_g (lw_at lw_m1 201 rfl) rfl
theorem q326 : (Jvm.Cond.laysFinal "HeldTongue" "HeldTongue" "heard" "[I") ∈ lw_all := lw_g (lw_at lw_m1 202 rfl) rfl
theorem q327 : (Jvm.Cond.soleField "HeldTongue" "heard") ∈ lw_all := lw_g (lw_at lw_m1 203 rfl) rfl
theorem q328 : (Jvm.Cond.laysFinal "HeldTongue" "HeldTongue" "fewest" "[I") ∈ lw_all := lw_g (lw_at lw_m1 204 rfl) rfl
theorem q329 : (Jvm.Cond.soleField "HeldTongue" "fewest") ∈ lw_all := lw_g (lw_at lw_m1 205 rfl) rfl
theorem q330 : (Jvm.Cond.laysFinal "HeldTongue" "HeldTongue" "some" "[I") ∈ lw_all := lw_g (lw_at lw_m1 206 rfl) rfl
theorem q331 : (Jvm.Cond.soleField "HeldTongue" "some") ∈ lw_all := lw_g (lw_at lw_m1 207 rfl) rfl
theorem q332 : (Jvm.Cond.lays "HeldTongue" "HeldTongue" "due" "I") ∈ lw_all := lw_g (lw_at lw_m1 208 rfl) rfl
theorem q333 : (Jvm.Cond.soleField "HeldTongue" "due") ∈ lw_all := lw_g (lw_at lw_m1 209 rfl) rfl
theorem q334 : (Jvm.Cond.laysFinal "HeldTongue" "HeldTongue" "sayings" "[[I") ∈ lw_all := lw_g (lw_at lw_m1 210 rfl) rfl
theorem q335 : (Jvm.Cond.soleField "HeldTongue" "sayings") ∈ lw_all := lw_g (lw_at lw_m1 211 rfl) rfl
theorem q336 : (Jvm.Cond.superclass "HeldTongue" "java/lang/Object") ∈ lw_all := lw_g (lw_at lw_m1 212 rfl) rfl
theorem q340 : (Jvm.Cond.instanceMethod ({ cls := "HeldTongue", name := "feed", desc := "(IIIII)I" } : Jvm.MethodName)) ∈ lw_all := lw_g (lw_at lw_m1 216 rfl) rfl
theorem q341 : (Jvm.Cond.selects "HeldTongue" ({ cls := "HeldTongue", name := "feed", desc := "(IIIII)I" } : Jvm.MethodName) ({ cls := "HeldTongue", name := "feed", desc := "(IIIII)I" } : Jvm.MethodName)) ∈ lw_all := lw_g (lw_at lw_m1 217 rfl) rfl
theorem q342 : (Jvm.Cond.code ({ cls := "HeldTongue", name := "feed", desc := "(IIIII)I" } : Jvm.MethodName) prog_1_method_4_code (6 : Nat) (Option.some Jvm.ClassFile.FieldType.int)) ∈ lw_all := lw_g (lw_at lw_m1 218 rfl) rfl
theorem q343 : (Jvm.Cond.methodLink "HeldTongue" (126 : Nat) ({ cls := "HeldTongue", name := "four", desc := "(I)V" } : Jvm.MethodName)) ∈ lw_all := lw_g (lw_at lw_m1 219 rfl) rfl
theorem q344 : (Jvm.Cond.privateMethod ({ cls := "HeldTongue", name := "four", desc := "(I)V" } : Jvm.MethodName)) ∈ lw_tbl := lw_at lw_m1 220 rfl
theorem q345 : (Jvm.Cond.instanceMethod ({ cls := "HeldTongue", name := "four", desc := "(I)V" } : Jvm.MethodName)) ∈ lw_all := lw_g (lw_at lw_m1 221 rfl) rfl
theorem q346 : (Jvm.Cond.code ({ cls := "HeldTongue", name := "four", desc := "(I)V" } : Jvm.MethodName) prog_1_method_5_code (3 : Nat) (Option.none : Option Jvm.ClassFile.FieldType)) ∈ lw_all := lw_g (lw_at lw_m1 222 rfl) rfl
theorem q348 : (Jvm.Cond.instanceMethod ({ cls := "HeldTongue", name := "end", desc := "(I)I" } : Jvm.MethodName)) ∈ lw_all := lw_g (lw_at lw_m1 224 rfl) rfl
theorem q349 : (Jvm.Cond.selects "HeldTongue" ({ cls := "HeldTongue", name := "end", desc := "(I)I" } : Jvm.MethodName) ({ cls := "HeldTongue", name := "end", desc := "(I)I" } : Jvm.MethodName)) ∈ lw_all := lw_g (lw_at lw_m1 225 rfl) rfl
theorem q350 : (Jvm.Cond.code ({ cls := "HeldTongue", name := "end", desc := "(I)I" } : Jvm.MethodName) prog_1_method_6_code (2 : Nat) (Option.some Jvm.ClassFile.FieldType.int)) ∈ lw_all := lw_g (lw_at lw_m1 226 rfl) rfl
theorem q351 : (Jvm.Cond.methodLink "HeldTongue" (130 : Nat) ({ cls := "HeldTongue", name := "in", desc := "(III)Z" } : Jvm.MethodName)) ∈ lw_all := lw_g (lw_at lw_m1 227 rfl) rfl
theorem q352 : (Jvm.Cond.static ({ cls := "HeldTongue", name := "in", desc := "(III)Z" } : Jvm.MethodName)) ∈ lw_all := lw_g (lw_at lw_m1 228 rfl) rfl
theorem q353 : (Jvm.Cond.code ({ cls := "HeldTongue", name := "in", desc := "(III)Z" } : Jvm.MethodName) prog_1_method_1_code (3 : Nat) (Option.some Jvm.ClassFile.FieldType.boolean)) ∈ lw_all := lw_g (lw_at lw_m1 229 rfl) rfl
theorem q355 : (Jvm.Cond.instanceMethod ({ cls := "HeldTongue", name := "text", desc := "()I" } : Jvm.MethodName)) ∈ lw_all := lw_g (lw_at lw_m1 231 rfl) rfl
theorem q356 : (Jvm.Cond.selects "HeldTongue" ({ cls := "HeldTongue", name := "text", desc := "()I" } : Jvm.MethodName) ({ cls := "HeldTongue", name := "text", desc := "()I" } : Jvm.MethodName)) ∈ lw_all := lw_g (lw_at lw_m1 232 rfl) rfl
theorem q357 : (Jvm.Cond.codeWith ({ cls := "HeldTongue", name := "text", desc := "()I" } : Jvm.MethodName) prog_1_method_7_code (3 : Nat) (Option.some Jvm.ClassFile.FieldType.int) [((32 : Nat), (55 : Nat), (58 : Nat), (146 : Nat))]) ∈ lw_all := lw_g (lw_at lw_m1 233 rfl) rfl
theorem q358 : (Jvm.Cond.classLink "HeldTongue" (146 : Nat) "HeldTongue$Wrong") ∈ lw_all := lw_g (lw_at lw_m1 234 rfl) rfl
theorem q359 : (Jvm.Cond.classLink "HeldTongue" (137 : Nat) "HeldTongue$Reader") ∈ lw_all := lw_g (lw_at lw_m1 235 rfl) rfl
theorem q361 : (Jvm.Cond.methodLink "HeldTongue" (139 : Nat) ({ cls := "HeldTongue$Reader", name := "<init>", desc := "([BI)V" } : Jvm.MethodName)) ∈ lw_all := lw_g (lw_at lw_m1 237 rfl) rfl
theorem q396 : (Jvm.Cond.methodLink "HeldTongue" (142 : Nat) ({ cls := "HeldTongue$Reader", name := "read", desc := "()LHeldTongue$Lexicon;" } : Jvm.MethodName)) ∈ lw_all := lw_g (lw_at lw_m2 32 rfl) rfl
theorem q542 : (Jvm.Cond.fieldLinkNest "HeldTongue" (148 : Nat) "HeldTongue$Wrong" "code" "I" "HeldTongue") ∈ lw_tbl := lw_at lw_m2 178 rfl
theorem q544 : (Jvm.Cond.fieldLinkNest "HeldTongue" (151 : Nat) "HeldTongue$Wrong" "place" "I" "HeldTongue") ∈ lw_tbl := lw_at lw_m2 180 rfl
theorem q588 : (Jvm.Cond.fieldLinkNest "HeldTongue" (282 : Nat) "HeldTongue$Name" "weight" "I" "HeldTongue") ∈ lw_tbl := lw_at lw_m2 224 rfl
theorem q590 : (Jvm.Cond.fieldLink "HeldTongue" (243 : Nat) "HeldTongue$Sense" "number" "I") ∈ lw_all := lw_g (lw_at lw_m2 226 rfl) rfl
theorem q592 : (Jvm.Cond.fieldLink "HeldTongue" (190 : Nat) "HeldTongue$Sense" "word" "I") ∈ lw_all := lw_g (lw_at lw_m2 228 rfl) rfl
theorem q594 : (Jvm.Cond.fieldLink "HeldTongue" (196 : Nat) "HeldTongue$Sense" "makes" "I") ∈ lw_all := lw_g (lw_at lw_m2 230 rfl) rfl
theorem q596 : (Jvm.Cond.fieldLink "HeldTongue" (271 : Nat) "HeldTongue$Sense" "mark" "I") ∈ lw_all := lw_g (lw_at lw_m2 232 rfl) rfl
theorem q805 : (Jvm.Cond.instanceMethod ({ cls := "HeldTongue", name := "fault", desc := "(I)I" } : Jvm.MethodName)) ∈ lw_all := lw_g (lw_at lw_m3 201 rfl) rfl
theorem q806 : (Jvm.Cond.selects "HeldTongue" ({ cls := "HeldTongue", name := "fault", desc := "(I)I" } : Jvm.MethodName) ({ cls := "HeldTongue", name := "fault", desc := "(I)I" } : Jvm.MethodName)) ∈ lw_all := lw_g (lw_at lw_m3 202 rfl) rfl
theorem q807 : (Jvm.Cond.code ({ cls := "HeldTongue", name := "fault", desc := "(I)I" } : Jvm.MethodName) prog_1_method_8_code (2 : Nat) (Option.some Jvm.ClassFile.FieldType.int)) ∈ lw_all := lw_g (lw_at lw_m3 203 rfl) rfl
theorem q809 : (Jvm.Cond.instanceMethod ({ cls := "HeldTongue", name := "by", desc := "(I)Z" } : Jvm.MethodName)) ∈ lw_all := lw_g (lw_at lw_m3 205 rfl) rfl
theorem q810 : (Jvm.Cond.selects "HeldTongue" ({ cls := "HeldTongue", name := "by", desc := "(I)Z" } : Jvm.MethodName) ({ cls := "HeldTongue", name := "by", desc := "(I)Z" } : Jvm.MethodName)) ∈ lw_all := lw_g (lw_at lw_m3 206 rfl) rfl
theorem q811 : (Jvm.Cond.code ({ cls := "HeldTongue", name := "by", desc := "(I)Z" } : Jvm.MethodName) prog_1_method_9_code (2 : Nat) (Option.some Jvm.ClassFile.FieldType.boolean)) ∈ lw_all := lw_g (lw_at lw_m3 207 rfl) rfl
theorem q813 : (Jvm.Cond.instanceMethod ({ cls := "HeldTongue", name := "say", desc := "(I)I" } : Jvm.MethodName)) ∈ lw_all := lw_g (lw_at lw_m3 209 rfl) rfl
theorem q814 : (Jvm.Cond.selects "HeldTongue" ({ cls := "HeldTongue", name := "say", desc := "(I)I" } : Jvm.MethodName) ({ cls := "HeldTongue", name := "say", desc := "(I)I" } : Jvm.MethodName)) ∈ lw_all := lw_g (lw_at lw_m3 210 rfl) rfl
theorem q815 : (Jvm.Cond.code ({ cls := "HeldTongue", name := "say", desc := "(I)I" } : Jvm.MethodName) prog_1_method_10_code (2 : Nat) (Option.some Jvm.ClassFile.FieldType.int)) ∈ lw_all := lw_g (lw_at lw_m3 211 rfl) rfl
theorem q817 : (Jvm.Cond.instanceMethod ({ cls := "HeldTongue", name := "unsay", desc := "(I)I" } : Jvm.MethodName)) ∈ lw_all := lw_g (lw_at lw_m3 213 rfl) rfl
theorem q818 : (Jvm.Cond.selects "HeldTongue" ({ cls := "HeldTongue", name := "unsay", desc := "(I)I" } : Jvm.MethodName) ({ cls := "HeldTongue", name := "unsay", desc := "(I)I" } : Jvm.MethodName)) ∈ lw_all := lw_g (lw_at lw_m3 214 rfl) rfl
theorem q819 : (Jvm.Cond.code ({ cls := "HeldTongue", name := "unsay", desc := "(I)I" } : Jvm.MethodName) prog_1_method_11_code (2 : Nat) (Option.some Jvm.ClassFile.FieldType.int)) ∈ lw_all := lw_g (lw_at lw_m3 215 rfl) rfl
theorem q821 : (Jvm.Cond.instanceMethod ({ cls := "HeldTongue", name := "word", desc := "(I)I" } : Jvm.MethodName)) ∈ lw_all := lw_g (lw_at lw_m3 217 rfl) rfl
theorem q822 : (Jvm.Cond.selects "HeldTongue" ({ cls := "HeldTongue", name := "word", desc := "(I)I" } : Jvm.MethodName) ({ cls := "HeldTongue", name := "word", desc := "(I)I" } : Jvm.MethodName)) ∈ lw_all := lw_g (lw_at lw_m3 218 rfl) rfl
theorem q823 : (Jvm.Cond.code ({ cls := "HeldTongue", name := "word", desc := "(I)I" } : Jvm.MethodName) prog_1_method_12_code (2 : Nat) (Option.some Jvm.ClassFile.FieldType.int)) ∈ lw_all := lw_g (lw_at lw_m3 219 rfl) rfl
theorem q825 : (Jvm.Cond.instanceMethod ({ cls := "HeldTongue", name := "count", desc := "(I)I" } : Jvm.MethodName)) ∈ lw_all := lw_g (lw_at lw_m3 221 rfl) rfl
theorem q826 : (Jvm.Cond.selects "HeldTongue" ({ cls := "HeldTongue", name := "count", desc := "(I)I" } : Jvm.MethodName) ({ cls := "HeldTongue", name := "count", desc := "(I)I" } : Jvm.MethodName)) ∈ lw_all := lw_g (lw_at lw_m3 222 rfl) rfl
theorem q827 : (Jvm.Cond.code ({ cls := "HeldTongue", name := "count", desc := "(I)I" } : Jvm.MethodName) prog_1_method_21_code (2 : Nat) (Option.some Jvm.ClassFile.FieldType.int)) ∈ lw_all := lw_g (lw_at lw_m3 223 rfl) rfl
theorem q828 : (Jvm.Cond.methodLink "HeldTongue" (219 : Nat) ({ cls := "HeldTongue", name := "reckon", desc := "()V" } : Jvm.MethodName)) ∈ lw_all := lw_g (lw_at lw_m3 224 rfl) rfl
theorem q829 : (Jvm.Cond.privateMethod ({ cls := "HeldTongue", name := "reckon", desc := "()V" } : Jvm.MethodName)) ∈ lw_tbl := lw_at lw_m3 225 rfl
theorem q830 : (Jvm.Cond.instanceMethod ({ cls := "HeldTongue", name := "reckon", desc := "()V" } : Jvm.MethodName)) ∈ lw_all := lw_g (lw_at lw_m3 226 rfl) rfl
theorem q831 : (Jvm.Cond.code ({ cls := "HeldTongue", name := "reckon", desc := "()V" } : Jvm.MethodName) prog_1_method_18_code (8 : Nat) (Option.none : Option Jvm.ClassFile.FieldType)) ∈ lw_all := lw_g (lw_at lw_m3 227 rfl) rfl
theorem q832 : (Jvm.Cond.methodLink "HeldTongue" (186 : Nat) ({ cls := "HeldTongue", name := "lexicon", desc := "()LHeldTongue$Lexicon;" } : Jvm.MethodName)) ∈ lw_all := lw_g (lw_at lw_m3 228 rfl) rfl
theorem q833 : (Jvm.Cond.privateMethod ({ cls := "HeldTongue", name := "lexicon", desc := "()LHeldTongue$Lexicon;" } : Jvm.MethodName)) ∈ lw_tbl := lw_at lw_m3 229 rfl
theorem q834 : (Jvm.Cond.instanceMethod ({ cls := "HeldTongue", name := "lexicon", desc := "()LHeldTongue$Lexicon;" } : Jvm.MethodName)) ∈ lw_all := lw_g (lw_at lw_m3 230 rfl) rfl
theorem q835 : (Jvm.Cond.code ({ cls := "HeldTongue", name := "lexicon", desc := "()LHeldTongue$Lexicon;" } : Jvm.MethodName) prog_1_method_3_code (1 : Nat) (Option.some (Jvm.ClassFile.FieldType.object "HeldTongue$Lexicon"))) ∈ lw_all := lw_g (lw_at lw_m3 231 rfl) rfl
theorem q836 : (Jvm.Cond.methodLink "HeldTongue" (193 : Nat) ({ cls := "HeldTongue$Sense", name := "most", desc := "()I" } : Jvm.MethodName)) ∈ lw_all := lw_g (lw_at lw_m3 232 rfl) rfl
theorem q849 : (Jvm.Cond.methodLink "HeldTongue" (199 : Nat) ({ cls := "HeldTongue", name := "countAt", desc := "(III)I" } : Jvm.MethodName)) ∈ lw_all := lw_g (lw_at lw_m4 5 rfl) rfl
theorem q850 : (Jvm.Cond.static ({ cls := "HeldTongue", name := "countAt", desc := "(III)I" } : Jvm.MethodName)) ∈ lw_all := lw_g (lw_at lw_m4 6 rfl) rfl
theorem q851 : (Jvm.Cond.code ({ cls := "HeldTongue", name := "countAt", desc := "(III)I" } : Jvm.MethodName) prog_1_method_14_code (3 : Nat) (Option.some Jvm.ClassFile.FieldType.int)) ∈ lw_all := lw_g (lw_at lw_m4 7 rfl) rfl
theorem q852 : (Jvm.Cond.methodLink "HeldTongue" (161 : Nat) ({ cls := "HeldTongue", name := "spanAt", desc := "(II)I" } : Jvm.MethodName)) ∈ lw_all := lw_g (lw_at lw_m4 8 rfl) rfl
theorem q853 : (Jvm.Cond.static ({ cls := "HeldTongue", name := "spanAt", desc := "(II)I" } : Jvm.MethodName)) ∈ lw_all := lw_g (lw_at lw_m4 9 rfl) rfl
theorem q854 : (Jvm.Cond.code ({ cls := "HeldTongue", name := "spanAt", desc := "(II)I" } : Jvm.MethodName) prog_1_method_13_code (2 : Nat) (Option.some Jvm.ClassFile.FieldType.int)) ∈ lw_all := lw_g (lw_at lw_m4 10 rfl) rfl
theorem q855 : (Jvm.Cond.methodLink "HeldTongue" (203 : Nat) ({ cls := "HeldTongue", name := "addWays", desc := "(ILHeldTongue$Sense;III)V" } : Jvm.MethodName)) ∈ lw_all := lw_g (lw_at lw_m4 11 rfl) rfl
theorem q856 : (Jvm.Cond.privateMethod ({ cls := "HeldTongue", name := "addWays", desc := "(ILHeldTongue$Sense;III)V" } : Jvm.MethodName)) ∈ lw_tbl := lw_at lw_m4 12 rfl
theorem q857 : (Jvm.Cond.instanceMethod ({ cls := "HeldTongue", name := "addWays", desc := "(ILHeldTongue$Sense;III)V" } : Jvm.MethodName)) ∈ lw_all := lw_g (lw_at lw_m4 13 rfl) rfl
theorem q858 : (Jvm.Cond.code ({ cls := "HeldTongue", name := "addWays", desc := "(ILHeldTongue$Sense;III)V" } : Jvm.MethodName) prog_1_method_17_code (10 : Nat) (Option.none : Option Jvm.ClassFile.FieldType)) ∈ lw_all := lw_g (lw_at lw_m4 14 rfl) rfl
theorem q859 : (Jvm.Cond.methodLink "HeldTongue" (167 : Nat) ({ cls := "HeldTongue$Sense", name := "takes", desc := "(I)I" } : Jvm.MethodName)) ∈ lw_all := lw_g (lw_at lw_m4 15 rfl) rfl
theorem q877 : (Jvm.Cond.methodLink "HeldTongue" (171 : Nat) ({ cls := "HeldTongue", name := "add", desc := "([II[II[II)V" } : Jvm.MethodName)) ∈ lw_all := lw_g (lw_at lw_m4 33 rfl) rfl
theorem q878 : (Jvm.Cond.static ({ cls := "HeldTongue", name := "add", desc := "([II[II[II)V" } : Jvm.MethodName)) ∈ lw_all := lw_g (lw_at lw_m4 34 rfl) rfl
theorem q879 : (Jvm.Cond.code ({ cls := "HeldTongue", name := "add", desc := "([II[II[II)V" } : Jvm.MethodName) prog_1_method_16_code (12 : Nat) (Option.none : Option Jvm.ClassFile.FieldType)) ∈ lw_all := lw_g (lw_at lw_m4 35 rfl) rfl
theorem q880 : (Jvm.Cond.constantLong "HeldTongue" (165 : Nat) (1000000000 : Int64)) ∈ lw_all := lw_g (lw_at lw_m4 36 rfl) rfl
theorem q881 : (Jvm.Cond.methodLink "HeldTongue" (175 : Nat) ({ cls := "HeldTongue$Sense", name := "kind", desc := "(II)I" } : Jvm.MethodName)) ∈ lw_all := lw_g (lw_at lw_m4 37 rfl) rfl
theorem q899 : (Jvm.Cond.methodLink "HeldTongue" (178 : Nat) ({ cls := "HeldTongue$Sense", name := "sort", desc := "()I" } : Jvm.MethodName)) ∈ lw_all := lw_g (lw_at lw_m4 55 rfl) rfl
theorem q917 : (Jvm.Cond.methodLink "HeldTongue" (182 : Nat) ({ cls := "HeldTongue", name := "rowAt", desc := "(IIII)I" } : Jvm.MethodName)) ∈ lw_all := lw_g (lw_at lw_m4 73 rfl) rfl
theorem q918 : (Jvm.Cond.static ({ cls := "HeldTongue", name := "rowAt", desc := "(IIII)I" } : Jvm.MethodName)) ∈ lw_all := lw_g (lw_at lw_m4 74 rfl) rfl
theorem q919 : (Jvm.Cond.code ({ cls := "HeldTongue", name := "rowAt", desc := "(IIII)I" } : Jvm.MethodName) prog_1_method_15_code (4 : Nat) (Option.some Jvm.ClassFile.FieldType.int)) ∈ lw_all := lw_g (lw_at lw_m4 75 rfl) rfl
theorem q921 : (Jvm.Cond.instanceMethod ({ cls := "HeldTongue", name := "span", desc := "(II)I" } : Jvm.MethodName)) ∈ lw_all := lw_g (lw_at lw_m4 77 rfl) rfl
theorem q922 : (Jvm.Cond.selects "HeldTongue" ({ cls := "HeldTongue", name := "span", desc := "(II)I" } : Jvm.MethodName) ({ cls := "HeldTongue", name := "span", desc := "(II)I" } : Jvm.MethodName)) ∈ lw_all := lw_g (lw_at lw_m4 78 rfl) rfl
theorem q923 : (Jvm.Cond.code ({ cls := "HeldTongue", name := "span", desc := "(II)I" } : Jvm.MethodName) prog_1_method_22_code (5 : Nat) (Option.some Jvm.ClassFile.FieldType.int)) ∈ lw_all := lw_g (lw_at lw_m4 79 rfl) rfl
theorem q924 : (Jvm.Cond.methodLink "HeldTongue" (215 : Nat) ({ cls := "HeldTongue", name := "capped", desc := "(III)J" } : Jvm.MethodName)) ∈ lw_all := lw_g (lw_at lw_m4 80 rfl) rfl
theorem q925 : (Jvm.Cond.privateMethod ({ cls := "HeldTongue", name := "capped", desc := "(III)J" } : Jvm.MethodName)) ∈ lw_tbl := lw_at lw_m4 81 rfl
theorem q926 : (Jvm.Cond.instanceMethod ({ cls := "HeldTongue", name := "capped", desc := "(III)J" } : Jvm.MethodName)) ∈ lw_all := lw_g (lw_at lw_m4 82 rfl) rfl
theorem q927 : (Jvm.Cond.code ({ cls := "HeldTongue", name := "capped", desc := "(III)J" } : Jvm.MethodName) prog_1_method_19_code (6 : Nat) (Option.some Jvm.ClassFile.FieldType.long)) ∈ lw_all := lw_g (lw_at lw_m4 83 rfl) rfl
theorem q928 : (Jvm.Cond.constantLong "HeldTongue" (207 : Nat) (4000000000 : Int64)) ∈ lw_all := lw_g (lw_at lw_m4 84 rfl) rfl
theorem q929 : (Jvm.Cond.methodLink "HeldTongue" (209 : Nat) ({ cls := "java/lang/Math", name := "min", desc := "(JJ)J" } : Jvm.MethodName)) ∈ lw_all := lw_g (lw_at lw_m4 85 rfl) rfl
theorem q933 : (Jvm.Cond.instanceMethod ({ cls := "HeldTongue", name := "sense", desc := "(II)I" } : Jvm.MethodName)) ∈ lw_all := lw_g (lw_at lw_m4 89 rfl) rfl
theorem q934 : (Jvm.Cond.selects "HeldTongue" ({ cls := "HeldTongue", name := "sense", desc := "(II)I" } : Jvm.MethodName) ({ cls := "HeldTongue", name := "sense", desc := "(II)I" } : Jvm.MethodName)) ∈ lw_all := lw_g (lw_at lw_m4 90 rfl) rfl
theorem q935 : (Jvm.Cond.code ({ cls := "HeldTongue", name := "sense", desc := "(II)I" } : Jvm.MethodName) prog_1_method_27_code (3 : Nat) (Option.some Jvm.ClassFile.FieldType.int)) ∈ lw_all := lw_g (lw_at lw_m4 91 rfl) rfl
theorem q936 : (Jvm.Cond.methodLink "HeldTongue" (239 : Nat) ({ cls := "HeldTongue", name := "find", desc := "(I)Z" } : Jvm.MethodName)) ∈ lw_all := lw_g (lw_at lw_m4 92 rfl) rfl
theorem q937 : (Jvm.Cond.privateMethod ({ cls := "HeldTongue", name := "find", desc := "(I)Z" } : Jvm.MethodName)) ∈ lw_tbl := lw_at lw_m4 93 rfl
theorem q938 : (Jvm.Cond.instanceMethod ({ cls := "HeldTongue", name := "find", desc := "(I)Z" } : Jvm.MethodName)) ∈ lw_all := lw_g (lw_at lw_m4 94 rfl) rfl
theorem q939 : (Jvm.Cond.code ({ cls := "HeldTongue", name := "find", desc := "(I)Z" } : Jvm.MethodName) prog_1_method_26_code (14 : Nat) (Option.some Jvm.ClassFile.FieldType.boolean)) ∈ lw_all := lw_g (lw_at lw_m4 95 rfl) rfl
theorem q940 : (Jvm.Cond.methodLink "HeldTongue" (228 : Nat) ({ cls := "HeldTongue", name := "all", desc := "()J" } : Jvm.MethodName)) ∈ lw_all := lw_g (lw_at lw_m4 96 rfl) rfl
theorem q941 : (Jvm.Cond.privateMethod ({ cls := "HeldTongue", name := "all", desc := "()J" } : Jvm.MethodName)) ∈ lw_tbl := lw_at lw_m4 97 rfl
theorem q942 : (Jvm.Cond.instanceMethod ({ cls := "HeldTongue", name := "all", desc := "()J" } : Jvm.MethodName)) ∈ lw_all := lw_g (lw_at lw_m4 98 rfl) rfl
theorem q943 : (Jvm.Cond.code ({ cls := "HeldTongue", name := "all", desc := "()J" } : Jvm.MethodName) prog_1_method_20_code (1 : Nat) (Option.some Jvm.ClassFile.FieldType.long)) ∈ lw_all := lw_g (lw_at lw_m4 99 rfl) rfl
theorem q944 : (Jvm.Cond.methodLink "HeldTongue" (232 : Nat) ({ cls := "HeldTongue", name := "push", desc := "(I)V" } : Jvm.MethodName)) ∈ lw_all := lw_g (lw_at lw_m4 100 rfl) rfl
theorem q945 : (Jvm.Cond.privateMethod ({ cls := "HeldTongue", name := "push", desc := "(I)V" } : Jvm.MethodName)) ∈ lw_tbl := lw_at lw_m4 101 rfl
theorem q946 : (Jvm.Cond.instanceMethod ({ cls := "HeldTongue", name := "push", desc := "(I)V" } : Jvm.MethodName)) ∈ lw_all := lw_g (lw_at lw_m4 102 rfl) rfl
theorem q947 : (Jvm.Cond.code ({ cls := "HeldTongue", name := "push", desc := "(I)V" } : Jvm.MethodName) prog_1_method_23_code (7 : Nat) (Option.none : Option Jvm.ClassFile.FieldType)) ∈ lw_all := lw_g (lw_at lw_m4 103 rfl) rfl
theorem q948 : (Jvm.Cond.methodLink "HeldTongue" (225 : Nat) ({ cls := "HeldTongue", name := "times", desc := "(JJ)J" } : Jvm.MethodName)) ∈ lw_all := lw_g (lw_at lw_m4 104 rfl) rfl
theorem q949 : (Jvm.Cond.static ({ cls := "HeldTongue", name := "times", desc := "(JJ)J" } : Jvm.MethodName)) ∈ lw_all := lw_g (lw_at lw_m4 105 rfl) rfl
theorem q950 : (Jvm.Cond.code ({ cls := "HeldTongue", name := "times", desc := "(JJ)J" } : Jvm.MethodName) prog_1_method_24_code (4 : Nat) (Option.some Jvm.ClassFile.FieldType.long)) ∈ lw_all := lw_g (lw_at lw_m4 106 rfl) rfl
theorem q951 : (Jvm.Cond.methodLink "HeldTongue" (235 : Nat) ({ cls := "HeldTongue", name := "ahead", desc := "(I)J" } : Jvm.MethodName)) ∈ lw_all := lw_g (lw_at lw_m4 107 rfl) rfl
theorem q952 : (Jvm.Cond.privateMethod ({ cls := "HeldTongue", name := "ahead", desc := "(I)J" } : Jvm.MethodName)) ∈ lw_tbl := lw_at lw_m4 108 rfl
theorem q953 : (Jvm.Cond.instanceMethod ({ cls := "HeldTongue", name := "ahead", desc := "(I)J" } : Jvm.MethodName)) ∈ lw_all := lw_g (lw_at lw_m4 109 rfl) rfl
theorem q954 : (Jvm.Cond.code ({ cls := "HeldTongue", name := "ahead", desc := "(I)J" } : Jvm.MethodName) prog_1_method_25_code (2 : Nat) (Option.some Jvm.ClassFile.FieldType.long)) ∈ lw_all := lw_g (lw_at lw_m4 110 rfl) rfl
theorem q956 : (Jvm.Cond.instanceMethod ({ cls := "HeldTongue", name := "taken", desc := "(II)I" } : Jvm.MethodName)) ∈ lw_all := lw_g (lw_at lw_m4 112 rfl) rfl
theorem q957 : (Jvm.Cond.selects "HeldTongue" ({ cls := "HeldTongue", name := "taken", desc := "(II)I" } : Jvm.MethodName) ({ cls := "HeldTongue", name := "taken", desc := "(II)I" } : Jvm.MethodName)) ∈ lw_all := lw_g (lw_at lw_m4 113 rfl) rfl
theorem q958 : (Jvm.Cond.code ({ cls := "HeldTongue", name := "taken", desc := "(II)I" } : Jvm.MethodName) prog_1_method_28_code (3 : Nat) (Option.some Jvm.ClassFile.FieldType.int)) ∈ lw_all := lw_g (lw_at lw_m4 114 rfl) rfl
theorem q960 : (Jvm.Cond.instanceMethod ({ cls := "HeldTongue", name := "open", desc := "()I" } : Jvm.MethodName)) ∈ lw_all := lw_g (lw_at lw_m4 116 rfl) rfl
theorem q961 : (Jvm.Cond.selects "HeldTongue" ({ cls := "HeldTongue", name := "open", desc := "()I" } : Jvm.MethodName) ({ cls := "HeldTongue", name := "open", desc := "()I" } : Jvm.MethodName)) ∈ lw_all := lw_g (lw_at lw_m4 117 rfl) rfl
theorem q962 : (Jvm.Cond.code ({ cls := "HeldTongue", name := "open", desc := "()I" } : Jvm.MethodName) prog_1_method_29_code (8 : Nat) (Option.some Jvm.ClassFile.FieldType.int)) ∈ lw_all := lw_g (lw_at lw_m4 118 rfl) rfl
theorem q964 : (Jvm.Cond.instanceMethod ({ cls := "HeldTongue", name := "most", desc := "(I)I" } : Jvm.MethodName)) ∈ lw_all := lw_g (lw_at lw_m4 120 rfl) rfl
theorem q965 : (Jvm.Cond.selects "HeldTongue" ({ cls := "HeldTongue", name := "most", desc := "(I)I" } : Jvm.MethodName) ({ cls := "HeldTongue", name := "most", desc := "(I)I" } : Jvm.MethodName)) ∈ lw_all := lw_g (lw_at lw_m4 121 rfl) rfl
theorem q966 : (Jvm.Cond.code ({ cls := "HeldTongue", name := "most", desc := "(I)I" } : Jvm.MethodName) prog_1_method_33_code (2 : Nat) (Option.some Jvm.ClassFile.FieldType.int)) ∈ lw_all := lw_g (lw_at lw_m4 122 rfl) rfl
theorem q967 : (Jvm.Cond.methodLink "HeldTongue" (255 : Nat) ({ cls := "HeldTongue", name := "ease", desc := "()I" } : Jvm.MethodName)) ∈ lw_all := lw_g (lw_at lw_m4 123 rfl) rfl
theorem q968 : (Jvm.Cond.privateMethod ({ cls := "HeldTongue", name := "ease", desc := "()I" } : Jvm.MethodName)) ∈ lw_tbl := lw_at lw_m4 124 rfl
theorem q969 : (Jvm.Cond.instanceMethod ({ cls := "HeldTongue", name := "ease", desc := "()I" } : Jvm.MethodName)) ∈ lw_all := lw_g (lw_at lw_m4 125 rfl) rfl
theorem q970 : (Jvm.Cond.code ({ cls := "HeldTongue", name := "ease", desc := "()I" } : Jvm.MethodName) prog_1_method_32_code (9 : Nat) (Option.some Jvm.ClassFile.FieldType.int)) ∈ lw_all := lw_g (lw_at lw_m4 126 rfl) rfl
theorem q971 : (Jvm.Cond.methodLink "HeldTongue" (251 : Nat) ({ cls := "HeldTongue", name := "easeOf", desc := "(LHeldTongue$Sense;III)I" } : Jvm.MethodName)) ∈ lw_all := lw_g (lw_at lw_m4 127 rfl) rfl
theorem q972 : (Jvm.Cond.privateMethod ({ cls := "HeldTongue", name := "easeOf", desc := "(LHeldTongue$Sense;III)I" } : Jvm.MethodName)) ∈ lw_tbl := lw_at lw_m4 128 rfl
theorem q973 : (Jvm.Cond.instanceMethod ({ cls := "HeldTongue", name := "easeOf", desc := "(LHeldTongue$Sense;III)I" } : Jvm.MethodName)) ∈ lw_all := lw_g (lw_at lw_m4 129 rfl) rfl
theorem q974 : (Jvm.Cond.code ({ cls := "HeldTongue", name := "easeOf", desc := "(LHeldTongue$Sense;III)I" } : Jvm.MethodName) prog_1_method_31_code (10 : Nat) (Option.some Jvm.ClassFile.FieldType.int)) ∈ lw_all := lw_g (lw_at lw_m4 130 rfl) rfl
theorem q975 : (Jvm.Cond.methodLink "HeldTongue" (246 : Nat) ({ cls := "java/lang/Math", name := "max", desc := "(II)I" } : Jvm.MethodName)) ∈ lw_all := lw_g (lw_at lw_m4 131 rfl) rfl
theorem q978 : (Jvm.Cond.methodLink "HeldTongue" (249 : Nat) ({ cls := "java/lang/Math", name := "min", desc := "(II)I" } : Jvm.MethodName)) ∈ lw_all := lw_g (lw_at lw_m4 134 rfl) rfl
theorem q979 : (Jvm.Cond.methodLink "HeldTongue" (258 : Nat) ({ cls := "HeldTongue", name := "mostOf", desc := "()I" } : Jvm.MethodName)) ∈ lw_all := lw_g (lw_at lw_m4 135 rfl) rfl
theorem q980 : (Jvm.Cond.privateMethod ({ cls := "HeldTongue", name := "mostOf", desc := "()I" } : Jvm.MethodName)) ∈ lw_tbl := lw_at lw_m4 136 rfl
theorem q981 : (Jvm.Cond.instanceMethod ({ cls := "HeldTongue", name := "mostOf", desc := "()I" } : Jvm.MethodName)) ∈ lw_all := lw_g (lw_at lw_m4 137 rfl) rfl
theorem q982 : (Jvm.Cond.code ({ cls := "HeldTongue", name := "mostOf", desc := "()I" } : Jvm.MethodName) prog_1_method_30_code (4 : Nat) (Option.some Jvm.ClassFile.FieldType.int)) ∈ lw_all := lw_g (lw_at lw_m4 138 rfl) rfl
theorem q984 : (Jvm.Cond.instanceMethod ({ cls := "HeldTongue", name := "weight", desc := "(II)I" } : Jvm.MethodName)) ∈ lw_all := lw_g (lw_at lw_m4 140 rfl) rfl
theorem q985 : (Jvm.Cond.selects "HeldTongue" ({ cls := "HeldTongue", name := "weight", desc := "(II)I" } : Jvm.MethodName) ({ cls := "HeldTongue", name := "weight", desc := "(II)I" } : Jvm.MethodName)) ∈ lw_all := lw_g (lw_at lw_m4 141 rfl) rfl
theorem q986 : (Jvm.Cond.code ({ cls := "HeldTongue", name := "weight", desc := "(II)I" } : Jvm.MethodName) prog_1_method_41_code (4 : Nat) (Option.some Jvm.ClassFile.FieldType.int)) ∈ lw_all := lw_g (lw_at lw_m4 142 rfl) rfl
theorem q987 : (Jvm.Cond.methodLink "HeldTongue" (310 : Nat) ({ cls := "HeldTongue", name := "take", desc := "(LHeldTongue$Sense;II)V" } : Jvm.MethodName)) ∈ lw_all := lw_g (lw_at lw_m4 143 rfl) rfl
theorem q988 : (Jvm.Cond.privateMethod ({ cls := "HeldTongue", name := "take", desc := "(LHeldTongue$Sense;II)V" } : Jvm.MethodName)) ∈ lw_tbl := lw_at lw_m4 144 rfl
theorem q989 : (Jvm.Cond.instanceMethod ({ cls := "HeldTongue", name := "take", desc := "(LHeldTongue$Sense;II)V" } : Jvm.MethodName)) ∈ lw_all := lw_g (lw_at lw_m4 145 rfl) rfl
theorem q990 : (Jvm.Cond.code ({ cls := "HeldTongue", name := "take", desc := "(LHeldTongue$Sense;II)V" } : Jvm.MethodName) prog_1_method_37_code (8 : Nat) (Option.none : Option Jvm.ClassFile.FieldType)) ∈ lw_all := lw_g (lw_at lw_m4 146 rfl) rfl
theorem q991 : (Jvm.Cond.classLink "HeldTongue" (280 : Nat) "HeldTongue$Name") ∈ lw_all := lw_g (lw_at lw_m4 147 rfl) rfl
theorem q992 : (Jvm.Cond.methodLink "HeldTongue" (285 : Nat) ({ cls := "HeldTongue", name := "weighed", desc := "(LHeldTongue$Sense;II)I" } : Jvm.MethodName)) ∈ lw_all := lw_g (lw_at lw_m4 148 rfl) rfl
theorem q993 : (Jvm.Cond.privateMethod ({ cls := "HeldTongue", name := "weighed", desc := "(LHeldTongue$Sense;II)I" } : Jvm.MethodName)) ∈ lw_tbl := lw_at lw_m4 149 rfl
theorem q994 : (Jvm.Cond.instanceMethod ({ cls := "HeldTongue", name := "weighed", desc := "(LHeldTongue$Sense;II)I" } : Jvm.MethodName)) ∈ lw_all := lw_g (lw_at lw_m4 150 rfl) rfl
theorem q995 : (Jvm.Cond.code ({ cls := "HeldTongue", name := "weighed", desc := "(LHeldTongue$Sense;II)I" } : Jvm.MethodName) prog_1_method_38_code (6 : Nat) (Option.some Jvm.ClassFile.FieldType.int)) ∈ lw_all := lw_g (lw_at lw_m4 151 rfl) rfl
theorem q996 : (Jvm.Cond.constantLong "HeldTongue" (300 : Nat) (9999 : Int64)) ∈ lw_all := lw_g (lw_at lw_m4 152 rfl) rfl
theorem q997 : (Jvm.Cond.interfaceEntry "HeldTongue" (302 : Nat)) ∈ lw_tbl := lw_at lw_m4 153 rfl
theorem q998 : (Jvm.Cond.methodLink "HeldTongue" (302 : Nat) ({ cls := "HeldTongue$Sum", name := "of", desc := "(LHeldTongue$View;)J" } : Jvm.MethodName)) ∈ lw_all := lw_g (lw_at lw_m4 154 rfl) rfl
theorem q1042 : (Jvm.Cond.methodLink "HeldTongue" (308 : Nat) ({ cls := "java/lang/Math", name := "max", desc := "(JJ)J" } : Jvm.MethodName)) ∈ lw_all := lw_g (lw_at lw_m4 198 rfl) rfl
theorem q1045 : (Jvm.Cond.methodLink "HeldTongue" (289 : Nat) ({ cls := "HeldTongue", name := "meaning", desc := "(LHeldTongue$Sense;I[II)I" } : Jvm.MethodName)) ∈ lw_all := lw_g (lw_at lw_m4 201 rfl) rfl
theorem q1046 : (Jvm.Cond.privateMethod ({ cls := "HeldTongue", name := "meaning", desc := "(LHeldTongue$Sense;I[II)I" } : Jvm.MethodName)) ∈ lw_tbl := lw_at lw_m4 202 rfl
theorem q1047 : (Jvm.Cond.instanceMethod ({ cls := "HeldTongue", name := "meaning", desc := "(LHeldTongue$Sense;I[II)I" } : Jvm.MethodName)) ∈ lw_all := lw_g (lw_at lw_m4 203 rfl) rfl
theorem q1048 : (Jvm.Cond.code ({ cls := "HeldTongue", name := "meaning", desc := "(LHeldTongue$Sense;I[II)I" } : Jvm.MethodName) prog_1_method_36_code (10 : Nat) (Option.some Jvm.ClassFile.FieldType.int)) ∈ lw_all := lw_g (lw_at lw_m4 204 rfl) rfl
theorem q1049 : (Jvm.Cond.methodLink "HeldTongue" (268 : Nat) ({ cls := "HeldTongue$Sense", name := "part", desc := "(II)I" } : Jvm.MethodName)) ∈ lw_all := lw_g (lw_at lw_m4 205 rfl) rfl
theorem q1063 : (Jvm.Cond.methodLink "HeldTongue" (274 : Nat) ({ cls := "HeldTongue", name := "numbered", desc := "(III)I" } : Jvm.MethodName)) ∈ lw_all := lw_g (lw_at lw_m4 219 rfl) rfl
theorem q1064 : (Jvm.Cond.privateMethod ({ cls := "HeldTongue", name := "numbered", desc := "(III)I" } : Jvm.MethodName)) ∈ lw_tbl := lw_at lw_m4 220 rfl
theorem q1065 : (Jvm.Cond.instanceMethod ({ cls := "HeldTongue", name := "numbered", desc := "(III)I" } : Jvm.MethodName)) ∈ lw_all := lw_g (lw_at lw_m4 221 rfl) rfl
theorem q1066 : (Jvm.Cond.code ({ cls := "HeldTongue", name := "numbered", desc := "(III)I" } : Jvm.MethodName) prog_1_method_35_code (6 : Nat) (Option.some Jvm.ClassFile.FieldType.int)) ∈ lw_all := lw_g (lw_at lw_m4 222 rfl) rfl
theorem q1067 : (Jvm.Cond.methodLink "HeldTongue" (264 : Nat) ({ cls := "HeldTongue", name := "isLike", desc := "(IIIII)Z" } : Jvm.MethodName)) ∈ lw_all := lw_g (lw_at lw_m4 223 rfl) rfl
theorem q1068 : (Jvm.Cond.privateMethod ({ cls := "HeldTongue", name := "isLike", desc := "(IIIII)Z" } : Jvm.MethodName)) ∈ lw_tbl := lw_at lw_m4 224 rfl
theorem q1069 : (Jvm.Cond.instanceMethod ({ cls := "HeldTongue", name := "isLike", desc := "(IIIII)Z" } : Jvm.MethodName)) ∈ lw_all := lw_g (lw_at lw_m4 225 rfl) rfl
theorem q1070 : (Jvm.Cond.code ({ cls := "HeldTongue", name := "isLike", desc := "(IIIII)Z" } : Jvm.MethodName) prog_1_method_34_code (7 : Nat) (Option.some Jvm.ClassFile.FieldType.boolean)) ∈ lw_all := lw_g (lw_at lw_m4 226 rfl) rfl
theorem q1072 : (Jvm.Cond.instanceMethod ({ cls := "HeldTongue", name := "same", desc := "(II)Z" } : Jvm.MethodName)) ∈ lw_all := lw_g (lw_at lw_m4 228 rfl) rfl
theorem q1073 : (Jvm.Cond.selects "HeldTongue" ({ cls := "HeldTongue", name := "same", desc := "(II)Z" } : Jvm.MethodName) ({ cls := "HeldTongue", name := "same", desc := "(II)Z" } : Jvm.MethodName)) ∈ lw_all := lw_g (lw_at lw_m4 229 rfl) rfl
theorem q1074 : (Jvm.Cond.code ({ cls := "HeldTongue", name := "same", desc := "(II)Z" } : Jvm.MethodName) prog_1_method_42_code (3 : Nat) (Option.some Jvm.ClassFile.FieldType.boolean)) ∈ lw_all := lw_g (lw_at lw_m4 230 rfl) rfl
theorem q1075 : (Jvm.Cond.methodLink "HeldTongue" (317 : Nat) ({ cls := "HeldTongue", name := "meansOf", desc := "(I)I" } : Jvm.MethodName)) ∈ lw_all := lw_g (lw_at lw_m4 231 rfl) rfl
theorem q1076 : (Jvm.Cond.privateMethod ({ cls := "HeldTongue", name := "meansOf", desc := "(I)I" } : Jvm.MethodName)) ∈ lw_tbl := lw_at lw_m4 232 rfl
theorem q1077 : (Jvm.Cond.instanceMethod ({ cls := "HeldTongue", name := "meansOf", desc := "(I)I" } : Jvm.MethodName)) ∈ lw_all := lw_g (lw_at lw_m4 233 rfl) rfl
theorem q1078 : (Jvm.Cond.code ({ cls := "HeldTongue", name := "meansOf", desc := "(I)I" } : Jvm.MethodName) prog_1_method_40_code (2 : Nat) (Option.some Jvm.ClassFile.FieldType.int)) ∈ lw_all := lw_g (lw_at lw_m4 234 rfl) rfl
theorem q1079 : (Jvm.Cond.methodLink "HeldTongue" (314 : Nat) ({ cls := "HeldTongue", name := "meansAll", desc := "()I" } : Jvm.MethodName)) ∈ lw_all := lw_g (lw_at lw_m4 235 rfl) rfl
theorem q1080 : (Jvm.Cond.privateMethod ({ cls := "HeldTongue", name := "meansAll", desc := "()I" } : Jvm.MethodName)) ∈ lw_tbl := lw_at lw_m4 236 rfl
theorem q1081 : (Jvm.Cond.instanceMethod ({ cls := "HeldTongue", name := "meansAll", desc := "()I" } : Jvm.MethodName)) ∈ lw_all := lw_g (lw_at lw_m4 237 rfl) rfl
theorem q1082 : (Jvm.Cond.code ({ cls := "HeldTongue", name := "meansAll", desc := "()I" } : Jvm.MethodName) prog_1_method_39_code (2 : Nat) (Option.some Jvm.ClassFile.FieldType.int)) ∈ lw_all := lw_g (lw_at lw_m4 238 rfl) rfl
theorem q1084 : (Jvm.Cond.instanceMethod ({ cls := "HeldTongue", name := "kin", desc := "(I)I" } : Jvm.MethodName)) ∈ lw_all := lw_g (lw_at lw_m5 0 rfl) rfl
theorem q1085 : (Jvm.Cond.selects "HeldTongue" ({ cls := "HeldTongue", name := "kin", desc := "(I)I" } : Jvm.MethodName) ({ cls := "HeldTongue", name := "kin", desc := "(I)I" } : Jvm.MethodName)) ∈ lw_all := lw_g (lw_at lw_m5 1 rfl) rfl
theorem q1086 : (Jvm.Cond.code ({ cls := "HeldTongue", name := "kin", desc := "(I)I" } : Jvm.MethodName) prog_1_method_43_code (5 : Nat) (Option.some Jvm.ClassFile.FieldType.int)) ∈ lw_all := lw_g (lw_at lw_m5 2 rfl) rfl
theorem q1087 : (Jvm.Cond.constantLong "HeldTongue" (320 : Nat) (300 : Int64)) ∈ lw_all := lw_g (lw_at lw_m5 3 rfl) rfl
theorem q1089 : (Jvm.Cond.instanceMethod ({ cls := "HeldTongue", name := "meant", desc := "()I" } : Jvm.MethodName)) ∈ lw_all := lw_g (lw_at lw_m5 5 rfl) rfl
theorem q1090 : (Jvm.Cond.selects "HeldTongue" ({ cls := "HeldTongue", name := "meant", desc := "()I" } : Jvm.MethodName) ({ cls := "HeldTongue", name := "meant", desc := "()I" } : Jvm.MethodName)) ∈ lw_all := lw_g (lw_at lw_m5 6 rfl) rfl
theorem q1091 : (Jvm.Cond.code ({ cls := "HeldTongue", name := "meant", desc := "()I" } : Jvm.MethodName) prog_1_method_44_code (5 : Nat) (Option.some Jvm.ClassFile.FieldType.int)) ∈ lw_all := lw_g (lw_at lw_m5 7 rfl) rfl
theorem q1094 : (Jvm.Cond.instanceMethod ({ cls := "HeldTongue", name := "hear", desc := "(IIII)I" } : Jvm.MethodName)) ∈ lw_all := lw_g (lw_at lw_m5 10 rfl) rfl
theorem q1095 : (Jvm.Cond.selects "HeldTongue" ({ cls := "HeldTongue", name := "hear", desc := "(IIII)I" } : Jvm.MethodName) ({ cls := "HeldTongue", name := "hear", desc := "(IIII)I" } : Jvm.MethodName)) ∈ lw_all := lw_g (lw_at lw_m5 11 rfl) rfl
theorem q1096 : (Jvm.Cond.code ({ cls := "HeldTongue", name := "hear", desc := "(IIII)I" } : Jvm.MethodName) prog_1_method_50_code (5 : Nat) (Option.some Jvm.ClassFile.FieldType.int)) ∈ lw_all := lw_g (lw_at lw_m5 12 rfl) rfl
theorem q1097 : (Jvm.Cond.methodLink "HeldTongue" (346 : Nat) ({ cls := "HeldTongue", name := "hears", desc := "(II)V" } : Jvm.MethodName)) ∈ lw_all := lw_g (lw_at lw_m5 13 rfl) rfl
theorem q1098 : (Jvm.Cond.privateMethod ({ cls := "HeldTongue", name := "hears", desc := "(II)V" } : Jvm.MethodName)) ∈ lw_tbl := lw_at lw_m5 14 rfl
theorem q1099 : (Jvm.Cond.instanceMethod ({ cls := "HeldTongue", name := "hears", desc := "(II)V" } : Jvm.MethodName)) ∈ lw_all := lw_g (lw_at lw_m5 15 rfl) rfl
theorem q1100 : (Jvm.Cond.code ({ cls := "HeldTongue", name := "hears", desc := "(II)V" } : Jvm.MethodName) prog_1_method_49_code (6 : Nat) (Option.none : Option Jvm.ClassFile.FieldType)) ∈ lw_all := lw_g (lw_at lw_m5 16 rfl) rfl
theorem q1101 : (Jvm.Cond.methodLink "HeldTongue" (332 : Nat) ({ cls := "HeldTongue", name := "canTake", desc := "(LHeldTongue$Sense;I)Z" } : Jvm.MethodName)) ∈ lw_all := lw_g (lw_at lw_m5 17 rfl) rfl
theorem q1102 : (Jvm.Cond.privateMethod ({ cls := "HeldTongue", name := "canTake", desc := "(LHeldTongue$Sense;I)Z" } : Jvm.MethodName)) ∈ lw_tbl := lw_at lw_m5 18 rfl
theorem q1103 : (Jvm.Cond.instanceMethod ({ cls := "HeldTongue", name := "canTake", desc := "(LHeldTongue$Sense;I)Z" } : Jvm.MethodName)) ∈ lw_all := lw_g (lw_at lw_m5 19 rfl) rfl
theorem q1104 : (Jvm.Cond.code ({ cls := "HeldTongue", name := "canTake", desc := "(LHeldTongue$Sense;I)Z" } : Jvm.MethodName) prog_1_method_45_code (5 : Nat) (Option.some Jvm.ClassFile.FieldType.boolean)) ∈ lw_all := lw_g (lw_at lw_m5 20 rfl) rfl
theorem q1105 : (Jvm.Cond.methodLink "HeldTongue" (336 : Nat) ({ cls := "HeldTongue", name := "amiss", desc := "(II)V" } : Jvm.MethodName)) ∈ lw_all := lw_g (lw_at lw_m5 21 rfl) rfl
theorem q1106 : (Jvm.Cond.privateMethod ({ cls := "HeldTongue", name := "amiss", desc := "(II)V" } : Jvm.MethodName)) ∈ lw_tbl := lw_at lw_m5 22 rfl
theorem q1107 : (Jvm.Cond.instanceMethod ({ cls := "HeldTongue", name := "amiss", desc := "(II)V" } : Jvm.MethodName)) ∈ lw_all := lw_g (lw_at lw_m5 23 rfl) rfl
theorem q1108 : (Jvm.Cond.code ({ cls := "HeldTongue", name := "amiss", desc := "(II)V" } : Jvm.MethodName) prog_1_method_48_code (3 : Nat) (Option.none : Option Jvm.ClassFile.FieldType)) ∈ lw_all := lw_g (lw_at lw_m5 24 rfl) rfl
theorem q1109 : (Jvm.Cond.methodLink "HeldTongue" (340 : Nat) ({ cls := "HeldTongue", name := "dropped", desc := "(II)I" } : Jvm.MethodName)) ∈ lw_all := lw_g (lw_at lw_m5 25 rfl) rfl
theorem q1110 : (Jvm.Cond.privateMethod ({ cls := "HeldTongue", name := "dropped", desc := "(II)I" } : Jvm.MethodName)) ∈ lw_tbl := lw_at lw_m5 26 rfl
theorem q1111 : (Jvm.Cond.instanceMethod ({ cls := "HeldTongue", name := "dropped", desc := "(II)I" } : Jvm.MethodName)) ∈ lw_all := lw_g (lw_at lw_m5 27 rfl) rfl
theorem q1112 : (Jvm.Cond.code ({ cls := "HeldTongue", name := "dropped", desc := "(II)I" } : Jvm.MethodName) prog_1_method_46_code (9 : Nat) (Option.some Jvm.ClassFile.FieldType.int)) ∈ lw_all := lw_g (lw_at lw_m5 28 rfl) rfl
theorem q1113 : (Jvm.Cond.interfaceEntry "HeldTongue" (326 : Nat)) ∈ lw_tbl := lw_at lw_m5 29 rfl
theorem q1114 : (Jvm.Cond.methodLink "HeldTongue" (326 : Nat) ({ cls := "HeldTongue$Ask", name := "is", desc := "(LHeldTongue$View;)Z" } : Jvm.MethodName)) ∈ lw_all := lw_g (lw_at lw_m5 30 rfl) rfl
theorem q1141 : (Jvm.Cond.methodLink "HeldTongue" (343 : Nat) ({ cls := "HeldTongue", name := "drop", desc := "(I)V" } : Jvm.MethodName)) ∈ lw_all := lw_g (lw_at lw_m5 57 rfl) rfl
theorem q1142 : (Jvm.Cond.privateMethod ({ cls := "HeldTongue", name := "drop", desc := "(I)V" } : Jvm.MethodName)) ∈ lw_tbl := lw_at lw_m5 58 rfl
theorem q1143 : (Jvm.Cond.instanceMethod ({ cls := "HeldTongue", name := "drop", desc := "(I)V" } : Jvm.MethodName)) ∈ lw_all := lw_g (lw_at lw_m5 59 rfl) rfl
theorem q1144 : (Jvm.Cond.code ({ cls := "HeldTongue", name := "drop", desc := "(I)V" } : Jvm.MethodName) prog_1_method_47_code (3 : Nat) (Option.none : Option Jvm.ClassFile.FieldType)) ∈ lw_all := lw_g (lw_at lw_m5 60 rfl) rfl
theorem q1146 : (Jvm.Cond.instanceMethod ({ cls := "HeldTongue", name := "enough", desc := "(II)I" } : Jvm.MethodName)) ∈ lw_all := lw_g (lw_at lw_m5 62 rfl) rfl
theorem q1147 : (Jvm.Cond.selects "HeldTongue" ({ cls := "HeldTongue", name := "enough", desc := "(II)I" } : Jvm.MethodName) ({ cls := "HeldTongue", name := "enough", desc := "(II)I" } : Jvm.MethodName)) ∈ lw_all := lw_g (lw_at lw_m5 63 rfl) rfl
theorem q1148 : (Jvm.Cond.code ({ cls := "HeldTongue", name := "enough", desc := "(II)I" } : Jvm.MethodName) prog_1_method_51_code (4 : Nat) (Option.some Jvm.ClassFile.FieldType.int)) ∈ lw_all := lw_g (lw_at lw_m5 64 rfl) rfl
theorem q1150 : (Jvm.Cond.instanceMethod ({ cls := "HeldTongue", name := "wordy", desc := "(II)I" } : Jvm.MethodName)) ∈ lw_all := lw_g (lw_at lw_m5 66 rfl) rfl
theorem q1151 : (Jvm.Cond.selects "HeldTongue" ({ cls := "HeldTongue", name := "wordy", desc := "(II)I" } : Jvm.MethodName) ({ cls := "HeldTongue", name := "wordy", desc := "(II)I" } : Jvm.MethodName)) ∈ lw_all := lw_g (lw_at lw_m5 67 rfl) rfl
theorem q1152 : (Jvm.Cond.code ({ cls := "HeldTongue", name := "wordy", desc := "(II)I" } : Jvm.MethodName) prog_1_method_59_code (4 : Nat) (Option.some Jvm.ClassFile.FieldType.int)) ∈ lw_all := lw_g (lw_at lw_m5 68 rfl) rfl
theorem q1153 : (Jvm.Cond.methodLink "HeldTongue" (377 : Nat) ({ cls := "HeldTongue", name := "looksAt", desc := "(I)Z" } : Jvm.MethodName)) ∈ lw_all := lw_g (lw_at lw_m5 69 rfl) rfl
theorem q1154 : (Jvm.Cond.privateMethod ({ cls := "HeldTongue", name := "looksAt", desc := "(I)Z" } : Jvm.MethodName)) ∈ lw_tbl := lw_at lw_m5 70 rfl
theorem q1155 : (Jvm.Cond.instanceMethod ({ cls := "HeldTongue", name := "looksAt", desc := "(I)Z" } : Jvm.MethodName)) ∈ lw_all := lw_g (lw_at lw_m5 71 rfl) rfl
theorem q1156 : (Jvm.Cond.code ({ cls := "HeldTongue", name := "looksAt", desc := "(I)Z" } : Jvm.MethodName) prog_1_method_58_code (2 : Nat) (Option.some Jvm.ClassFile.FieldType.boolean)) ∈ lw_all := lw_g (lw_at lw_m5 72 rfl) rfl
theorem q1157 : (Jvm.Cond.methodLink "HeldTongue" (374 : Nat) ({ cls := "HeldTongue", name := "findFewest", desc := "(I)V" } : Jvm.MethodName)) ∈ lw_all := lw_g (lw_at lw_m5 73 rfl) rfl
theorem q1158 : (Jvm.Cond.privateMethod ({ cls := "HeldTongue", name := "findFewest", desc := "(I)V" } : Jvm.MethodName)) ∈ lw_tbl := lw_at lw_m5 74 rfl
theorem q1159 : (Jvm.Cond.instanceMethod ({ cls := "HeldTongue", name := "findFewest", desc := "(I)V" } : Jvm.MethodName)) ∈ lw_all := lw_g (lw_at lw_m5 75 rfl) rfl
theorem q1160 : (Jvm.Cond.code ({ cls := "HeldTongue", name := "findFewest", desc := "(I)V" } : Jvm.MethodName) prog_1_method_57_code (9 : Nat) (Option.none : Option Jvm.ClassFile.FieldType)) ∈ lw_all := lw_g (lw_at lw_m5 76 rfl) rfl
theorem q1161 : (Jvm.Cond.methodLink "HeldTongue" (349 : Nat) ({ cls := "HeldTongue", name := "fewestAt", desc := "(III)I" } : Jvm.MethodName)) ∈ lw_all := lw_g (lw_at lw_m5 77 rfl) rfl
theorem q1162 : (Jvm.Cond.static ({ cls := "HeldTongue", name := "fewestAt", desc := "(III)I" } : Jvm.MethodName)) ∈ lw_all := lw_g (lw_at lw_m5 78 rfl) rfl
theorem q1163 : (Jvm.Cond.code ({ cls := "HeldTongue", name := "fewestAt", desc := "(III)I" } : Jvm.MethodName) prog_1_method_52_code (3 : Nat) (Option.some Jvm.ClassFile.FieldType.int)) ∈ lw_all := lw_g (lw_at lw_m5 79 rfl) rfl
theorem q1164 : (Jvm.Cond.methodLink "HeldTongue" (364 : Nat) ({ cls := "HeldTongue", name := "meantBy", desc := "(LHeldTongue$Sense;I)I" } : Jvm.MethodName)) ∈ lw_all := lw_g (lw_at lw_m5 80 rfl) rfl
theorem q1165 : (Jvm.Cond.privateMethod ({ cls := "HeldTongue", name := "meantBy", desc := "(LHeldTongue$Sense;I)I" } : Jvm.MethodName)) ∈ lw_tbl := lw_at lw_m5 81 rfl
theorem q1166 : (Jvm.Cond.instanceMethod ({ cls := "HeldTongue", name := "meantBy", desc := "(LHeldTongue$Sense;I)I" } : Jvm.MethodName)) ∈ lw_all := lw_g (lw_at lw_m5 82 rfl) rfl
theorem q1167 : (Jvm.Cond.code ({ cls := "HeldTongue", name := "meantBy", desc := "(LHeldTongue$Sense;I)I" } : Jvm.MethodName) prog_1_method_55_code (4 : Nat) (Option.some Jvm.ClassFile.FieldType.int)) ∈ lw_all := lw_g (lw_at lw_m5 83 rfl) rfl
theorem q1168 : (Jvm.Cond.methodLink "HeldTongue" (357 : Nat) ({ cls := "HeldTongue", name := "fewestOf", desc := "(III)I" } : Jvm.MethodName)) ∈ lw_all := lw_g (lw_at lw_m5 84 rfl) rfl
theorem q1169 : (Jvm.Cond.privateMethod ({ cls := "HeldTongue", name := "fewestOf", desc := "(III)I" } : Jvm.MethodName)) ∈ lw_tbl := lw_at lw_m5 85 rfl
theorem q1170 : (Jvm.Cond.instanceMethod ({ cls := "HeldTongue", name := "fewestOf", desc := "(III)I" } : Jvm.MethodName)) ∈ lw_all := lw_g (lw_at lw_m5 86 rfl) rfl
theorem q1171 : (Jvm.Cond.code ({ cls := "HeldTongue", name := "fewestOf", desc := "(III)I" } : Jvm.MethodName) prog_1_method_53_code (4 : Nat) (Option.some Jvm.ClassFile.FieldType.int)) ∈ lw_all := lw_g (lw_at lw_m5 87 rfl) rfl
theorem q1172 : (Jvm.Cond.methodLink "HeldTongue" (368 : Nat) ({ cls := "HeldTongue", name := "directly", desc := "(ILHeldTongue$Sense;II)I" } : Jvm.MethodName)) ∈ lw_all := lw_g (lw_at lw_m5 88 rfl) rfl
theorem q1173 : (Jvm.Cond.privateMethod ({ cls := "HeldTongue", name := "directly", desc := "(ILHeldTongue$Sense;II)I" } : Jvm.MethodName)) ∈ lw_tbl := lw_at lw_m5 89 rfl
theorem q1174 : (Jvm.Cond.instanceMethod ({ cls := "HeldTongue", name := "directly", desc := "(ILHeldTongue$Sense;II)I" } : Jvm.MethodName)) ∈ lw_all := lw_g (lw_at lw_m5 90 rfl) rfl
theorem q1175 : (Jvm.Cond.code ({ cls := "HeldTongue", name := "directly", desc := "(ILHeldTongue$Sense;II)I" } : Jvm.MethodName) prog_1_method_56_code (9 : Nat) (Option.some Jvm.ClassFile.FieldType.int)) ∈ lw_all := lw_g (lw_at lw_m5 91 rfl) rfl
theorem q1176 : (Jvm.Cond.methodLink "HeldTongue" (352 : Nat) ({ cls := "java/lang/Integer", name := "bitCount", desc := "(I)I" } : Jvm.MethodName)) ∈ lw_all := lw_g (lw_at lw_m5 92 rfl) rfl
theorem q1182 : (Jvm.Cond.methodLink "HeldTongue" (360 : Nat) ({ cls := "HeldTongue", name := "thing", desc := "(ILHeldTongue$Sense;II)I" } : Jvm.MethodName)) ∈ lw_all := lw_g (lw_at lw_m5 98 rfl) rfl
theorem q1183 : (Jvm.Cond.privateMethod ({ cls := "HeldTongue", name := "thing", desc := "(ILHeldTongue$Sense;II)I" } : Jvm.MethodName)) ∈ lw_tbl := lw_at lw_m5 99 rfl
theorem q1184 : (Jvm.Cond.instanceMethod ({ cls := "HeldTongue", name := "thing", desc := "(ILHeldTongue$Sense;II)I" } : Jvm.MethodName)) ∈ lw_all := lw_g (lw_at lw_m5 100 rfl) rfl
theorem q1185 : (Jvm.Cond.code ({ cls := "HeldTongue", name := "thing", desc := "(ILHeldTongue$Sense;II)I" } : Jvm.MethodName) prog_1_method_54_code (6 : Nat) (Option.some Jvm.ClassFile.FieldType.int)) ∈ lw_all := lw_g (lw_at lw_m5 101 rfl) rfl
theorem q1187 : (Jvm.Cond.instanceMethod ({ cls := "HeldTongue", name := "light", desc := "(I)I" } : Jvm.MethodName)) ∈ lw_all := lw_g (lw_at lw_m5 103 rfl) rfl
theorem q1188 : (Jvm.Cond.selects "HeldTongue" ({ cls := "HeldTongue", name := "light", desc := "(I)I" } : Jvm.MethodName) ({ cls := "HeldTongue", name := "light", desc := "(I)I" } : Jvm.MethodName)) ∈ lw_all := lw_g (lw_at lw_m5 104 rfl) rfl
theorem q1189 : (Jvm.Cond.code ({ cls := "HeldTongue", name := "light", desc := "(I)I" } : Jvm.MethodName) prog_1_method_60_code (3 : Nat) (Option.some Jvm.ClassFile.FieldType.int)) ∈ lw_all := lw_g (lw_at lw_m5 105 rfl) rfl
theorem q1191 : (Jvm.Cond.instanceMethod ({ cls := "HeldTongue", name := "saying", desc := "(III)I" } : Jvm.MethodName)) ∈ lw_all := lw_g (lw_at lw_m5 107 rfl) rfl
theorem q1192 : (Jvm.Cond.selects "HeldTongue" ({ cls := "HeldTongue", name := "saying", desc := "(III)I" } : Jvm.MethodName) ({ cls := "HeldTongue", name := "saying", desc := "(III)I" } : Jvm.MethodName)) ∈ lw_all := lw_g (lw_at lw_m5 108 rfl) rfl
theorem q1193 : (Jvm.Cond.code ({ cls := "HeldTongue", name := "saying", desc := "(III)I" } : Jvm.MethodName) prog_1_method_67_code (6 : Nat) (Option.some Jvm.ClassFile.FieldType.int)) ∈ lw_all := lw_g (lw_at lw_m5 109 rfl) rfl
theorem q1194 : (Jvm.Cond.methodLink "HeldTongue" (409 : Nat) ({ cls := "HeldTongue", name := "wordy", desc := "(II)I" } : Jvm.MethodName)) ∈ lw_all := lw_g (lw_at lw_m5 110 rfl) rfl
theorem q1195 : (Jvm.Cond.methodLink "HeldTongue" (384 : Nat) ({ cls := "HeldTongue", name := "said", desc := "(III)[I" } : Jvm.MethodName)) ∈ lw_all := lw_g (lw_at lw_m5 111 rfl) rfl
theorem q1196 : (Jvm.Cond.privateMethod ({ cls := "HeldTongue", name := "said", desc := "(III)[I" } : Jvm.MethodName)) ∈ lw_tbl := lw_at lw_m5 112 rfl
theorem q1197 : (Jvm.Cond.instanceMethod ({ cls := "HeldTongue", name := "said", desc := "(III)[I" } : Jvm.MethodName)) ∈ lw_all := lw_g (lw_at lw_m5 113 rfl) rfl
theorem q1198 : (Jvm.Cond.code ({ cls := "HeldTongue", name := "said", desc := "(III)[I" } : Jvm.MethodName) prog_1_method_61_code (5 : Nat) (Option.some (Jvm.ClassFile.FieldType.array Jvm.ClassFile.FieldType.int))) ∈ lw_all := lw_g (lw_at lw_m5 114 rfl) rfl
theorem q1199 : (Jvm.Cond.methodLink "HeldTongue" (380 : Nat) ({ cls := "HeldTongue", name := "begunBy", desc := "(IIII)[I" } : Jvm.MethodName)) ∈ lw_all := lw_g (lw_at lw_m5 115 rfl) rfl
theorem q1200 : (Jvm.Cond.privateMethod ({ cls := "HeldTongue", name := "begunBy", desc := "(IIII)[I" } : Jvm.MethodName)) ∈ lw_tbl := lw_at lw_m5 116 rfl
theorem q1201 : (Jvm.Cond.instanceMethod ({ cls := "HeldTongue", name := "begunBy", desc := "(IIII)[I" } : Jvm.MethodName)) ∈ lw_all := lw_g (lw_at lw_m5 117 rfl) rfl
theorem q1202 : (Jvm.Cond.code ({ cls := "HeldTongue", name := "begunBy", desc := "(IIII)[I" } : Jvm.MethodName) prog_1_method_62_code (14 : Nat) (Option.some (Jvm.ClassFile.FieldType.array Jvm.ClassFile.FieldType.int))) ∈ lw_all := lw_g (lw_at lw_m5 118 rfl) rfl
theorem q1203 : (Jvm.Cond.methodLink "HeldTongue" (388 : Nat) ({ cls := "HeldTongue", name := "laid", desc := "([II[I)I" } : Jvm.MethodName)) ∈ lw_all := lw_g (lw_at lw_m5 119 rfl) rfl
theorem q1204 : (Jvm.Cond.static ({ cls := "HeldTongue", name := "laid", desc := "([II[I)I" } : Jvm.MethodName)) ∈ lw_all := lw_g (lw_at lw_m5 120 rfl) rfl
theorem q1205 : (Jvm.Cond.code ({ cls := "HeldTongue", name := "laid", desc := "([II[I)I" } : Jvm.MethodName) prog_1_method_63_code (3 : Nat) (Option.some Jvm.ClassFile.FieldType.int)) ∈ lw_all := lw_g (lw_at lw_m5 121 rfl) rfl
theorem q1206 : (Jvm.Cond.methodLink "HeldTongue" (396 : Nat) ({ cls := "java/lang/System", name := "arraycopy", desc := "(Ljava/lang/Object;ILjava/lang/Object;II)V" } : Jvm.MethodName)) ∈ lw_all := lw_g (lw_at lw_m5 122 rfl) rfl
theorem q1207 : (Jvm.Cond.methodLink "HeldTongue" (392 : Nat) ({ cls := "HeldTongue", name := "saidSet", desc := "(ILHeldTongue$Sense;II)[I" } : Jvm.MethodName)) ∈ lw_all := lw_g (lw_at lw_m5 123 rfl) rfl
theorem q1208 : (Jvm.Cond.privateMethod ({ cls := "HeldTongue", name := "saidSet", desc := "(ILHeldTongue$Sense;II)[I" } : Jvm.MethodName)) ∈ lw_tbl := lw_at lw_m5 124 rfl
theorem q1209 : (Jvm.Cond.instanceMethod ({ cls := "HeldTongue", name := "saidSet", desc := "(ILHeldTongue$Sense;II)[I" } : Jvm.MethodName)) ∈ lw_all := lw_g (lw_at lw_m5 125 rfl) rfl
theorem q1210 : (Jvm.Cond.code ({ cls := "HeldTongue", name := "saidSet", desc := "(ILHeldTongue$Sense;II)[I" } : Jvm.MethodName) prog_1_method_64_code (13 : Nat) (Option.some (Jvm.ClassFile.FieldType.array Jvm.ClassFile.FieldType.int))) ∈ lw_all := lw_g (lw_at lw_m5 126 rfl) rfl
theorem q1211 : (Jvm.Cond.methodLink "HeldTongue" (402 : Nat) ({ cls := "HeldTongue", name := "isTwin", desc := "(III)Z" } : Jvm.MethodName)) ∈ lw_all := lw_g (lw_at lw_m5 127 rfl) rfl
theorem q1212 : (Jvm.Cond.privateMethod ({ cls := "HeldTongue", name := "isTwin", desc := "(III)Z" } : Jvm.MethodName)) ∈ lw_tbl := lw_at lw_m5 128 rfl
theorem q1213 : (Jvm.Cond.instanceMethod ({ cls := "HeldTongue", name := "isTwin", desc := "(III)Z" } : Jvm.MethodName)) ∈ lw_all := lw_g (lw_at lw_m5 129 rfl) rfl
theorem q1214 : (Jvm.Cond.code ({ cls := "HeldTongue", name := "isTwin", desc := "(III)Z" } : Jvm.MethodName) prog_1_method_65_code (5 : Nat) (Option.some Jvm.ClassFile.FieldType.boolean)) ∈ lw_all := lw_g (lw_at lw_m5 130 rfl) rfl
theorem q1215 : (Jvm.Cond.methodLink "HeldTongue" (405 : Nat) ({ cls := "HeldTongue", name := "isAhead", desc := "([I[I[I)Z" } : Jvm.MethodName)) ∈ lw_all := lw_g (lw_at lw_m5 131 rfl) rfl
theorem q1216 : (Jvm.Cond.static ({ cls := "HeldTongue", name := "isAhead", desc := "([I[I[I)Z" } : Jvm.MethodName)) ∈ lw_all := lw_g (lw_at lw_m5 132 rfl) rfl
theorem q1217 : (Jvm.Cond.code ({ cls := "HeldTongue", name := "isAhead", desc := "([I[I[I)Z" } : Jvm.MethodName) prog_1_method_66_code (6 : Nat) (Option.some Jvm.ClassFile.FieldType.boolean)) ∈ lw_all := lw_g (lw_at lw_m5 133 rfl) rfl
theorem q1218 : (Jvm.Cond.methodLink "HeldTongue" (412 : Nat) ({ cls := "HeldTongue", name := "wordOf", desc := "(I)I" } : Jvm.MethodName)) ∈ lw_all := lw_g (lw_at lw_m5 134 rfl) rfl
theorem q1219 : (Jvm.Cond.privateMethod ({ cls := "HeldTongue", name := "wordOf", desc := "(I)I" } : Jvm.MethodName)) ∈ lw_tbl := lw_at lw_m5 135 rfl
theorem q1220 : (Jvm.Cond.instanceMethod ({ cls := "HeldTongue", name := "wordOf", desc := "(I)I" } : Jvm.MethodName)) ∈ lw_all := lw_g (lw_at lw_m5 136 rfl) rfl
theorem q1221 : (Jvm.Cond.code ({ cls := "HeldTongue", name := "wordOf", desc := "(I)I" } : Jvm.MethodName) prog_1_method_70_code (6 : Nat) (Option.some Jvm.ClassFile.FieldType.int)) ∈ lw_all := lw_g (lw_at lw_m5 137 rfl) rfl
theorem q1223 : (Jvm.Cond.instanceMethod ({ cls := "HeldTongue", name := "image", desc := "()I" } : Jvm.MethodName)) ∈ lw_all := lw_g (lw_at lw_m5 139 rfl) rfl
theorem q1224 : (Jvm.Cond.selects "HeldTongue" ({ cls := "HeldTongue", name := "image", desc := "()I" } : Jvm.MethodName) ({ cls := "HeldTongue", name := "image", desc := "()I" } : Jvm.MethodName)) ∈ lw_all := lw_g (lw_at lw_m5 140 rfl) rfl
theorem q1225 : (Jvm.Cond.code ({ cls := "HeldTongue", name := "image", desc := "()I" } : Jvm.MethodName) prog_1_method_68_code (1 : Nat) (Option.some Jvm.ClassFile.FieldType.int)) ∈ lw_all := lw_g (lw_at lw_m5 141 rfl) rfl
theorem q1227 : (Jvm.Cond.instanceMethod ({ cls := "HeldTongue", name := "back", desc := "()I" } : Jvm.MethodName)) ∈ lw_all := lw_g (lw_at lw_m5 143 rfl) rfl
theorem q1228 : (Jvm.Cond.selects "HeldTongue" ({ cls := "HeldTongue", name := "back", desc := "()I" } : Jvm.MethodName) ({ cls := "HeldTongue", name := "back", desc := "()I" } : Jvm.MethodName)) ∈ lw_all := lw_g (lw_at lw_m5 144 rfl) rfl
theorem q1229 : (Jvm.Cond.code ({ cls := "HeldTongue", name := "back", desc := "()I" } : Jvm.MethodName) prog_1_method_69_code (1 : Nat) (Option.some Jvm.ClassFile.FieldType.int)) ∈ lw_all := lw_g (lw_at lw_m5 145 rfl) rfl
theorem q1231 : (Jvm.Cond.instanceMethod ({ cls := "HeldTongue", name := "about", desc := "(I)I" } : Jvm.MethodName)) ∈ lw_all := lw_g (lw_at lw_m5 147 rfl) rfl
theorem q1232 : (Jvm.Cond.selects "HeldTongue" ({ cls := "HeldTongue", name := "about", desc := "(I)I" } : Jvm.MethodName) ({ cls := "HeldTongue", name := "about", desc := "(I)I" } : Jvm.MethodName)) ∈ lw_all := lw_g (lw_at lw_m5 148 rfl) rfl
theorem q1233 : (Jvm.Cond.code ({ cls := "HeldTongue", name := "about", desc := "(I)I" } : Jvm.MethodName) prog_1_method_71_code (2 : Nat) (Option.some Jvm.ClassFile.FieldType.int)) ∈ lw_all := lw_g (lw_at lw_m5 149 rfl) rfl
theorem in_X0 : ∀ w ∈ wsX00, w ∈ lw_all := lw_in wsX00 [254, 256, 258, 260, 262, 264, 266, 268, 270, 272, 274, 276, 278, 280, 282, 284, 286, 288, 290, 292, 294, 296, 298, 300, 302, 304, 306, 308, 310, 312, 314, 316, 318, 320, 322, 324, 326, 328, 330, 332, 334] (by decide +kernel) (by decide +kernel)
